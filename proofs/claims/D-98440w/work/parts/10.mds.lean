set_option maxRecDepth 100000
theorem cat_i9 (x : Int32) : (Value.int x).category = 1 := rfl
theorem cat_j9 (x : Int64) : (Value.long x).category = 2 := rfl
theorem cat_r9 (x : Nat) : (Value.ref x).category = 1 := rfl
theorem cat_n9 : Value.null.category = 1 := rfl
def mX2_init : MD := (yX2_init, cX2_init, 1, none, [])
theorem wsX2_init : wsM mX2_init = ws_ yX2_init cX2_init 1 none := rfl
theorem mokX2_init : MOK mX2_init 0 := by decide +kernel
def mX2_count : MD := (yX2_count, cX2_count, 4, (some .int), [])
theorem wsX2_count : wsM mX2_count = ws_ yX2_count cX2_count 4 (some .int) := rfl
theorem mokX2_count : MOK mX2_count 1 := by decide +kernel
def mX2_last : MD := (yX2_last, cX2_last, 3, (some .int), [])
theorem wsX2_last : wsM mX2_last = ws_ yX2_last cX2_last 3 (some .int) := rfl
theorem mokX2_last : MOK mX2_last 1 := by decide +kernel
def mX2_as : MD := (yX2_as, cX2_as, 2, (some (.object "CardCups$Calendar")), [])
theorem wsX2_as : wsM mX2_as = ws_ yX2_as cX2_as 2 (some (.object "CardCups$Calendar")) := rfl
theorem mokX2_as : MOK mX2_as 1 := by decide +kernel
def mX2_comes : MD := (yX2_comes, cX2_comes, 4, (some .int), [])
theorem wsX2_comes : wsM mX2_comes = ws_ yX2_comes cX2_comes 4 (some .int) := rfl
theorem mokX2_comes : MOK mX2_comes 2 := by decide +kernel
def mX2_of : MD := (yX2_of, cX2_of, 4, (some .int), [])
theorem wsX2_of : wsM mX2_of = ws_ yX2_of cX2_of 4 (some .int) := rfl
theorem mokX2_of : MOK mX2_of 1 := by decide +kernel
def mX2_first : MD := (yX2_first, cX2_first, 3, (some .int), [])
theorem wsX2_first : wsM mX2_first = ws_ yX2_first cX2_first 3 (some .int) := rfl
theorem mokX2_first : MOK mX2_first 1 := by decide +kernel
def mX2_skips : MD := (yX2_skips, cX2_skips, 3, none, [])
theorem wsX2_skips : wsM mX2_skips = ws_ yX2_skips cX2_skips 3 none := rfl
theorem mokX2_skips : MOK mX2_skips 1 := by decide +kernel
def mX26_init : MD := (yX26_init, cX26_init, 4, none, [])
theorem wsX26_init : wsM mX26_init = ws_ yX26_init cX26_init 4 none := rfl
theorem mokX26_init : MOK mX26_init 3 := by decide +kernel
def mX26_at : MD := (yX26_at, cX26_at, 2, (some (.object "CardCups$Sight")), [])
theorem wsX26_at : wsM mX26_at = ws_ yX26_at cX26_at 2 (some (.object "CardCups$Sight")) := rfl
theorem mokX26_at : MOK mX26_at 1 := by decide +kernel
def mX26_known : MD := (yX26_known, cX26_known, 2, (some .int), [])
theorem wsX26_known : wsM mX26_known = ws_ yX26_known cX26_known 2 (some .int) := rfl
theorem mokX26_known : MOK mX26_known 1 := by decide +kernel
def mX26_isWarm : MD := (yX26_isWarm, cX26_isWarm, 1, (some .boolean), [])
theorem wsX26_isWarm : wsM mX26_isWarm = ws_ yX26_isWarm cX26_isWarm 1 (some .boolean) := rfl
theorem mokX26_isWarm : MOK mX26_isWarm 0 := by decide +kernel
def mX4_init : MD := (yX4_init, cX4_init, 1, none, [])
theorem wsX4_init : wsM mX4_init = ws_ yX4_init cX4_init 1 none := rfl
theorem mokX4_init : MOK mX4_init 0 := by decide +kernel
def mX4_codeOf : MD := (yX4_codeOf, cX4_codeOf, 5, (some .int), [])
theorem wsX4_codeOf : wsM mX4_codeOf = ws_ yX4_codeOf cX4_codeOf 5 (some .int) := rfl
theorem mokX4_codeOf : MOK mX4_codeOf 5 := by decide +kernel
def mX4_of : MD := (yX4_of, cX4_of, 3, (some (.object "CardCups$State")), [])
theorem wsX4_of : wsM mX4_of = ws_ yX4_of cX4_of 3 (some (.object "CardCups$State")) := rfl
theorem mokX4_of : MOK mX4_of 1 := by decide +kernel
def mX4_in : MD := (yX4_in, cX4_in, 1, (some .int), [])
theorem wsX4_in : wsM mX4_in = ws_ yX4_in cX4_in 1 (some .int) := rfl
theorem mokX4_in : MOK mX4_in 0 := by decide +kernel
def mX4_code : MD := (yX4_code, cX4_code, 1, (some .int), [])
theorem wsX4_code : wsM mX4_code = ws_ yX4_code cX4_code 1 (some .int) := rfl
theorem mokX4_code : MOK mX4_code 0 := by decide +kernel
def mX4_starts : MD := (yX4_starts, cX4_starts, 3, (some .int), [])
theorem wsX4_starts : wsM mX4_starts = ws_ yX4_starts cX4_starts 3 (some .int) := rfl
theorem mokX4_starts : MOK mX4_starts 1 := by decide +kernel
def mX4_isTrue : MD := (yX4_isTrue, cX4_isTrue, 1, (some .boolean), [])
theorem wsX4_isTrue : wsM mX4_isTrue = ws_ yX4_isTrue cX4_isTrue 1 (some .boolean) := rfl
theorem mokX4_isTrue : MOK mX4_isTrue 0 := by decide +kernel
def mX6_init : MD := (yX6_init, cX6_init, 1, none, [])
theorem wsX6_init : wsM mX6_init = ws_ yX6_init cX6_init 1 none := rfl
theorem mokX6_init : MOK mX6_init 0 := by decide +kernel
def mX6_asTold : MD := (yX6_asTold, cX6_asTold, 4, (some (.object "CardCups$How")), [])
theorem wsX6_asTold : wsM mX6_asTold = ws_ yX6_asTold cX6_asTold 4 (some (.object "CardCups$How")) := rfl
theorem mokX6_asTold : MOK mX6_asTold 3 := by decide +kernel
def mX6_to : MD := (yX6_to, cX6_to, 2, (some (.object "CardCups$How")), [])
theorem wsX6_to : wsM mX6_to = ws_ yX6_to cX6_to 2 (some (.object "CardCups$How")) := rfl
theorem mokX6_to : MOK mX6_to 1 := by decide +kernel
def mX6_without : MD := (yX6_without, cX6_without, 2, (some (.object "CardCups$How")), [])
theorem wsX6_without : wsM mX6_without = ws_ yX6_without cX6_without 2 (some (.object "CardCups$How")) := rfl
theorem mokX6_without : MOK mX6_without 1 := by decide +kernel
def mX6_swapped : MD := (yX6_swapped, cX6_swapped, 4, (some (.object "CardCups$How")), [])
theorem wsX6_swapped : wsM mX6_swapped = ws_ yX6_swapped cX6_swapped 4 (some (.object "CardCups$How")) := rfl
theorem mokX6_swapped : MOK mX6_swapped 2 := by decide +kernel
def mX6_given : MD := (yX6_given, cX6_given, 2, (some (.object "CardCups$How")), [])
theorem wsX6_given : wsM mX6_given = ws_ yX6_given cX6_given 2 (some (.object "CardCups$How")) := rfl
theorem mokX6_given : MOK mX6_given 1 := by decide +kernel
def mX6_begun : MD := (yX6_begun, cX6_begun, 1, (some (.object "CardCups$How")), [])
theorem wsX6_begun : wsM mX6_begun = ws_ yX6_begun cX6_begun 1 (some (.object "CardCups$How")) := rfl
theorem mokX6_begun : MOK mX6_begun 0 := by decide +kernel
def mX6_ruled : MD := (yX6_ruled, cX6_ruled, 3, (some (.object "CardCups$How")), [])
theorem wsX6_ruled : wsM mX6_ruled = ws_ yX6_ruled cX6_ruled 3 (some (.object "CardCups$How")) := rfl
theorem mokX6_ruled : MOK mX6_ruled 1 := by decide +kernel
def mX7_init : MD := (yX7_init, cX7_init, 1, none, [])
theorem wsX7_init : wsM mX7_init = ws_ yX7_init cX7_init 1 none := rfl
theorem mokX7_init : MOK mX7_init 0 := by decide +kernel
def mX8_init : MD := (yX8_init, cX8_init, 1, none, [])
theorem wsX8_init : wsM mX8_init = ws_ yX8_init cX8_init 1 none := rfl
theorem mokX8_init : MOK mX8_init 0 := by decide +kernel
def mX8_isSo : MD := (yX8_isSo, cX8_isSo, 3, (some .boolean), [])
theorem wsX8_isSo : wsM mX8_isSo = ws_ yX8_isSo cX8_isSo 3 (some .boolean) := rfl
theorem mokX8_isSo : MOK mX8_isSo 1 := by decide +kernel
def mX19_init : MD := (yX19_init, cX19_init, 3, none, [])
theorem wsX19_init : wsM mX19_init = ws_ yX19_init cX19_init 3 none := rfl
theorem mokX19_init : MOK mX19_init 2 := by decide +kernel
def mX20_puts : MD := (yX20_puts, cX20_puts, 2, none, [])
theorem wsX20_puts : wsM mX20_puts = ws_ yX20_puts cX20_puts 2 none := rfl
theorem mokX20_puts : MOK mX20_puts 2 := by decide +kernel
def mX20_init : MD := (yX20_init, cX20_init, 3, none, [])
theorem wsX20_init : wsM mX20_init = ws_ yX20_init cX20_init 3 none := rfl
theorem mokX20_init : MOK mX20_init 2 := by decide +kernel
def mX21_init : MD := (yX21_init, cX21_init, 3, none, [])
theorem wsX21_init : wsM mX21_init = ws_ yX21_init cX21_init 3 none := rfl
theorem mokX21_init : MOK mX21_init 2 := by decide +kernel
def mX22_init : MD := (yX22_init, cX22_init, 3, none, [])
theorem wsX22_init : wsM mX22_init = ws_ yX22_init cX22_init 3 none := rfl
theorem mokX22_init : MOK mX22_init 2 := by decide +kernel
def mX23_init : MD := (yX23_init, cX23_init, 3, none, [])
theorem wsX23_init : wsM mX23_init = ws_ yX23_init cX23_init 3 none := rfl
theorem mokX23_init : MOK mX23_init 2 := by decide +kernel
def mX24_empties : MD := (yX24_empties, cX24_empties, 1, none, [])
theorem wsX24_empties : wsM mX24_empties = ws_ yX24_empties cX24_empties 1 none := rfl
theorem mokX24_empties : MOK mX24_empties 1 := by decide +kernel
def mX24_init : MD := (yX24_init, cX24_init, 3, none, [])
theorem wsX24_init : wsM mX24_init = ws_ yX24_init cX24_init 3 none := rfl
theorem mokX24_init : MOK mX24_init 2 := by decide +kernel
def mX25_turns : MD := (yX25_turns, cX25_turns, 2, none, [])
theorem wsX25_turns : wsM mX25_turns = ws_ yX25_turns cX25_turns 2 none := rfl
theorem mokX25_turns : MOK mX25_turns 1 := by decide +kernel
def mX25_init : MD := (yX25_init, cX25_init, 4, none, [])
theorem wsX25_init : wsM mX25_init = ws_ yX25_init cX25_init 4 none := rfl
theorem mokX25_init : MOK mX25_init 3 := by decide +kernel
def mX3_init : MD := (yX3_init, cX3_init, 1, none, [])
theorem wsX3_init : wsM mX3_init = ws_ yX3_init cX3_init 1 none := rfl
theorem mokX3_init : MOK mX3_init 0 := by decide +kernel
def mX3_runs : MD := (yX3_runs, cX3_runs, 7, none, [])
theorem wsX3_runs : wsM mX3_runs = ws_ yX3_runs cX3_runs 7 none := rfl
theorem mokX3_runs : MOK mX3_runs 3 := by decide +kernel
def mX3_falls : MD := (yX3_falls, cX3_falls, 5, none, [])
theorem wsX3_falls : wsM mX3_falls = ws_ yX3_falls cX3_falls 5 none := rfl
theorem mokX3_falls : MOK mX3_falls 1 := by decide +kernel
def mX3_last : MD := (yX3_last, cX3_last, 1, (some .int), [])
theorem wsX3_last : wsM mX3_last = ws_ yX3_last cX3_last 1 (some .int) := rfl
theorem mokX3_last : MOK mX3_last 0 := by decide +kernel
def mX3_turns : MD := (yX3_turns, cX3_turns, 3, none, [])
theorem wsX3_turns : wsM mX3_turns = ws_ yX3_turns cX3_turns 3 none := rfl
theorem mokX3_turns : MOK mX3_turns 0 := by decide +kernel
def mX3_only : MD := (yX3_only, cX3_only, 4, none, [])
theorem wsX3_only : wsM mX3_only = ws_ yX3_only cX3_only 4 none := rfl
theorem mokX3_only : MOK mX3_only 2 := by decide +kernel
def mX3_steps : MD := (yX3_steps, cX3_steps, 6, none, [])
theorem wsX3_steps : wsM mX3_steps = ws_ yX3_steps cX3_steps 6 none := rfl
theorem mokX3_steps : MOK mX3_steps 2 := by decide +kernel
def mX3_adds : MD := (yX3_adds, cX3_adds, 4, none, [])
theorem wsX3_adds : wsM mX3_adds = ws_ yX3_adds cX3_adds 4 none := rfl
theorem mokX3_adds : MOK mX3_adds 2 := by decide +kernel
def mX3_drinks : MD := (yX3_drinks, cX3_drinks, 3, none, [])
theorem wsX3_drinks : wsM mX3_drinks = ws_ yX3_drinks cX3_drinks 3 none := rfl
theorem mokX3_drinks : MOK mX3_drinks 1 := by decide +kernel
def mX3_addsAt : MD := (yX3_addsAt, cX3_addsAt, 4, none, [])
theorem wsX3_addsAt : wsM mX3_addsAt = ws_ yX3_addsAt cX3_addsAt 4 none := rfl
theorem mokX3_addsAt : MOK mX3_addsAt 2 := by decide +kernel
def mX3_ends : MD := (yX3_ends, cX3_ends, 3, none, [])
theorem wsX3_ends : wsM mX3_ends = ws_ yX3_ends cX3_ends 3 none := rfl
theorem mokX3_ends : MOK mX3_ends 1 := by decide +kernel
def mX3_truly : MD := (yX3_truly, cX3_truly, 1, (some .long), [])
theorem wsX3_truly : wsM mX3_truly = ws_ yX3_truly cX3_truly 1 (some .long) := rfl
theorem mokX3_truly : MOK mX3_truly 0 := by decide +kernel
def mX3_likely : MD := (yX3_likely, cX3_likely, 7, (some .long), [])
theorem wsX3_likely : wsM mX3_likely = ws_ yX3_likely cX3_likely 7 (some .long) := rfl
theorem mokX3_likely : MOK mX3_likely 2 := by decide +kernel
def mX3_is : MD := (yX3_is, cX3_is, 4, (some .boolean), [])
theorem wsX3_is : wsM mX3_is = ws_ yX3_is cX3_is 4 (some .boolean) := rfl
theorem mokX3_is : MOK mX3_is 3 := by decide +kernel
def mX3_cost : MD := (yX3_cost, cX3_cost, 4, (some .long), [])
theorem wsX3_cost : wsM mX3_cost = ws_ yX3_cost cX3_cost 4 (some .long) := rfl
theorem mokX3_cost : MOK mX3_cost 0 := by decide +kernel
def mX3_many : MD := (yX3_many, cX3_many, 3, (some .int), [])
theorem wsX3_many : wsM mX3_many = ws_ yX3_many cX3_many 3 (some .int) := rfl
theorem mokX3_many : MOK mX3_many 0 := by decide +kernel
def mX3_at : MD := (yX3_at, cX3_at, 7, (some .long), [])
theorem wsX3_at : wsM mX3_at = ws_ yX3_at cX3_at 7 (some .long) := rfl
theorem mokX3_at : MOK mX3_at 3 := by decide +kernel
def mX3_mean : MD := (yX3_mean, cX3_mean, 5, (some .long), [])
theorem wsX3_mean : wsM mX3_mean = ws_ yX3_mean cX3_mean 5 (some .long) := rfl
theorem mokX3_mean : MOK mX3_mean 1 := by decide +kernel
def mX3_all : MD := (yX3_all, cX3_all, 4, (some .long), [])
theorem wsX3_all : wsM mX3_all = ws_ yX3_all cX3_all 4 (some .long) := rfl
theorem mokX3_all : MOK mX3_all 0 := by decide +kernel
def mX3_worth : MD := (yX3_worth, cX3_worth, 5, (some .long), [])
theorem wsX3_worth : wsM mX3_worth = ws_ yX3_worth cX3_worth 5 (some .long) := rfl
theorem mokX3_worth : MOK mX3_worth 1 := by decide +kernel
def mX3_taking : MD := (yX3_taking, cX3_taking, 7, (some .long), [])
theorem wsX3_taking : wsM mX3_taking = ws_ yX3_taking cX3_taking 7 (some .long) := rfl
theorem mokX3_taking : MOK mX3_taking 1 := by decide +kernel
def mX3_partsOf : MD := (yX3_partsOf, cX3_partsOf, 5, (some .long), [])
theorem wsX3_partsOf : wsM mX3_partsOf = ws_ yX3_partsOf cX3_partsOf 5 (some .long) := rfl
theorem mokX3_partsOf : MOK mX3_partsOf 2 := by decide +kernel
def mX3_seeing : MD := (yX3_seeing, cX3_seeing, 4, (some .long), [])
theorem wsX3_seeing : wsM mX3_seeing = ws_ yX3_seeing cX3_seeing 4 (some .long) := rfl
theorem mokX3_seeing : MOK mX3_seeing 2 := by decide +kernel
def mX3_owning : MD := (yX3_owning, cX3_owning, 5, (some .long), [])
theorem wsX3_owning : wsM mX3_owning = ws_ yX3_owning cX3_owning 5 (some .long) := rfl
theorem mokX3_owning : MOK mX3_owning 1 := by decide +kernel
def mX5_init : MD := (yX5_init, cX5_init, 1, none, [])
theorem wsX5_init : wsM mX5_init = ws_ yX5_init cX5_init 1 none := rfl
theorem mokX5_init : MOK mX5_init 0 := by decide +kernel
def mX5_runs : MD := (yX5_runs, cX5_runs, 9, (some (.object "CardCups$Day")), [])
theorem wsX5_runs : wsM mX5_runs = ws_ yX5_runs cX5_runs 9 (some (.object "CardCups$Day")) := rfl
theorem mokX5_runs : MOK mX5_runs 5 := by decide +kernel
def mX5_draw : MD := (yX5_draw, cX5_draw, 2, (some .int), [])
theorem wsX5_draw : wsM mX5_draw = ws_ yX5_draw cX5_draw 2 (some .int) := rfl
theorem mokX5_draw : MOK mX5_draw 1 := by decide +kernel
def mJ0_init_2 : MD := (yJ0_init_2, cJ0_init_2, 5, none, [])
theorem wsJ0_init_2 : wsM mJ0_init_2 = ws_ yJ0_init_2 cJ0_init_2 5 none := rfl
theorem mokJ0_init_2 : MOK mJ0_init_2 4 := by decide +kernel
def mJ1_init_2 : MD := (yJ1_init_2, cJ1_init_2, 5, none, [])
theorem wsJ1_init_2 : wsM mJ1_init_2 = ws_ yJ1_init_2 cJ1_init_2 5 none := rfl
theorem mokJ1_init_2 : MOK mJ1_init_2 4 := by decide +kernel
def mX10_init : MD := (yX10_init, cX10_init, 2, none, [])
theorem wsX10_init : wsM mX10_init = ws_ yX10_init cX10_init 2 none := rfl
theorem mokX10_init : MOK mX10_init 1 := by decide +kernel
def mX10_reads : MD := (yX10_reads, cX10_reads, 1, none, [])
theorem wsX10_reads : wsM mX10_reads = ws_ yX10_reads cX10_reads 1 none := rfl
theorem mokX10_reads : MOK mX10_reads 0 := by decide +kernel
def mX10_clause : MD := (yX10_clause, cX10_clause, 4, none, [])
theorem wsX10_clause : wsM mX10_clause = ws_ yX10_clause cX10_clause 4 none := rfl
theorem mokX10_clause : MOK mX10_clause 0 := by decide +kernel
def mX11_init : MD := (yX11_init, cX11_init, 3, none, [])
theorem wsX11_init : wsM mX11_init = ws_ yX11_init cX11_init 3 none := rfl
theorem mokX11_init : MOK mX11_init 2 := by decide +kernel
def mX11_now : MD := (yX11_now, cX11_now, 1, (some .int), [])
theorem wsX11_now : wsM mX11_now = ws_ yX11_now cX11_now 1 (some .int) := rfl
theorem mokX11_now : MOK mX11_now 0 := by decide +kernel
def mX11_byteAt : MD := (yX11_byteAt, cX11_byteAt, 2, (some .int), [])
theorem wsX11_byteAt : wsM mX11_byteAt = ws_ yX11_byteAt cX11_byteAt 2 (some .int) := rfl
theorem mokX11_byteAt : MOK mX11_byteAt 1 := by decide +kernel
def mX11_place : MD := (yX11_place, cX11_place, 1, (some .int), [])
theorem wsX11_place : wsM mX11_place = ws_ yX11_place cX11_place 1 (some .int) := rfl
theorem mokX11_place : MOK mX11_place 0 := by decide +kernel
def mX11_which : MD := (yX11_which, cX11_which, 3, (some .int), [])
theorem wsX11_which : wsM mX11_which = ws_ yX11_which cX11_which 3 (some .int) := rfl
theorem mokX11_which : MOK mX11_which 1 := by decide +kernel
def mX11_isWord : MD := (yX11_isWord, cX11_isWord, 5, (some .boolean), [])
theorem wsX11_isWord : wsM mX11_isWord = ws_ yX11_isWord cX11_isWord 5 (some .boolean) := rfl
theorem mokX11_isWord : MOK mX11_isWord 1 := by decide +kernel
def mX11_isSmall : MD := (yX11_isSmall, cX11_isSmall, 1, (some .boolean), [])
theorem wsX11_isSmall : wsM mX11_isSmall = ws_ yX11_isSmall cX11_isSmall 1 (some .boolean) := rfl
theorem mokX11_isSmall : MOK mX11_isSmall 1 := by decide +kernel
def mX11_skipsWord : MD := (yX11_skipsWord, cX11_skipsWord, 1, none, [])
theorem wsX11_skipsWord : wsM mX11_skipsWord = ws_ yX11_skipsWord cX11_skipsWord 1 none := rfl
theorem mokX11_skipsWord : MOK mX11_skipsWord 0 := by decide +kernel
def mX11_number : MD := (yX11_number, cX11_number, 5, (some .int), [])
theorem wsX11_number : wsM mX11_number = ws_ yX11_number cX11_number 5 (some .int) := rfl
theorem mokX11_number : MOK mX11_number 2 := by decide +kernel
def mX11_isDigit : MD := (yX11_isDigit, cX11_isDigit, 1, (some .boolean), [])
theorem wsX11_isDigit : wsM mX11_isDigit = ws_ yX11_isDigit cX11_isDigit 1 (some .boolean) := rfl
theorem mokX11_isDigit : MOK mX11_isDigit 1 := by decide +kernel
def mX11_sign : MD := (yX11_sign, cX11_sign, 2, none, [])
theorem wsX11_sign : wsM mX11_sign = ws_ yX11_sign cX11_sign 2 none := rfl
theorem mokX11_sign : MOK mX11_sign 1 := by decide +kernel
def mX11_takes : MD := (yX11_takes, cX11_takes, 3, (some .boolean), [])
theorem wsX11_takes : wsM mX11_takes = ws_ yX11_takes cX11_takes 3 (some .boolean) := rfl
theorem mokX11_takes : MOK mX11_takes 1 := by decide +kernel
def mX11_opens : MD := (yX11_opens, cX11_opens, 1, none, [])
theorem wsX11_opens : wsM mX11_opens = ws_ yX11_opens cX11_opens 1 none := rfl
theorem mokX11_opens : MOK mX11_opens 0 := by decide +kernel
def mX11_closes : MD := (yX11_closes, cX11_closes, 1, none, [])
theorem wsX11_closes : wsM mX11_closes = ws_ yX11_closes cX11_closes 1 none := rfl
theorem mokX11_closes : MOK mX11_closes 0 := by decide +kernel
def mX11_takesSign : MD := (yX11_takesSign, cX11_takesSign, 3, (some .boolean), [])
theorem wsX11_takesSign : wsM mX11_takesSign = ws_ yX11_takesSign cX11_takesSign 3 (some .boolean) := rfl
theorem mokX11_takesSign : MOK mX11_takesSign 1 := by decide +kernel
def mX12_init : MD := (yX12_init, cX12_init, 3, none, [])
theorem wsX12_init : wsM mX12_init = ws_ yX12_init cX12_init 3 none := rfl
theorem mokX12_init : MOK mX12_init 2 := by decide +kernel
def mX13_init : MD := (yX13_init, cX13_init, 2, none, [])
theorem wsX13_init : wsM mX13_init = ws_ yX13_init cX13_init 2 none := rfl
theorem mokX13_init : MOK mX13_init 1 := by decide +kernel
def mX13_reads : MD := (yX13_reads, cX13_reads, 6, (some (.object "CardCups$Habit")), [])
theorem wsX13_reads : wsM mX13_reads = ws_ yX13_reads cX13_reads 6 (some (.object "CardCups$Habit")) := rfl
theorem mokX13_reads : MOK mX13_reads 0 := by decide +kernel
def mX13_any : MD := (yX13_any, cX13_any, 2, (some (.object "CardCups$Term")), [])
theorem wsX13_any : wsM mX13_any = ws_ yX13_any cX13_any 2 (some (.object "CardCups$Term")) := rfl
theorem mokX13_any : MOK mX13_any 0 := by decide +kernel
def mX13_each : MD := (yX13_each, cX13_each, 2, (some (.object "CardCups$Term")), [])
theorem wsX13_each : wsM mX13_each = ws_ yX13_each cX13_each 2 (some (.object "CardCups$Term")) := rfl
theorem mokX13_each : MOK mX13_each 0 := by decide +kernel
def mX13_one : MD := (yX13_one, cX13_one, 3, (some (.object "CardCups$Term")), [])
theorem wsX13_one : wsM mX13_one = ws_ yX13_one cX13_one 3 (some (.object "CardCups$Term")) := rfl
theorem mokX13_one : MOK mX13_one 0 := by decide +kernel
def mX13_sum : MD := (yX13_sum, cX13_sum, 2, (some (.object "CardCups$Term")), [])
theorem wsX13_sum : wsM mX13_sum = ws_ yX13_sum cX13_sum 2 (some (.object "CardCups$Term")) := rfl
theorem mokX13_sum : MOK mX13_sum 0 := by decide +kernel
def mX13_product : MD := (yX13_product, cX13_product, 2, (some (.object "CardCups$Term")), [])
theorem wsX13_product : wsM mX13_product = ws_ yX13_product cX13_product 2 (some (.object "CardCups$Term")) := rfl
theorem mokX13_product : MOK mX13_product 0 := by decide +kernel
def mX13_value : MD := (yX13_value, cX13_value, 2, (some (.object "CardCups$Term")), [])
theorem wsX13_value : wsM mX13_value = ws_ yX13_value cX13_value 2 (some (.object "CardCups$Term")) := rfl
theorem mokX13_value : MOK mX13_value 0 := by decide +kernel
def mX13_step : MD := (yX13_step, cX13_step, 3, (some (.object "CardCups$Step")), [])
theorem wsX13_step : wsM mX13_step = ws_ yX13_step cX13_step 3 (some (.object "CardCups$Step")) := rfl
theorem mokX13_step : MOK mX13_step 3 := by decide +kernel
def mX14_init : MD := (yX14_init, cX14_init, 1, none, [])
theorem wsX14_init : wsM mX14_init = ws_ yX14_init cX14_init 1 none := rfl
theorem mokX14_init : MOK mX14_init 0 := by decide +kernel
def mX15_init : MD := (yX15_init, cX15_init, 2, none, [])
theorem wsX15_init : wsM mX15_init = ws_ yX15_init cX15_init 2 none := rfl
theorem mokX15_init : MOK mX15_init 1 := by decide +kernel
def mX16_init : MD := (yX16_init, cX16_init, 2, none, [])
theorem wsX16_init : wsM mX16_init = ws_ yX16_init cX16_init 2 none := rfl
theorem mokX16_init : MOK mX16_init 1 := by decide +kernel
def mX17_init : MD := (yX17_init, cX17_init, 2, none, [])
theorem wsX17_init : wsM mX17_init = ws_ yX17_init cX17_init 2 none := rfl
theorem mokX17_init : MOK mX17_init 1 := by decide +kernel
def mX18_init : MD := (yX18_init, cX18_init, 4, none, [])
theorem wsX18_init : wsM mX18_init = ws_ yX18_init cX18_init 4 none := rfl
theorem mokX18_init : MOK mX18_init 3 := by decide +kernel
def mX1_feed : MD := (yX1_feed, cX1_feed, 8, (some .int), [])
theorem wsX1_feed : wsM mX1_feed = ws_ yX1_feed cX1_feed 8 (some .int) := rfl
theorem mokX1_feed : MOK mX1_feed 5 := by decide +kernel
def mX1_fault : MD := (yX1_fault, cX1_fault, 1, (some .int), [])
theorem wsX1_fault : wsM mX1_fault = ws_ yX1_fault cX1_fault 1 (some .int) := rfl
theorem mokX1_fault : MOK mX1_fault 0 := by decide +kernel
def mX1_since : MD := (yX1_since, cX1_since, 2, (some .int), [])
theorem wsX1_since : wsM mX1_since = ws_ yX1_since cX1_since 2 (some .int) := rfl
theorem mokX1_since : MOK mX1_since 0 := by decide +kernel
def mX1_asTold : MD := (yX1_asTold, cX1_asTold, 1, (some (.object "CardCups$How")), [])
theorem wsX1_asTold : wsM mX1_asTold = ws_ yX1_asTold cX1_asTold 1 (some (.object "CardCups$How")) := rfl
theorem mokX1_asTold : MOK mX1_asTold 0 := by decide +kernel
def mX1_run : MD := (yX1_run, cX1_run, 2, (some (.object "CardCups$Flow")), [])
theorem wsX1_run : wsM mX1_run = ws_ yX1_run cX1_run 2 (some (.object "CardCups$Flow")) := rfl
theorem mokX1_run : MOK mX1_run 1 := by decide +kernel
def mX1_keeper : MD := (yX1_keeper, cX1_keeper, 7, (some .int), [])
theorem wsX1_keeper : wsM mX1_keeper = ws_ yX1_keeper cX1_keeper 7 (some .int) := rfl
theorem mokX1_keeper : MOK mX1_keeper 0 := by decide +kernel
def mX1_spoiler : MD := (yX1_spoiler, cX1_spoiler, 7, (some .int), [])
theorem wsX1_spoiler : wsM mX1_spoiler = ws_ yX1_spoiler cX1_spoiler 7 (some .int) := rfl
theorem mokX1_spoiler : MOK mX1_spoiler 0 := by decide +kernel
def mX1_fill : MD := (yX1_fill, cX1_fill, 7, (some .int), [])
theorem wsX1_fill : wsM mX1_fill = ws_ yX1_fill cX1_fill 7 (some .int) := rfl
theorem mokX1_fill : MOK mX1_fill 0 := by decide +kernel
def mX1_starting : MD := (yX1_starting, cX1_starting, 2, (some .long), [])
theorem wsX1_starting : wsM mX1_starting = ws_ yX1_starting cX1_starting 2 (some .long) := rfl
theorem mokX1_starting : MOK mX1_starting 1 := by decide +kernel
def mX1_swap : MD := (yX1_swap, cX1_swap, 8, (some .int), [])
theorem wsX1_swap : wsM mX1_swap = ws_ yX1_swap cX1_swap 8 (some .int) := rfl
theorem mokX1_swap : MOK mX1_swap 0 := by decide +kernel
def mX1_undo : MD := (yX1_undo, cX1_undo, 1, (some .int), [])
theorem wsX1_undo : wsM mX1_undo = ws_ yX1_undo cX1_undo 1 (some .int) := rfl
theorem mokX1_undo : MOK mX1_undo 0 := by decide +kernel
def mX1_image : MD := (yX1_image, cX1_image, 2, (some .int), [])
theorem wsX1_image : wsM mX1_image = ws_ yX1_image cX1_image 2 (some .int) := rfl
theorem mokX1_image : MOK mX1_image 0 := by decide +kernel
def mX1_restore : MD := (yX1_restore, cX1_restore, 2, (some .int), [])
theorem wsX1_restore : wsM mX1_restore = ws_ yX1_restore cX1_restore 2 (some .int) := rfl
theorem mokX1_restore : MOK mX1_restore 0 := by decide +kernel
def mX1_status : MD := (yX1_status, cX1_status, 2, (some .int), [])
theorem wsX1_status : wsM mX1_status = ws_ yX1_status cX1_status 2 (some .int) := rfl
theorem mokX1_status : MOK mX1_status 1 := by decide +kernel
def mX1_count : MD := (yX1_count, cX1_count, 2, (some .int), [])
theorem wsX1_count : wsM mX1_count = ws_ yX1_count cX1_count 2 (some .int) := rfl
theorem mokX1_count : MOK mX1_count 1 := by decide +kernel
def mX1_office : MD := (yX1_office, cX1_office, 4, (some .int), [(23, 27, 30, 106)])
theorem wsX1_office : wsM mX1_office = wsW_ yX1_office cX1_office 4 (some .int) [(23, 27, 30, 106)] := rfl
theorem mokX1_office : MOK mX1_office 1 := by decide +kernel
def mX1_within : MD := (yX1_within, cX1_within, 4, none, [])
theorem wsX1_within : wsM mX1_within = ws_ yX1_within cX1_within 4 none := rfl
theorem mokX1_within : MOK mX1_within 3 := by decide +kernel
def mX1_reader : MD := (yX1_reader, cX1_reader, 2, (some (.object "CardCups$Reader")), [])
theorem wsX1_reader : wsM mX1_reader = ws_ yX1_reader cX1_reader 2 (some (.object "CardCups$Reader")) := rfl
theorem mokX1_reader : MOK mX1_reader 1 := by decide +kernel
def mX1_faulty : MD := (yX1_faulty, cX1_faulty, 2, (some .int), [])
theorem wsX1_faulty : wsM mX1_faulty = ws_ yX1_faulty cX1_faulty 2 (some .int) := rfl
theorem mokX1_faulty : MOK mX1_faulty 1 := by decide +kernel
def mX1_habit : MD := (yX1_habit, cX1_habit, 4, (some .int), [(21, 42, 45, 106)])
theorem wsX1_habit : wsM mX1_habit = wsW_ yX1_habit cX1_habit 4 (some .int) [(21, 42, 45, 106)] := rfl
theorem mokX1_habit : MOK mX1_habit 2 := by decide +kernel
def mX1_personOf : MD := (yX1_personOf, cX1_personOf, 2, none, [])
theorem wsX1_personOf : wsM mX1_personOf = ws_ yX1_personOf cX1_personOf 2 none := rfl
theorem mokX1_personOf : MOK mX1_personOf 1 := by decide +kernel
def mX1_isThere : MD := (yX1_isThere, cX1_isThere, 3, none, [])
theorem wsX1_isThere : wsM mX1_isThere = ws_ yX1_isThere cX1_isThere 3 none := rfl
theorem mokX1_isThere : MOK mX1_isThere 2 := by decide +kernel
def mX1_rule : MD := (yX1_rule, cX1_rule, 3, (some .int), [(16, 35, 38, 106)])
theorem wsX1_rule : wsM mX1_rule = wsW_ yX1_rule cX1_rule 3 (some .int) [(16, 35, 38, 106)] := rfl
theorem mokX1_rule : MOK mX1_rule 1 := by decide +kernel
def mX1_book : MD := (yX1_book, cX1_book, 4, (some .int), [(24, 47, 50, 106)])
theorem wsX1_book : wsM mX1_book = wsW_ yX1_book cX1_book 4 (some .int) [(24, 47, 50, 106)] := rfl
theorem mokX1_book : MOK mX1_book 1 := by decide +kernel
def mX1_line : MD := (yX1_line, cX1_line, 6, none, [])
theorem wsX1_line : wsM mX1_line = ws_ yX1_line cX1_line 6 none := rfl
theorem mokX1_line : MOK mX1_line 2 := by decide +kernel
def mX1_told : MD := (yX1_told, cX1_told, 2, (some .int), [])
theorem wsX1_told : wsM mX1_told = ws_ yX1_told cX1_told 2 (some .int) := rfl
theorem mokX1_told : MOK mX1_told 1 := by decide +kernel
def mX1_visit : MD := (yX1_visit, cX1_visit, 3, (some .int), [])
theorem wsX1_visit : wsM mX1_visit = ws_ yX1_visit cX1_visit 3 (some .int) := rfl
theorem mokX1_visit : MOK mX1_visit 2 := by decide +kernel
def mX1_visitOf : MD := (yX1_visitOf, cX1_visitOf, 2, none, [])
theorem wsX1_visitOf : wsM mX1_visitOf = ws_ yX1_visitOf cX1_visitOf 2 none := rfl
theorem mokX1_visitOf : MOK mX1_visitOf 1 := by decide +kernel
def mX1_person : MD := (yX1_person, cX1_person, 3, (some .int), [])
theorem wsX1_person : wsM mX1_person = ws_ yX1_person cX1_person 3 (some .int) := rfl
theorem mokX1_person : MOK mX1_person 2 := by decide +kernel
def mX1_price : MD := (yX1_price, cX1_price, 2, (some .int), [])
theorem wsX1_price : wsM mX1_price = ws_ yX1_price cX1_price 2 (some .int) := rfl
theorem mokX1_price : MOK mX1_price 1 := by decide +kernel
def mX1_states : MD := (yX1_states, cX1_states, 2, (some .int), [])
theorem wsX1_states : wsM mX1_states = ws_ yX1_states cX1_states 2 (some .int) := rfl
theorem mokX1_states : MOK mX1_states 1 := by decide +kernel
def mX1_likely : MD := (yX1_likely, cX1_likely, 3, (some .long), [])
theorem wsX1_likely : wsM mX1_likely = ws_ yX1_likely cX1_likely 3 (some .long) := rfl
theorem mokX1_likely : MOK mX1_likely 2 := by decide +kernel
def mX1_state : MD := (yX1_state, cX1_state, 5, (some .long), [])
theorem wsX1_state : wsM mX1_state = ws_ yX1_state cX1_state 5 (some .long) := rfl
theorem mokX1_state : MOK mX1_state 4 := by decide +kernel
def mX1_likeliest : MD := (yX1_likeliest, cX1_likeliest, 9, (some .int), [])
theorem wsX1_likeliest : wsM mX1_likeliest = ws_ yX1_likeliest cX1_likeliest 9 (some .int) := rfl
theorem mokX1_likeliest : MOK mX1_likeliest 1 := by decide +kernel
def mX1_mean : MD := (yX1_mean, cX1_mean, 4, (some .long), [])
theorem wsX1_mean : wsM mX1_mean = ws_ yX1_mean cX1_mean 4 (some .long) := rfl
theorem mokX1_mean : MOK mX1_mean 3 := by decide +kernel
def mX1_partOf : MD := (yX1_partOf, cX1_partOf, 2, none, [])
theorem wsX1_partOf : wsM mX1_partOf = ws_ yX1_partOf cX1_partOf 2 none := rfl
theorem mokX1_partOf : MOK mX1_partOf 1 := by decide +kernel
def mX1_part : MD := (yX1_part, cX1_part, 11, (some .long), [])
theorem wsX1_part : wsM mX1_part = ws_ yX1_part cX1_part 11 (some .long) := rfl
theorem mokX1_part : MOK mX1_part 3 := by decide +kernel
def mX1_often : MD := (yX1_often, cX1_often, 5, (some .long), [])
theorem wsX1_often : wsM mX1_often = ws_ yX1_often cX1_often 5 (some .long) := rfl
theorem mokX1_often : MOK mX1_often 1 := by decide +kernel
def mX1_drunk : MD := (yX1_drunk, cX1_drunk, 3, (some .long), [])
theorem wsX1_drunk : wsM mX1_drunk = ws_ yX1_drunk cX1_drunk 3 (some .long) := rfl
theorem mokX1_drunk : MOK mX1_drunk 2 := by decide +kernel
def mX1_done : MD := (yX1_done, cX1_done, 3, (some .long), [])
theorem wsX1_done : wsM mX1_done = ws_ yX1_done cX1_done 3 (some .long) := rfl
theorem mokX1_done : MOK mX1_done 2 := by decide +kernel
def mX1_cost : MD := (yX1_cost, cX1_cost, 2, (some .long), [])
theorem wsX1_cost : wsM mX1_cost = ws_ yX1_cost cX1_cost 2 (some .long) := rfl
theorem mokX1_cost : MOK mX1_cost 1 := by decide +kernel
def mX1_fits : MD := (yX1_fits, cX1_fits, 2, (some .long), [])
theorem wsX1_fits : wsM mX1_fits = ws_ yX1_fits cX1_fits 2 (some .long) := rfl
theorem mokX1_fits : MOK mX1_fits 1 := by decide +kernel
def mX1_given : MD := (yX1_given, cX1_given, 6, (some .long), [])
theorem wsX1_given : wsM mX1_given = ws_ yX1_given cX1_given 6 (some .long) := rfl
theorem mokX1_given : MOK mX1_given 3 := by decide +kernel
def mX1_begun : MD := (yX1_begun, cX1_begun, 2, (some (.object "CardCups$Flow")), [])
theorem wsX1_begun : wsM mX1_begun = ws_ yX1_begun cX1_begun 2 (some (.object "CardCups$Flow")) := rfl
theorem mokX1_begun : MOK mX1_begun 1 := by decide +kernel
def mX1_best : MD := (yX1_best, cX1_best, 4, (some .int), [])
theorem wsX1_best : wsM mX1_best = ws_ yX1_best cX1_best 4 (some .int) := rfl
theorem mokX1_best : MOK mX1_best 1 := by decide +kernel
def mX1_worth : MD := (yX1_worth, cX1_worth, 6, (some .long), [])
theorem wsX1_worth : wsM mX1_worth = ws_ yX1_worth cX1_worth 6 (some .long) := rfl
theorem mokX1_worth : MOK mX1_worth 3 := by decide +kernel
def mX1_gain : MD := (yX1_gain, cX1_gain, 5, (some .long), [])
theorem wsX1_gain : wsM mX1_gain = ws_ yX1_gain cX1_gain 5 (some .long) := rfl
theorem mokX1_gain : MOK mX1_gain 2 := by decide +kernel
def mX1_without : MD := (yX1_without, cX1_without, 3, (some .long), [])
theorem wsX1_without : wsM mX1_without = ws_ yX1_without cX1_without 3 (some .long) := rfl
theorem mokX1_without : MOK mX1_without 2 := by decide +kernel
def mX1_falling : MD := (yX1_falling, cX1_falling, 2, (some .long), [])
theorem wsX1_falling : wsM mX1_falling = ws_ yX1_falling cX1_falling 2 (some .long) := rfl
theorem mokX1_falling : MOK mX1_falling 1 := by decide +kernel
def mX1_seeing : MD := (yX1_seeing, cX1_seeing, 3, (some .long), [])
theorem wsX1_seeing : wsM mX1_seeing = ws_ yX1_seeing cX1_seeing 3 (some .long) := rfl
theorem mokX1_seeing : MOK mX1_seeing 2 := by decide +kernel
def mX1_filled : MD := (yX1_filled, cX1_filled, 3, (some .long), [])
theorem wsX1_filled : wsM mX1_filled = ws_ yX1_filled cX1_filled 3 (some .long) := rfl
theorem mokX1_filled : MOK mX1_filled 2 := by decide +kernel
def mX1_ruled : MD := (yX1_ruled, cX1_ruled, 2, (some .long), [])
theorem wsX1_ruled : wsM mX1_ruled = ws_ yX1_ruled cX1_ruled 2 (some .long) := rfl
theorem mokX1_ruled : MOK mX1_ruled 1 := by decide +kernel
def mX1_swapped : MD := (yX1_swapped, cX1_swapped, 4, (some .long), [])
theorem wsX1_swapped : wsM mX1_swapped = ws_ yX1_swapped cX1_swapped 4 (some .long) := rfl
theorem mokX1_swapped : MOK mX1_swapped 3 := by decide +kernel
def mX1_day : MD := (yX1_day, cX1_day, 5, (some .int), [])
theorem wsX1_day : wsM mX1_day = ws_ yX1_day cX1_day 5 (some .int) := rfl
theorem mokX1_day : MOK mX1_day 3 := by decide +kernel
def mX1_drawn : MD := (yX1_drawn, cX1_drawn, 3, (some (.object "CardCups$Day")), [])
theorem wsX1_drawn : wsM mX1_drawn = ws_ yX1_drawn cX1_drawn 3 (some (.object "CardCups$Day")) := rfl
theorem mokX1_drawn : MOK mX1_drawn 2 := by decide +kernel
def mX1_span : MD := (yX1_span, cX1_span, 8, (some .int), [])
theorem wsX1_span : wsM mX1_span = ws_ yX1_span cX1_span 8 (some .int) := rfl
theorem mokX1_span : MOK mX1_span 3 := by decide +kernel
def mX1_come : MD := (yX1_come, cX1_come, 3, (some .int), [])
theorem wsX1_come : wsM mX1_come = ws_ yX1_come cX1_come 3 (some .int) := rfl
theorem mokX1_come : MOK mX1_come 2 := by decide +kernel
def mX1_changes : MD := (yX1_changes, cX1_changes, 1, none, [])
theorem wsX1_changes : wsM mX1_changes = ws_ yX1_changes cX1_changes 1 none := rfl
theorem mokX1_changes : MOK mX1_changes 0 := by decide +kernel
def mX1_skip : MD := (yX1_skip, cX1_skip, 2, (some .int), [])
theorem wsX1_skip : wsM mX1_skip = ws_ yX1_skip cX1_skip 2 (some .int) := rfl
theorem mokX1_skip : MOK mX1_skip 1 := by decide +kernel
def mX1_shift : MD := (yX1_shift, cX1_shift, 4, (some .int), [])
theorem wsX1_shift : wsM mX1_shift = ws_ yX1_shift cX1_shift 4 (some .int) := rfl
theorem mokX1_shift : MOK mX1_shift 2 := by decide +kernel
def mX1_teach : MD := (yX1_teach, cX1_teach, 3, (some .int), [])
theorem wsX1_teach : wsM mX1_teach = ws_ yX1_teach cX1_teach 3 (some .int) := rfl
theorem mokX1_teach : MOK mX1_teach 2 := by decide +kernel
def mX0_office : MD := (yX0_office, cX0_office, 4, (some .int), [(0, 9, 12, 13)])
theorem wsX0_office : wsM mX0_office = wsW_ yX0_office cX0_office 4 (some .int) [(0, 9, 12, 13)] := rfl
theorem mokX0_office : MOK mX0_office 3 := by decide +kernel
def mX0_habit : MD := (yX0_habit, cX0_habit, 5, (some .int), [(0, 10, 13, 19), (0, 10, 17, 13)])
theorem wsX0_habit : wsM mX0_habit = wsW_ yX0_habit cX0_habit 5 (some .int) [(0, 10, 13, 19), (0, 10, 17, 13)] := rfl
theorem mokX0_habit : MOK mX0_habit 4 := by decide +kernel
def mX0_rule : MD := (yX0_rule, cX0_rule, 4, (some .int), [(0, 9, 12, 13)])
theorem wsX0_rule : wsM mX0_rule = wsW_ yX0_rule cX0_rule 4 (some .int) [(0, 9, 12, 13)] := rfl
theorem mokX0_rule : MOK mX0_rule 3 := by decide +kernel
def mX0_book : MD := (yX0_book, cX0_book, 4, (some .int), [(0, 9, 12, 13)])
theorem wsX0_book : wsM mX0_book = wsW_ yX0_book cX0_book 4 (some .int) [(0, 9, 12, 13)] := rfl
theorem mokX0_book : MOK mX0_book 3 := by decide +kernel
def mX0_told : MD := (yX0_told, cX0_told, 4, (some .int), [(0, 9, 12, 13)])
theorem wsX0_told : wsM mX0_told = wsW_ yX0_told cX0_told 4 (some .int) [(0, 9, 12, 13)] := rfl
theorem mokX0_told : MOK mX0_told 3 := by decide +kernel
def mX0_visit : MD := (yX0_visit, cX0_visit, 5, (some .int), [(0, 10, 13, 19), (0, 10, 17, 13)])
theorem wsX0_visit : wsM mX0_visit = wsW_ yX0_visit cX0_visit 5 (some .int) [(0, 10, 13, 19), (0, 10, 17, 13)] := rfl
theorem mokX0_visit : MOK mX0_visit 4 := by decide +kernel
def mX0_person : MD := (yX0_person, cX0_person, 5, (some .int), [(0, 10, 13, 19), (0, 10, 17, 13)])
theorem wsX0_person : wsM mX0_person = wsW_ yX0_person cX0_person 5 (some .int) [(0, 10, 13, 19), (0, 10, 17, 13)] := rfl
theorem mokX0_person : MOK mX0_person 4 := by decide +kernel
def mX0_price : MD := (yX0_price, cX0_price, 4, (some .int), [(0, 9, 12, 13)])
theorem wsX0_price : wsM mX0_price = wsW_ yX0_price cX0_price 4 (some .int) [(0, 9, 12, 13)] := rfl
theorem mokX0_price : MOK mX0_price 3 := by decide +kernel
def mX0_states : MD := (yX0_states, cX0_states, 4, (some .int), [(0, 9, 12, 19)])
theorem wsX0_states : wsM mX0_states = wsW_ yX0_states cX0_states 4 (some .int) [(0, 9, 12, 19)] := rfl
theorem mokX0_states : MOK mX0_states 3 := by decide +kernel
def mX0_likely : MD := (yX0_likely, cX0_likely, 5, (some .int), [(0, 9, 12, 19), (0, 9, 16, 13)])
theorem wsX0_likely : wsM mX0_likely = wsW_ yX0_likely cX0_likely 5 (some .int) [(0, 9, 12, 19), (0, 9, 16, 13)] := rfl
theorem mokX0_likely : MOK mX0_likely 4 := by decide +kernel
def mX0_state : MD := (yX0_state, cX0_state, 7, (some .int), [(0, 13, 16, 19), (0, 13, 20, 13)])
theorem wsX0_state : wsM mX0_state = wsW_ yX0_state cX0_state 7 (some .int) [(0, 13, 16, 19), (0, 13, 20, 13)] := rfl
theorem mokX0_state : MOK mX0_state 6 := by decide +kernel
def mX0_likeliest : MD := (yX0_likeliest, cX0_likeliest, 4, (some .int), [(0, 9, 12, 19)])
theorem wsX0_likeliest : wsM mX0_likeliest = wsW_ yX0_likeliest cX0_likeliest 4 (some .int) [(0, 9, 12, 19)] := rfl
theorem mokX0_likeliest : MOK mX0_likeliest 3 := by decide +kernel
def mX0_mean : MD := (yX0_mean, cX0_mean, 6, (some .int), [(0, 11, 14, 19), (0, 11, 18, 13)])
theorem wsX0_mean : wsM mX0_mean = wsW_ yX0_mean cX0_mean 6 (some .int) [(0, 11, 14, 19), (0, 11, 18, 13)] := rfl
theorem mokX0_mean : MOK mX0_mean 5 := by decide +kernel
def mX0_often : MD := (yX0_often, cX0_often, 4, (some .int), [(0, 8, 11, 13)])
theorem wsX0_often : wsM mX0_often = wsW_ yX0_often cX0_often 4 (some .int) [(0, 8, 11, 13)] := rfl
theorem mokX0_often : MOK mX0_often 3 := by decide +kernel
def mX0_drunk : MD := (yX0_drunk, cX0_drunk, 5, (some .int), [(0, 9, 12, 19), (0, 9, 16, 13)])
theorem wsX0_drunk : wsM mX0_drunk = wsW_ yX0_drunk cX0_drunk 5 (some .int) [(0, 9, 12, 19), (0, 9, 16, 13)] := rfl
theorem mokX0_drunk : MOK mX0_drunk 4 := by decide +kernel
def mX0_done : MD := (yX0_done, cX0_done, 5, (some .int), [(0, 9, 12, 13)])
theorem wsX0_done : wsM mX0_done = wsW_ yX0_done cX0_done 5 (some .int) [(0, 9, 12, 13)] := rfl
theorem mokX0_done : MOK mX0_done 4 := by decide +kernel
def mX0_cost : MD := (yX0_cost, cX0_cost, 4, (some .int), [(0, 8, 11, 13)])
theorem wsX0_cost : wsM mX0_cost = wsW_ yX0_cost cX0_cost 4 (some .int) [(0, 8, 11, 13)] := rfl
theorem mokX0_cost : MOK mX0_cost 3 := by decide +kernel
def mX0_fits : MD := (yX0_fits, cX0_fits, 4, (some .int), [(0, 8, 11, 13)])
theorem wsX0_fits : wsM mX0_fits = wsW_ yX0_fits cX0_fits 4 (some .int) [(0, 8, 11, 13)] := rfl
theorem mokX0_fits : MOK mX0_fits 3 := by decide +kernel
def mX0_given : MD := (yX0_given, cX0_given, 6, (some .int), [(0, 11, 14, 19), (0, 11, 18, 13)])
theorem wsX0_given : wsM mX0_given = wsW_ yX0_given cX0_given 6 (some .int) [(0, 11, 14, 19), (0, 11, 18, 13)] := rfl
theorem mokX0_given : MOK mX0_given 5 := by decide +kernel
def mX0_best : MD := (yX0_best, cX0_best, 4, (some .int), [(0, 9, 12, 19)])
theorem wsX0_best : wsM mX0_best = wsW_ yX0_best cX0_best 4 (some .int) [(0, 9, 12, 19)] := rfl
theorem mokX0_best : MOK mX0_best 3 := by decide +kernel
def mX0_worth : MD := (yX0_worth, cX0_worth, 6, (some .int), [(0, 11, 14, 19), (0, 11, 18, 13)])
theorem wsX0_worth : wsM mX0_worth = wsW_ yX0_worth cX0_worth 6 (some .int) [(0, 11, 14, 19), (0, 11, 18, 13)] := rfl
theorem mokX0_worth : MOK mX0_worth 5 := by decide +kernel
def mX0_gain : MD := (yX0_gain, cX0_gain, 5, (some .int), [(0, 9, 12, 19), (0, 9, 16, 13)])
theorem wsX0_gain : wsM mX0_gain = wsW_ yX0_gain cX0_gain 5 (some .int) [(0, 9, 12, 19), (0, 9, 16, 13)] := rfl
theorem mokX0_gain : MOK mX0_gain 4 := by decide +kernel
def mX0_without : MD := (yX0_without, cX0_without, 5, (some .int), [(0, 9, 12, 19), (0, 9, 16, 13)])
theorem wsX0_without : wsM mX0_without = wsW_ yX0_without cX0_without 5 (some .int) [(0, 9, 12, 19), (0, 9, 16, 13)] := rfl
theorem mokX0_without : MOK mX0_without 4 := by decide +kernel
def mX0_falling : MD := (yX0_falling, cX0_falling, 4, (some .int), [(0, 8, 11, 13)])
theorem wsX0_falling : wsM mX0_falling = wsW_ yX0_falling cX0_falling 4 (some .int) [(0, 8, 11, 13)] := rfl
theorem mokX0_falling : MOK mX0_falling 3 := by decide +kernel
def mX0_seeing : MD := (yX0_seeing, cX0_seeing, 5, (some .int), [(0, 9, 12, 13)])
theorem wsX0_seeing : wsM mX0_seeing = wsW_ yX0_seeing cX0_seeing 5 (some .int) [(0, 9, 12, 13)] := rfl
theorem mokX0_seeing : MOK mX0_seeing 4 := by decide +kernel
def mX0_filled : MD := (yX0_filled, cX0_filled, 5, (some .int), [(0, 9, 12, 13)])
theorem wsX0_filled : wsM mX0_filled = wsW_ yX0_filled cX0_filled 5 (some .int) [(0, 9, 12, 13)] := rfl
theorem mokX0_filled : MOK mX0_filled 4 := by decide +kernel
def mX0_ruled : MD := (yX0_ruled, cX0_ruled, 4, (some .int), [(0, 8, 11, 13)])
theorem wsX0_ruled : wsM mX0_ruled = wsW_ yX0_ruled cX0_ruled 4 (some .int) [(0, 8, 11, 13)] := rfl
theorem mokX0_ruled : MOK mX0_ruled 3 := by decide +kernel
def mX0_swapped : MD := (yX0_swapped, cX0_swapped, 6, (some .int), [(0, 11, 14, 19), (0, 11, 18, 13)])
theorem wsX0_swapped : wsM mX0_swapped = wsW_ yX0_swapped cX0_swapped 6 (some .int) [(0, 11, 14, 19), (0, 11, 18, 13)] := rfl
theorem mokX0_swapped : MOK mX0_swapped 5 := by decide +kernel
def mX0_day : MD := (yX0_day, cX0_day, 6, (some .int), [(0, 12, 15, 19), (0, 12, 19, 13)])
theorem wsX0_day : wsM mX0_day = wsW_ yX0_day cX0_day 6 (some .int) [(0, 12, 15, 19), (0, 12, 19, 13)] := rfl
theorem mokX0_day : MOK mX0_day 5 := by decide +kernel
def mX0_span : MD := (yX0_span, cX0_span, 6, (some .int), [(0, 12, 15, 13)])
theorem wsX0_span : wsM mX0_span = wsW_ yX0_span cX0_span 6 (some .int) [(0, 12, 15, 13)] := rfl
theorem mokX0_span : MOK mX0_span 5 := by decide +kernel
def mX0_come : MD := (yX0_come, cX0_come, 5, (some .int), [(0, 10, 13, 19), (0, 10, 17, 13)])
theorem wsX0_come : wsM mX0_come = wsW_ yX0_come cX0_come 5 (some .int) [(0, 10, 13, 19), (0, 10, 17, 13)] := rfl
theorem mokX0_come : MOK mX0_come 4 := by decide +kernel
def mX0_skip : MD := (yX0_skip, cX0_skip, 4, (some .int), [(0, 9, 12, 19)])
theorem wsX0_skip : wsM mX0_skip = wsW_ yX0_skip cX0_skip 4 (some .int) [(0, 9, 12, 19)] := rfl
theorem mokX0_skip : MOK mX0_skip 3 := by decide +kernel
def mX0_shift : MD := (yX0_shift, cX0_shift, 5, (some .int), [(0, 10, 13, 19), (0, 10, 17, 13)])
theorem wsX0_shift : wsM mX0_shift = wsW_ yX0_shift cX0_shift 5 (some .int) [(0, 10, 13, 19), (0, 10, 17, 13)] := rfl
theorem mokX0_shift : MOK mX0_shift 4 := by decide +kernel
def mX0_teach : MD := (yX0_teach, cX0_teach, 5, (some .int), [(0, 10, 13, 19)])
theorem wsX0_teach : wsM mX0_teach = wsW_ yX0_teach cX0_teach 5 (some .int) [(0, 10, 13, 19)] := rfl
theorem mokX0_teach : MOK mX0_teach 4 := by decide +kernel
def mX9_thrown : MD := (yX9_thrown, cX9_thrown, 1, (some .int), [])
theorem wsX9_thrown : wsM mX9_thrown = ws_ yX9_thrown cX9_thrown 1 (some .int) := rfl
theorem mokX9_thrown : MOK mX9_thrown 0 := by decide +kernel
def mX9_init : MD := (yX9_init, cX9_init, 1, none, [])
theorem wsX9_init : wsM mX9_init = ws_ yX9_init cX9_init 1 none := rfl
theorem mokX9_init : MOK mX9_init 0 := by decide +kernel
def mX9_clears : MD := (yX9_clears, cX9_clears, 1, none, [])
theorem wsX9_clears : wsM mX9_clears = ws_ yX9_clears cX9_clears 1 none := rfl
theorem mokX9_clears : MOK mX9_clears 0 := by decide +kernel
def mX9_sets : MD := (yX9_sets, cX9_sets, 2, none, [])
theorem wsX9_sets : wsM mX9_sets = ws_ yX9_sets cX9_sets 2 none := rfl
theorem mokX9_sets : MOK mX9_sets 0 := by decide +kernel
def mX9_copies : MD := (yX9_copies, cX9_copies, 5, none, [])
theorem wsX9_copies : wsM mX9_copies = ws_ yX9_copies cX9_copies 5 none := rfl
theorem mokX9_copies : MOK mX9_copies 3 := by decide +kernel
def mX9_feed : MD := (yX9_feed, cX9_feed, 8, (some .int), [])
theorem wsX9_feed : wsM mX9_feed = ws_ yX9_feed cX9_feed 8 (some .int) := rfl
theorem mokX9_feed : MOK mX9_feed 5 := by decide +kernel
def mX9_fault : MD := (yX9_fault, cX9_fault, 1, (some .int), [])
theorem wsX9_fault : wsM mX9_fault = ws_ yX9_fault cX9_fault 1 (some .int) := rfl
theorem mokX9_fault : MOK mX9_fault 0 := by decide +kernel
def mX9_office : MD := (yX9_office, cX9_office, 4, (some .int), [])
theorem wsX9_office : wsM mX9_office = ws_ yX9_office cX9_office 4 (some .int) := rfl
theorem mokX9_office : MOK mX9_office 1 := by decide +kernel
def mX9_may : MD := (yX9_may, cX9_may, 4, (some .boolean), [])
theorem wsX9_may : wsM mX9_may = ws_ yX9_may cX9_may 4 (some .boolean) := rfl
theorem mokX9_may : MOK mX9_may 3 := by decide +kernel
def mX9_begins : MD := (yX9_begins, cX9_begins, 2, none, [])
theorem wsX9_begins : wsM mX9_begins = ws_ yX9_begins cX9_begins 2 none := rfl
theorem mokX9_begins : MOK mX9_begins 1 := by decide +kernel
def mX9_fine : MD := (yX9_fine, cX9_fine, 1, (some .boolean), [])
theorem wsX9_fine : wsM mX9_fine = ws_ yX9_fine cX9_fine 1 (some .boolean) := rfl
theorem mokX9_fine : MOK mX9_fine 0 := by decide +kernel
def mX9_isMore : MD := (yX9_isMore, cX9_isMore, 1, (some .boolean), [])
theorem wsX9_isMore : wsM mX9_isMore = ws_ yX9_isMore cX9_isMore 1 (some .boolean) := rfl
theorem mokX9_isMore : MOK mX9_isMore 0 := by decide +kernel
def mX9_here : MD := (yX9_here, cX9_here, 1, (some .int), [])
theorem wsX9_here : wsM mX9_here = ws_ yX9_here cX9_here 1 (some .int) := rfl
theorem mokX9_here : MOK mX9_here 0 := by decide +kernel
def mX9_clauseHere : MD := (yX9_clauseHere, cX9_clauseHere, 2, (some .int), [])
theorem wsX9_clauseHere : wsM mX9_clauseHere = ws_ yX9_clauseHere cX9_clauseHere 2 (some .int) := rfl
theorem mokX9_clauseHere : MOK mX9_clauseHere 0 := by decide +kernel
def mX9_standsHere : MD := (yX9_standsHere, cX9_standsHere, 3, (some .boolean), [])
theorem wsX9_standsHere : wsM mX9_standsHere = ws_ yX9_standsHere cX9_standsHere 3 (some .boolean) := rfl
theorem mokX9_standsHere : MOK mX9_standsHere 1 := by decide +kernel
def mX9_isSmall : MD := (yX9_isSmall, cX9_isSmall, 1, (some .boolean), [])
theorem wsX9_isSmall : wsM mX9_isSmall = ws_ yX9_isSmall cX9_isSmall 1 (some .boolean) := rfl
theorem mokX9_isSmall : MOK mX9_isSmall 1 := by decide +kernel
def mX9_word : MD := (yX9_word, cX9_word, 4, (some .int), [])
theorem wsX9_word : wsM mX9_word = ws_ yX9_word cX9_word 4 (some .int) := rfl
theorem mokX9_word : MOK mX9_word 0 := by decide +kernel
def mX9_of : MD := (yX9_of, cX9_of, 3, (some .int), [])
theorem wsX9_of : wsM mX9_of = ws_ yX9_of cX9_of 3 (some .int) := rfl
theorem mokX9_of : MOK mX9_of 1 := by decide +kernel
def mX9_wrong : MD := (yX9_wrong, cX9_wrong, 3, none, [])
theorem wsX9_wrong : wsM mX9_wrong = ws_ yX9_wrong cX9_wrong 3 none := rfl
theorem mokX9_wrong : MOK mX9_wrong 2 := by decide +kernel
def mX9_pass : MD := (yX9_pass, cX9_pass, 1, none, [])
theorem wsX9_pass : wsM mX9_pass = ws_ yX9_pass cX9_pass 1 none := rfl
theorem mokX9_pass : MOK mX9_pass 0 := by decide +kernel
def mX9_readClause : MD := (yX9_readClause, cX9_readClause, 4, none, [])
theorem wsX9_readClause : wsM mX9_readClause = ws_ yX9_readClause cX9_readClause 4 none := rfl
theorem mokX9_readClause : MOK mX9_readClause 1 := by decide +kernel
def mX9_readNumber : MD := (yX9_readNumber, cX9_readNumber, 6, (some .int), [])
theorem wsX9_readNumber : wsM mX9_readNumber = ws_ yX9_readNumber cX9_readNumber 6 (some .int) := rfl
theorem mokX9_readNumber : MOK mX9_readNumber 2 := by decide +kernel
def mX9_isDigit : MD := (yX9_isDigit, cX9_isDigit, 1, (some .boolean), [])
theorem wsX9_isDigit : wsM mX9_isDigit = ws_ yX9_isDigit cX9_isDigit 1 (some .boolean) := rfl
theorem mokX9_isDigit : MOK mX9_isDigit 1 := by decide +kernel
def mX9_puts : MD := (yX9_puts, cX9_puts, 7, (some .int), [])
theorem wsX9_puts : wsM mX9_puts = ws_ yX9_puts cX9_puts 7 (some .int) := rfl
theorem mokX9_puts : MOK mX9_puts 5 := by decide +kernel
def mX9_sign : MD := (yX9_sign, cX9_sign, 2, none, [])
theorem wsX9_sign : wsM mX9_sign = ws_ yX9_sign cX9_sign 2 none := rfl
theorem mokX9_sign : MOK mX9_sign 1 := by decide +kernel
def mX9_result : MD := (yX9_result, cX9_result, 2, (some .int), [])
theorem wsX9_result : wsM mX9_result = ws_ yX9_result cX9_result 2 (some .int) := rfl
theorem mokX9_result : MOK mX9_result 1 := by decide +kernel
def mX9_habit : MD := (yX9_habit, cX9_habit, 3, (some .int), [])
theorem wsX9_habit : wsM mX9_habit = ws_ yX9_habit cX9_habit 3 (some .int) := rfl
theorem mokX9_habit : MOK mX9_habit 2 := by decide +kernel
def mX9_isPerson : MD := (yX9_isPerson, cX9_isPerson, 3, (some .boolean), [])
theorem wsX9_isPerson : wsM mX9_isPerson = ws_ yX9_isPerson cX9_isPerson 3 (some .boolean) := rfl
theorem mokX9_isPerson : MOK mX9_isPerson 2 := by decide +kernel
def mX9_within : MD := (yX9_within, cX9_within, 3, (some .boolean), [])
theorem wsX9_within : wsM mX9_within = ws_ yX9_within cX9_within 3 (some .boolean) := rfl
theorem mokX9_within : MOK mX9_within 3 := by decide +kernel
def mX9_isTold : MD := (yX9_isTold, cX9_isTold, 2, (some .boolean), [])
theorem wsX9_isTold : wsM mX9_isTold = ws_ yX9_isTold cX9_isTold 2 (some .boolean) := rfl
theorem mokX9_isTold : MOK mX9_isTold 1 := by decide +kernel
def mX9_readHabit : MD := (yX9_readHabit, cX9_readHabit, 5, (some .int), [])
theorem wsX9_readHabit : wsM mX9_readHabit = ws_ yX9_readHabit cX9_readHabit 5 (some .int) := rfl
theorem mokX9_readHabit : MOK mX9_readHabit 2 := by decide +kernel
def mX9_readStep : MD := (yX9_readStep, cX9_readStep, 4, none, [])
theorem wsX9_readStep : wsM mX9_readStep = ws_ yX9_readStep cX9_readStep 4 none := rfl
theorem mokX9_readStep : MOK mX9_readStep 0 := by decide +kernel
def mX9_actOf : MD := (yX9_actOf, cX9_actOf, 1, (some .int), [])
theorem wsX9_actOf : wsM mX9_actOf = ws_ yX9_actOf cX9_actOf 1 (some .int) := rfl
theorem mokX9_actOf : MOK mX9_actOf 1 := by decide +kernel
def mX9_readAny : MD := (yX9_readAny, cX9_readAny, 1, none, [])
theorem wsX9_readAny : wsM mX9_readAny = ws_ yX9_readAny cX9_readAny 1 none := rfl
theorem mokX9_readAny : MOK mX9_readAny 0 := by decide +kernel
def mX9_readAll : MD := (yX9_readAll, cX9_readAll, 1, none, [])
theorem wsX9_readAll : wsM mX9_readAll = ws_ yX9_readAll cX9_readAll 1 none := rfl
theorem mokX9_readAll : MOK mX9_readAll 0 := by decide +kernel
def mX9_readOne : MD := (yX9_readOne, cX9_readOne, 2, none, [])
theorem wsX9_readOne : wsM mX9_readOne = ws_ yX9_readOne cX9_readOne 2 none := rfl
theorem mokX9_readOne : MOK mX9_readOne 0 := by decide +kernel
def mX9_opensOne : MD := (yX9_opensOne, cX9_opensOne, 2, none, [])
theorem wsX9_opensOne : wsM mX9_opensOne = ws_ yX9_opensOne cX9_opensOne 2 none := rfl
theorem mokX9_opensOne : MOK mX9_opensOne 1 := by decide +kernel
def mX9_emit : MD := (yX9_emit, cX9_emit, 3, none, [])
theorem wsX9_emit : wsM mX9_emit = ws_ yX9_emit cX9_emit 3 none := rfl
theorem mokX9_emit : MOK mX9_emit 2 := by decide +kernel
def mX9_readSum : MD := (yX9_readSum, cX9_readSum, 2, none, [])
theorem wsX9_readSum : wsM mX9_readSum = ws_ yX9_readSum cX9_readSum 2 none := rfl
theorem mokX9_readSum : MOK mX9_readSum 0 := by decide +kernel
def mX9_readProduct : MD := (yX9_readProduct, cX9_readProduct, 1, none, [])
theorem wsX9_readProduct : wsM mX9_readProduct = ws_ yX9_readProduct cX9_readProduct 1 none := rfl
theorem mokX9_readProduct : MOK mX9_readProduct 0 := by decide +kernel
def mX9_readUnit : MD := (yX9_readUnit, cX9_readUnit, 2, none, [])
theorem wsX9_readUnit : wsM mX9_readUnit = ws_ yX9_readUnit cX9_readUnit 2 none := rfl
theorem mokX9_readUnit : MOK mX9_readUnit 0 := by decide +kernel
def mX9_factOf : MD := (yX9_factOf, cX9_factOf, 1, (some .int), [])
theorem wsX9_factOf : wsM mX9_factOf = ws_ yX9_factOf cX9_factOf 1 (some .int) := rfl
theorem mokX9_factOf : MOK mX9_factOf 1 := by decide +kernel
def mX9_rule : MD := (yX9_rule, cX9_rule, 2, (some .int), [])
theorem wsX9_rule : wsM mX9_rule = ws_ yX9_rule cX9_rule 2 (some .int) := rfl
theorem mokX9_rule : MOK mX9_rule 1 := by decide +kernel
def mX9_book : MD := (yX9_book, cX9_book, 8, (some .int), [])
theorem wsX9_book : wsM mX9_book = ws_ yX9_book cX9_book 8 (some .int) := rfl
theorem mokX9_book : MOK mX9_book 1 := by decide +kernel
def mX9_told : MD := (yX9_told, cX9_told, 2, (some .int), [])
theorem wsX9_told : wsM mX9_told = ws_ yX9_told cX9_told 2 (some .int) := rfl
theorem mokX9_told : MOK mX9_told 1 := by decide +kernel
def mX9_visit : MD := (yX9_visit, cX9_visit, 3, (some .int), [])
theorem wsX9_visit : wsM mX9_visit = ws_ yX9_visit cX9_visit 3 (some .int) := rfl
theorem mokX9_visit : MOK mX9_visit 2 := by decide +kernel
def mX9_isVisit : MD := (yX9_isVisit, cX9_isVisit, 3, (some .boolean), [])
theorem wsX9_isVisit : wsM mX9_isVisit = ws_ yX9_isVisit cX9_isVisit 3 (some .boolean) := rfl
theorem mokX9_isVisit : MOK mX9_isVisit 2 := by decide +kernel
def mX9_whichOf : MD := (yX9_whichOf, cX9_whichOf, 4, (some .int), [])
theorem wsX9_whichOf : wsM mX9_whichOf = ws_ yX9_whichOf cX9_whichOf 4 (some .int) := rfl
theorem mokX9_whichOf : MOK mX9_whichOf 1 := by decide +kernel
def mX9_sinceOf : MD := (yX9_sinceOf, cX9_sinceOf, 3, (some .int), [])
theorem wsX9_sinceOf : wsM mX9_sinceOf = ws_ yX9_sinceOf cX9_sinceOf 3 (some .int) := rfl
theorem mokX9_sinceOf : MOK mX9_sinceOf 1 := by decide +kernel
def mX9_person : MD := (yX9_person, cX9_person, 6, (some .int), [])
theorem wsX9_person : wsM mX9_person = ws_ yX9_person cX9_person 6 (some .int) := rfl
theorem mokX9_person : MOK mX9_person 2 := by decide +kernel
def mX9_price : MD := (yX9_price, cX9_price, 2, (some .int), [])
theorem wsX9_price : wsM mX9_price = ws_ yX9_price cX9_price 2 (some .int) := rfl
theorem mokX9_price : MOK mX9_price 1 := by decide +kernel
def mX9_states : MD := (yX9_states, cX9_states, 4, (some .int), [])
theorem wsX9_states : wsM mX9_states = ws_ yX9_states cX9_states 4 (some .int) := rfl
theorem mokX9_states : MOK mX9_states 1 := by decide +kernel
def mX9_plain : MD := (yX9_plain, cX9_plain, 1, none, [])
theorem wsX9_plain : wsM mX9_plain = ws_ yX9_plain cX9_plain 1 none := rfl
theorem mokX9_plain : MOK mX9_plain 0 := by decide +kernel
def mX9_goes : MD := (yX9_goes, cX9_goes, 5, none, [])
theorem wsX9_goes : wsM mX9_goes = ws_ yX9_goes cX9_goes 5 none := rfl
theorem mokX9_goes : MOK mX9_goes 1 := by decide +kernel
def mX9_begin : MD := (yX9_begin, cX9_begin, 2, none, [])
theorem wsX9_begin : wsM mX9_begin = ws_ yX9_begin cX9_begin 2 none := rfl
theorem mokX9_begin : MOK mX9_begin 0 := by decide +kernel
def mX9_index : MD := (yX9_index, cX9_index, 5, (some .int), [])
theorem wsX9_index : wsM mX9_index = ws_ yX9_index cX9_index 5 (some .int) := rfl
theorem mokX9_index : MOK mX9_index 5 := by decide +kernel
def mX9_comes : MD := (yX9_comes, cX9_comes, 2, none, [])
theorem wsX9_comes : wsM mX9_comes = ws_ yX9_comes cX9_comes 2 none := rfl
theorem mokX9_comes : MOK mX9_comes 1 := by decide +kernel
def mX9_falls : MD := (yX9_falls, cX9_falls, 5, none, [])
theorem wsX9_falls : wsM mX9_falls = ws_ yX9_falls cX9_falls 5 none := rfl
theorem mokX9_falls : MOK mX9_falls 0 := by decide +kernel
def mX9_stateOf : MD := (yX9_stateOf, cX9_stateOf, 2, none, [])
theorem wsX9_stateOf : wsM mX9_stateOf = ws_ yX9_stateOf cX9_stateOf 2 none := rfl
theorem mokX9_stateOf : MOK mX9_stateOf 1 := by decide +kernel
def mX9_gives : MD := (yX9_gives, cX9_gives, 4, none, [])
theorem wsX9_gives : wsM mX9_gives = ws_ yX9_gives cX9_gives 4 none := rfl
theorem mokX9_gives : MOK mX9_gives 2 := by decide +kernel
def mX9_takesNext : MD := (yX9_takesNext, cX9_takesNext, 2, none, [])
theorem wsX9_takesNext : wsM mX9_takesNext = ws_ yX9_takesNext cX9_takesNext 2 none := rfl
theorem mokX9_takesNext : MOK mX9_takesNext 0 := by decide +kernel
def mX9_keepsBook : MD := (yX9_keepsBook, cX9_keepsBook, 4, none, [])
theorem wsX9_keepsBook : wsM mX9_keepsBook = ws_ yX9_keepsBook cX9_keepsBook 4 none := rfl
theorem mokX9_keepsBook : MOK mX9_keepsBook 1 := by decide +kernel
def mX9_isLine : MD := (yX9_isLine, cX9_isLine, 4, (some .boolean), [])
theorem wsX9_isLine : wsM mX9_isLine = ws_ yX9_isLine cX9_isLine 4 (some .boolean) := rfl
theorem mokX9_isLine : MOK mX9_isLine 2 := by decide +kernel
def mX9_isWarm : MD := (yX9_isWarm, cX9_isWarm, 2, (some .boolean), [])
theorem wsX9_isWarm : wsM mX9_isWarm = ws_ yX9_isWarm cX9_isWarm 2 (some .boolean) := rfl
theorem mokX9_isWarm : MOK mX9_isWarm 1 := by decide +kernel
def mX9_habitOf : MD := (yX9_habitOf, cX9_habitOf, 2, (some .int), [])
theorem wsX9_habitOf : wsM mX9_habitOf = ws_ yX9_habitOf cX9_habitOf 2 (some .int) := rfl
theorem mokX9_habitOf : MOK mX9_habitOf 1 := by decide +kernel
def mX9_goesStep : MD := (yX9_goesStep, cX9_goesStep, 12, none, [])
theorem wsX9_goesStep : wsM mX9_goesStep = ws_ yX9_goesStep cX9_goesStep 12 none := rfl
theorem mokX9_goesStep : MOK mX9_goesStep 3 := by decide +kernel
def mX9_findFacts : MD := (yX9_findFacts, cX9_findFacts, 2, none, [])
theorem wsX9_findFacts : wsM mX9_findFacts = ws_ yX9_findFacts cX9_findFacts 2 none := rfl
theorem mokX9_findFacts : MOK mX9_findFacts 1 := by decide +kernel
def mX9_isSo : MD := (yX9_isSo, cX9_isSo, 8, (some .boolean), [])
theorem wsX9_isSo : wsM mX9_isSo = ws_ yX9_isSo cX9_isSo 8 (some .boolean) := rfl
theorem mokX9_isSo : MOK mX9_isSo 2 := by decide +kernel
def mX9_both : MD := (yX9_both, cX9_both, 4, (some .int), [])
theorem wsX9_both : wsM mX9_both = ws_ yX9_both cX9_both 4 (some .int) := rfl
theorem mokX9_both : MOK mX9_both 3 := by decide +kernel
def mX9_does : MD := (yX9_does, cX9_does, 7, none, [])
theorem wsX9_does : wsM mX9_does = ws_ yX9_does cX9_does 7 none := rfl
theorem mokX9_does : MOK mX9_does 3 := by decide +kernel
def mX9_takes : MD := (yX9_takes, cX9_takes, 6, none, [])
theorem wsX9_takes : wsM mX9_takes = ws_ yX9_takes cX9_takes 6 none := rfl
theorem mokX9_takes : MOK mX9_takes 2 := by decide +kernel
def mX9_starts : MD := (yX9_starts, cX9_starts, 4, none, [])
theorem wsX9_starts : wsM mX9_starts = ws_ yX9_starts cX9_starts 4 none := rfl
theorem mokX9_starts : MOK mX9_starts 2 := by decide +kernel
def mX9_ends : MD := (yX9_ends, cX9_ends, 4, none, [])
theorem wsX9_ends : wsM mX9_ends = ws_ yX9_ends cX9_ends 4 none := rfl
theorem mokX9_ends : MOK mX9_ends 1 := by decide +kernel
def mX9_likelyOf : MD := (yX9_likelyOf, cX9_likelyOf, 7, (some .long), [])
theorem wsX9_likelyOf : wsM mX9_likelyOf = ws_ yX9_likelyOf cX9_likelyOf 7 (some .long) := rfl
theorem mokX9_likelyOf : MOK mX9_likelyOf 2 := by decide +kernel
def mX9_isOf : MD := (yX9_isOf, cX9_isOf, 3, (some .boolean), [])
theorem wsX9_isOf : wsM mX9_isOf = ws_ yX9_isOf cX9_isOf 3 (some .boolean) := rfl
theorem mokX9_isOf : MOK mX9_isOf 2 := by decide +kernel
def mX9_likely : MD := (yX9_likely, cX9_likely, 3, (some .long), [])
theorem wsX9_likely : wsM mX9_likely = ws_ yX9_likely cX9_likely 3 (some .long) := rfl
theorem mokX9_likely : MOK mX9_likely 2 := by decide +kernel
def mX9_state : MD := (yX9_state, cX9_state, 5, (some .long), [])
theorem wsX9_state : wsM mX9_state = ws_ yX9_state cX9_state 5 (some .long) := rfl
theorem mokX9_state : MOK mX9_state 4 := by decide +kernel
def mX9_partsOf : MD := (yX9_partsOf, cX9_partsOf, 7, (some .long), [])
theorem wsX9_partsOf : wsM mX9_partsOf = ws_ yX9_partsOf cX9_partsOf 7 (some .long) := rfl
theorem mokX9_partsOf : MOK mX9_partsOf 3 := by decide +kernel
def mX9_likeliest : MD := (yX9_likeliest, cX9_likeliest, 10, (some .int), [])
theorem wsX9_likeliest : wsM mX9_likeliest = ws_ yX9_likeliest cX9_likeliest 10 (some .int) := rfl
theorem mokX9_likeliest : MOK mX9_likeliest 1 := by decide +kernel
def mX9_mean : MD := (yX9_mean, cX9_mean, 8, (some .long), [])
theorem wsX9_mean : wsM mX9_mean = ws_ yX9_mean cX9_mean 8 (some .long) := rfl
theorem mokX9_mean : MOK mX9_mean 3 := by decide +kernel
def mX9_least : MD := (yX9_least, cX9_least, 11, (some .long), [])
theorem wsX9_least : wsM mX9_least = ws_ yX9_least cX9_least 11 (some .long) := rfl
theorem mokX9_least : MOK mX9_least 3 := by decide +kernel
def mX9_often : MD := (yX9_often, cX9_often, 5, (some .long), [])
theorem wsX9_often : wsM mX9_often = ws_ yX9_often cX9_often 5 (some .long) := rfl
theorem mokX9_often : MOK mX9_often 1 := by decide +kernel
def mX9_isPart : MD := (yX9_isPart, cX9_isPart, 2, (some .boolean), [])
theorem wsX9_isPart : wsM mX9_isPart = ws_ yX9_isPart cX9_isPart 2 (some .boolean) := rfl
theorem mokX9_isPart : MOK mX9_isPart 1 := by decide +kernel
def mX9_goesAll : MD := (yX9_goesAll, cX9_goesAll, 1, none, [])
theorem wsX9_goesAll : wsM mX9_goesAll = ws_ yX9_goesAll cX9_goesAll 1 none := rfl
theorem mokX9_goesAll : MOK mX9_goesAll 0 := by decide +kernel
def mX9_since : MD := (yX9_since, cX9_since, 2, (some .int), [])
theorem wsX9_since : wsM mX9_since = ws_ yX9_since cX9_since 2 (some .int) := rfl
theorem mokX9_since : MOK mX9_since 0 := by decide +kernel
def mX9_drunk : MD := (yX9_drunk, cX9_drunk, 3, (some .long), [])
theorem wsX9_drunk : wsM mX9_drunk = ws_ yX9_drunk cX9_drunk 3 (some .long) := rfl
theorem mokX9_drunk : MOK mX9_drunk 2 := by decide +kernel
def mX9_done : MD := (yX9_done, cX9_done, 3, (some .long), [])
theorem wsX9_done : wsM mX9_done = ws_ yX9_done cX9_done 3 (some .long) := rfl
theorem mokX9_done : MOK mX9_done 2 := by decide +kernel
def mX9_cost : MD := (yX9_cost, cX9_cost, 2, (some .long), [])
theorem wsX9_cost : wsM mX9_cost = ws_ yX9_cost cX9_cost 2 (some .long) := rfl
theorem mokX9_cost : MOK mX9_cost 1 := by decide +kernel
def mX9_costNow : MD := (yX9_costNow, cX9_costNow, 4, (some .long), [])
theorem wsX9_costNow : wsM mX9_costNow = ws_ yX9_costNow cX9_costNow 4 (some .long) := rfl
theorem mokX9_costNow : MOK mX9_costNow 0 := by decide +kernel
def mX9_fits : MD := (yX9_fits, cX9_fits, 2, (some .long), [])
theorem wsX9_fits : wsM mX9_fits = ws_ yX9_fits cX9_fits 2 (some .long) := rfl
theorem mokX9_fits : MOK mX9_fits 1 := by decide +kernel
def mX9_all : MD := (yX9_all, cX9_all, 4, (some .long), [])
theorem wsX9_all : wsM mX9_all = ws_ yX9_all cX9_all 4 (some .long) := rfl
theorem mokX9_all : MOK mX9_all 0 := by decide +kernel
def mX9_given : MD := (yX9_given, cX9_given, 4, (some .long), [])
theorem wsX9_given : wsM mX9_given = ws_ yX9_given cX9_given 4 (some .long) := rfl
theorem mokX9_given : MOK mX9_given 3 := by decide +kernel
def mX9_goesGiven : MD := (yX9_goesGiven, cX9_goesGiven, 2, none, [])
theorem wsX9_goesGiven : wsM mX9_goesGiven = ws_ yX9_goesGiven cX9_goesGiven 2 none := rfl
theorem mokX9_goesGiven : MOK mX9_goesGiven 1 := by decide +kernel
def mX9_share : MD := (yX9_share, cX9_share, 6, (some .long), [])
theorem wsX9_share : wsM mX9_share = ws_ yX9_share cX9_share 6 (some .long) := rfl
theorem mokX9_share : MOK mX9_share 2 := by decide +kernel
def mX9_best : MD := (yX9_best, cX9_best, 4, (some .int), [])
theorem wsX9_best : wsM mX9_best = ws_ yX9_best cX9_best 4 (some .int) := rfl
theorem mokX9_best : MOK mX9_best 1 := by decide +kernel
def mX9_worthOf : MD := (yX9_worthOf, cX9_worthOf, 18, (some .long), [])
theorem wsX9_worthOf : wsM mX9_worthOf = ws_ yX9_worthOf cX9_worthOf 18 (some .long) := rfl
theorem mokX9_worthOf : MOK mX9_worthOf 1 := by decide +kernel
def mX9_takeCost : MD := (yX9_takeCost, cX9_takeCost, 3, (some .long), [])
theorem wsX9_takeCost : wsM mX9_takeCost = ws_ yX9_takeCost cX9_takeCost 3 (some .long) := rfl
theorem mokX9_takeCost : MOK mX9_takeCost 1 := by decide +kernel
def mX9_worth : MD := (yX9_worth, cX9_worth, 4, (some .long), [])
theorem wsX9_worth : wsM mX9_worth = ws_ yX9_worth cX9_worth 4 (some .long) := rfl
theorem mokX9_worth : MOK mX9_worth 3 := by decide +kernel
def mX9_gain : MD := (yX9_gain, cX9_gain, 9, (some .long), [])
theorem wsX9_gain : wsM mX9_gain = ws_ yX9_gain cX9_gain 9 (some .long) := rfl
theorem mokX9_gain : MOK mX9_gain 2 := by decide +kernel
def mX9_without : MD := (yX9_without, cX9_without, 3, (some .long), [])
theorem wsX9_without : wsM mX9_without = ws_ yX9_without cX9_without 3 (some .long) := rfl
theorem mokX9_without : MOK mX9_without 2 := by decide +kernel
def mX9_trueNow : MD := (yX9_trueNow, cX9_trueNow, 1, (some .long), [])
theorem wsX9_trueNow : wsM mX9_trueNow = ws_ yX9_trueNow cX9_trueNow 1 (some .long) := rfl
theorem mokX9_trueNow : MOK mX9_trueNow 0 := by decide +kernel
def mX9_keeper : MD := (yX9_keeper, cX9_keeper, 1, (some .int), [])
theorem wsX9_keeper : wsM mX9_keeper = ws_ yX9_keeper cX9_keeper 1 (some .int) := rfl
theorem mokX9_keeper : MOK mX9_keeper 0 := by decide +kernel
def mX9_leastWithout : MD := (yX9_leastWithout, cX9_leastWithout, 8, (some .int), [])
theorem wsX9_leastWithout : wsM mX9_leastWithout = ws_ yX9_leastWithout cX9_leastWithout 8 (some .int) := rfl
theorem mokX9_leastWithout : MOK mX9_leastWithout 1 := by decide +kernel
def mX9_spoiler : MD := (yX9_spoiler, cX9_spoiler, 1, (some .int), [])
theorem wsX9_spoiler : wsM mX9_spoiler = ws_ yX9_spoiler cX9_spoiler 1 (some .int) := rfl
theorem mokX9_spoiler : MOK mX9_spoiler 0 := by decide +kernel
def mX9_falling : MD := (yX9_falling, cX9_falling, 2, (some .long), [])
theorem wsX9_falling : wsM mX9_falling = ws_ yX9_falling cX9_falling 2 (some .long) := rfl
theorem mokX9_falling : MOK mX9_falling 1 := by decide +kernel
def mX9_seeing : MD := (yX9_seeing, cX9_seeing, 3, (some .long), [])
theorem wsX9_seeing : wsM mX9_seeing = ws_ yX9_seeing cX9_seeing 3 (some .long) := rfl
theorem mokX9_seeing : MOK mX9_seeing 2 := by decide +kernel
def mX9_filled : MD := (yX9_filled, cX9_filled, 3, (some .long), [])
theorem wsX9_filled : wsM mX9_filled = ws_ yX9_filled cX9_filled 3 (some .long) := rfl
theorem mokX9_filled : MOK mX9_filled 2 := by decide +kernel
def mX9_fill : MD := (yX9_fill, cX9_fill, 7, (some .int), [])
theorem wsX9_fill : wsM mX9_fill = ws_ yX9_fill cX9_fill 7 (some .int) := rfl
theorem mokX9_fill : MOK mX9_fill 0 := by decide +kernel
def mX9_ruled : MD := (yX9_ruled, cX9_ruled, 2, (some .long), [])
theorem wsX9_ruled : wsM mX9_ruled = ws_ yX9_ruled cX9_ruled 2 (some .long) := rfl
theorem mokX9_ruled : MOK mX9_ruled 1 := by decide +kernel
def mX9_swapped : MD := (yX9_swapped, cX9_swapped, 4, (some .long), [])
theorem wsX9_swapped : wsM mX9_swapped = ws_ yX9_swapped cX9_swapped 4 (some .long) := rfl
theorem mokX9_swapped : MOK mX9_swapped 3 := by decide +kernel
def mX9_swap : MD := (yX9_swap, cX9_swap, 8, (some .int), [])
theorem wsX9_swap : wsM mX9_swap = ws_ yX9_swap cX9_swap 8 (some .int) := rfl
theorem mokX9_swap : MOK mX9_swap 0 := by decide +kernel
def mX9_day : MD := (yX9_day, cX9_day, 4, (some .int), [])
theorem wsX9_day : wsM mX9_day = ws_ yX9_day cX9_day 4 (some .int) := rfl
theorem mokX9_day : MOK mX9_day 3 := by decide +kernel
def mX9_dayGoes : MD := (yX9_dayGoes, cX9_dayGoes, 6, none, [])
theorem wsX9_dayGoes : wsM mX9_dayGoes = ws_ yX9_dayGoes cX9_dayGoes 6 none := rfl
theorem mokX9_dayGoes : MOK mX9_dayGoes 2 := by decide +kernel
def mX9_draws : MD := (yX9_draws, cX9_draws, 2, (some .int), [])
theorem wsX9_draws : wsM mX9_draws = ws_ yX9_draws cX9_draws 2 (some .int) := rfl
theorem mokX9_draws : MOK mX9_draws 1 := by decide +kernel
def mX9_dayDoes : MD := (yX9_dayDoes, cX9_dayDoes, 5, none, [])
theorem wsX9_dayDoes : wsM mX9_dayDoes = ws_ yX9_dayDoes cX9_dayDoes 5 none := rfl
theorem mokX9_dayDoes : MOK mX9_dayDoes 2 := by decide +kernel
def mX9_span : MD := (yX9_span, cX9_span, 8, (some .int), [])
theorem wsX9_span : wsM mX9_span = ws_ yX9_span cX9_span 8 (some .int) := rfl
theorem mokX9_span : MOK mX9_span 3 := by decide +kernel
def mX9_come : MD := (yX9_come, cX9_come, 4, (some .int), [])
theorem wsX9_come : wsM mX9_come = ws_ yX9_come cX9_come 4 (some .int) := rfl
theorem mokX9_come : MOK mX9_come 2 := by decide +kernel
def mX9_keepsVisits : MD := (yX9_keepsVisits, cX9_keepsVisits, 2, none, [])
theorem wsX9_keepsVisits : wsM mX9_keepsVisits = ws_ yX9_keepsVisits cX9_keepsVisits 2 none := rfl
theorem mokX9_keepsVisits : MOK mX9_keepsVisits 0 := by decide +kernel
def mX9_skip : MD := (yX9_skip, cX9_skip, 2, (some .int), [])
theorem wsX9_skip : wsM mX9_skip = ws_ yX9_skip cX9_skip 2 (some .int) := rfl
theorem mokX9_skip : MOK mX9_skip 1 := by decide +kernel
def mX9_leaves : MD := (yX9_leaves, cX9_leaves, 3, none, [])
theorem wsX9_leaves : wsM mX9_leaves = ws_ yX9_leaves cX9_leaves 3 none := rfl
theorem mokX9_leaves : MOK mX9_leaves 1 := by decide +kernel
def mX9_shift : MD := (yX9_shift, cX9_shift, 5, (some .int), [])
theorem wsX9_shift : wsM mX9_shift = ws_ yX9_shift cX9_shift 5 (some .int) := rfl
theorem mokX9_shift : MOK mX9_shift 2 := by decide +kernel
def mX9_teach : MD := (yX9_teach, cX9_teach, 4, (some .int), [])
theorem wsX9_teach : wsM mX9_teach = ws_ yX9_teach cX9_teach 4 (some .int) := rfl
theorem mokX9_teach : MOK mX9_teach 2 := by decide +kernel
def mX9_undo : MD := (yX9_undo, cX9_undo, 2, (some .int), [])
theorem wsX9_undo : wsM mX9_undo = ws_ yX9_undo cX9_undo 2 (some .int) := rfl
theorem mokX9_undo : MOK mX9_undo 0 := by decide +kernel
def mX9_image : MD := (yX9_image, cX9_image, 1, (some .int), [])
theorem wsX9_image : wsM mX9_image = ws_ yX9_image cX9_image 1 (some .int) := rfl
theorem mokX9_image : MOK mX9_image 0 := by decide +kernel
def mX9_keepsAll : MD := (yX9_keepsAll, cX9_keepsAll, 4, none, [])
theorem wsX9_keepsAll : wsM mX9_keepsAll = ws_ yX9_keepsAll cX9_keepsAll 4 none := rfl
theorem mokX9_keepsAll : MOK mX9_keepsAll 2 := by decide +kernel
def mX9_keepsRow : MD := (yX9_keepsRow, cX9_keepsRow, 6, (some .int), [])
theorem wsX9_keepsRow : wsM mX9_keepsRow = ws_ yX9_keepsRow cX9_keepsRow 6 (some .int) := rfl
theorem mokX9_keepsRow : MOK mX9_keepsRow 4 := by decide +kernel
def mX9_restore : MD := (yX9_restore, cX9_restore, 1, (some .int), [])
theorem wsX9_restore : wsM mX9_restore = ws_ yX9_restore cX9_restore 1 (some .int) := rfl
theorem mokX9_restore : MOK mX9_restore 0 := by decide +kernel
def mX9_status : MD := (yX9_status, cX9_status, 2, (some .int), [])
theorem wsX9_status : wsM mX9_status = ws_ yX9_status cX9_status 2 (some .int) := rfl
theorem mokX9_status : MOK mX9_status 1 := by decide +kernel
def mX9_count : MD := (yX9_count, cX9_count, 2, (some .int), [])
theorem wsX9_count : wsM mX9_count = ws_ yX9_count cX9_count 2 (some .int) := rfl
theorem mokX9_count : MOK mX9_count 1 := by decide +kernel
def mX1_init : MD := (yX1_init, cX1_init, 3, none, [])
theorem wsX1_init : wsM mX1_init = ws_ yX1_init cX1_init 3 none := rfl
theorem mokX1_init : MOK mX1_init 0 := by decide +kernel
