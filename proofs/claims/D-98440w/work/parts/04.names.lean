/-! CardCupsModel -/
set_option maxRecDepth 100000
def RX9 : String := "CardCupsModel"
def TX9 : u_T := fun k => match k with
  | 0 => ("CardCupsModel", "thrown", "I", false)
  | 1 => ("CardCupsModel", "refused", "[I", true)
  | 2 => ("CardCupsModel", "taped", "I", false)
  | 3 => ("CardCupsModel", "size", "I", false)
  | 4 => ("CardCupsModel", "at", "I", false)
  | 5 => ("CardCupsModel", "bad", "I", false)
  | 6 => ("CardCupsModel", "badKind", "I", false)
  | 7 => ("CardCupsModel", "opens", "I", false)
  | 8 => ("CardCupsModel", "faultAt", "I", false)
  | 9 => ("CardCupsModel", "tape", "[I", true)
  | 10 => ("CardCupsModel", "newOffice", "[I", true)
  | 11 => ("CardCupsModel", "office", "[I", true)
  | 12 => ("CardCupsModel", "newWho", "[I", true)
  | 13 => ("CardCupsModel", "newMinute", "[I", true)
  | 14 => ("CardCupsModel", "who", "[I", true)
  | 15 => ("CardCupsModel", "minute", "[I", true)
  | 16 => ("CardCupsModel", "newPeople", "I", false)
  | 17 => ("CardCupsModel", "newVisits", "I", false)
  | 18 => ("CardCupsModel", "people", "I", false)
  | 19 => ("CardCupsModel", "visits", "I", false)
  | 20 => ("CardCupsModel", "newCode", "[I", true)
  | 21 => ("CardCupsModel", "newOf", "[I", true)
  | 22 => ("CardCupsModel", "newStep", "[I", true)
  | 23 => ("CardCupsModel", "stack", "[I", true)
  | 24 => ("CardCupsModel", "code", "[I", true)
  | 25 => ("CardCupsModel", "ofCode", "[I", true)
  | 26 => ("CardCupsModel", "step", "[I", true)
  | 27 => ("CardCupsModel", "steps", "[I", true)
  | 28 => ("CardCupsModel", "newCodes", "I", false)
  | 29 => ("CardCupsModel", "newSteps", "I", false)
  | 30 => ("CardCupsModel", "newLine", "[I", true)
  | 31 => ("CardCupsModel", "line", "[I", true)
  | 32 => ("CardCupsModel", "lines", "I", false)
  | 33 => ("CardCupsModel", "live", "[I", true)
  | 34 => ("CardCupsModel", "liveNext", "[I", true)
  | 35 => ("CardCupsModel", "lives", "I", false)
  | 36 => ("CardCupsModel", "nexts", "I", false)
  | 37 => ("CardCupsModel", "parts", "[J", true)
  | 38 => ("CardCupsModel", "next", "[J", true)
  | 39 => ("CardCupsModel", "drunkBy", "[J", true)
  | 40 => ("CardCupsModel", "trueAt", "[J", true)
  | 41 => ("CardCupsModel", "washed", "J", false)
  | 42 => ("CardCupsModel", "looks", "J", false)
  | 43 => ("CardCupsModel", "optFall", "I", false)
  | 44 => ("CardCupsModel", "optSee", "I", false)
  | 45 => ("CardCupsModel", "optFill", "I", false)
  | 46 => ("CardCupsModel", "optWithout", "I", false)
  | 47 => ("CardCupsModel", "optOne", "I", false)
  | 48 => ("CardCupsModel", "optOther", "I", false)
  | 49 => ("CardCupsModel", "optRuled", "Z", false)
  | 50 => ("CardCupsModel", "optBook", "Z", false)
  | 51 => ("CardCupsModel", "c", "I", false)
  | 52 => ("CardCupsModel", "d", "I", false)
  | 53 => ("CardCupsModel", "card", "I", false)
  | 54 => ("CardCupsModel", "start", "I", false)
  | 55 => ("CardCupsModel", "seen", "I", false)
  | 56 => ("CardCupsModel", "facts", "[I", true)
  | 57 => ("CardCupsModel", "seedNow", "I", false)
  | 58 => ("CardCupsModel", "dayDrunk", "I", false)
  | 59 => ("CardCupsModel", "dayWashed", "I", false)
  | 60 => ("CardCupsModel", "dayLooks", "I", false)
  | 61 => ("CardCupsModel", "past", "[I", true)
  | 62 => ("CardCupsModel", "changes", "I", false)
  | 63 => ("CardCupsModel", "image", "[I", true)
  | _ => ("CardCupsModel", "images", "I", false)
def tyX9 : Nat → FieldType := fun k => match k with
  | 0 => .int
  | 1 => .array .int
  | 2 => .int
  | 3 => .int
  | 4 => .int
  | 5 => .int
  | 6 => .int
  | 7 => .int
  | 8 => .int
  | 9 => .array .int
  | 10 => .array .int
  | 11 => .array .int
  | 12 => .array .int
  | 13 => .array .int
  | 14 => .array .int
  | 15 => .array .int
  | 16 => .int
  | 17 => .int
  | 18 => .int
  | 19 => .int
  | 20 => .array .int
  | 21 => .array .int
  | 22 => .array .int
  | 23 => .array .int
  | 24 => .array .int
  | 25 => .array .int
  | 26 => .array .int
  | 27 => .array .int
  | 28 => .int
  | 29 => .int
  | 30 => .array .int
  | 31 => .array .int
  | 32 => .int
  | 33 => .array .int
  | 34 => .array .int
  | 35 => .int
  | 36 => .int
  | 37 => .array .long
  | 38 => .array .long
  | 39 => .array .long
  | 40 => .array .long
  | 41 => .long
  | 42 => .long
  | 43 => .int
  | 44 => .int
  | 45 => .int
  | 46 => .int
  | 47 => .int
  | 48 => .int
  | 49 => .boolean
  | 50 => .boolean
  | 51 => .int
  | 52 => .int
  | 53 => .int
  | 54 => .int
  | 55 => .int
  | 56 => .array .int
  | 57 => .int
  | 58 => .int
  | 59 => .int
  | 60 => .int
  | 61 => .array .int
  | 62 => .int
  | 63 => .array .int
  | _ => .int
abbrev wsX90 : List Cond := u_ws RX9 TX9 65
set_option maxRecDepth 100000 in
theorem nmX9 : ∀ a, a < 65 → ∀ b, b < 65 → a ≠ b → (TX9 a).2.1 ≠ (TX9 b).2.1 := by decide +kernel
set_option maxRecDepth 100000 in
theorem tyX9_ok : ∀ k, k < 65 → parseFieldDescriptor (TX9 k).2.2.1 = some (tyX9 k) := by decide +kernel
abbrev cX9_thrown : ByteArray := prog_28_method_1_code
def yX9_thrown : MethodName := ⟨RX9, "thrown", "()I"⟩
theorem dX9_thrown_0 : decode cX9_thrown 0 = .ok (.aload_n 0, 1) := by decide +kernel
theorem dX9_thrown_1 : decode cX9_thrown 1 = .ok (.getfield 3, 3) := by decide +kernel
theorem dX9_thrown_4 : decode cX9_thrown 4 = .ok (.ireturn, 1) := by decide +kernel
abbrev cX9_init : ByteArray := prog_28_method_4_code
def yX9_init : MethodName := ⟨RX9, "<init>", "()V"⟩
def dkwX9_init_10 : List UInt8 := [181, 0, 96, 42, 182, 0, 99, 42, 182, 0, 102, 177]
abbrev dktX9_init_10 : List UInt8 := dkwX9_init_10 ++ []
def dkwX9_init_9 : List UInt8 := [42, 16, 8, 188, 10, 181, 0, 90, 42, 17, 3, 212, 188, 10, 181, 0, 93, 42, 17, 12, 18, 188, 10]
abbrev dktX9_init_9 : List UInt8 := dkwX9_init_9 ++ dktX9_init_10
def dkwX9_init_8 : List UInt8 := [17, 66, 4, 188, 11, 181, 0, 81, 42, 16, 6, 188, 11, 181, 0, 84, 42, 16, 24, 188, 11, 181, 0, 87]
abbrev dktX9_init_8 : List UInt8 := dkwX9_init_8 ++ dktX9_init_9
def dkwX9_init_7 : List UInt8 := [188, 10, 181, 0, 71, 42, 17, 66, 4, 188, 10, 181, 0, 74, 42, 17, 66, 4, 188, 11, 181, 0, 77, 42]
abbrev dktX9_init_7 : List UInt8 := dkwX9_init_7 ++ dktX9_init_8
def dkwX9_init_6 : List UInt8 := [181, 0, 62, 42, 16, 30, 188, 10, 181, 0, 65, 42, 16, 30, 188, 10, 181, 0, 68, 42, 17, 66, 4]
abbrev dktX9_init_6 : List UInt8 := dkwX9_init_6 ++ dktX9_init_7
def dkwX9_init_5 : List UInt8 := [17, 4, 26, 188, 10, 181, 0, 56, 42, 17, 0, 224, 188, 10, 181, 0, 59, 42, 16, 7, 188, 10]
abbrev dktX9_init_5 : List UInt8 := dkwX9_init_5 ++ dktX9_init_6
def dkwX9_init_4 : List UInt8 := [188, 10, 181, 0, 47, 42, 17, 0, 150, 188, 10, 181, 0, 50, 42, 17, 4, 26, 188, 10, 181, 0, 53, 42]
abbrev dktX9_init_4 : List UInt8 := dkwX9_init_4 ++ dktX9_init_5
def dkwX9_init_3 : List UInt8 := [181, 0, 38, 42, 17, 0, 150, 188, 10, 181, 0, 41, 42, 17, 0, 150, 188, 10, 181, 0, 44, 42, 16, 32]
abbrev dktX9_init_3 : List UInt8 := dkwX9_init_3 ++ dktX9_init_4
def dkwX9_init_2 : List UInt8 := [181, 0, 29, 42, 16, 24, 188, 10, 181, 0, 32, 42, 16, 24, 188, 10, 181, 0, 35, 42, 16, 24, 188, 10]
abbrev dktX9_init_2 : List UInt8 := dkwX9_init_2 ++ dktX9_init_3
def dkwX9_init_1 : List UInt8 := [181, 0, 20, 42, 16, 12, 188, 10, 181, 0, 23, 42, 16, 12, 188, 10, 181, 0, 26, 42, 16, 24, 188, 10]
abbrev dktX9_init_1 : List UInt8 := dkwX9_init_1 ++ dktX9_init_2
def dkwX9_init_0 : List UInt8 := [42, 183, 0, 11, 42, 5, 188, 10, 181, 0, 7, 42, 2, 181, 0, 17, 42, 17, 2, 88, 188, 10]
abbrev dktX9_init_0 : List UInt8 := dkwX9_init_0 ++ dktX9_init_1
theorem dksX9_init_0 : cX9_init.data.toList.drop 0 = dktX9_init_0 := by decide +kernel
theorem dksX9_init_1 : cX9_init.data.toList.drop 22 = dktX9_init_1 := dk_seg dksX9_init_0 22 rfl rfl
theorem dksX9_init_2 : cX9_init.data.toList.drop 46 = dktX9_init_2 := dk_seg dksX9_init_1 24 rfl rfl
theorem dksX9_init_3 : cX9_init.data.toList.drop 70 = dktX9_init_3 := dk_seg dksX9_init_2 24 rfl rfl
theorem dksX9_init_4 : cX9_init.data.toList.drop 94 = dktX9_init_4 := dk_seg dksX9_init_3 24 rfl rfl
theorem dksX9_init_5 : cX9_init.data.toList.drop 118 = dktX9_init_5 := dk_seg dksX9_init_4 24 rfl rfl
theorem dksX9_init_6 : cX9_init.data.toList.drop 140 = dktX9_init_6 := dk_seg dksX9_init_5 22 rfl rfl
theorem dksX9_init_7 : cX9_init.data.toList.drop 163 = dktX9_init_7 := dk_seg dksX9_init_6 23 rfl rfl
theorem dksX9_init_8 : cX9_init.data.toList.drop 187 = dktX9_init_8 := dk_seg dksX9_init_7 24 rfl rfl
theorem dksX9_init_9 : cX9_init.data.toList.drop 211 = dktX9_init_9 := dk_seg dksX9_init_8 24 rfl rfl
theorem dksX9_init_10 : cX9_init.data.toList.drop 234 = dktX9_init_10 := dk_seg dksX9_init_9 23 rfl rfl
theorem dX9_init_0 : decode cX9_init 0 = .ok (.aload_n 0, 1) := dk_42 (dk_at dksX9_init_0 0 rfl rfl)
theorem dX9_init_1 : decode cX9_init 1 = .ok (.invokespecial 11, 3) := dk_183 0 11 (dk_at dksX9_init_0 1 rfl rfl)
theorem dX9_init_4 : decode cX9_init 4 = .ok (.aload_n 0, 1) := dk_42 (dk_at dksX9_init_0 4 rfl rfl)
theorem dX9_init_5 : decode cX9_init 5 = .ok (.iconst 2, 1) := dk_5 (dk_at dksX9_init_0 5 rfl rfl)
theorem dX9_init_6 : decode cX9_init 6 = .ok (.newarray .int, 2) := dk_188_10 (dk_at dksX9_init_0 6 rfl rfl)
theorem dX9_init_8 : decode cX9_init 8 = .ok (.putfield 7, 3) := dk_181 0 7 (dk_at dksX9_init_0 8 rfl rfl)
theorem dX9_init_11 : decode cX9_init 11 = .ok (.aload_n 0, 1) := dk_42 (dk_at dksX9_init_0 11 rfl rfl)
theorem dX9_init_12 : decode cX9_init 12 = .ok (.iconst (-1), 1) := dk_2 (dk_at dksX9_init_0 12 rfl rfl)
theorem dX9_init_13 : decode cX9_init 13 = .ok (.putfield 17, 3) := dk_181 0 17 (dk_at dksX9_init_0 13 rfl rfl)
theorem dX9_init_16 : decode cX9_init 16 = .ok (.aload_n 0, 1) := dk_42 (dk_at dksX9_init_0 16 rfl rfl)
theorem dX9_init_17 : decode cX9_init 17 = .ok (.sipush 600, 3) := dk_17 2 88 (dk_at dksX9_init_0 17 rfl rfl)
theorem dX9_init_20 : decode cX9_init 20 = .ok (.newarray .int, 2) := dk_188_10 (dk_at dksX9_init_0 20 rfl rfl)
theorem dX9_init_22 : decode cX9_init 22 = .ok (.putfield 20, 3) := dk_181 0 20 (dk_at dksX9_init_1 0 rfl rfl)
theorem dX9_init_25 : decode cX9_init 25 = .ok (.aload_n 0, 1) := dk_42 (dk_at dksX9_init_1 3 rfl rfl)
theorem dX9_init_26 : decode cX9_init 26 = .ok (.bipush 12, 2) := dk_16 12 (dk_at dksX9_init_1 4 rfl rfl)
theorem dX9_init_28 : decode cX9_init 28 = .ok (.newarray .int, 2) := dk_188_10 (dk_at dksX9_init_1 6 rfl rfl)
theorem dX9_init_30 : decode cX9_init 30 = .ok (.putfield 23, 3) := dk_181 0 23 (dk_at dksX9_init_1 8 rfl rfl)
theorem dX9_init_33 : decode cX9_init 33 = .ok (.aload_n 0, 1) := dk_42 (dk_at dksX9_init_1 11 rfl rfl)
theorem dX9_init_34 : decode cX9_init 34 = .ok (.bipush 12, 2) := dk_16 12 (dk_at dksX9_init_1 12 rfl rfl)
theorem dX9_init_36 : decode cX9_init 36 = .ok (.newarray .int, 2) := dk_188_10 (dk_at dksX9_init_1 14 rfl rfl)
theorem dX9_init_38 : decode cX9_init 38 = .ok (.putfield 26, 3) := dk_181 0 26 (dk_at dksX9_init_1 16 rfl rfl)
theorem dX9_init_41 : decode cX9_init 41 = .ok (.aload_n 0, 1) := dk_42 (dk_at dksX9_init_1 19 rfl rfl)
theorem dX9_init_42 : decode cX9_init 42 = .ok (.bipush 24, 2) := dk_16 24 (dk_at dksX9_init_1 20 rfl rfl)
theorem dX9_init_44 : decode cX9_init 44 = .ok (.newarray .int, 2) := dk_188_10 (dk_at dksX9_init_1 22 rfl rfl)
theorem dX9_init_46 : decode cX9_init 46 = .ok (.putfield 29, 3) := dk_181 0 29 (dk_at dksX9_init_2 0 rfl rfl)
theorem dX9_init_49 : decode cX9_init 49 = .ok (.aload_n 0, 1) := dk_42 (dk_at dksX9_init_2 3 rfl rfl)
theorem dX9_init_50 : decode cX9_init 50 = .ok (.bipush 24, 2) := dk_16 24 (dk_at dksX9_init_2 4 rfl rfl)
theorem dX9_init_52 : decode cX9_init 52 = .ok (.newarray .int, 2) := dk_188_10 (dk_at dksX9_init_2 6 rfl rfl)
theorem dX9_init_54 : decode cX9_init 54 = .ok (.putfield 32, 3) := dk_181 0 32 (dk_at dksX9_init_2 8 rfl rfl)
theorem dX9_init_57 : decode cX9_init 57 = .ok (.aload_n 0, 1) := dk_42 (dk_at dksX9_init_2 11 rfl rfl)
theorem dX9_init_58 : decode cX9_init 58 = .ok (.bipush 24, 2) := dk_16 24 (dk_at dksX9_init_2 12 rfl rfl)
theorem dX9_init_60 : decode cX9_init 60 = .ok (.newarray .int, 2) := dk_188_10 (dk_at dksX9_init_2 14 rfl rfl)
theorem dX9_init_62 : decode cX9_init 62 = .ok (.putfield 35, 3) := dk_181 0 35 (dk_at dksX9_init_2 16 rfl rfl)
theorem dX9_init_65 : decode cX9_init 65 = .ok (.aload_n 0, 1) := dk_42 (dk_at dksX9_init_2 19 rfl rfl)
theorem dX9_init_66 : decode cX9_init 66 = .ok (.bipush 24, 2) := dk_16 24 (dk_at dksX9_init_2 20 rfl rfl)
theorem dX9_init_68 : decode cX9_init 68 = .ok (.newarray .int, 2) := dk_188_10 (dk_at dksX9_init_2 22 rfl rfl)
theorem dX9_init_70 : decode cX9_init 70 = .ok (.putfield 38, 3) := dk_181 0 38 (dk_at dksX9_init_3 0 rfl rfl)
theorem dX9_init_73 : decode cX9_init 73 = .ok (.aload_n 0, 1) := dk_42 (dk_at dksX9_init_3 3 rfl rfl)
theorem dX9_init_74 : decode cX9_init 74 = .ok (.sipush 150, 3) := dk_17 0 150 (dk_at dksX9_init_3 4 rfl rfl)
theorem dX9_init_77 : decode cX9_init 77 = .ok (.newarray .int, 2) := dk_188_10 (dk_at dksX9_init_3 7 rfl rfl)
theorem dX9_init_79 : decode cX9_init 79 = .ok (.putfield 41, 3) := dk_181 0 41 (dk_at dksX9_init_3 9 rfl rfl)
theorem dX9_init_82 : decode cX9_init 82 = .ok (.aload_n 0, 1) := dk_42 (dk_at dksX9_init_3 12 rfl rfl)
theorem dX9_init_83 : decode cX9_init 83 = .ok (.sipush 150, 3) := dk_17 0 150 (dk_at dksX9_init_3 13 rfl rfl)
theorem dX9_init_86 : decode cX9_init 86 = .ok (.newarray .int, 2) := dk_188_10 (dk_at dksX9_init_3 16 rfl rfl)
theorem dX9_init_88 : decode cX9_init 88 = .ok (.putfield 44, 3) := dk_181 0 44 (dk_at dksX9_init_3 18 rfl rfl)
theorem dX9_init_91 : decode cX9_init 91 = .ok (.aload_n 0, 1) := dk_42 (dk_at dksX9_init_3 21 rfl rfl)
theorem dX9_init_92 : decode cX9_init 92 = .ok (.bipush 32, 2) := dk_16 32 (dk_at dksX9_init_3 22 rfl rfl)
theorem dX9_init_94 : decode cX9_init 94 = .ok (.newarray .int, 2) := dk_188_10 (dk_at dksX9_init_4 0 rfl rfl)
theorem dX9_init_96 : decode cX9_init 96 = .ok (.putfield 47, 3) := dk_181 0 47 (dk_at dksX9_init_4 2 rfl rfl)
theorem dX9_init_99 : decode cX9_init 99 = .ok (.aload_n 0, 1) := dk_42 (dk_at dksX9_init_4 5 rfl rfl)
theorem dX9_init_100 : decode cX9_init 100 = .ok (.sipush 150, 3) := dk_17 0 150 (dk_at dksX9_init_4 6 rfl rfl)
theorem dX9_init_103 : decode cX9_init 103 = .ok (.newarray .int, 2) := dk_188_10 (dk_at dksX9_init_4 9 rfl rfl)
theorem dX9_init_105 : decode cX9_init 105 = .ok (.putfield 50, 3) := dk_181 0 50 (dk_at dksX9_init_4 11 rfl rfl)
theorem dX9_init_108 : decode cX9_init 108 = .ok (.aload_n 0, 1) := dk_42 (dk_at dksX9_init_4 14 rfl rfl)
theorem dX9_init_109 : decode cX9_init 109 = .ok (.sipush 1050, 3) := dk_17 4 26 (dk_at dksX9_init_4 15 rfl rfl)
theorem dX9_init_112 : decode cX9_init 112 = .ok (.newarray .int, 2) := dk_188_10 (dk_at dksX9_init_4 18 rfl rfl)
theorem dX9_init_114 : decode cX9_init 114 = .ok (.putfield 53, 3) := dk_181 0 53 (dk_at dksX9_init_4 20 rfl rfl)
theorem dX9_init_117 : decode cX9_init 117 = .ok (.aload_n 0, 1) := dk_42 (dk_at dksX9_init_4 23 rfl rfl)
theorem dX9_init_118 : decode cX9_init 118 = .ok (.sipush 1050, 3) := dk_17 4 26 (dk_at dksX9_init_5 0 rfl rfl)
theorem dX9_init_121 : decode cX9_init 121 = .ok (.newarray .int, 2) := dk_188_10 (dk_at dksX9_init_5 3 rfl rfl)
theorem dX9_init_123 : decode cX9_init 123 = .ok (.putfield 56, 3) := dk_181 0 56 (dk_at dksX9_init_5 5 rfl rfl)
theorem dX9_init_126 : decode cX9_init 126 = .ok (.aload_n 0, 1) := dk_42 (dk_at dksX9_init_5 8 rfl rfl)
theorem dX9_init_127 : decode cX9_init 127 = .ok (.sipush 224, 3) := dk_17 0 224 (dk_at dksX9_init_5 9 rfl rfl)
theorem dX9_init_130 : decode cX9_init 130 = .ok (.newarray .int, 2) := dk_188_10 (dk_at dksX9_init_5 12 rfl rfl)
theorem dX9_init_132 : decode cX9_init 132 = .ok (.putfield 59, 3) := dk_181 0 59 (dk_at dksX9_init_5 14 rfl rfl)
theorem dX9_init_135 : decode cX9_init 135 = .ok (.aload_n 0, 1) := dk_42 (dk_at dksX9_init_5 17 rfl rfl)
theorem dX9_init_136 : decode cX9_init 136 = .ok (.bipush 7, 2) := dk_16 7 (dk_at dksX9_init_5 18 rfl rfl)
theorem dX9_init_138 : decode cX9_init 138 = .ok (.newarray .int, 2) := dk_188_10 (dk_at dksX9_init_5 20 rfl rfl)
theorem dX9_init_140 : decode cX9_init 140 = .ok (.putfield 62, 3) := dk_181 0 62 (dk_at dksX9_init_6 0 rfl rfl)
theorem dX9_init_143 : decode cX9_init 143 = .ok (.aload_n 0, 1) := dk_42 (dk_at dksX9_init_6 3 rfl rfl)
theorem dX9_init_144 : decode cX9_init 144 = .ok (.bipush 30, 2) := dk_16 30 (dk_at dksX9_init_6 4 rfl rfl)
theorem dX9_init_146 : decode cX9_init 146 = .ok (.newarray .int, 2) := dk_188_10 (dk_at dksX9_init_6 6 rfl rfl)
theorem dX9_init_148 : decode cX9_init 148 = .ok (.putfield 65, 3) := dk_181 0 65 (dk_at dksX9_init_6 8 rfl rfl)
theorem dX9_init_151 : decode cX9_init 151 = .ok (.aload_n 0, 1) := dk_42 (dk_at dksX9_init_6 11 rfl rfl)
theorem dX9_init_152 : decode cX9_init 152 = .ok (.bipush 30, 2) := dk_16 30 (dk_at dksX9_init_6 12 rfl rfl)
theorem dX9_init_154 : decode cX9_init 154 = .ok (.newarray .int, 2) := dk_188_10 (dk_at dksX9_init_6 14 rfl rfl)
theorem dX9_init_156 : decode cX9_init 156 = .ok (.putfield 68, 3) := dk_181 0 68 (dk_at dksX9_init_6 16 rfl rfl)
theorem dX9_init_159 : decode cX9_init 159 = .ok (.aload_n 0, 1) := dk_42 (dk_at dksX9_init_6 19 rfl rfl)
theorem dX9_init_160 : decode cX9_init 160 = .ok (.sipush 16900, 3) := dk_17 66 4 (dk_at dksX9_init_6 20 rfl rfl)
theorem dX9_init_163 : decode cX9_init 163 = .ok (.newarray .int, 2) := dk_188_10 (dk_at dksX9_init_7 0 rfl rfl)
theorem dX9_init_165 : decode cX9_init 165 = .ok (.putfield 71, 3) := dk_181 0 71 (dk_at dksX9_init_7 2 rfl rfl)
theorem dX9_init_168 : decode cX9_init 168 = .ok (.aload_n 0, 1) := dk_42 (dk_at dksX9_init_7 5 rfl rfl)
theorem dX9_init_169 : decode cX9_init 169 = .ok (.sipush 16900, 3) := dk_17 66 4 (dk_at dksX9_init_7 6 rfl rfl)
theorem dX9_init_172 : decode cX9_init 172 = .ok (.newarray .int, 2) := dk_188_10 (dk_at dksX9_init_7 9 rfl rfl)
theorem dX9_init_174 : decode cX9_init 174 = .ok (.putfield 74, 3) := dk_181 0 74 (dk_at dksX9_init_7 11 rfl rfl)
theorem dX9_init_177 : decode cX9_init 177 = .ok (.aload_n 0, 1) := dk_42 (dk_at dksX9_init_7 14 rfl rfl)
theorem dX9_init_178 : decode cX9_init 178 = .ok (.sipush 16900, 3) := dk_17 66 4 (dk_at dksX9_init_7 15 rfl rfl)
theorem dX9_init_181 : decode cX9_init 181 = .ok (.newarray .long, 2) := dk_188_11 (dk_at dksX9_init_7 18 rfl rfl)
theorem dX9_init_183 : decode cX9_init 183 = .ok (.putfield 77, 3) := dk_181 0 77 (dk_at dksX9_init_7 20 rfl rfl)
theorem dX9_init_186 : decode cX9_init 186 = .ok (.aload_n 0, 1) := dk_42 (dk_at dksX9_init_7 23 rfl rfl)
theorem dX9_init_187 : decode cX9_init 187 = .ok (.sipush 16900, 3) := dk_17 66 4 (dk_at dksX9_init_8 0 rfl rfl)
theorem dX9_init_190 : decode cX9_init 190 = .ok (.newarray .long, 2) := dk_188_11 (dk_at dksX9_init_8 3 rfl rfl)
theorem dX9_init_192 : decode cX9_init 192 = .ok (.putfield 81, 3) := dk_181 0 81 (dk_at dksX9_init_8 5 rfl rfl)
theorem dX9_init_195 : decode cX9_init 195 = .ok (.aload_n 0, 1) := dk_42 (dk_at dksX9_init_8 8 rfl rfl)
theorem dX9_init_196 : decode cX9_init 196 = .ok (.bipush 6, 2) := dk_16 6 (dk_at dksX9_init_8 9 rfl rfl)
theorem dX9_init_198 : decode cX9_init 198 = .ok (.newarray .long, 2) := dk_188_11 (dk_at dksX9_init_8 11 rfl rfl)
theorem dX9_init_200 : decode cX9_init 200 = .ok (.putfield 84, 3) := dk_181 0 84 (dk_at dksX9_init_8 13 rfl rfl)
theorem dX9_init_203 : decode cX9_init 203 = .ok (.aload_n 0, 1) := dk_42 (dk_at dksX9_init_8 16 rfl rfl)
theorem dX9_init_204 : decode cX9_init 204 = .ok (.bipush 24, 2) := dk_16 24 (dk_at dksX9_init_8 17 rfl rfl)
theorem dX9_init_206 : decode cX9_init 206 = .ok (.newarray .long, 2) := dk_188_11 (dk_at dksX9_init_8 19 rfl rfl)
theorem dX9_init_208 : decode cX9_init 208 = .ok (.putfield 87, 3) := dk_181 0 87 (dk_at dksX9_init_8 21 rfl rfl)
theorem dX9_init_211 : decode cX9_init 211 = .ok (.aload_n 0, 1) := dk_42 (dk_at dksX9_init_9 0 rfl rfl)
theorem dX9_init_212 : decode cX9_init 212 = .ok (.bipush 8, 2) := dk_16 8 (dk_at dksX9_init_9 1 rfl rfl)
theorem dX9_init_214 : decode cX9_init 214 = .ok (.newarray .int, 2) := dk_188_10 (dk_at dksX9_init_9 3 rfl rfl)
theorem dX9_init_216 : decode cX9_init 216 = .ok (.putfield 90, 3) := dk_181 0 90 (dk_at dksX9_init_9 5 rfl rfl)
theorem dX9_init_219 : decode cX9_init 219 = .ok (.aload_n 0, 1) := dk_42 (dk_at dksX9_init_9 8 rfl rfl)
theorem dX9_init_220 : decode cX9_init 220 = .ok (.sipush 980, 3) := dk_17 3 212 (dk_at dksX9_init_9 9 rfl rfl)
theorem dX9_init_223 : decode cX9_init 223 = .ok (.newarray .int, 2) := dk_188_10 (dk_at dksX9_init_9 12 rfl rfl)
theorem dX9_init_225 : decode cX9_init 225 = .ok (.putfield 93, 3) := dk_181 0 93 (dk_at dksX9_init_9 14 rfl rfl)
theorem dX9_init_228 : decode cX9_init 228 = .ok (.aload_n 0, 1) := dk_42 (dk_at dksX9_init_9 17 rfl rfl)
theorem dX9_init_229 : decode cX9_init 229 = .ok (.sipush 3090, 3) := dk_17 12 18 (dk_at dksX9_init_9 18 rfl rfl)
theorem dX9_init_232 : decode cX9_init 232 = .ok (.newarray .int, 2) := dk_188_10 (dk_at dksX9_init_9 21 rfl rfl)
theorem dX9_init_234 : decode cX9_init 234 = .ok (.putfield 96, 3) := dk_181 0 96 (dk_at dksX9_init_10 0 rfl rfl)
theorem dX9_init_237 : decode cX9_init 237 = .ok (.aload_n 0, 1) := dk_42 (dk_at dksX9_init_10 3 rfl rfl)
theorem dX9_init_238 : decode cX9_init 238 = .ok (.invokevirtual 99, 3) := dk_182 0 99 (dk_at dksX9_init_10 4 rfl rfl)
theorem dX9_init_241 : decode cX9_init 241 = .ok (.aload_n 0, 1) := dk_42 (dk_at dksX9_init_10 7 rfl rfl)
theorem dX9_init_242 : decode cX9_init 242 = .ok (.invokevirtual 102, 3) := dk_182 0 102 (dk_at dksX9_init_10 8 rfl rfl)
theorem dX9_init_245 : decode cX9_init 245 = .ok (.return_, 1) := dk_177 (dk_at dksX9_init_10 11 rfl rfl)
abbrev cX9_clears : ByteArray := prog_28_method_20_code
def yX9_clears : MethodName := ⟨RX9, "clears", "()V"⟩
def dkwX9_clears_4 : List UInt8 := [79, 42, 180, 0, 23, 16, 11, 5, 79, 177]
abbrev dktX9_clears_4 : List UInt8 := dkwX9_clears_4 ++ []
def dkwX9_clears_3 : List UInt8 := [79, 42, 180, 0, 23, 16, 8, 4, 79, 42, 180, 0, 23, 16, 9, 4, 79, 42, 180, 0, 23, 16, 10, 6]
abbrev dktX9_clears_3 : List UInt8 := dkwX9_clears_3 ++ dktX9_clears_4
def dkwX9_clears_2 : List UInt8 := [180, 0, 23, 8, 16, 30, 79, 42, 180, 0, 23, 16, 6, 16, 12, 79, 42, 180, 0, 23, 16, 7, 16, 9]
abbrev dktX9_clears_2 : List UInt8 := dkwX9_clears_2 ++ dktX9_clears_3
def dkwX9_clears_1 : List UInt8 := [79, 42, 180, 0, 23, 5, 3, 79, 42, 180, 0, 23, 6, 3, 79, 42, 180, 0, 23, 7, 3, 79, 42]
abbrev dktX9_clears_1 : List UInt8 := dkwX9_clears_1 ++ dktX9_clears_2
def dkwX9_clears_0 : List UInt8 := [42, 3, 181, 0, 151, 42, 3, 181, 0, 154, 42, 180, 0, 23, 3, 16, 8, 79, 42, 180, 0, 23, 4, 3]
abbrev dktX9_clears_0 : List UInt8 := dkwX9_clears_0 ++ dktX9_clears_1
theorem dksX9_clears_0 : cX9_clears.data.toList.drop 0 = dktX9_clears_0 := by decide +kernel
theorem dksX9_clears_1 : cX9_clears.data.toList.drop 24 = dktX9_clears_1 := dk_seg dksX9_clears_0 24 rfl rfl
theorem dksX9_clears_2 : cX9_clears.data.toList.drop 47 = dktX9_clears_2 := dk_seg dksX9_clears_1 23 rfl rfl
theorem dksX9_clears_3 : cX9_clears.data.toList.drop 71 = dktX9_clears_3 := dk_seg dksX9_clears_2 24 rfl rfl
theorem dksX9_clears_4 : cX9_clears.data.toList.drop 95 = dktX9_clears_4 := dk_seg dksX9_clears_3 24 rfl rfl
theorem dX9_clears_0 : decode cX9_clears 0 = .ok (.aload_n 0, 1) := dk_42 (dk_at dksX9_clears_0 0 rfl rfl)
theorem dX9_clears_1 : decode cX9_clears 1 = .ok (.iconst 0, 1) := dk_3 (dk_at dksX9_clears_0 1 rfl rfl)
theorem dX9_clears_2 : decode cX9_clears 2 = .ok (.putfield 151, 3) := dk_181 0 151 (dk_at dksX9_clears_0 2 rfl rfl)
theorem dX9_clears_5 : decode cX9_clears 5 = .ok (.aload_n 0, 1) := dk_42 (dk_at dksX9_clears_0 5 rfl rfl)
theorem dX9_clears_6 : decode cX9_clears 6 = .ok (.iconst 0, 1) := dk_3 (dk_at dksX9_clears_0 6 rfl rfl)
theorem dX9_clears_7 : decode cX9_clears 7 = .ok (.putfield 154, 3) := dk_181 0 154 (dk_at dksX9_clears_0 7 rfl rfl)
theorem dX9_clears_10 : decode cX9_clears 10 = .ok (.aload_n 0, 1) := dk_42 (dk_at dksX9_clears_0 10 rfl rfl)
theorem dX9_clears_11 : decode cX9_clears 11 = .ok (.getfield 23, 3) := dk_180 0 23 (dk_at dksX9_clears_0 11 rfl rfl)
theorem dX9_clears_14 : decode cX9_clears 14 = .ok (.iconst 0, 1) := dk_3 (dk_at dksX9_clears_0 14 rfl rfl)
theorem dX9_clears_15 : decode cX9_clears 15 = .ok (.bipush 8, 2) := dk_16 8 (dk_at dksX9_clears_0 15 rfl rfl)
theorem dX9_clears_17 : decode cX9_clears 17 = .ok (.iastore, 1) := dk_79 (dk_at dksX9_clears_0 17 rfl rfl)
theorem dX9_clears_18 : decode cX9_clears 18 = .ok (.aload_n 0, 1) := dk_42 (dk_at dksX9_clears_0 18 rfl rfl)
theorem dX9_clears_19 : decode cX9_clears 19 = .ok (.getfield 23, 3) := dk_180 0 23 (dk_at dksX9_clears_0 19 rfl rfl)
theorem dX9_clears_22 : decode cX9_clears 22 = .ok (.iconst 1, 1) := dk_4 (dk_at dksX9_clears_0 22 rfl rfl)
theorem dX9_clears_23 : decode cX9_clears 23 = .ok (.iconst 0, 1) := dk_3 (dk_at dksX9_clears_0 23 rfl rfl)
theorem dX9_clears_24 : decode cX9_clears 24 = .ok (.iastore, 1) := dk_79 (dk_at dksX9_clears_1 0 rfl rfl)
theorem dX9_clears_25 : decode cX9_clears 25 = .ok (.aload_n 0, 1) := dk_42 (dk_at dksX9_clears_1 1 rfl rfl)
theorem dX9_clears_26 : decode cX9_clears 26 = .ok (.getfield 23, 3) := dk_180 0 23 (dk_at dksX9_clears_1 2 rfl rfl)
theorem dX9_clears_29 : decode cX9_clears 29 = .ok (.iconst 2, 1) := dk_5 (dk_at dksX9_clears_1 5 rfl rfl)
theorem dX9_clears_30 : decode cX9_clears 30 = .ok (.iconst 0, 1) := dk_3 (dk_at dksX9_clears_1 6 rfl rfl)
theorem dX9_clears_31 : decode cX9_clears 31 = .ok (.iastore, 1) := dk_79 (dk_at dksX9_clears_1 7 rfl rfl)
theorem dX9_clears_32 : decode cX9_clears 32 = .ok (.aload_n 0, 1) := dk_42 (dk_at dksX9_clears_1 8 rfl rfl)
theorem dX9_clears_33 : decode cX9_clears 33 = .ok (.getfield 23, 3) := dk_180 0 23 (dk_at dksX9_clears_1 9 rfl rfl)
theorem dX9_clears_36 : decode cX9_clears 36 = .ok (.iconst 3, 1) := dk_6 (dk_at dksX9_clears_1 12 rfl rfl)
theorem dX9_clears_37 : decode cX9_clears 37 = .ok (.iconst 0, 1) := dk_3 (dk_at dksX9_clears_1 13 rfl rfl)
theorem dX9_clears_38 : decode cX9_clears 38 = .ok (.iastore, 1) := dk_79 (dk_at dksX9_clears_1 14 rfl rfl)
theorem dX9_clears_39 : decode cX9_clears 39 = .ok (.aload_n 0, 1) := dk_42 (dk_at dksX9_clears_1 15 rfl rfl)
theorem dX9_clears_40 : decode cX9_clears 40 = .ok (.getfield 23, 3) := dk_180 0 23 (dk_at dksX9_clears_1 16 rfl rfl)
theorem dX9_clears_43 : decode cX9_clears 43 = .ok (.iconst 4, 1) := dk_7 (dk_at dksX9_clears_1 19 rfl rfl)
theorem dX9_clears_44 : decode cX9_clears 44 = .ok (.iconst 0, 1) := dk_3 (dk_at dksX9_clears_1 20 rfl rfl)
theorem dX9_clears_45 : decode cX9_clears 45 = .ok (.iastore, 1) := dk_79 (dk_at dksX9_clears_1 21 rfl rfl)
theorem dX9_clears_46 : decode cX9_clears 46 = .ok (.aload_n 0, 1) := dk_42 (dk_at dksX9_clears_1 22 rfl rfl)
theorem dX9_clears_47 : decode cX9_clears 47 = .ok (.getfield 23, 3) := dk_180 0 23 (dk_at dksX9_clears_2 0 rfl rfl)
theorem dX9_clears_50 : decode cX9_clears 50 = .ok (.iconst 5, 1) := dk_8 (dk_at dksX9_clears_2 3 rfl rfl)
theorem dX9_clears_51 : decode cX9_clears 51 = .ok (.bipush 30, 2) := dk_16 30 (dk_at dksX9_clears_2 4 rfl rfl)
theorem dX9_clears_53 : decode cX9_clears 53 = .ok (.iastore, 1) := dk_79 (dk_at dksX9_clears_2 6 rfl rfl)
theorem dX9_clears_54 : decode cX9_clears 54 = .ok (.aload_n 0, 1) := dk_42 (dk_at dksX9_clears_2 7 rfl rfl)
theorem dX9_clears_55 : decode cX9_clears 55 = .ok (.getfield 23, 3) := dk_180 0 23 (dk_at dksX9_clears_2 8 rfl rfl)
theorem dX9_clears_58 : decode cX9_clears 58 = .ok (.bipush 6, 2) := dk_16 6 (dk_at dksX9_clears_2 11 rfl rfl)
theorem dX9_clears_60 : decode cX9_clears 60 = .ok (.bipush 12, 2) := dk_16 12 (dk_at dksX9_clears_2 13 rfl rfl)
theorem dX9_clears_62 : decode cX9_clears 62 = .ok (.iastore, 1) := dk_79 (dk_at dksX9_clears_2 15 rfl rfl)
theorem dX9_clears_63 : decode cX9_clears 63 = .ok (.aload_n 0, 1) := dk_42 (dk_at dksX9_clears_2 16 rfl rfl)
theorem dX9_clears_64 : decode cX9_clears 64 = .ok (.getfield 23, 3) := dk_180 0 23 (dk_at dksX9_clears_2 17 rfl rfl)
theorem dX9_clears_67 : decode cX9_clears 67 = .ok (.bipush 7, 2) := dk_16 7 (dk_at dksX9_clears_2 20 rfl rfl)
theorem dX9_clears_69 : decode cX9_clears 69 = .ok (.bipush 9, 2) := dk_16 9 (dk_at dksX9_clears_2 22 rfl rfl)
theorem dX9_clears_71 : decode cX9_clears 71 = .ok (.iastore, 1) := dk_79 (dk_at dksX9_clears_3 0 rfl rfl)
theorem dX9_clears_72 : decode cX9_clears 72 = .ok (.aload_n 0, 1) := dk_42 (dk_at dksX9_clears_3 1 rfl rfl)
theorem dX9_clears_73 : decode cX9_clears 73 = .ok (.getfield 23, 3) := dk_180 0 23 (dk_at dksX9_clears_3 2 rfl rfl)
theorem dX9_clears_76 : decode cX9_clears 76 = .ok (.bipush 8, 2) := dk_16 8 (dk_at dksX9_clears_3 5 rfl rfl)
theorem dX9_clears_78 : decode cX9_clears 78 = .ok (.iconst 1, 1) := dk_4 (dk_at dksX9_clears_3 7 rfl rfl)
theorem dX9_clears_79 : decode cX9_clears 79 = .ok (.iastore, 1) := dk_79 (dk_at dksX9_clears_3 8 rfl rfl)
theorem dX9_clears_80 : decode cX9_clears 80 = .ok (.aload_n 0, 1) := dk_42 (dk_at dksX9_clears_3 9 rfl rfl)
theorem dX9_clears_81 : decode cX9_clears 81 = .ok (.getfield 23, 3) := dk_180 0 23 (dk_at dksX9_clears_3 10 rfl rfl)
theorem dX9_clears_84 : decode cX9_clears 84 = .ok (.bipush 9, 2) := dk_16 9 (dk_at dksX9_clears_3 13 rfl rfl)
theorem dX9_clears_86 : decode cX9_clears 86 = .ok (.iconst 1, 1) := dk_4 (dk_at dksX9_clears_3 15 rfl rfl)
theorem dX9_clears_87 : decode cX9_clears 87 = .ok (.iastore, 1) := dk_79 (dk_at dksX9_clears_3 16 rfl rfl)
theorem dX9_clears_88 : decode cX9_clears 88 = .ok (.aload_n 0, 1) := dk_42 (dk_at dksX9_clears_3 17 rfl rfl)
theorem dX9_clears_89 : decode cX9_clears 89 = .ok (.getfield 23, 3) := dk_180 0 23 (dk_at dksX9_clears_3 18 rfl rfl)
theorem dX9_clears_92 : decode cX9_clears 92 = .ok (.bipush 10, 2) := dk_16 10 (dk_at dksX9_clears_3 21 rfl rfl)
theorem dX9_clears_94 : decode cX9_clears 94 = .ok (.iconst 3, 1) := dk_6 (dk_at dksX9_clears_3 23 rfl rfl)
theorem dX9_clears_95 : decode cX9_clears 95 = .ok (.iastore, 1) := dk_79 (dk_at dksX9_clears_4 0 rfl rfl)
theorem dX9_clears_96 : decode cX9_clears 96 = .ok (.aload_n 0, 1) := dk_42 (dk_at dksX9_clears_4 1 rfl rfl)
theorem dX9_clears_97 : decode cX9_clears 97 = .ok (.getfield 23, 3) := dk_180 0 23 (dk_at dksX9_clears_4 2 rfl rfl)
theorem dX9_clears_100 : decode cX9_clears 100 = .ok (.bipush 11, 2) := dk_16 11 (dk_at dksX9_clears_4 5 rfl rfl)
theorem dX9_clears_102 : decode cX9_clears 102 = .ok (.iconst 2, 1) := dk_5 (dk_at dksX9_clears_4 7 rfl rfl)
theorem dX9_clears_103 : decode cX9_clears 103 = .ok (.iastore, 1) := dk_79 (dk_at dksX9_clears_4 8 rfl rfl)
theorem dX9_clears_104 : decode cX9_clears 104 = .ok (.return_, 1) := dk_177 (dk_at dksX9_clears_4 9 rfl rfl)
abbrev cX9_sets : ByteArray := prog_28_method_22_code
def yX9_sets : MethodName := ⟨RX9, "sets", "()V"⟩
def dkwX9_sets_4 : List UInt8 := [177]
abbrev dktX9_sets_4 : List UInt8 := dkwX9_sets_4 ++ []
def dkwX9_sets_3 : List UInt8 := [27, 3, 79, 132, 1, 1, 167, 255, 240, 42, 3, 181, 0, 167, 42, 3, 181, 0, 170, 42, 3, 181, 0, 173]
abbrev dktX9_sets_3 : List UInt8 := dkwX9_sets_3 ++ dktX9_sets_4
def dkwX9_sets_2 : List UInt8 := [180, 0, 32, 42, 180, 0, 38, 16, 24, 182, 0, 157, 3, 60, 27, 16, 6, 163, 0, 16, 42, 180, 0, 62]
abbrev dktX9_sets_2 : List UInt8 := dkwX9_sets_2 ++ dktX9_sets_3
def dkwX9_sets_1 : List UInt8 := [180, 0, 154, 181, 0, 164, 42, 42, 180, 0, 29, 42, 180, 0, 35, 16, 24, 182, 0, 157, 42, 42]
abbrev dktX9_sets_1 : List UInt8 := dkwX9_sets_1 ++ dktX9_sets_2
def dkwX9_sets_0 : List UInt8 := [42, 42, 180, 0, 23, 42, 180, 0, 26, 16, 12, 182, 0, 157, 42, 42, 180, 0, 151, 181, 0, 161, 42, 42]
abbrev dktX9_sets_0 : List UInt8 := dkwX9_sets_0 ++ dktX9_sets_1
theorem dksX9_sets_0 : cX9_sets.data.toList.drop 0 = dktX9_sets_0 := by decide +kernel
theorem dksX9_sets_1 : cX9_sets.data.toList.drop 24 = dktX9_sets_1 := dk_seg dksX9_sets_0 24 rfl rfl
theorem dksX9_sets_2 : cX9_sets.data.toList.drop 46 = dktX9_sets_2 := dk_seg dksX9_sets_1 22 rfl rfl
theorem dksX9_sets_3 : cX9_sets.data.toList.drop 70 = dktX9_sets_3 := dk_seg dksX9_sets_2 24 rfl rfl
theorem dksX9_sets_4 : cX9_sets.data.toList.drop 94 = dktX9_sets_4 := dk_seg dksX9_sets_3 24 rfl rfl
theorem dX9_sets_0 : decode cX9_sets 0 = .ok (.aload_n 0, 1) := dk_42 (dk_at dksX9_sets_0 0 rfl rfl)
theorem dX9_sets_1 : decode cX9_sets 1 = .ok (.aload_n 0, 1) := dk_42 (dk_at dksX9_sets_0 1 rfl rfl)
theorem dX9_sets_2 : decode cX9_sets 2 = .ok (.getfield 23, 3) := dk_180 0 23 (dk_at dksX9_sets_0 2 rfl rfl)
theorem dX9_sets_5 : decode cX9_sets 5 = .ok (.aload_n 0, 1) := dk_42 (dk_at dksX9_sets_0 5 rfl rfl)
theorem dX9_sets_6 : decode cX9_sets 6 = .ok (.getfield 26, 3) := dk_180 0 26 (dk_at dksX9_sets_0 6 rfl rfl)
theorem dX9_sets_9 : decode cX9_sets 9 = .ok (.bipush 12, 2) := dk_16 12 (dk_at dksX9_sets_0 9 rfl rfl)
theorem dX9_sets_11 : decode cX9_sets 11 = .ok (.invokevirtual 157, 3) := dk_182 0 157 (dk_at dksX9_sets_0 11 rfl rfl)
theorem dX9_sets_14 : decode cX9_sets 14 = .ok (.aload_n 0, 1) := dk_42 (dk_at dksX9_sets_0 14 rfl rfl)
theorem dX9_sets_15 : decode cX9_sets 15 = .ok (.aload_n 0, 1) := dk_42 (dk_at dksX9_sets_0 15 rfl rfl)
theorem dX9_sets_16 : decode cX9_sets 16 = .ok (.getfield 151, 3) := dk_180 0 151 (dk_at dksX9_sets_0 16 rfl rfl)
theorem dX9_sets_19 : decode cX9_sets 19 = .ok (.putfield 161, 3) := dk_181 0 161 (dk_at dksX9_sets_0 19 rfl rfl)
theorem dX9_sets_22 : decode cX9_sets 22 = .ok (.aload_n 0, 1) := dk_42 (dk_at dksX9_sets_0 22 rfl rfl)
theorem dX9_sets_23 : decode cX9_sets 23 = .ok (.aload_n 0, 1) := dk_42 (dk_at dksX9_sets_0 23 rfl rfl)
theorem dX9_sets_24 : decode cX9_sets 24 = .ok (.getfield 154, 3) := dk_180 0 154 (dk_at dksX9_sets_1 0 rfl rfl)
theorem dX9_sets_27 : decode cX9_sets 27 = .ok (.putfield 164, 3) := dk_181 0 164 (dk_at dksX9_sets_1 3 rfl rfl)
theorem dX9_sets_30 : decode cX9_sets 30 = .ok (.aload_n 0, 1) := dk_42 (dk_at dksX9_sets_1 6 rfl rfl)
theorem dX9_sets_31 : decode cX9_sets 31 = .ok (.aload_n 0, 1) := dk_42 (dk_at dksX9_sets_1 7 rfl rfl)
theorem dX9_sets_32 : decode cX9_sets 32 = .ok (.getfield 29, 3) := dk_180 0 29 (dk_at dksX9_sets_1 8 rfl rfl)
theorem dX9_sets_35 : decode cX9_sets 35 = .ok (.aload_n 0, 1) := dk_42 (dk_at dksX9_sets_1 11 rfl rfl)
theorem dX9_sets_36 : decode cX9_sets 36 = .ok (.getfield 35, 3) := dk_180 0 35 (dk_at dksX9_sets_1 12 rfl rfl)
theorem dX9_sets_39 : decode cX9_sets 39 = .ok (.bipush 24, 2) := dk_16 24 (dk_at dksX9_sets_1 15 rfl rfl)
theorem dX9_sets_41 : decode cX9_sets 41 = .ok (.invokevirtual 157, 3) := dk_182 0 157 (dk_at dksX9_sets_1 17 rfl rfl)
theorem dX9_sets_44 : decode cX9_sets 44 = .ok (.aload_n 0, 1) := dk_42 (dk_at dksX9_sets_1 20 rfl rfl)
theorem dX9_sets_45 : decode cX9_sets 45 = .ok (.aload_n 0, 1) := dk_42 (dk_at dksX9_sets_1 21 rfl rfl)
theorem dX9_sets_46 : decode cX9_sets 46 = .ok (.getfield 32, 3) := dk_180 0 32 (dk_at dksX9_sets_2 0 rfl rfl)
theorem dX9_sets_49 : decode cX9_sets 49 = .ok (.aload_n 0, 1) := dk_42 (dk_at dksX9_sets_2 3 rfl rfl)
theorem dX9_sets_50 : decode cX9_sets 50 = .ok (.getfield 38, 3) := dk_180 0 38 (dk_at dksX9_sets_2 4 rfl rfl)
theorem dX9_sets_53 : decode cX9_sets 53 = .ok (.bipush 24, 2) := dk_16 24 (dk_at dksX9_sets_2 7 rfl rfl)
theorem dX9_sets_55 : decode cX9_sets 55 = .ok (.invokevirtual 157, 3) := dk_182 0 157 (dk_at dksX9_sets_2 9 rfl rfl)
theorem dX9_sets_58 : decode cX9_sets 58 = .ok (.iconst 0, 1) := dk_3 (dk_at dksX9_sets_2 12 rfl rfl)
theorem dX9_sets_59 : decode cX9_sets 59 = .ok (.istore_n 1, 1) := dk_60 (dk_at dksX9_sets_2 13 rfl rfl)
theorem dX9_sets_60 : decode cX9_sets 60 = .ok (.iload_n 1, 1) := dk_27 (dk_at dksX9_sets_2 14 rfl rfl)
theorem dX9_sets_61 : decode cX9_sets 61 = .ok (.bipush 6, 2) := dk_16 6 (dk_at dksX9_sets_2 15 rfl rfl)
theorem dX9_sets_63 : decode cX9_sets 63 = .ok (.if_icmp .gt 16, 3) := dk_163 0 16 (dk_at dksX9_sets_2 17 rfl rfl)
theorem dX9_sets_66 : decode cX9_sets 66 = .ok (.aload_n 0, 1) := dk_42 (dk_at dksX9_sets_2 20 rfl rfl)
theorem dX9_sets_67 : decode cX9_sets 67 = .ok (.getfield 62, 3) := dk_180 0 62 (dk_at dksX9_sets_2 21 rfl rfl)
theorem dX9_sets_70 : decode cX9_sets 70 = .ok (.iload_n 1, 1) := dk_27 (dk_at dksX9_sets_3 0 rfl rfl)
theorem dX9_sets_71 : decode cX9_sets 71 = .ok (.iconst 0, 1) := dk_3 (dk_at dksX9_sets_3 1 rfl rfl)
theorem dX9_sets_72 : decode cX9_sets 72 = .ok (.iastore, 1) := dk_79 (dk_at dksX9_sets_3 2 rfl rfl)
theorem dX9_sets_73 : decode cX9_sets 73 = .ok (.iinc 1 1, 3) := dk_132 1 1 (dk_at dksX9_sets_3 3 rfl rfl)
theorem dX9_sets_76 : decode cX9_sets 76 = .ok (.goto (-16), 3) := dk_167 255 240 (dk_at dksX9_sets_3 6 rfl rfl)
theorem dX9_sets_79 : decode cX9_sets 79 = .ok (.aload_n 0, 1) := dk_42 (dk_at dksX9_sets_3 9 rfl rfl)
theorem dX9_sets_80 : decode cX9_sets 80 = .ok (.iconst 0, 1) := dk_3 (dk_at dksX9_sets_3 10 rfl rfl)
theorem dX9_sets_81 : decode cX9_sets 81 = .ok (.putfield 167, 3) := dk_181 0 167 (dk_at dksX9_sets_3 11 rfl rfl)
theorem dX9_sets_84 : decode cX9_sets 84 = .ok (.aload_n 0, 1) := dk_42 (dk_at dksX9_sets_3 14 rfl rfl)
theorem dX9_sets_85 : decode cX9_sets 85 = .ok (.iconst 0, 1) := dk_3 (dk_at dksX9_sets_3 15 rfl rfl)
theorem dX9_sets_86 : decode cX9_sets 86 = .ok (.putfield 170, 3) := dk_181 0 170 (dk_at dksX9_sets_3 16 rfl rfl)
theorem dX9_sets_89 : decode cX9_sets 89 = .ok (.aload_n 0, 1) := dk_42 (dk_at dksX9_sets_3 19 rfl rfl)
theorem dX9_sets_90 : decode cX9_sets 90 = .ok (.iconst 0, 1) := dk_3 (dk_at dksX9_sets_3 20 rfl rfl)
theorem dX9_sets_91 : decode cX9_sets 91 = .ok (.putfield 173, 3) := dk_181 0 173 (dk_at dksX9_sets_3 21 rfl rfl)
theorem dX9_sets_94 : decode cX9_sets 94 = .ok (.return_, 1) := dk_177 (dk_at dksX9_sets_4 0 rfl rfl)
abbrev cX9_copies : ByteArray := prog_28_method_21_code
def yX9_copies : MethodName := ⟨RX9, "copies", "([I[II)V"⟩
def dkwX9_copies_0 : List UInt8 := [3, 54, 4, 21, 4, 29, 162, 0, 17, 44, 21, 4, 43, 21, 4, 46, 79, 132, 4, 1, 167, 255, 239, 177]
abbrev dktX9_copies_0 : List UInt8 := dkwX9_copies_0 ++ []
theorem dksX9_copies_0 : cX9_copies.data.toList.drop 0 = dktX9_copies_0 := by decide +kernel
theorem dX9_copies_0 : decode cX9_copies 0 = .ok (.iconst 0, 1) := dk_3 (dk_at dksX9_copies_0 0 rfl rfl)
theorem dX9_copies_1 : decode cX9_copies 1 = .ok (.istore 4, 2) := dk_54 4 (dk_at dksX9_copies_0 1 rfl rfl)
theorem dX9_copies_3 : decode cX9_copies 3 = .ok (.iload 4, 2) := dk_21 4 (dk_at dksX9_copies_0 3 rfl rfl)
theorem dX9_copies_5 : decode cX9_copies 5 = .ok (.iload_n 3, 1) := dk_29 (dk_at dksX9_copies_0 5 rfl rfl)
theorem dX9_copies_6 : decode cX9_copies 6 = .ok (.if_icmp .ge 17, 3) := dk_162 0 17 (dk_at dksX9_copies_0 6 rfl rfl)
theorem dX9_copies_9 : decode cX9_copies 9 = .ok (.aload_n 2, 1) := dk_44 (dk_at dksX9_copies_0 9 rfl rfl)
theorem dX9_copies_10 : decode cX9_copies 10 = .ok (.iload 4, 2) := dk_21 4 (dk_at dksX9_copies_0 10 rfl rfl)
theorem dX9_copies_12 : decode cX9_copies 12 = .ok (.aload_n 1, 1) := dk_43 (dk_at dksX9_copies_0 12 rfl rfl)
theorem dX9_copies_13 : decode cX9_copies 13 = .ok (.iload 4, 2) := dk_21 4 (dk_at dksX9_copies_0 13 rfl rfl)
theorem dX9_copies_15 : decode cX9_copies 15 = .ok (.iaload, 1) := dk_46 (dk_at dksX9_copies_0 15 rfl rfl)
theorem dX9_copies_16 : decode cX9_copies 16 = .ok (.iastore, 1) := dk_79 (dk_at dksX9_copies_0 16 rfl rfl)
theorem dX9_copies_17 : decode cX9_copies 17 = .ok (.iinc 4 1, 3) := dk_132 4 1 (dk_at dksX9_copies_0 17 rfl rfl)
theorem dX9_copies_20 : decode cX9_copies 20 = .ok (.goto (-17), 3) := dk_167 255 239 (dk_at dksX9_copies_0 20 rfl rfl)
theorem dX9_copies_23 : decode cX9_copies 23 = .ok (.return_, 1) := dk_177 (dk_at dksX9_copies_0 23 rfl rfl)
abbrev cX9_feed : ByteArray := prog_28_method_5_code
def yX9_feed : MethodName := ⟨RX9, "feed", "(IIIII)I"⟩
def dkwX9_feed_5 : List UInt8 := [167, 255, 162, 42, 180, 0, 105, 172]
abbrev dktX9_feed_5 : List UInt8 := dkwX9_feed_5 ++ []
def dkwX9_feed_4 : List UInt8 := [112, 104, 100, 122, 17, 0, 255, 126, 79, 42, 89, 180, 0, 105, 4, 96, 181, 0, 105, 132, 6, 1]
abbrev dktX9_feed_4 : List UInt8 := dkwX9_feed_4 ++ dktX9_feed_5
def dkwX9_feed_3 : List UInt8 := [167, 0, 5, 21, 5, 54, 7, 42, 180, 0, 20, 42, 180, 0, 105, 21, 7, 16, 24, 16, 8, 21, 6, 7]
abbrev dktX9_feed_3 : List UInt8 := dkwX9_feed_3 ++ dktX9_feed_4
def dkwX9_feed_2 : List UInt8 := [28, 167, 0, 28, 21, 6, 16, 12, 162, 0, 7, 29, 167, 0, 17, 21, 6, 16, 16, 162, 0, 8, 21, 4]
abbrev dktX9_feed_2 : List UInt8 := dkwX9_feed_2 ++ dktX9_feed_3
def dkwX9_feed_1 : List UInt8 := [21, 6, 16, 20, 162, 0, 93, 21, 6, 7, 162, 0, 7, 27, 167, 0, 39, 21, 6, 16, 8, 162, 0, 7]
abbrev dktX9_feed_1 : List UInt8 := dkwX9_feed_1 ++ dktX9_feed_2
def dkwX9_feed_0 : List UInt8 := [42, 3, 181, 0, 3, 42, 180, 0, 105, 16, 20, 96, 17, 2, 88, 164, 0, 5, 2, 172, 3, 54, 6]
abbrev dktX9_feed_0 : List UInt8 := dkwX9_feed_0 ++ dktX9_feed_1
theorem dksX9_feed_0 : cX9_feed.data.toList.drop 0 = dktX9_feed_0 := by decide +kernel
theorem dksX9_feed_1 : cX9_feed.data.toList.drop 23 = dktX9_feed_1 := dk_seg dksX9_feed_0 23 rfl rfl
theorem dksX9_feed_2 : cX9_feed.data.toList.drop 47 = dktX9_feed_2 := dk_seg dksX9_feed_1 24 rfl rfl
theorem dksX9_feed_3 : cX9_feed.data.toList.drop 71 = dktX9_feed_3 := dk_seg dksX9_feed_2 24 rfl rfl
theorem dksX9_feed_4 : cX9_feed.data.toList.drop 95 = dktX9_feed_4 := dk_seg dksX9_feed_3 24 rfl rfl
theorem dksX9_feed_5 : cX9_feed.data.toList.drop 117 = dktX9_feed_5 := dk_seg dksX9_feed_4 22 rfl rfl
theorem dX9_feed_0 : decode cX9_feed 0 = .ok (.aload_n 0, 1) := dk_42 (dk_at dksX9_feed_0 0 rfl rfl)
theorem dX9_feed_1 : decode cX9_feed 1 = .ok (.iconst 0, 1) := dk_3 (dk_at dksX9_feed_0 1 rfl rfl)
theorem dX9_feed_2 : decode cX9_feed 2 = .ok (.putfield 3, 3) := dk_181 0 3 (dk_at dksX9_feed_0 2 rfl rfl)
theorem dX9_feed_5 : decode cX9_feed 5 = .ok (.aload_n 0, 1) := dk_42 (dk_at dksX9_feed_0 5 rfl rfl)
theorem dX9_feed_6 : decode cX9_feed 6 = .ok (.getfield 105, 3) := dk_180 0 105 (dk_at dksX9_feed_0 6 rfl rfl)
theorem dX9_feed_9 : decode cX9_feed 9 = .ok (.bipush 20, 2) := dk_16 20 (dk_at dksX9_feed_0 9 rfl rfl)
theorem dX9_feed_11 : decode cX9_feed 11 = .ok (.iadd, 1) := dk_96 (dk_at dksX9_feed_0 11 rfl rfl)
theorem dX9_feed_12 : decode cX9_feed 12 = .ok (.sipush 600, 3) := dk_17 2 88 (dk_at dksX9_feed_0 12 rfl rfl)
theorem dX9_feed_15 : decode cX9_feed 15 = .ok (.if_icmp .le 5, 3) := dk_164 0 5 (dk_at dksX9_feed_0 15 rfl rfl)
theorem dX9_feed_18 : decode cX9_feed 18 = .ok (.iconst (-1), 1) := dk_2 (dk_at dksX9_feed_0 18 rfl rfl)
theorem dX9_feed_19 : decode cX9_feed 19 = .ok (.ireturn, 1) := dk_172 (dk_at dksX9_feed_0 19 rfl rfl)
theorem dX9_feed_20 : decode cX9_feed 20 = .ok (.iconst 0, 1) := dk_3 (dk_at dksX9_feed_0 20 rfl rfl)
theorem dX9_feed_21 : decode cX9_feed 21 = .ok (.istore 6, 2) := dk_54 6 (dk_at dksX9_feed_0 21 rfl rfl)
theorem dX9_feed_23 : decode cX9_feed 23 = .ok (.iload 6, 2) := dk_21 6 (dk_at dksX9_feed_1 0 rfl rfl)
theorem dX9_feed_25 : decode cX9_feed 25 = .ok (.bipush 20, 2) := dk_16 20 (dk_at dksX9_feed_1 2 rfl rfl)
theorem dX9_feed_27 : decode cX9_feed 27 = .ok (.if_icmp .ge 93, 3) := dk_162 0 93 (dk_at dksX9_feed_1 4 rfl rfl)
theorem dX9_feed_30 : decode cX9_feed 30 = .ok (.iload 6, 2) := dk_21 6 (dk_at dksX9_feed_1 7 rfl rfl)
theorem dX9_feed_32 : decode cX9_feed 32 = .ok (.iconst 4, 1) := dk_7 (dk_at dksX9_feed_1 9 rfl rfl)
theorem dX9_feed_33 : decode cX9_feed 33 = .ok (.if_icmp .ge 7, 3) := dk_162 0 7 (dk_at dksX9_feed_1 10 rfl rfl)
theorem dX9_feed_36 : decode cX9_feed 36 = .ok (.iload_n 1, 1) := dk_27 (dk_at dksX9_feed_1 13 rfl rfl)
theorem dX9_feed_37 : decode cX9_feed 37 = .ok (.goto 39, 3) := dk_167 0 39 (dk_at dksX9_feed_1 14 rfl rfl)
theorem dX9_feed_40 : decode cX9_feed 40 = .ok (.iload 6, 2) := dk_21 6 (dk_at dksX9_feed_1 17 rfl rfl)
theorem dX9_feed_42 : decode cX9_feed 42 = .ok (.bipush 8, 2) := dk_16 8 (dk_at dksX9_feed_1 19 rfl rfl)
theorem dX9_feed_44 : decode cX9_feed 44 = .ok (.if_icmp .ge 7, 3) := dk_162 0 7 (dk_at dksX9_feed_1 21 rfl rfl)
theorem dX9_feed_47 : decode cX9_feed 47 = .ok (.iload_n 2, 1) := dk_28 (dk_at dksX9_feed_2 0 rfl rfl)
theorem dX9_feed_48 : decode cX9_feed 48 = .ok (.goto 28, 3) := dk_167 0 28 (dk_at dksX9_feed_2 1 rfl rfl)
theorem dX9_feed_51 : decode cX9_feed 51 = .ok (.iload 6, 2) := dk_21 6 (dk_at dksX9_feed_2 4 rfl rfl)
theorem dX9_feed_53 : decode cX9_feed 53 = .ok (.bipush 12, 2) := dk_16 12 (dk_at dksX9_feed_2 6 rfl rfl)
theorem dX9_feed_55 : decode cX9_feed 55 = .ok (.if_icmp .ge 7, 3) := dk_162 0 7 (dk_at dksX9_feed_2 8 rfl rfl)
theorem dX9_feed_58 : decode cX9_feed 58 = .ok (.iload_n 3, 1) := dk_29 (dk_at dksX9_feed_2 11 rfl rfl)
theorem dX9_feed_59 : decode cX9_feed 59 = .ok (.goto 17, 3) := dk_167 0 17 (dk_at dksX9_feed_2 12 rfl rfl)
theorem dX9_feed_62 : decode cX9_feed 62 = .ok (.iload 6, 2) := dk_21 6 (dk_at dksX9_feed_2 15 rfl rfl)
theorem dX9_feed_64 : decode cX9_feed 64 = .ok (.bipush 16, 2) := dk_16 16 (dk_at dksX9_feed_2 17 rfl rfl)
theorem dX9_feed_66 : decode cX9_feed 66 = .ok (.if_icmp .ge 8, 3) := dk_162 0 8 (dk_at dksX9_feed_2 19 rfl rfl)
theorem dX9_feed_69 : decode cX9_feed 69 = .ok (.iload 4, 2) := dk_21 4 (dk_at dksX9_feed_2 22 rfl rfl)
theorem dX9_feed_71 : decode cX9_feed 71 = .ok (.goto 5, 3) := dk_167 0 5 (dk_at dksX9_feed_3 0 rfl rfl)
theorem dX9_feed_74 : decode cX9_feed 74 = .ok (.iload 5, 2) := dk_21 5 (dk_at dksX9_feed_3 3 rfl rfl)
theorem dX9_feed_76 : decode cX9_feed 76 = .ok (.istore 7, 2) := dk_54 7 (dk_at dksX9_feed_3 5 rfl rfl)
theorem dX9_feed_78 : decode cX9_feed 78 = .ok (.aload_n 0, 1) := dk_42 (dk_at dksX9_feed_3 7 rfl rfl)
theorem dX9_feed_79 : decode cX9_feed 79 = .ok (.getfield 20, 3) := dk_180 0 20 (dk_at dksX9_feed_3 8 rfl rfl)
theorem dX9_feed_82 : decode cX9_feed 82 = .ok (.aload_n 0, 1) := dk_42 (dk_at dksX9_feed_3 11 rfl rfl)
theorem dX9_feed_83 : decode cX9_feed 83 = .ok (.getfield 105, 3) := dk_180 0 105 (dk_at dksX9_feed_3 12 rfl rfl)
theorem dX9_feed_86 : decode cX9_feed 86 = .ok (.iload 7, 2) := dk_21 7 (dk_at dksX9_feed_3 15 rfl rfl)
theorem dX9_feed_88 : decode cX9_feed 88 = .ok (.bipush 24, 2) := dk_16 24 (dk_at dksX9_feed_3 17 rfl rfl)
theorem dX9_feed_90 : decode cX9_feed 90 = .ok (.bipush 8, 2) := dk_16 8 (dk_at dksX9_feed_3 19 rfl rfl)
theorem dX9_feed_92 : decode cX9_feed 92 = .ok (.iload 6, 2) := dk_21 6 (dk_at dksX9_feed_3 21 rfl rfl)
theorem dX9_feed_94 : decode cX9_feed 94 = .ok (.iconst 4, 1) := dk_7 (dk_at dksX9_feed_3 23 rfl rfl)
theorem dX9_feed_95 : decode cX9_feed 95 = .ok (.irem, 1) := dk_112 (dk_at dksX9_feed_4 0 rfl rfl)
theorem dX9_feed_96 : decode cX9_feed 96 = .ok (.imul, 1) := dk_104 (dk_at dksX9_feed_4 1 rfl rfl)
theorem dX9_feed_97 : decode cX9_feed 97 = .ok (.isub, 1) := dk_100 (dk_at dksX9_feed_4 2 rfl rfl)
theorem dX9_feed_98 : decode cX9_feed 98 = .ok (.ishr, 1) := dk_122 (dk_at dksX9_feed_4 3 rfl rfl)
theorem dX9_feed_99 : decode cX9_feed 99 = .ok (.sipush 255, 3) := dk_17 0 255 (dk_at dksX9_feed_4 4 rfl rfl)
theorem dX9_feed_102 : decode cX9_feed 102 = .ok (.iand, 1) := dk_126 (dk_at dksX9_feed_4 7 rfl rfl)
theorem dX9_feed_103 : decode cX9_feed 103 = .ok (.iastore, 1) := dk_79 (dk_at dksX9_feed_4 8 rfl rfl)
theorem dX9_feed_104 : decode cX9_feed 104 = .ok (.aload_n 0, 1) := dk_42 (dk_at dksX9_feed_4 9 rfl rfl)
theorem dX9_feed_105 : decode cX9_feed 105 = .ok (.dup, 1) := dk_89 (dk_at dksX9_feed_4 10 rfl rfl)
theorem dX9_feed_106 : decode cX9_feed 106 = .ok (.getfield 105, 3) := dk_180 0 105 (dk_at dksX9_feed_4 11 rfl rfl)
theorem dX9_feed_109 : decode cX9_feed 109 = .ok (.iconst 1, 1) := dk_4 (dk_at dksX9_feed_4 14 rfl rfl)
theorem dX9_feed_110 : decode cX9_feed 110 = .ok (.iadd, 1) := dk_96 (dk_at dksX9_feed_4 15 rfl rfl)
theorem dX9_feed_111 : decode cX9_feed 111 = .ok (.putfield 105, 3) := dk_181 0 105 (dk_at dksX9_feed_4 16 rfl rfl)
theorem dX9_feed_114 : decode cX9_feed 114 = .ok (.iinc 6 1, 3) := dk_132 6 1 (dk_at dksX9_feed_4 19 rfl rfl)
theorem dX9_feed_117 : decode cX9_feed 117 = .ok (.goto (-94), 3) := dk_167 255 162 (dk_at dksX9_feed_5 0 rfl rfl)
theorem dX9_feed_120 : decode cX9_feed 120 = .ok (.aload_n 0, 1) := dk_42 (dk_at dksX9_feed_5 3 rfl rfl)
theorem dX9_feed_121 : decode cX9_feed 121 = .ok (.getfield 105, 3) := dk_180 0 105 (dk_at dksX9_feed_5 4 rfl rfl)
theorem dX9_feed_124 : decode cX9_feed 124 = .ok (.ireturn, 1) := dk_172 (dk_at dksX9_feed_5 7 rfl rfl)
abbrev cX9_fault : ByteArray := prog_28_method_19_code
def yX9_fault : MethodName := ⟨RX9, "fault", "()I"⟩
def dkwX9_fault_0 : List UInt8 := [42, 3, 181, 0, 3, 42, 180, 0, 17, 172]
abbrev dktX9_fault_0 : List UInt8 := dkwX9_fault_0 ++ []
theorem dksX9_fault_0 : cX9_fault.data.toList.drop 0 = dktX9_fault_0 := by decide +kernel
theorem dX9_fault_0 : decode cX9_fault 0 = .ok (.aload_n 0, 1) := dk_42 (dk_at dksX9_fault_0 0 rfl rfl)
theorem dX9_fault_1 : decode cX9_fault 1 = .ok (.iconst 0, 1) := dk_3 (dk_at dksX9_fault_0 1 rfl rfl)
theorem dX9_fault_2 : decode cX9_fault 2 = .ok (.putfield 3, 3) := dk_181 0 3 (dk_at dksX9_fault_0 2 rfl rfl)
theorem dX9_fault_5 : decode cX9_fault 5 = .ok (.aload_n 0, 1) := dk_42 (dk_at dksX9_fault_0 5 rfl rfl)
theorem dX9_fault_6 : decode cX9_fault 6 = .ok (.getfield 17, 3) := dk_180 0 17 (dk_at dksX9_fault_0 6 rfl rfl)
theorem dX9_fault_9 : decode cX9_fault 9 = .ok (.ireturn, 1) := dk_172 (dk_at dksX9_fault_0 9 rfl rfl)
abbrev cX9_office : ByteArray := prog_28_method_27_code
def yX9_office : MethodName := ⟨RX9, "office", "(I)I"⟩
def dkwX9_office_8 : List UInt8 := [180, 0, 154, 182, 0, 236, 62, 42, 180, 0, 108, 2, 160, 0, 7, 42, 182, 0, 102, 29, 172]
abbrev dktX9_office_8 : List UInt8 := dkwX9_office_8 ++ []
def dkwX9_office_7 : List UInt8 := [182, 0, 227, 42, 29, 182, 0, 230, 42, 16, 59, 182, 0, 233, 132, 2, 1, 167, 255, 119, 42, 42]
abbrev dktX9_office_7 : List UInt8 := dkwX9_office_7 ++ dktX9_office_8
def dkwX9_office_6 : List UInt8 := [158, 0, 12, 42, 7, 42, 180, 0, 114, 182, 0, 144, 42, 182, 0, 137, 154, 0, 6, 167, 0, 24, 42]
abbrev dktX9_office_6 : List UInt8 := dkwX9_office_6 ++ dktX9_office_7
def dkwX9_office_5 : List UInt8 := [160, 0, 15, 42, 6, 42, 180, 0, 114, 182, 0, 144, 167, 0, 22, 29, 16, 249, 160, 0, 16, 28]
abbrev dktX9_office_5 : List UInt8 := dkwX9_office_5 ++ dktX9_office_6
def dkwX9_office_4 : List UInt8 := [42, 180, 0, 151, 16, 6, 159, 0, 21, 29, 18, 211, 184, 0, 182, 160, 0, 24, 42, 180, 0, 154, 16, 24]
abbrev dktX9_office_4 : List UInt8 := dkwX9_office_4 ++ dktX9_office_5
def dkwX9_office_3 : List UInt8 := [180, 0, 114, 182, 0, 144, 167, 0, 76, 28, 16, 60, 159, 0, 39, 29, 18, 196, 184, 0, 182, 160, 0, 12]
abbrev dktX9_office_3 : List UInt8 := dkwX9_office_3 ++ dktX9_office_4
def dkwX9_office_2 : List UInt8 := [153, 0, 136, 42, 182, 0, 221, 153, 0, 129, 42, 182, 0, 224, 62, 29, 2, 160, 0, 15, 42, 4, 42]
abbrev dktX9_office_2 : List UInt8 := dkwX9_office_2 ++ dktX9_office_3
def dkwX9_office_1 : List UInt8 := [4, 182, 0, 213, 154, 0, 5, 3, 172, 42, 27, 182, 0, 217, 42, 182, 0, 99, 3, 61, 42, 182, 0, 137]
abbrev dktX9_office_1 : List UInt8 := dkwX9_office_1 ++ dktX9_office_2
def dkwX9_office_0 : List UInt8 := [42, 3, 181, 0, 3, 42, 27, 155, 0, 15, 27, 42, 180, 0, 105, 163, 0, 7, 4, 167, 0, 4, 3, 4]
abbrev dktX9_office_0 : List UInt8 := dkwX9_office_0 ++ dktX9_office_1
theorem dksX9_office_0 : cX9_office.data.toList.drop 0 = dktX9_office_0 := by decide +kernel
theorem dksX9_office_1 : cX9_office.data.toList.drop 24 = dktX9_office_1 := dk_seg dksX9_office_0 24 rfl rfl
theorem dksX9_office_2 : cX9_office.data.toList.drop 48 = dktX9_office_2 := dk_seg dksX9_office_1 24 rfl rfl
theorem dksX9_office_3 : cX9_office.data.toList.drop 71 = dktX9_office_3 := dk_seg dksX9_office_2 23 rfl rfl
theorem dksX9_office_4 : cX9_office.data.toList.drop 95 = dktX9_office_4 := dk_seg dksX9_office_3 24 rfl rfl
theorem dksX9_office_5 : cX9_office.data.toList.drop 119 = dktX9_office_5 := dk_seg dksX9_office_4 24 rfl rfl
theorem dksX9_office_6 : cX9_office.data.toList.drop 141 = dktX9_office_6 := dk_seg dksX9_office_5 22 rfl rfl
theorem dksX9_office_7 : cX9_office.data.toList.drop 164 = dktX9_office_7 := dk_seg dksX9_office_6 23 rfl rfl
theorem dksX9_office_8 : cX9_office.data.toList.drop 186 = dktX9_office_8 := dk_seg dksX9_office_7 22 rfl rfl
theorem dX9_office_0 : decode cX9_office 0 = .ok (.aload_n 0, 1) := dk_42 (dk_at dksX9_office_0 0 rfl rfl)
theorem dX9_office_1 : decode cX9_office 1 = .ok (.iconst 0, 1) := dk_3 (dk_at dksX9_office_0 1 rfl rfl)
theorem dX9_office_2 : decode cX9_office 2 = .ok (.putfield 3, 3) := dk_181 0 3 (dk_at dksX9_office_0 2 rfl rfl)
theorem dX9_office_5 : decode cX9_office 5 = .ok (.aload_n 0, 1) := dk_42 (dk_at dksX9_office_0 5 rfl rfl)
theorem dX9_office_6 : decode cX9_office 6 = .ok (.iload_n 1, 1) := dk_27 (dk_at dksX9_office_0 6 rfl rfl)
theorem dX9_office_7 : decode cX9_office 7 = .ok (.ifCond .lt 15, 3) := dk_155 0 15 (dk_at dksX9_office_0 7 rfl rfl)
theorem dX9_office_10 : decode cX9_office 10 = .ok (.iload_n 1, 1) := dk_27 (dk_at dksX9_office_0 10 rfl rfl)
theorem dX9_office_11 : decode cX9_office 11 = .ok (.aload_n 0, 1) := dk_42 (dk_at dksX9_office_0 11 rfl rfl)
theorem dX9_office_12 : decode cX9_office 12 = .ok (.getfield 105, 3) := dk_180 0 105 (dk_at dksX9_office_0 12 rfl rfl)
theorem dX9_office_15 : decode cX9_office 15 = .ok (.if_icmp .gt 7, 3) := dk_163 0 7 (dk_at dksX9_office_0 15 rfl rfl)
theorem dX9_office_18 : decode cX9_office 18 = .ok (.iconst 1, 1) := dk_4 (dk_at dksX9_office_0 18 rfl rfl)
theorem dX9_office_19 : decode cX9_office 19 = .ok (.goto 4, 3) := dk_167 0 4 (dk_at dksX9_office_0 19 rfl rfl)
theorem dX9_office_22 : decode cX9_office 22 = .ok (.iconst 0, 1) := dk_3 (dk_at dksX9_office_0 22 rfl rfl)
theorem dX9_office_23 : decode cX9_office 23 = .ok (.iconst 1, 1) := dk_4 (dk_at dksX9_office_0 23 rfl rfl)
theorem dX9_office_24 : decode cX9_office 24 = .ok (.iconst 1, 1) := dk_4 (dk_at dksX9_office_1 0 rfl rfl)
theorem dX9_office_25 : decode cX9_office 25 = .ok (.invokevirtual 213, 3) := dk_182 0 213 (dk_at dksX9_office_1 1 rfl rfl)
theorem dX9_office_28 : decode cX9_office 28 = .ok (.ifCond .ne 5, 3) := dk_154 0 5 (dk_at dksX9_office_1 4 rfl rfl)
theorem dX9_office_31 : decode cX9_office 31 = .ok (.iconst 0, 1) := dk_3 (dk_at dksX9_office_1 7 rfl rfl)
theorem dX9_office_32 : decode cX9_office 32 = .ok (.ireturn, 1) := dk_172 (dk_at dksX9_office_1 8 rfl rfl)
theorem dX9_office_33 : decode cX9_office 33 = .ok (.aload_n 0, 1) := dk_42 (dk_at dksX9_office_1 9 rfl rfl)
theorem dX9_office_34 : decode cX9_office 34 = .ok (.iload_n 1, 1) := dk_27 (dk_at dksX9_office_1 10 rfl rfl)
theorem dX9_office_35 : decode cX9_office 35 = .ok (.invokevirtual 217, 3) := dk_182 0 217 (dk_at dksX9_office_1 11 rfl rfl)
theorem dX9_office_38 : decode cX9_office 38 = .ok (.aload_n 0, 1) := dk_42 (dk_at dksX9_office_1 14 rfl rfl)
theorem dX9_office_39 : decode cX9_office 39 = .ok (.invokevirtual 99, 3) := dk_182 0 99 (dk_at dksX9_office_1 15 rfl rfl)
theorem dX9_office_42 : decode cX9_office 42 = .ok (.iconst 0, 1) := dk_3 (dk_at dksX9_office_1 18 rfl rfl)
theorem dX9_office_43 : decode cX9_office 43 = .ok (.istore_n 2, 1) := dk_61 (dk_at dksX9_office_1 19 rfl rfl)
theorem dX9_office_44 : decode cX9_office 44 = .ok (.aload_n 0, 1) := dk_42 (dk_at dksX9_office_1 20 rfl rfl)
theorem dX9_office_45 : decode cX9_office 45 = .ok (.invokevirtual 137, 3) := dk_182 0 137 (dk_at dksX9_office_1 21 rfl rfl)
theorem dX9_office_48 : decode cX9_office 48 = .ok (.ifCond .eq 136, 3) := dk_153 0 136 (dk_at dksX9_office_2 0 rfl rfl)
theorem dX9_office_51 : decode cX9_office 51 = .ok (.aload_n 0, 1) := dk_42 (dk_at dksX9_office_2 3 rfl rfl)
theorem dX9_office_52 : decode cX9_office 52 = .ok (.invokevirtual 221, 3) := dk_182 0 221 (dk_at dksX9_office_2 4 rfl rfl)
theorem dX9_office_55 : decode cX9_office 55 = .ok (.ifCond .eq 129, 3) := dk_153 0 129 (dk_at dksX9_office_2 7 rfl rfl)
theorem dX9_office_58 : decode cX9_office 58 = .ok (.aload_n 0, 1) := dk_42 (dk_at dksX9_office_2 10 rfl rfl)
theorem dX9_office_59 : decode cX9_office 59 = .ok (.invokevirtual 224, 3) := dk_182 0 224 (dk_at dksX9_office_2 11 rfl rfl)
theorem dX9_office_62 : decode cX9_office 62 = .ok (.istore_n 3, 1) := dk_62 (dk_at dksX9_office_2 14 rfl rfl)
theorem dX9_office_63 : decode cX9_office 63 = .ok (.iload_n 3, 1) := dk_29 (dk_at dksX9_office_2 15 rfl rfl)
theorem dX9_office_64 : decode cX9_office 64 = .ok (.iconst (-1), 1) := dk_2 (dk_at dksX9_office_2 16 rfl rfl)
theorem dX9_office_65 : decode cX9_office 65 = .ok (.if_icmp .ne 15, 3) := dk_160 0 15 (dk_at dksX9_office_2 17 rfl rfl)
theorem dX9_office_68 : decode cX9_office 68 = .ok (.aload_n 0, 1) := dk_42 (dk_at dksX9_office_2 20 rfl rfl)
theorem dX9_office_69 : decode cX9_office 69 = .ok (.iconst 1, 1) := dk_4 (dk_at dksX9_office_2 21 rfl rfl)
theorem dX9_office_70 : decode cX9_office 70 = .ok (.aload_n 0, 1) := dk_42 (dk_at dksX9_office_2 22 rfl rfl)
theorem dX9_office_71 : decode cX9_office 71 = .ok (.getfield 114, 3) := dk_180 0 114 (dk_at dksX9_office_3 0 rfl rfl)
theorem dX9_office_74 : decode cX9_office 74 = .ok (.invokevirtual 144, 3) := dk_182 0 144 (dk_at dksX9_office_3 3 rfl rfl)
theorem dX9_office_77 : decode cX9_office 77 = .ok (.goto 76, 3) := dk_167 0 76 (dk_at dksX9_office_3 6 rfl rfl)
theorem dX9_office_80 : decode cX9_office 80 = .ok (.iload_n 2, 1) := dk_28 (dk_at dksX9_office_3 9 rfl rfl)
theorem dX9_office_81 : decode cX9_office 81 = .ok (.bipush 60, 2) := dk_16 60 (dk_at dksX9_office_3 10 rfl rfl)
theorem dX9_office_83 : decode cX9_office 83 = .ok (.if_icmp .eq 39, 3) := dk_159 0 39 (dk_at dksX9_office_3 12 rfl rfl)
theorem dX9_office_86 : decode cX9_office 86 = .ok (.iload_n 3, 1) := dk_29 (dk_at dksX9_office_3 15 rfl rfl)
theorem dX9_office_87 : decode cX9_office 87 = .ok (.ldc 196, 2) := dk_18 196 (dk_at dksX9_office_3 16 rfl rfl)
theorem dX9_office_89 : decode cX9_office 89 = .ok (.invokestatic 182, 3) := dk_184 0 182 (dk_at dksX9_office_3 18 rfl rfl)
theorem dX9_office_92 : decode cX9_office 92 = .ok (.if_icmp .ne 12, 3) := dk_160 0 12 (dk_at dksX9_office_3 21 rfl rfl)
theorem dX9_office_95 : decode cX9_office 95 = .ok (.aload_n 0, 1) := dk_42 (dk_at dksX9_office_4 0 rfl rfl)
theorem dX9_office_96 : decode cX9_office 96 = .ok (.getfield 151, 3) := dk_180 0 151 (dk_at dksX9_office_4 1 rfl rfl)
theorem dX9_office_99 : decode cX9_office 99 = .ok (.bipush 6, 2) := dk_16 6 (dk_at dksX9_office_4 4 rfl rfl)
theorem dX9_office_101 : decode cX9_office 101 = .ok (.if_icmp .eq 21, 3) := dk_159 0 21 (dk_at dksX9_office_4 6 rfl rfl)
theorem dX9_office_104 : decode cX9_office 104 = .ok (.iload_n 3, 1) := dk_29 (dk_at dksX9_office_4 9 rfl rfl)
theorem dX9_office_105 : decode cX9_office 105 = .ok (.ldc 211, 2) := dk_18 211 (dk_at dksX9_office_4 10 rfl rfl)
theorem dX9_office_107 : decode cX9_office 107 = .ok (.invokestatic 182, 3) := dk_184 0 182 (dk_at dksX9_office_4 12 rfl rfl)
theorem dX9_office_110 : decode cX9_office 110 = .ok (.if_icmp .ne 24, 3) := dk_160 0 24 (dk_at dksX9_office_4 15 rfl rfl)
theorem dX9_office_113 : decode cX9_office 113 = .ok (.aload_n 0, 1) := dk_42 (dk_at dksX9_office_4 18 rfl rfl)
theorem dX9_office_114 : decode cX9_office 114 = .ok (.getfield 154, 3) := dk_180 0 154 (dk_at dksX9_office_4 19 rfl rfl)
theorem dX9_office_117 : decode cX9_office 117 = .ok (.bipush 24, 2) := dk_16 24 (dk_at dksX9_office_4 22 rfl rfl)
theorem dX9_office_119 : decode cX9_office 119 = .ok (.if_icmp .ne 15, 3) := dk_160 0 15 (dk_at dksX9_office_5 0 rfl rfl)
theorem dX9_office_122 : decode cX9_office 122 = .ok (.aload_n 0, 1) := dk_42 (dk_at dksX9_office_5 3 rfl rfl)
theorem dX9_office_123 : decode cX9_office 123 = .ok (.iconst 3, 1) := dk_6 (dk_at dksX9_office_5 4 rfl rfl)
theorem dX9_office_124 : decode cX9_office 124 = .ok (.aload_n 0, 1) := dk_42 (dk_at dksX9_office_5 5 rfl rfl)
theorem dX9_office_125 : decode cX9_office 125 = .ok (.getfield 114, 3) := dk_180 0 114 (dk_at dksX9_office_5 6 rfl rfl)
theorem dX9_office_128 : decode cX9_office 128 = .ok (.invokevirtual 144, 3) := dk_182 0 144 (dk_at dksX9_office_5 9 rfl rfl)
theorem dX9_office_131 : decode cX9_office 131 = .ok (.goto 22, 3) := dk_167 0 22 (dk_at dksX9_office_5 12 rfl rfl)
theorem dX9_office_134 : decode cX9_office 134 = .ok (.iload_n 3, 1) := dk_29 (dk_at dksX9_office_5 15 rfl rfl)
theorem dX9_office_135 : decode cX9_office 135 = .ok (.bipush (-7), 2) := dk_16 249 (dk_at dksX9_office_5 16 rfl rfl)
theorem dX9_office_137 : decode cX9_office 137 = .ok (.if_icmp .ne 16, 3) := dk_160 0 16 (dk_at dksX9_office_5 18 rfl rfl)
theorem dX9_office_140 : decode cX9_office 140 = .ok (.iload_n 2, 1) := dk_28 (dk_at dksX9_office_5 21 rfl rfl)
theorem dX9_office_141 : decode cX9_office 141 = .ok (.ifCond .le 12, 3) := dk_158 0 12 (dk_at dksX9_office_6 0 rfl rfl)
theorem dX9_office_144 : decode cX9_office 144 = .ok (.aload_n 0, 1) := dk_42 (dk_at dksX9_office_6 3 rfl rfl)
theorem dX9_office_145 : decode cX9_office 145 = .ok (.iconst 4, 1) := dk_7 (dk_at dksX9_office_6 4 rfl rfl)
theorem dX9_office_146 : decode cX9_office 146 = .ok (.aload_n 0, 1) := dk_42 (dk_at dksX9_office_6 5 rfl rfl)
theorem dX9_office_147 : decode cX9_office 147 = .ok (.getfield 114, 3) := dk_180 0 114 (dk_at dksX9_office_6 6 rfl rfl)
theorem dX9_office_150 : decode cX9_office 150 = .ok (.invokevirtual 144, 3) := dk_182 0 144 (dk_at dksX9_office_6 9 rfl rfl)
theorem dX9_office_153 : decode cX9_office 153 = .ok (.aload_n 0, 1) := dk_42 (dk_at dksX9_office_6 12 rfl rfl)
theorem dX9_office_154 : decode cX9_office 154 = .ok (.invokevirtual 137, 3) := dk_182 0 137 (dk_at dksX9_office_6 13 rfl rfl)
theorem dX9_office_157 : decode cX9_office 157 = .ok (.ifCond .ne 6, 3) := dk_154 0 6 (dk_at dksX9_office_6 16 rfl rfl)
theorem dX9_office_160 : decode cX9_office 160 = .ok (.goto 24, 3) := dk_167 0 24 (dk_at dksX9_office_6 19 rfl rfl)
theorem dX9_office_163 : decode cX9_office 163 = .ok (.aload_n 0, 1) := dk_42 (dk_at dksX9_office_6 22 rfl rfl)
theorem dX9_office_164 : decode cX9_office 164 = .ok (.invokevirtual 227, 3) := dk_182 0 227 (dk_at dksX9_office_7 0 rfl rfl)
theorem dX9_office_167 : decode cX9_office 167 = .ok (.aload_n 0, 1) := dk_42 (dk_at dksX9_office_7 3 rfl rfl)
theorem dX9_office_168 : decode cX9_office 168 = .ok (.iload_n 3, 1) := dk_29 (dk_at dksX9_office_7 4 rfl rfl)
theorem dX9_office_169 : decode cX9_office 169 = .ok (.invokevirtual 230, 3) := dk_182 0 230 (dk_at dksX9_office_7 5 rfl rfl)
theorem dX9_office_172 : decode cX9_office 172 = .ok (.aload_n 0, 1) := dk_42 (dk_at dksX9_office_7 8 rfl rfl)
theorem dX9_office_173 : decode cX9_office 173 = .ok (.bipush 59, 2) := dk_16 59 (dk_at dksX9_office_7 9 rfl rfl)
theorem dX9_office_175 : decode cX9_office 175 = .ok (.invokevirtual 233, 3) := dk_182 0 233 (dk_at dksX9_office_7 11 rfl rfl)
theorem dX9_office_178 : decode cX9_office 178 = .ok (.iinc 2 1, 3) := dk_132 2 1 (dk_at dksX9_office_7 14 rfl rfl)
theorem dX9_office_181 : decode cX9_office 181 = .ok (.goto (-137), 3) := dk_167 255 119 (dk_at dksX9_office_7 17 rfl rfl)
theorem dX9_office_184 : decode cX9_office 184 = .ok (.aload_n 0, 1) := dk_42 (dk_at dksX9_office_7 20 rfl rfl)
theorem dX9_office_185 : decode cX9_office 185 = .ok (.aload_n 0, 1) := dk_42 (dk_at dksX9_office_7 21 rfl rfl)
theorem dX9_office_186 : decode cX9_office 186 = .ok (.getfield 154, 3) := dk_180 0 154 (dk_at dksX9_office_8 0 rfl rfl)
theorem dX9_office_189 : decode cX9_office 189 = .ok (.invokevirtual 236, 3) := dk_182 0 236 (dk_at dksX9_office_8 3 rfl rfl)
theorem dX9_office_192 : decode cX9_office 192 = .ok (.istore_n 3, 1) := dk_62 (dk_at dksX9_office_8 6 rfl rfl)
theorem dX9_office_193 : decode cX9_office 193 = .ok (.aload_n 0, 1) := dk_42 (dk_at dksX9_office_8 7 rfl rfl)
theorem dX9_office_194 : decode cX9_office 194 = .ok (.getfield 108, 3) := dk_180 0 108 (dk_at dksX9_office_8 8 rfl rfl)
theorem dX9_office_197 : decode cX9_office 197 = .ok (.iconst (-1), 1) := dk_2 (dk_at dksX9_office_8 11 rfl rfl)
theorem dX9_office_198 : decode cX9_office 198 = .ok (.if_icmp .ne 7, 3) := dk_160 0 7 (dk_at dksX9_office_8 12 rfl rfl)
theorem dX9_office_201 : decode cX9_office 201 = .ok (.aload_n 0, 1) := dk_42 (dk_at dksX9_office_8 15 rfl rfl)
theorem dX9_office_202 : decode cX9_office 202 = .ok (.invokevirtual 102, 3) := dk_182 0 102 (dk_at dksX9_office_8 16 rfl rfl)
theorem dX9_office_205 : decode cX9_office 205 = .ok (.iload_n 3, 1) := dk_29 (dk_at dksX9_office_8 19 rfl rfl)
theorem dX9_office_206 : decode cX9_office 206 = .ok (.ireturn, 1) := dk_172 (dk_at dksX9_office_8 20 rfl rfl)
abbrev cX9_may : ByteArray := prog_28_method_2_code
def yX9_may : MethodName := ⟨RX9, "may", "(ZII)Z"⟩
def dkwX9_may_1 : List UInt8 := [96, 79, 42, 180, 0, 3, 154, 0, 7, 4, 167, 0, 4, 3, 172]
abbrev dktX9_may_1 : List UInt8 := dkwX9_may_1 ++ []
def dkwX9_may_0 : List UInt8 := [27, 154, 0, 25, 42, 180, 0, 3, 154, 0, 18, 42, 28, 181, 0, 3, 42, 180, 0, 7, 29, 92, 46, 4]
abbrev dktX9_may_0 : List UInt8 := dkwX9_may_0 ++ dktX9_may_1
theorem dksX9_may_0 : cX9_may.data.toList.drop 0 = dktX9_may_0 := by decide +kernel
theorem dksX9_may_1 : cX9_may.data.toList.drop 24 = dktX9_may_1 := dk_seg dksX9_may_0 24 rfl rfl
theorem dX9_may_0 : decode cX9_may 0 = .ok (.iload_n 1, 1) := dk_27 (dk_at dksX9_may_0 0 rfl rfl)
theorem dX9_may_1 : decode cX9_may 1 = .ok (.ifCond .ne 25, 3) := dk_154 0 25 (dk_at dksX9_may_0 1 rfl rfl)
theorem dX9_may_4 : decode cX9_may 4 = .ok (.aload_n 0, 1) := dk_42 (dk_at dksX9_may_0 4 rfl rfl)
theorem dX9_may_5 : decode cX9_may 5 = .ok (.getfield 3, 3) := dk_180 0 3 (dk_at dksX9_may_0 5 rfl rfl)
theorem dX9_may_8 : decode cX9_may 8 = .ok (.ifCond .ne 18, 3) := dk_154 0 18 (dk_at dksX9_may_0 8 rfl rfl)
theorem dX9_may_11 : decode cX9_may 11 = .ok (.aload_n 0, 1) := dk_42 (dk_at dksX9_may_0 11 rfl rfl)
theorem dX9_may_12 : decode cX9_may 12 = .ok (.iload_n 2, 1) := dk_28 (dk_at dksX9_may_0 12 rfl rfl)
theorem dX9_may_13 : decode cX9_may 13 = .ok (.putfield 3, 3) := dk_181 0 3 (dk_at dksX9_may_0 13 rfl rfl)
theorem dX9_may_16 : decode cX9_may 16 = .ok (.aload_n 0, 1) := dk_42 (dk_at dksX9_may_0 16 rfl rfl)
theorem dX9_may_17 : decode cX9_may 17 = .ok (.getfield 7, 3) := dk_180 0 7 (dk_at dksX9_may_0 17 rfl rfl)
theorem dX9_may_20 : decode cX9_may 20 = .ok (.iload_n 3, 1) := dk_29 (dk_at dksX9_may_0 20 rfl rfl)
theorem dX9_may_21 : decode cX9_may 21 = .ok (.dup2, 1) := dk_92 (dk_at dksX9_may_0 21 rfl rfl)
theorem dX9_may_22 : decode cX9_may 22 = .ok (.iaload, 1) := dk_46 (dk_at dksX9_may_0 22 rfl rfl)
theorem dX9_may_23 : decode cX9_may 23 = .ok (.iconst 1, 1) := dk_4 (dk_at dksX9_may_0 23 rfl rfl)
theorem dX9_may_24 : decode cX9_may 24 = .ok (.iadd, 1) := dk_96 (dk_at dksX9_may_1 0 rfl rfl)
theorem dX9_may_25 : decode cX9_may 25 = .ok (.iastore, 1) := dk_79 (dk_at dksX9_may_1 1 rfl rfl)
theorem dX9_may_26 : decode cX9_may 26 = .ok (.aload_n 0, 1) := dk_42 (dk_at dksX9_may_1 2 rfl rfl)
theorem dX9_may_27 : decode cX9_may 27 = .ok (.getfield 3, 3) := dk_180 0 3 (dk_at dksX9_may_1 3 rfl rfl)
theorem dX9_may_30 : decode cX9_may 30 = .ok (.ifCond .ne 7, 3) := dk_154 0 7 (dk_at dksX9_may_1 6 rfl rfl)
theorem dX9_may_33 : decode cX9_may 33 = .ok (.iconst 1, 1) := dk_4 (dk_at dksX9_may_1 9 rfl rfl)
theorem dX9_may_34 : decode cX9_may 34 = .ok (.goto 4, 3) := dk_167 0 4 (dk_at dksX9_may_1 10 rfl rfl)
theorem dX9_may_37 : decode cX9_may 37 = .ok (.iconst 0, 1) := dk_3 (dk_at dksX9_may_1 13 rfl rfl)
theorem dX9_may_38 : decode cX9_may 38 = .ok (.ireturn, 1) := dk_172 (dk_at dksX9_may_1 14 rfl rfl)
abbrev cX9_begins : ByteArray := prog_28_method_17_code
def yX9_begins : MethodName := ⟨RX9, "begins", "(I)V"⟩
def dkwX9_begins_1 : List UInt8 := [181, 0, 108, 42, 3, 181, 0, 148, 177]
abbrev dktX9_begins_1 : List UInt8 := dkwX9_begins_1 ++ []
def dkwX9_begins_0 : List UInt8 := [42, 3, 181, 0, 105, 42, 2, 181, 0, 17, 42, 27, 181, 0, 117, 42, 3, 181, 0, 114, 42, 2]
abbrev dktX9_begins_0 : List UInt8 := dkwX9_begins_0 ++ dktX9_begins_1
theorem dksX9_begins_0 : cX9_begins.data.toList.drop 0 = dktX9_begins_0 := by decide +kernel
theorem dksX9_begins_1 : cX9_begins.data.toList.drop 22 = dktX9_begins_1 := dk_seg dksX9_begins_0 22 rfl rfl
theorem dX9_begins_0 : decode cX9_begins 0 = .ok (.aload_n 0, 1) := dk_42 (dk_at dksX9_begins_0 0 rfl rfl)
theorem dX9_begins_1 : decode cX9_begins 1 = .ok (.iconst 0, 1) := dk_3 (dk_at dksX9_begins_0 1 rfl rfl)
theorem dX9_begins_2 : decode cX9_begins 2 = .ok (.putfield 105, 3) := dk_181 0 105 (dk_at dksX9_begins_0 2 rfl rfl)
theorem dX9_begins_5 : decode cX9_begins 5 = .ok (.aload_n 0, 1) := dk_42 (dk_at dksX9_begins_0 5 rfl rfl)
theorem dX9_begins_6 : decode cX9_begins 6 = .ok (.iconst (-1), 1) := dk_2 (dk_at dksX9_begins_0 6 rfl rfl)
theorem dX9_begins_7 : decode cX9_begins 7 = .ok (.putfield 17, 3) := dk_181 0 17 (dk_at dksX9_begins_0 7 rfl rfl)
theorem dX9_begins_10 : decode cX9_begins 10 = .ok (.aload_n 0, 1) := dk_42 (dk_at dksX9_begins_0 10 rfl rfl)
theorem dX9_begins_11 : decode cX9_begins 11 = .ok (.iload_n 1, 1) := dk_27 (dk_at dksX9_begins_0 11 rfl rfl)
theorem dX9_begins_12 : decode cX9_begins 12 = .ok (.putfield 117, 3) := dk_181 0 117 (dk_at dksX9_begins_0 12 rfl rfl)
theorem dX9_begins_15 : decode cX9_begins 15 = .ok (.aload_n 0, 1) := dk_42 (dk_at dksX9_begins_0 15 rfl rfl)
theorem dX9_begins_16 : decode cX9_begins 16 = .ok (.iconst 0, 1) := dk_3 (dk_at dksX9_begins_0 16 rfl rfl)
theorem dX9_begins_17 : decode cX9_begins 17 = .ok (.putfield 114, 3) := dk_181 0 114 (dk_at dksX9_begins_0 17 rfl rfl)
theorem dX9_begins_20 : decode cX9_begins 20 = .ok (.aload_n 0, 1) := dk_42 (dk_at dksX9_begins_0 20 rfl rfl)
theorem dX9_begins_21 : decode cX9_begins 21 = .ok (.iconst (-1), 1) := dk_2 (dk_at dksX9_begins_0 21 rfl rfl)
theorem dX9_begins_22 : decode cX9_begins 22 = .ok (.putfield 108, 3) := dk_181 0 108 (dk_at dksX9_begins_1 0 rfl rfl)
theorem dX9_begins_25 : decode cX9_begins 25 = .ok (.aload_n 0, 1) := dk_42 (dk_at dksX9_begins_1 3 rfl rfl)
theorem dX9_begins_26 : decode cX9_begins 26 = .ok (.iconst 0, 1) := dk_3 (dk_at dksX9_begins_1 4 rfl rfl)
theorem dX9_begins_27 : decode cX9_begins 27 = .ok (.putfield 148, 3) := dk_181 0 148 (dk_at dksX9_begins_1 5 rfl rfl)
theorem dX9_begins_30 : decode cX9_begins 30 = .ok (.return_, 1) := dk_177 (dk_at dksX9_begins_1 8 rfl rfl)
abbrev cX9_fine : ByteArray := prog_28_method_6_code
def yX9_fine : MethodName := ⟨RX9, "fine", "()Z"⟩
def dkwX9_fine_0 : List UInt8 := [42, 180, 0, 108, 2, 160, 0, 7, 4, 167, 0, 4, 3, 172]
abbrev dktX9_fine_0 : List UInt8 := dkwX9_fine_0 ++ []
theorem dksX9_fine_0 : cX9_fine.data.toList.drop 0 = dktX9_fine_0 := by decide +kernel
theorem dX9_fine_0 : decode cX9_fine 0 = .ok (.aload_n 0, 1) := dk_42 (dk_at dksX9_fine_0 0 rfl rfl)
theorem dX9_fine_1 : decode cX9_fine 1 = .ok (.getfield 108, 3) := dk_180 0 108 (dk_at dksX9_fine_0 1 rfl rfl)
theorem dX9_fine_4 : decode cX9_fine 4 = .ok (.iconst (-1), 1) := dk_2 (dk_at dksX9_fine_0 4 rfl rfl)
theorem dX9_fine_5 : decode cX9_fine 5 = .ok (.if_icmp .ne 7, 3) := dk_160 0 7 (dk_at dksX9_fine_0 5 rfl rfl)
theorem dX9_fine_8 : decode cX9_fine 8 = .ok (.iconst 1, 1) := dk_4 (dk_at dksX9_fine_0 8 rfl rfl)
theorem dX9_fine_9 : decode cX9_fine 9 = .ok (.goto 4, 3) := dk_167 0 4 (dk_at dksX9_fine_0 9 rfl rfl)
theorem dX9_fine_12 : decode cX9_fine 12 = .ok (.iconst 0, 1) := dk_3 (dk_at dksX9_fine_0 12 rfl rfl)
theorem dX9_fine_13 : decode cX9_fine 13 = .ok (.ireturn, 1) := dk_172 (dk_at dksX9_fine_0 13 rfl rfl)
abbrev cX9_isMore : ByteArray := prog_28_method_16_code
def yX9_isMore : MethodName := ⟨RX9, "isMore", "()Z"⟩
def dkwX9_isMore_0 : List UInt8 := [42, 182, 0, 120, 87, 42, 180, 0, 114, 42, 180, 0, 117, 162, 0, 7, 4, 167, 0, 4, 3, 172]
abbrev dktX9_isMore_0 : List UInt8 := dkwX9_isMore_0 ++ []
theorem dksX9_isMore_0 : cX9_isMore.data.toList.drop 0 = dktX9_isMore_0 := by decide +kernel
theorem dX9_isMore_0 : decode cX9_isMore 0 = .ok (.aload_n 0, 1) := dk_42 (dk_at dksX9_isMore_0 0 rfl rfl)
theorem dX9_isMore_1 : decode cX9_isMore 1 = .ok (.invokevirtual 120, 3) := dk_182 0 120 (dk_at dksX9_isMore_0 1 rfl rfl)
theorem dX9_isMore_4 : decode cX9_isMore 4 = .ok (.pop, 1) := dk_87 (dk_at dksX9_isMore_0 4 rfl rfl)
theorem dX9_isMore_5 : decode cX9_isMore 5 = .ok (.aload_n 0, 1) := dk_42 (dk_at dksX9_isMore_0 5 rfl rfl)
theorem dX9_isMore_6 : decode cX9_isMore 6 = .ok (.getfield 114, 3) := dk_180 0 114 (dk_at dksX9_isMore_0 6 rfl rfl)
theorem dX9_isMore_9 : decode cX9_isMore 9 = .ok (.aload_n 0, 1) := dk_42 (dk_at dksX9_isMore_0 9 rfl rfl)
theorem dX9_isMore_10 : decode cX9_isMore 10 = .ok (.getfield 117, 3) := dk_180 0 117 (dk_at dksX9_isMore_0 10 rfl rfl)
theorem dX9_isMore_13 : decode cX9_isMore 13 = .ok (.if_icmp .ge 7, 3) := dk_162 0 7 (dk_at dksX9_isMore_0 13 rfl rfl)
theorem dX9_isMore_16 : decode cX9_isMore 16 = .ok (.iconst 1, 1) := dk_4 (dk_at dksX9_isMore_0 16 rfl rfl)
theorem dX9_isMore_17 : decode cX9_isMore 17 = .ok (.goto 4, 3) := dk_167 0 4 (dk_at dksX9_isMore_0 17 rfl rfl)
theorem dX9_isMore_20 : decode cX9_isMore 20 = .ok (.iconst 0, 1) := dk_3 (dk_at dksX9_isMore_0 20 rfl rfl)
theorem dX9_isMore_21 : decode cX9_isMore 21 = .ok (.ireturn, 1) := dk_172 (dk_at dksX9_isMore_0 21 rfl rfl)
abbrev cX9_here : ByteArray := prog_28_method_8_code
def yX9_here : MethodName := ⟨RX9, "here", "()I"⟩
def dkwX9_here_2 : List UInt8 := [162, 0, 15, 42, 180, 0, 20, 42, 180, 0, 114, 46, 167, 0, 4, 3, 172]
abbrev dktX9_here_2 : List UInt8 := dkwX9_here_2 ++ []
def dkwX9_here_1 : List UInt8 := [160, 0, 16, 42, 89, 180, 0, 114, 4, 96, 181, 0, 114, 167, 255, 221, 42, 180, 0, 114, 42, 180, 0, 117]
abbrev dktX9_here_1 : List UInt8 := dkwX9_here_1 ++ dktX9_here_2
def dkwX9_here_0 : List UInt8 := [42, 180, 0, 114, 42, 180, 0, 117, 162, 0, 30, 42, 180, 0, 20, 42, 180, 0, 114, 46, 16, 32]
abbrev dktX9_here_0 : List UInt8 := dkwX9_here_0 ++ dktX9_here_1
theorem dksX9_here_0 : cX9_here.data.toList.drop 0 = dktX9_here_0 := by decide +kernel
theorem dksX9_here_1 : cX9_here.data.toList.drop 22 = dktX9_here_1 := dk_seg dksX9_here_0 22 rfl rfl
theorem dksX9_here_2 : cX9_here.data.toList.drop 46 = dktX9_here_2 := dk_seg dksX9_here_1 24 rfl rfl
theorem dX9_here_0 : decode cX9_here 0 = .ok (.aload_n 0, 1) := dk_42 (dk_at dksX9_here_0 0 rfl rfl)
theorem dX9_here_1 : decode cX9_here 1 = .ok (.getfield 114, 3) := dk_180 0 114 (dk_at dksX9_here_0 1 rfl rfl)
theorem dX9_here_4 : decode cX9_here 4 = .ok (.aload_n 0, 1) := dk_42 (dk_at dksX9_here_0 4 rfl rfl)
theorem dX9_here_5 : decode cX9_here 5 = .ok (.getfield 117, 3) := dk_180 0 117 (dk_at dksX9_here_0 5 rfl rfl)
theorem dX9_here_8 : decode cX9_here 8 = .ok (.if_icmp .ge 30, 3) := dk_162 0 30 (dk_at dksX9_here_0 8 rfl rfl)
theorem dX9_here_11 : decode cX9_here 11 = .ok (.aload_n 0, 1) := dk_42 (dk_at dksX9_here_0 11 rfl rfl)
theorem dX9_here_12 : decode cX9_here 12 = .ok (.getfield 20, 3) := dk_180 0 20 (dk_at dksX9_here_0 12 rfl rfl)
theorem dX9_here_15 : decode cX9_here 15 = .ok (.aload_n 0, 1) := dk_42 (dk_at dksX9_here_0 15 rfl rfl)
theorem dX9_here_16 : decode cX9_here 16 = .ok (.getfield 114, 3) := dk_180 0 114 (dk_at dksX9_here_0 16 rfl rfl)
theorem dX9_here_19 : decode cX9_here 19 = .ok (.iaload, 1) := dk_46 (dk_at dksX9_here_0 19 rfl rfl)
theorem dX9_here_20 : decode cX9_here 20 = .ok (.bipush 32, 2) := dk_16 32 (dk_at dksX9_here_0 20 rfl rfl)
theorem dX9_here_22 : decode cX9_here 22 = .ok (.if_icmp .ne 16, 3) := dk_160 0 16 (dk_at dksX9_here_1 0 rfl rfl)
theorem dX9_here_25 : decode cX9_here 25 = .ok (.aload_n 0, 1) := dk_42 (dk_at dksX9_here_1 3 rfl rfl)
theorem dX9_here_26 : decode cX9_here 26 = .ok (.dup, 1) := dk_89 (dk_at dksX9_here_1 4 rfl rfl)
theorem dX9_here_27 : decode cX9_here 27 = .ok (.getfield 114, 3) := dk_180 0 114 (dk_at dksX9_here_1 5 rfl rfl)
theorem dX9_here_30 : decode cX9_here 30 = .ok (.iconst 1, 1) := dk_4 (dk_at dksX9_here_1 8 rfl rfl)
theorem dX9_here_31 : decode cX9_here 31 = .ok (.iadd, 1) := dk_96 (dk_at dksX9_here_1 9 rfl rfl)
theorem dX9_here_32 : decode cX9_here 32 = .ok (.putfield 114, 3) := dk_181 0 114 (dk_at dksX9_here_1 10 rfl rfl)
theorem dX9_here_35 : decode cX9_here 35 = .ok (.goto (-35), 3) := dk_167 255 221 (dk_at dksX9_here_1 13 rfl rfl)
theorem dX9_here_38 : decode cX9_here 38 = .ok (.aload_n 0, 1) := dk_42 (dk_at dksX9_here_1 16 rfl rfl)
theorem dX9_here_39 : decode cX9_here 39 = .ok (.getfield 114, 3) := dk_180 0 114 (dk_at dksX9_here_1 17 rfl rfl)
theorem dX9_here_42 : decode cX9_here 42 = .ok (.aload_n 0, 1) := dk_42 (dk_at dksX9_here_1 20 rfl rfl)
theorem dX9_here_43 : decode cX9_here 43 = .ok (.getfield 117, 3) := dk_180 0 117 (dk_at dksX9_here_1 21 rfl rfl)
theorem dX9_here_46 : decode cX9_here 46 = .ok (.if_icmp .ge 15, 3) := dk_162 0 15 (dk_at dksX9_here_2 0 rfl rfl)
theorem dX9_here_49 : decode cX9_here 49 = .ok (.aload_n 0, 1) := dk_42 (dk_at dksX9_here_2 3 rfl rfl)
theorem dX9_here_50 : decode cX9_here 50 = .ok (.getfield 20, 3) := dk_180 0 20 (dk_at dksX9_here_2 4 rfl rfl)
theorem dX9_here_53 : decode cX9_here 53 = .ok (.aload_n 0, 1) := dk_42 (dk_at dksX9_here_2 7 rfl rfl)
theorem dX9_here_54 : decode cX9_here 54 = .ok (.getfield 114, 3) := dk_180 0 114 (dk_at dksX9_here_2 8 rfl rfl)
theorem dX9_here_57 : decode cX9_here 57 = .ok (.iaload, 1) := dk_46 (dk_at dksX9_here_2 11 rfl rfl)
theorem dX9_here_58 : decode cX9_here 58 = .ok (.goto 4, 3) := dk_167 0 4 (dk_at dksX9_here_2 12 rfl rfl)
theorem dX9_here_61 : decode cX9_here 61 = .ok (.iconst 0, 1) := dk_3 (dk_at dksX9_here_2 15 rfl rfl)
theorem dX9_here_62 : decode cX9_here 62 = .ok (.ireturn, 1) := dk_172 (dk_at dksX9_here_2 16 rfl rfl)
abbrev cX9_clauseHere : ByteArray := prog_28_method_26_code
def yX9_clauseHere : MethodName := ⟨RX9, "clauseHere", "()I"⟩
def dkwX9_clauseHere_3 : List UInt8 := [27, 18, 196, 184, 0, 182, 159, 0, 12, 27, 18, 211, 184, 0, 182, 160, 0, 7, 27, 167, 0, 4, 2, 172]
abbrev dktX9_clauseHere_3 : List UInt8 := dkwX9_clauseHere_3 ++ []
def dkwX9_clauseHere_2 : List UInt8 := [184, 0, 182, 159, 0, 39, 27, 18, 192, 184, 0, 182, 159, 0, 30, 27, 18, 194, 184, 0, 182, 159, 0, 21]
abbrev dktX9_clauseHere_2 : List UInt8 := dkwX9_clauseHere_2 ++ dktX9_clauseHere_3
def dkwX9_clauseHere_1 : List UInt8 := [159, 0, 66, 27, 18, 186, 184, 0, 182, 159, 0, 57, 27, 18, 188, 184, 0, 182, 159, 0, 48, 27, 18, 190]
abbrev dktX9_clauseHere_1 : List UInt8 := dkwX9_clauseHere_1 ++ dktX9_clauseHere_2
def dkwX9_clauseHere_0 : List UInt8 := [42, 18, 202, 182, 0, 204, 153, 0, 6, 16, 249, 172, 42, 182, 0, 208, 60, 27, 18, 180, 184, 0, 182]
abbrev dktX9_clauseHere_0 : List UInt8 := dkwX9_clauseHere_0 ++ dktX9_clauseHere_1
theorem dksX9_clauseHere_0 : cX9_clauseHere.data.toList.drop 0 = dktX9_clauseHere_0 := by decide +kernel
theorem dksX9_clauseHere_1 : cX9_clauseHere.data.toList.drop 23 = dktX9_clauseHere_1 := dk_seg dksX9_clauseHere_0 23 rfl rfl
theorem dksX9_clauseHere_2 : cX9_clauseHere.data.toList.drop 47 = dktX9_clauseHere_2 := dk_seg dksX9_clauseHere_1 24 rfl rfl
theorem dksX9_clauseHere_3 : cX9_clauseHere.data.toList.drop 71 = dktX9_clauseHere_3 := dk_seg dksX9_clauseHere_2 24 rfl rfl
theorem dX9_clauseHere_0 : decode cX9_clauseHere 0 = .ok (.aload_n 0, 1) := dk_42 (dk_at dksX9_clauseHere_0 0 rfl rfl)
theorem dX9_clauseHere_1 : decode cX9_clauseHere 1 = .ok (.ldc 202, 2) := dk_18 202 (dk_at dksX9_clauseHere_0 1 rfl rfl)
theorem dX9_clauseHere_3 : decode cX9_clauseHere 3 = .ok (.invokevirtual 204, 3) := dk_182 0 204 (dk_at dksX9_clauseHere_0 3 rfl rfl)
theorem dX9_clauseHere_6 : decode cX9_clauseHere 6 = .ok (.ifCond .eq 6, 3) := dk_153 0 6 (dk_at dksX9_clauseHere_0 6 rfl rfl)
theorem dX9_clauseHere_9 : decode cX9_clauseHere 9 = .ok (.bipush (-7), 2) := dk_16 249 (dk_at dksX9_clauseHere_0 9 rfl rfl)
theorem dX9_clauseHere_11 : decode cX9_clauseHere 11 = .ok (.ireturn, 1) := dk_172 (dk_at dksX9_clauseHere_0 11 rfl rfl)
theorem dX9_clauseHere_12 : decode cX9_clauseHere 12 = .ok (.aload_n 0, 1) := dk_42 (dk_at dksX9_clauseHere_0 12 rfl rfl)
theorem dX9_clauseHere_13 : decode cX9_clauseHere 13 = .ok (.invokevirtual 208, 3) := dk_182 0 208 (dk_at dksX9_clauseHere_0 13 rfl rfl)
theorem dX9_clauseHere_16 : decode cX9_clauseHere 16 = .ok (.istore_n 1, 1) := dk_60 (dk_at dksX9_clauseHere_0 16 rfl rfl)
theorem dX9_clauseHere_17 : decode cX9_clauseHere 17 = .ok (.iload_n 1, 1) := dk_27 (dk_at dksX9_clauseHere_0 17 rfl rfl)
theorem dX9_clauseHere_18 : decode cX9_clauseHere 18 = .ok (.ldc 180, 2) := dk_18 180 (dk_at dksX9_clauseHere_0 18 rfl rfl)
theorem dX9_clauseHere_20 : decode cX9_clauseHere 20 = .ok (.invokestatic 182, 3) := dk_184 0 182 (dk_at dksX9_clauseHere_0 20 rfl rfl)
theorem dX9_clauseHere_23 : decode cX9_clauseHere 23 = .ok (.if_icmp .eq 66, 3) := dk_159 0 66 (dk_at dksX9_clauseHere_1 0 rfl rfl)
theorem dX9_clauseHere_26 : decode cX9_clauseHere 26 = .ok (.iload_n 1, 1) := dk_27 (dk_at dksX9_clauseHere_1 3 rfl rfl)
theorem dX9_clauseHere_27 : decode cX9_clauseHere 27 = .ok (.ldc 186, 2) := dk_18 186 (dk_at dksX9_clauseHere_1 4 rfl rfl)
theorem dX9_clauseHere_29 : decode cX9_clauseHere 29 = .ok (.invokestatic 182, 3) := dk_184 0 182 (dk_at dksX9_clauseHere_1 6 rfl rfl)
theorem dX9_clauseHere_32 : decode cX9_clauseHere 32 = .ok (.if_icmp .eq 57, 3) := dk_159 0 57 (dk_at dksX9_clauseHere_1 9 rfl rfl)
theorem dX9_clauseHere_35 : decode cX9_clauseHere 35 = .ok (.iload_n 1, 1) := dk_27 (dk_at dksX9_clauseHere_1 12 rfl rfl)
theorem dX9_clauseHere_36 : decode cX9_clauseHere 36 = .ok (.ldc 188, 2) := dk_18 188 (dk_at dksX9_clauseHere_1 13 rfl rfl)
theorem dX9_clauseHere_38 : decode cX9_clauseHere 38 = .ok (.invokestatic 182, 3) := dk_184 0 182 (dk_at dksX9_clauseHere_1 15 rfl rfl)
theorem dX9_clauseHere_41 : decode cX9_clauseHere 41 = .ok (.if_icmp .eq 48, 3) := dk_159 0 48 (dk_at dksX9_clauseHere_1 18 rfl rfl)
theorem dX9_clauseHere_44 : decode cX9_clauseHere 44 = .ok (.iload_n 1, 1) := dk_27 (dk_at dksX9_clauseHere_1 21 rfl rfl)
theorem dX9_clauseHere_45 : decode cX9_clauseHere 45 = .ok (.ldc 190, 2) := dk_18 190 (dk_at dksX9_clauseHere_1 22 rfl rfl)
theorem dX9_clauseHere_47 : decode cX9_clauseHere 47 = .ok (.invokestatic 182, 3) := dk_184 0 182 (dk_at dksX9_clauseHere_2 0 rfl rfl)
theorem dX9_clauseHere_50 : decode cX9_clauseHere 50 = .ok (.if_icmp .eq 39, 3) := dk_159 0 39 (dk_at dksX9_clauseHere_2 3 rfl rfl)
theorem dX9_clauseHere_53 : decode cX9_clauseHere 53 = .ok (.iload_n 1, 1) := dk_27 (dk_at dksX9_clauseHere_2 6 rfl rfl)
theorem dX9_clauseHere_54 : decode cX9_clauseHere 54 = .ok (.ldc 192, 2) := dk_18 192 (dk_at dksX9_clauseHere_2 7 rfl rfl)
theorem dX9_clauseHere_56 : decode cX9_clauseHere 56 = .ok (.invokestatic 182, 3) := dk_184 0 182 (dk_at dksX9_clauseHere_2 9 rfl rfl)
theorem dX9_clauseHere_59 : decode cX9_clauseHere 59 = .ok (.if_icmp .eq 30, 3) := dk_159 0 30 (dk_at dksX9_clauseHere_2 12 rfl rfl)
theorem dX9_clauseHere_62 : decode cX9_clauseHere 62 = .ok (.iload_n 1, 1) := dk_27 (dk_at dksX9_clauseHere_2 15 rfl rfl)
theorem dX9_clauseHere_63 : decode cX9_clauseHere 63 = .ok (.ldc 194, 2) := dk_18 194 (dk_at dksX9_clauseHere_2 16 rfl rfl)
theorem dX9_clauseHere_65 : decode cX9_clauseHere 65 = .ok (.invokestatic 182, 3) := dk_184 0 182 (dk_at dksX9_clauseHere_2 18 rfl rfl)
theorem dX9_clauseHere_68 : decode cX9_clauseHere 68 = .ok (.if_icmp .eq 21, 3) := dk_159 0 21 (dk_at dksX9_clauseHere_2 21 rfl rfl)
theorem dX9_clauseHere_71 : decode cX9_clauseHere 71 = .ok (.iload_n 1, 1) := dk_27 (dk_at dksX9_clauseHere_3 0 rfl rfl)
theorem dX9_clauseHere_72 : decode cX9_clauseHere 72 = .ok (.ldc 196, 2) := dk_18 196 (dk_at dksX9_clauseHere_3 1 rfl rfl)
theorem dX9_clauseHere_74 : decode cX9_clauseHere 74 = .ok (.invokestatic 182, 3) := dk_184 0 182 (dk_at dksX9_clauseHere_3 3 rfl rfl)
theorem dX9_clauseHere_77 : decode cX9_clauseHere 77 = .ok (.if_icmp .eq 12, 3) := dk_159 0 12 (dk_at dksX9_clauseHere_3 6 rfl rfl)
theorem dX9_clauseHere_80 : decode cX9_clauseHere 80 = .ok (.iload_n 1, 1) := dk_27 (dk_at dksX9_clauseHere_3 9 rfl rfl)
theorem dX9_clauseHere_81 : decode cX9_clauseHere 81 = .ok (.ldc 211, 2) := dk_18 211 (dk_at dksX9_clauseHere_3 10 rfl rfl)
theorem dX9_clauseHere_83 : decode cX9_clauseHere 83 = .ok (.invokestatic 182, 3) := dk_184 0 182 (dk_at dksX9_clauseHere_3 12 rfl rfl)
theorem dX9_clauseHere_86 : decode cX9_clauseHere 86 = .ok (.if_icmp .ne 7, 3) := dk_160 0 7 (dk_at dksX9_clauseHere_3 15 rfl rfl)
theorem dX9_clauseHere_89 : decode cX9_clauseHere 89 = .ok (.iload_n 1, 1) := dk_27 (dk_at dksX9_clauseHere_3 18 rfl rfl)
theorem dX9_clauseHere_90 : decode cX9_clauseHere 90 = .ok (.goto 4, 3) := dk_167 0 4 (dk_at dksX9_clauseHere_3 19 rfl rfl)
theorem dX9_clauseHere_93 : decode cX9_clauseHere 93 = .ok (.iconst (-1), 1) := dk_2 (dk_at dksX9_clauseHere_3 22 rfl rfl)
theorem dX9_clauseHere_94 : decode cX9_clauseHere 94 = .ok (.ireturn, 1) := dk_172 (dk_at dksX9_clauseHere_3 23 rfl rfl)
abbrev cX9_standsHere : ByteArray := prog_28_method_25_code
def yX9_standsHere : MethodName := ⟨RX9, "standsHere", "(Ljava/lang/String;)Z"⟩
def dkwX9_standsHere_4 : List UInt8 := [167, 0, 4, 3, 172]
abbrev dktX9_standsHere_4 : List UInt8 := dkwX9_standsHere_4 ++ []
def dkwX9_standsHere_3 : List UInt8 := [162, 0, 23, 42, 180, 0, 20, 42, 180, 0, 114, 43, 182, 0, 128, 96, 46, 184, 0, 124, 154, 0, 7, 4]
abbrev dktX9_standsHere_3 : List UInt8 := dkwX9_standsHere_3 ++ dktX9_standsHere_4
def dkwX9_standsHere_2 : List UInt8 := [159, 0, 5, 3, 172, 132, 2, 1, 167, 255, 211, 42, 180, 0, 114, 43, 182, 0, 128, 96, 42, 180, 0, 117]
abbrev dktX9_standsHere_2 : List UInt8 := dkwX9_standsHere_2 ++ dktX9_standsHere_3
def dkwX9_standsHere_1 : List UInt8 := [180, 0, 117, 162, 0, 22, 42, 180, 0, 20, 42, 180, 0, 114, 28, 96, 46, 43, 28, 182, 0, 133]
abbrev dktX9_standsHere_1 : List UInt8 := dkwX9_standsHere_1 ++ dktX9_standsHere_2
def dkwX9_standsHere_0 : List UInt8 := [42, 182, 0, 120, 87, 3, 61, 28, 43, 182, 0, 128, 162, 0, 43, 42, 180, 0, 114, 28, 96, 42]
abbrev dktX9_standsHere_0 : List UInt8 := dkwX9_standsHere_0 ++ dktX9_standsHere_1
theorem dksX9_standsHere_0 : cX9_standsHere.data.toList.drop 0 = dktX9_standsHere_0 := by decide +kernel
theorem dksX9_standsHere_1 : cX9_standsHere.data.toList.drop 22 = dktX9_standsHere_1 := dk_seg dksX9_standsHere_0 22 rfl rfl
theorem dksX9_standsHere_2 : cX9_standsHere.data.toList.drop 44 = dktX9_standsHere_2 := dk_seg dksX9_standsHere_1 22 rfl rfl
theorem dksX9_standsHere_3 : cX9_standsHere.data.toList.drop 68 = dktX9_standsHere_3 := dk_seg dksX9_standsHere_2 24 rfl rfl
theorem dksX9_standsHere_4 : cX9_standsHere.data.toList.drop 92 = dktX9_standsHere_4 := dk_seg dksX9_standsHere_3 24 rfl rfl
theorem dX9_standsHere_0 : decode cX9_standsHere 0 = .ok (.aload_n 0, 1) := dk_42 (dk_at dksX9_standsHere_0 0 rfl rfl)
theorem dX9_standsHere_1 : decode cX9_standsHere 1 = .ok (.invokevirtual 120, 3) := dk_182 0 120 (dk_at dksX9_standsHere_0 1 rfl rfl)
theorem dX9_standsHere_4 : decode cX9_standsHere 4 = .ok (.pop, 1) := dk_87 (dk_at dksX9_standsHere_0 4 rfl rfl)
theorem dX9_standsHere_5 : decode cX9_standsHere 5 = .ok (.iconst 0, 1) := dk_3 (dk_at dksX9_standsHere_0 5 rfl rfl)
theorem dX9_standsHere_6 : decode cX9_standsHere 6 = .ok (.istore_n 2, 1) := dk_61 (dk_at dksX9_standsHere_0 6 rfl rfl)
theorem dX9_standsHere_7 : decode cX9_standsHere 7 = .ok (.iload_n 2, 1) := dk_28 (dk_at dksX9_standsHere_0 7 rfl rfl)
theorem dX9_standsHere_8 : decode cX9_standsHere 8 = .ok (.aload_n 1, 1) := dk_43 (dk_at dksX9_standsHere_0 8 rfl rfl)
theorem dX9_standsHere_9 : decode cX9_standsHere 9 = .ok (.invokevirtual 128, 3) := dk_182 0 128 (dk_at dksX9_standsHere_0 9 rfl rfl)
theorem dX9_standsHere_12 : decode cX9_standsHere 12 = .ok (.if_icmp .ge 43, 3) := dk_162 0 43 (dk_at dksX9_standsHere_0 12 rfl rfl)
theorem dX9_standsHere_15 : decode cX9_standsHere 15 = .ok (.aload_n 0, 1) := dk_42 (dk_at dksX9_standsHere_0 15 rfl rfl)
theorem dX9_standsHere_16 : decode cX9_standsHere 16 = .ok (.getfield 114, 3) := dk_180 0 114 (dk_at dksX9_standsHere_0 16 rfl rfl)
theorem dX9_standsHere_19 : decode cX9_standsHere 19 = .ok (.iload_n 2, 1) := dk_28 (dk_at dksX9_standsHere_0 19 rfl rfl)
theorem dX9_standsHere_20 : decode cX9_standsHere 20 = .ok (.iadd, 1) := dk_96 (dk_at dksX9_standsHere_0 20 rfl rfl)
theorem dX9_standsHere_21 : decode cX9_standsHere 21 = .ok (.aload_n 0, 1) := dk_42 (dk_at dksX9_standsHere_0 21 rfl rfl)
theorem dX9_standsHere_22 : decode cX9_standsHere 22 = .ok (.getfield 117, 3) := dk_180 0 117 (dk_at dksX9_standsHere_1 0 rfl rfl)
theorem dX9_standsHere_25 : decode cX9_standsHere 25 = .ok (.if_icmp .ge 22, 3) := dk_162 0 22 (dk_at dksX9_standsHere_1 3 rfl rfl)
theorem dX9_standsHere_28 : decode cX9_standsHere 28 = .ok (.aload_n 0, 1) := dk_42 (dk_at dksX9_standsHere_1 6 rfl rfl)
theorem dX9_standsHere_29 : decode cX9_standsHere 29 = .ok (.getfield 20, 3) := dk_180 0 20 (dk_at dksX9_standsHere_1 7 rfl rfl)
theorem dX9_standsHere_32 : decode cX9_standsHere 32 = .ok (.aload_n 0, 1) := dk_42 (dk_at dksX9_standsHere_1 10 rfl rfl)
theorem dX9_standsHere_33 : decode cX9_standsHere 33 = .ok (.getfield 114, 3) := dk_180 0 114 (dk_at dksX9_standsHere_1 11 rfl rfl)
theorem dX9_standsHere_36 : decode cX9_standsHere 36 = .ok (.iload_n 2, 1) := dk_28 (dk_at dksX9_standsHere_1 14 rfl rfl)
theorem dX9_standsHere_37 : decode cX9_standsHere 37 = .ok (.iadd, 1) := dk_96 (dk_at dksX9_standsHere_1 15 rfl rfl)
theorem dX9_standsHere_38 : decode cX9_standsHere 38 = .ok (.iaload, 1) := dk_46 (dk_at dksX9_standsHere_1 16 rfl rfl)
theorem dX9_standsHere_39 : decode cX9_standsHere 39 = .ok (.aload_n 1, 1) := dk_43 (dk_at dksX9_standsHere_1 17 rfl rfl)
theorem dX9_standsHere_40 : decode cX9_standsHere 40 = .ok (.iload_n 2, 1) := dk_28 (dk_at dksX9_standsHere_1 18 rfl rfl)
theorem dX9_standsHere_41 : decode cX9_standsHere 41 = .ok (.invokevirtual 133, 3) := dk_182 0 133 (dk_at dksX9_standsHere_1 19 rfl rfl)
theorem dX9_standsHere_44 : decode cX9_standsHere 44 = .ok (.if_icmp .eq 5, 3) := dk_159 0 5 (dk_at dksX9_standsHere_2 0 rfl rfl)
theorem dX9_standsHere_47 : decode cX9_standsHere 47 = .ok (.iconst 0, 1) := dk_3 (dk_at dksX9_standsHere_2 3 rfl rfl)
theorem dX9_standsHere_48 : decode cX9_standsHere 48 = .ok (.ireturn, 1) := dk_172 (dk_at dksX9_standsHere_2 4 rfl rfl)
theorem dX9_standsHere_49 : decode cX9_standsHere 49 = .ok (.iinc 2 1, 3) := dk_132 2 1 (dk_at dksX9_standsHere_2 5 rfl rfl)
theorem dX9_standsHere_52 : decode cX9_standsHere 52 = .ok (.goto (-45), 3) := dk_167 255 211 (dk_at dksX9_standsHere_2 8 rfl rfl)
theorem dX9_standsHere_55 : decode cX9_standsHere 55 = .ok (.aload_n 0, 1) := dk_42 (dk_at dksX9_standsHere_2 11 rfl rfl)
theorem dX9_standsHere_56 : decode cX9_standsHere 56 = .ok (.getfield 114, 3) := dk_180 0 114 (dk_at dksX9_standsHere_2 12 rfl rfl)
theorem dX9_standsHere_59 : decode cX9_standsHere 59 = .ok (.aload_n 1, 1) := dk_43 (dk_at dksX9_standsHere_2 15 rfl rfl)
theorem dX9_standsHere_60 : decode cX9_standsHere 60 = .ok (.invokevirtual 128, 3) := dk_182 0 128 (dk_at dksX9_standsHere_2 16 rfl rfl)
theorem dX9_standsHere_63 : decode cX9_standsHere 63 = .ok (.iadd, 1) := dk_96 (dk_at dksX9_standsHere_2 19 rfl rfl)
theorem dX9_standsHere_64 : decode cX9_standsHere 64 = .ok (.aload_n 0, 1) := dk_42 (dk_at dksX9_standsHere_2 20 rfl rfl)
theorem dX9_standsHere_65 : decode cX9_standsHere 65 = .ok (.getfield 117, 3) := dk_180 0 117 (dk_at dksX9_standsHere_2 21 rfl rfl)
theorem dX9_standsHere_68 : decode cX9_standsHere 68 = .ok (.if_icmp .ge 23, 3) := dk_162 0 23 (dk_at dksX9_standsHere_3 0 rfl rfl)
theorem dX9_standsHere_71 : decode cX9_standsHere 71 = .ok (.aload_n 0, 1) := dk_42 (dk_at dksX9_standsHere_3 3 rfl rfl)
theorem dX9_standsHere_72 : decode cX9_standsHere 72 = .ok (.getfield 20, 3) := dk_180 0 20 (dk_at dksX9_standsHere_3 4 rfl rfl)
theorem dX9_standsHere_75 : decode cX9_standsHere 75 = .ok (.aload_n 0, 1) := dk_42 (dk_at dksX9_standsHere_3 7 rfl rfl)
theorem dX9_standsHere_76 : decode cX9_standsHere 76 = .ok (.getfield 114, 3) := dk_180 0 114 (dk_at dksX9_standsHere_3 8 rfl rfl)
theorem dX9_standsHere_79 : decode cX9_standsHere 79 = .ok (.aload_n 1, 1) := dk_43 (dk_at dksX9_standsHere_3 11 rfl rfl)
theorem dX9_standsHere_80 : decode cX9_standsHere 80 = .ok (.invokevirtual 128, 3) := dk_182 0 128 (dk_at dksX9_standsHere_3 12 rfl rfl)
theorem dX9_standsHere_83 : decode cX9_standsHere 83 = .ok (.iadd, 1) := dk_96 (dk_at dksX9_standsHere_3 15 rfl rfl)
theorem dX9_standsHere_84 : decode cX9_standsHere 84 = .ok (.iaload, 1) := dk_46 (dk_at dksX9_standsHere_3 16 rfl rfl)
theorem dX9_standsHere_85 : decode cX9_standsHere 85 = .ok (.invokestatic 124, 3) := dk_184 0 124 (dk_at dksX9_standsHere_3 17 rfl rfl)
theorem dX9_standsHere_88 : decode cX9_standsHere 88 = .ok (.ifCond .ne 7, 3) := dk_154 0 7 (dk_at dksX9_standsHere_3 20 rfl rfl)
theorem dX9_standsHere_91 : decode cX9_standsHere 91 = .ok (.iconst 1, 1) := dk_4 (dk_at dksX9_standsHere_3 23 rfl rfl)
theorem dX9_standsHere_92 : decode cX9_standsHere 92 = .ok (.goto 4, 3) := dk_167 0 4 (dk_at dksX9_standsHere_4 0 rfl rfl)
theorem dX9_standsHere_95 : decode cX9_standsHere 95 = .ok (.iconst 0, 1) := dk_3 (dk_at dksX9_standsHere_4 3 rfl rfl)
theorem dX9_standsHere_96 : decode cX9_standsHere 96 = .ok (.ireturn, 1) := dk_172 (dk_at dksX9_standsHere_4 4 rfl rfl)
abbrev cX9_isSmall : ByteArray := prog_28_method_9_code
def yX9_isSmall : MethodName := ⟨RX9, "isSmall", "(I)Z"⟩
def dkwX9_isSmall_0 : List UInt8 := [26, 16, 97, 161, 0, 13, 26, 16, 122, 163, 0, 7, 4, 167, 0, 4, 3, 172]
abbrev dktX9_isSmall_0 : List UInt8 := dkwX9_isSmall_0 ++ []
theorem dksX9_isSmall_0 : cX9_isSmall.data.toList.drop 0 = dktX9_isSmall_0 := by decide +kernel
theorem dX9_isSmall_0 : decode cX9_isSmall 0 = .ok (.iload_n 0, 1) := dk_26 (dk_at dksX9_isSmall_0 0 rfl rfl)
theorem dX9_isSmall_1 : decode cX9_isSmall 1 = .ok (.bipush 97, 2) := dk_16 97 (dk_at dksX9_isSmall_0 1 rfl rfl)
theorem dX9_isSmall_3 : decode cX9_isSmall 3 = .ok (.if_icmp .lt 13, 3) := dk_161 0 13 (dk_at dksX9_isSmall_0 3 rfl rfl)
theorem dX9_isSmall_6 : decode cX9_isSmall 6 = .ok (.iload_n 0, 1) := dk_26 (dk_at dksX9_isSmall_0 6 rfl rfl)
theorem dX9_isSmall_7 : decode cX9_isSmall 7 = .ok (.bipush 122, 2) := dk_16 122 (dk_at dksX9_isSmall_0 7 rfl rfl)
theorem dX9_isSmall_9 : decode cX9_isSmall 9 = .ok (.if_icmp .gt 7, 3) := dk_163 0 7 (dk_at dksX9_isSmall_0 9 rfl rfl)
theorem dX9_isSmall_12 : decode cX9_isSmall 12 = .ok (.iconst 1, 1) := dk_4 (dk_at dksX9_isSmall_0 12 rfl rfl)
theorem dX9_isSmall_13 : decode cX9_isSmall 13 = .ok (.goto 4, 3) := dk_167 0 4 (dk_at dksX9_isSmall_0 13 rfl rfl)
theorem dX9_isSmall_16 : decode cX9_isSmall 16 = .ok (.iconst 0, 1) := dk_3 (dk_at dksX9_isSmall_0 16 rfl rfl)
theorem dX9_isSmall_17 : decode cX9_isSmall 17 = .ok (.ireturn, 1) := dk_172 (dk_at dksX9_isSmall_0 17 rfl rfl)
abbrev cX9_word : ByteArray := prog_28_method_11_code
def yX9_word : MethodName := ⟨RX9, "word", "()I"⟩
def dkwX9_word_3 : List UInt8 := [164, 0, 7, 3, 167, 0, 4, 27, 172]
abbrev dktX9_word_3 : List UInt8 := dkwX9_word_3 ++ []
def dkwX9_word_2 : List UInt8 := [29, 46, 16, 96, 100, 128, 167, 0, 4, 3, 60, 132, 2, 1, 132, 3, 1, 167, 255, 206, 28, 16, 6]
abbrev dktX9_word_2 : List UInt8 := dkwX9_word_2 ++ dktX9_word_3
def dkwX9_word_1 : List UInt8 := [180, 0, 20, 29, 46, 184, 0, 124, 153, 0, 36, 28, 16, 6, 162, 0, 19, 27, 8, 120, 42, 180, 0, 20]
abbrev dktX9_word_1 : List UInt8 := dkwX9_word_1 ++ dktX9_word_2
def dkwX9_word_0 : List UInt8 := [42, 182, 0, 120, 87, 3, 60, 3, 61, 42, 180, 0, 114, 62, 29, 42, 180, 0, 117, 162, 0, 48, 42]
abbrev dktX9_word_0 : List UInt8 := dkwX9_word_0 ++ dktX9_word_1
theorem dksX9_word_0 : cX9_word.data.toList.drop 0 = dktX9_word_0 := by decide +kernel
theorem dksX9_word_1 : cX9_word.data.toList.drop 23 = dktX9_word_1 := dk_seg dksX9_word_0 23 rfl rfl
theorem dksX9_word_2 : cX9_word.data.toList.drop 47 = dktX9_word_2 := dk_seg dksX9_word_1 24 rfl rfl
theorem dksX9_word_3 : cX9_word.data.toList.drop 70 = dktX9_word_3 := dk_seg dksX9_word_2 23 rfl rfl
theorem dX9_word_0 : decode cX9_word 0 = .ok (.aload_n 0, 1) := dk_42 (dk_at dksX9_word_0 0 rfl rfl)
theorem dX9_word_1 : decode cX9_word 1 = .ok (.invokevirtual 120, 3) := dk_182 0 120 (dk_at dksX9_word_0 1 rfl rfl)
theorem dX9_word_4 : decode cX9_word 4 = .ok (.pop, 1) := dk_87 (dk_at dksX9_word_0 4 rfl rfl)
theorem dX9_word_5 : decode cX9_word 5 = .ok (.iconst 0, 1) := dk_3 (dk_at dksX9_word_0 5 rfl rfl)
theorem dX9_word_6 : decode cX9_word 6 = .ok (.istore_n 1, 1) := dk_60 (dk_at dksX9_word_0 6 rfl rfl)
theorem dX9_word_7 : decode cX9_word 7 = .ok (.iconst 0, 1) := dk_3 (dk_at dksX9_word_0 7 rfl rfl)
theorem dX9_word_8 : decode cX9_word 8 = .ok (.istore_n 2, 1) := dk_61 (dk_at dksX9_word_0 8 rfl rfl)
theorem dX9_word_9 : decode cX9_word 9 = .ok (.aload_n 0, 1) := dk_42 (dk_at dksX9_word_0 9 rfl rfl)
theorem dX9_word_10 : decode cX9_word 10 = .ok (.getfield 114, 3) := dk_180 0 114 (dk_at dksX9_word_0 10 rfl rfl)
theorem dX9_word_13 : decode cX9_word 13 = .ok (.istore_n 3, 1) := dk_62 (dk_at dksX9_word_0 13 rfl rfl)
theorem dX9_word_14 : decode cX9_word 14 = .ok (.iload_n 3, 1) := dk_29 (dk_at dksX9_word_0 14 rfl rfl)
theorem dX9_word_15 : decode cX9_word 15 = .ok (.aload_n 0, 1) := dk_42 (dk_at dksX9_word_0 15 rfl rfl)
theorem dX9_word_16 : decode cX9_word 16 = .ok (.getfield 117, 3) := dk_180 0 117 (dk_at dksX9_word_0 16 rfl rfl)
theorem dX9_word_19 : decode cX9_word 19 = .ok (.if_icmp .ge 48, 3) := dk_162 0 48 (dk_at dksX9_word_0 19 rfl rfl)
theorem dX9_word_22 : decode cX9_word 22 = .ok (.aload_n 0, 1) := dk_42 (dk_at dksX9_word_0 22 rfl rfl)
theorem dX9_word_23 : decode cX9_word 23 = .ok (.getfield 20, 3) := dk_180 0 20 (dk_at dksX9_word_1 0 rfl rfl)
theorem dX9_word_26 : decode cX9_word 26 = .ok (.iload_n 3, 1) := dk_29 (dk_at dksX9_word_1 3 rfl rfl)
theorem dX9_word_27 : decode cX9_word 27 = .ok (.iaload, 1) := dk_46 (dk_at dksX9_word_1 4 rfl rfl)
theorem dX9_word_28 : decode cX9_word 28 = .ok (.invokestatic 124, 3) := dk_184 0 124 (dk_at dksX9_word_1 5 rfl rfl)
theorem dX9_word_31 : decode cX9_word 31 = .ok (.ifCond .eq 36, 3) := dk_153 0 36 (dk_at dksX9_word_1 8 rfl rfl)
theorem dX9_word_34 : decode cX9_word 34 = .ok (.iload_n 2, 1) := dk_28 (dk_at dksX9_word_1 11 rfl rfl)
theorem dX9_word_35 : decode cX9_word 35 = .ok (.bipush 6, 2) := dk_16 6 (dk_at dksX9_word_1 12 rfl rfl)
theorem dX9_word_37 : decode cX9_word 37 = .ok (.if_icmp .ge 19, 3) := dk_162 0 19 (dk_at dksX9_word_1 14 rfl rfl)
theorem dX9_word_40 : decode cX9_word 40 = .ok (.iload_n 1, 1) := dk_27 (dk_at dksX9_word_1 17 rfl rfl)
theorem dX9_word_41 : decode cX9_word 41 = .ok (.iconst 5, 1) := dk_8 (dk_at dksX9_word_1 18 rfl rfl)
theorem dX9_word_42 : decode cX9_word 42 = .ok (.ishl, 1) := dk_120 (dk_at dksX9_word_1 19 rfl rfl)
theorem dX9_word_43 : decode cX9_word 43 = .ok (.aload_n 0, 1) := dk_42 (dk_at dksX9_word_1 20 rfl rfl)
theorem dX9_word_44 : decode cX9_word 44 = .ok (.getfield 20, 3) := dk_180 0 20 (dk_at dksX9_word_1 21 rfl rfl)
theorem dX9_word_47 : decode cX9_word 47 = .ok (.iload_n 3, 1) := dk_29 (dk_at dksX9_word_2 0 rfl rfl)
theorem dX9_word_48 : decode cX9_word 48 = .ok (.iaload, 1) := dk_46 (dk_at dksX9_word_2 1 rfl rfl)
theorem dX9_word_49 : decode cX9_word 49 = .ok (.bipush 96, 2) := dk_16 96 (dk_at dksX9_word_2 2 rfl rfl)
theorem dX9_word_51 : decode cX9_word 51 = .ok (.isub, 1) := dk_100 (dk_at dksX9_word_2 4 rfl rfl)
theorem dX9_word_52 : decode cX9_word 52 = .ok (.ior, 1) := dk_128 (dk_at dksX9_word_2 5 rfl rfl)
theorem dX9_word_53 : decode cX9_word 53 = .ok (.goto 4, 3) := dk_167 0 4 (dk_at dksX9_word_2 6 rfl rfl)
theorem dX9_word_56 : decode cX9_word 56 = .ok (.iconst 0, 1) := dk_3 (dk_at dksX9_word_2 9 rfl rfl)
theorem dX9_word_57 : decode cX9_word 57 = .ok (.istore_n 1, 1) := dk_60 (dk_at dksX9_word_2 10 rfl rfl)
theorem dX9_word_58 : decode cX9_word 58 = .ok (.iinc 2 1, 3) := dk_132 2 1 (dk_at dksX9_word_2 11 rfl rfl)
theorem dX9_word_61 : decode cX9_word 61 = .ok (.iinc 3 1, 3) := dk_132 3 1 (dk_at dksX9_word_2 14 rfl rfl)
theorem dX9_word_64 : decode cX9_word 64 = .ok (.goto (-50), 3) := dk_167 255 206 (dk_at dksX9_word_2 17 rfl rfl)
theorem dX9_word_67 : decode cX9_word 67 = .ok (.iload_n 2, 1) := dk_28 (dk_at dksX9_word_2 20 rfl rfl)
theorem dX9_word_68 : decode cX9_word 68 = .ok (.bipush 6, 2) := dk_16 6 (dk_at dksX9_word_2 21 rfl rfl)
theorem dX9_word_70 : decode cX9_word 70 = .ok (.if_icmp .le 7, 3) := dk_164 0 7 (dk_at dksX9_word_3 0 rfl rfl)
theorem dX9_word_73 : decode cX9_word 73 = .ok (.iconst 0, 1) := dk_3 (dk_at dksX9_word_3 3 rfl rfl)
theorem dX9_word_74 : decode cX9_word 74 = .ok (.goto 4, 3) := dk_167 0 4 (dk_at dksX9_word_3 4 rfl rfl)
theorem dX9_word_77 : decode cX9_word 77 = .ok (.iload_n 1, 1) := dk_27 (dk_at dksX9_word_3 7 rfl rfl)
theorem dX9_word_78 : decode cX9_word 78 = .ok (.ireturn, 1) := dk_172 (dk_at dksX9_word_3 8 rfl rfl)
abbrev cX9_of : ByteArray := prog_28_method_12_code
def yX9_of : MethodName := ⟨RX9, "of", "(Ljava/lang/String;)I"⟩
def dkwX9_of_1 : List UInt8 := [60, 132, 2, 1, 167, 255, 232, 27, 172]
abbrev dktX9_of_1 : List UInt8 := dkwX9_of_1 ++ []
def dkwX9_of_0 : List UInt8 := [3, 60, 3, 61, 28, 42, 182, 0, 128, 162, 0, 22, 27, 8, 120, 42, 28, 182, 0, 133, 16, 96, 100, 128]
abbrev dktX9_of_0 : List UInt8 := dkwX9_of_0 ++ dktX9_of_1
theorem dksX9_of_0 : cX9_of.data.toList.drop 0 = dktX9_of_0 := by decide +kernel
theorem dksX9_of_1 : cX9_of.data.toList.drop 24 = dktX9_of_1 := dk_seg dksX9_of_0 24 rfl rfl
theorem dX9_of_0 : decode cX9_of 0 = .ok (.iconst 0, 1) := dk_3 (dk_at dksX9_of_0 0 rfl rfl)
theorem dX9_of_1 : decode cX9_of 1 = .ok (.istore_n 1, 1) := dk_60 (dk_at dksX9_of_0 1 rfl rfl)
theorem dX9_of_2 : decode cX9_of 2 = .ok (.iconst 0, 1) := dk_3 (dk_at dksX9_of_0 2 rfl rfl)
theorem dX9_of_3 : decode cX9_of 3 = .ok (.istore_n 2, 1) := dk_61 (dk_at dksX9_of_0 3 rfl rfl)
theorem dX9_of_4 : decode cX9_of 4 = .ok (.iload_n 2, 1) := dk_28 (dk_at dksX9_of_0 4 rfl rfl)
theorem dX9_of_5 : decode cX9_of 5 = .ok (.aload_n 0, 1) := dk_42 (dk_at dksX9_of_0 5 rfl rfl)
theorem dX9_of_6 : decode cX9_of 6 = .ok (.invokevirtual 128, 3) := dk_182 0 128 (dk_at dksX9_of_0 6 rfl rfl)
theorem dX9_of_9 : decode cX9_of 9 = .ok (.if_icmp .ge 22, 3) := dk_162 0 22 (dk_at dksX9_of_0 9 rfl rfl)
theorem dX9_of_12 : decode cX9_of 12 = .ok (.iload_n 1, 1) := dk_27 (dk_at dksX9_of_0 12 rfl rfl)
theorem dX9_of_13 : decode cX9_of 13 = .ok (.iconst 5, 1) := dk_8 (dk_at dksX9_of_0 13 rfl rfl)
theorem dX9_of_14 : decode cX9_of 14 = .ok (.ishl, 1) := dk_120 (dk_at dksX9_of_0 14 rfl rfl)
theorem dX9_of_15 : decode cX9_of 15 = .ok (.aload_n 0, 1) := dk_42 (dk_at dksX9_of_0 15 rfl rfl)
theorem dX9_of_16 : decode cX9_of 16 = .ok (.iload_n 2, 1) := dk_28 (dk_at dksX9_of_0 16 rfl rfl)
theorem dX9_of_17 : decode cX9_of 17 = .ok (.invokevirtual 133, 3) := dk_182 0 133 (dk_at dksX9_of_0 17 rfl rfl)
theorem dX9_of_20 : decode cX9_of 20 = .ok (.bipush 96, 2) := dk_16 96 (dk_at dksX9_of_0 20 rfl rfl)
theorem dX9_of_22 : decode cX9_of 22 = .ok (.isub, 1) := dk_100 (dk_at dksX9_of_0 22 rfl rfl)
theorem dX9_of_23 : decode cX9_of 23 = .ok (.ior, 1) := dk_128 (dk_at dksX9_of_0 23 rfl rfl)
theorem dX9_of_24 : decode cX9_of 24 = .ok (.istore_n 1, 1) := dk_60 (dk_at dksX9_of_1 0 rfl rfl)
theorem dX9_of_25 : decode cX9_of 25 = .ok (.iinc 2 1, 3) := dk_132 2 1 (dk_at dksX9_of_1 1 rfl rfl)
theorem dX9_of_28 : decode cX9_of 28 = .ok (.goto (-24), 3) := dk_167 255 232 (dk_at dksX9_of_1 4 rfl rfl)
theorem dX9_of_31 : decode cX9_of 31 = .ok (.iload_n 1, 1) := dk_27 (dk_at dksX9_of_1 7 rfl rfl)
theorem dX9_of_32 : decode cX9_of 32 = .ok (.ireturn, 1) := dk_172 (dk_at dksX9_of_1 8 rfl rfl)
abbrev cX9_wrong : ByteArray := prog_28_method_7_code
def yX9_wrong : MethodName := ⟨RX9, "wrong", "(II)V"⟩
def dkwX9_wrong_0 : List UInt8 := [42, 180, 0, 108, 2, 159, 0, 4, 177, 42, 28, 181, 0, 108, 42, 27, 181, 0, 111, 177]
abbrev dktX9_wrong_0 : List UInt8 := dkwX9_wrong_0 ++ []
theorem dksX9_wrong_0 : cX9_wrong.data.toList.drop 0 = dktX9_wrong_0 := by decide +kernel
theorem dX9_wrong_0 : decode cX9_wrong 0 = .ok (.aload_n 0, 1) := dk_42 (dk_at dksX9_wrong_0 0 rfl rfl)
theorem dX9_wrong_1 : decode cX9_wrong 1 = .ok (.getfield 108, 3) := dk_180 0 108 (dk_at dksX9_wrong_0 1 rfl rfl)
theorem dX9_wrong_4 : decode cX9_wrong 4 = .ok (.iconst (-1), 1) := dk_2 (dk_at dksX9_wrong_0 4 rfl rfl)
theorem dX9_wrong_5 : decode cX9_wrong 5 = .ok (.if_icmp .eq 4, 3) := dk_159 0 4 (dk_at dksX9_wrong_0 5 rfl rfl)
theorem dX9_wrong_8 : decode cX9_wrong 8 = .ok (.return_, 1) := dk_177 (dk_at dksX9_wrong_0 8 rfl rfl)
theorem dX9_wrong_9 : decode cX9_wrong 9 = .ok (.aload_n 0, 1) := dk_42 (dk_at dksX9_wrong_0 9 rfl rfl)
theorem dX9_wrong_10 : decode cX9_wrong 10 = .ok (.iload_n 2, 1) := dk_28 (dk_at dksX9_wrong_0 10 rfl rfl)
theorem dX9_wrong_11 : decode cX9_wrong 11 = .ok (.putfield 108, 3) := dk_181 0 108 (dk_at dksX9_wrong_0 11 rfl rfl)
theorem dX9_wrong_14 : decode cX9_wrong 14 = .ok (.aload_n 0, 1) := dk_42 (dk_at dksX9_wrong_0 14 rfl rfl)
theorem dX9_wrong_15 : decode cX9_wrong 15 = .ok (.iload_n 1, 1) := dk_27 (dk_at dksX9_wrong_0 15 rfl rfl)
theorem dX9_wrong_16 : decode cX9_wrong 16 = .ok (.putfield 111, 3) := dk_181 0 111 (dk_at dksX9_wrong_0 16 rfl rfl)
theorem dX9_wrong_19 : decode cX9_wrong 19 = .ok (.return_, 1) := dk_177 (dk_at dksX9_wrong_0 19 rfl rfl)
abbrev cX9_pass : ByteArray := prog_28_method_13_code
def yX9_pass : MethodName := ⟨RX9, "pass", "()V"⟩
def dkwX9_pass_1 : List UInt8 := [153, 0, 16, 42, 89, 180, 0, 114, 4, 96, 181, 0, 114, 167, 255, 220, 177]
abbrev dktX9_pass_1 : List UInt8 := dkwX9_pass_1 ++ []
def dkwX9_pass_0 : List UInt8 := [42, 180, 0, 114, 42, 180, 0, 117, 162, 0, 31, 42, 180, 0, 20, 42, 180, 0, 114, 46, 184, 0, 124]
abbrev dktX9_pass_0 : List UInt8 := dkwX9_pass_0 ++ dktX9_pass_1
theorem dksX9_pass_0 : cX9_pass.data.toList.drop 0 = dktX9_pass_0 := by decide +kernel
theorem dksX9_pass_1 : cX9_pass.data.toList.drop 23 = dktX9_pass_1 := dk_seg dksX9_pass_0 23 rfl rfl
theorem dX9_pass_0 : decode cX9_pass 0 = .ok (.aload_n 0, 1) := dk_42 (dk_at dksX9_pass_0 0 rfl rfl)
theorem dX9_pass_1 : decode cX9_pass 1 = .ok (.getfield 114, 3) := dk_180 0 114 (dk_at dksX9_pass_0 1 rfl rfl)
theorem dX9_pass_4 : decode cX9_pass 4 = .ok (.aload_n 0, 1) := dk_42 (dk_at dksX9_pass_0 4 rfl rfl)
theorem dX9_pass_5 : decode cX9_pass 5 = .ok (.getfield 117, 3) := dk_180 0 117 (dk_at dksX9_pass_0 5 rfl rfl)
theorem dX9_pass_8 : decode cX9_pass 8 = .ok (.if_icmp .ge 31, 3) := dk_162 0 31 (dk_at dksX9_pass_0 8 rfl rfl)
theorem dX9_pass_11 : decode cX9_pass 11 = .ok (.aload_n 0, 1) := dk_42 (dk_at dksX9_pass_0 11 rfl rfl)
theorem dX9_pass_12 : decode cX9_pass 12 = .ok (.getfield 20, 3) := dk_180 0 20 (dk_at dksX9_pass_0 12 rfl rfl)
theorem dX9_pass_15 : decode cX9_pass 15 = .ok (.aload_n 0, 1) := dk_42 (dk_at dksX9_pass_0 15 rfl rfl)
theorem dX9_pass_16 : decode cX9_pass 16 = .ok (.getfield 114, 3) := dk_180 0 114 (dk_at dksX9_pass_0 16 rfl rfl)
theorem dX9_pass_19 : decode cX9_pass 19 = .ok (.iaload, 1) := dk_46 (dk_at dksX9_pass_0 19 rfl rfl)
theorem dX9_pass_20 : decode cX9_pass 20 = .ok (.invokestatic 124, 3) := dk_184 0 124 (dk_at dksX9_pass_0 20 rfl rfl)
theorem dX9_pass_23 : decode cX9_pass 23 = .ok (.ifCond .eq 16, 3) := dk_153 0 16 (dk_at dksX9_pass_1 0 rfl rfl)
theorem dX9_pass_26 : decode cX9_pass 26 = .ok (.aload_n 0, 1) := dk_42 (dk_at dksX9_pass_1 3 rfl rfl)
theorem dX9_pass_27 : decode cX9_pass 27 = .ok (.dup, 1) := dk_89 (dk_at dksX9_pass_1 4 rfl rfl)
theorem dX9_pass_28 : decode cX9_pass 28 = .ok (.getfield 114, 3) := dk_180 0 114 (dk_at dksX9_pass_1 5 rfl rfl)
theorem dX9_pass_31 : decode cX9_pass 31 = .ok (.iconst 1, 1) := dk_4 (dk_at dksX9_pass_1 8 rfl rfl)
theorem dX9_pass_32 : decode cX9_pass 32 = .ok (.iadd, 1) := dk_96 (dk_at dksX9_pass_1 9 rfl rfl)
theorem dX9_pass_33 : decode cX9_pass 33 = .ok (.putfield 114, 3) := dk_181 0 114 (dk_at dksX9_pass_1 10 rfl rfl)
theorem dX9_pass_36 : decode cX9_pass 36 = .ok (.goto (-36), 3) := dk_167 255 220 (dk_at dksX9_pass_1 13 rfl rfl)
theorem dX9_pass_39 : decode cX9_pass 39 = .ok (.return_, 1) := dk_177 (dk_at dksX9_pass_1 16 rfl rfl)
abbrev cX9_readClause : ByteArray := prog_28_method_24_code
def yX9_readClause : MethodName := ⟨RX9, "readClause", "(I)V"⟩
def dkwX9_readClause_12 : List UInt8 := [180, 0, 32, 42, 180, 0, 154, 28, 29, 182, 0, 198, 87, 42, 89, 180, 0, 154, 4, 96, 181, 0, 154, 177]
abbrev dktX9_readClause_12 : List UInt8 := dkwX9_readClause_12 ++ []
def dkwX9_readClause_11 : List UInt8 := [61, 42, 3, 17, 1, 224, 182, 0, 176, 62, 42, 182, 0, 137, 154, 0, 4, 177, 42, 42, 180, 0, 29, 42]
abbrev dktX9_readClause_11 : List UInt8 := dkwX9_readClause_11 ++ dktX9_readClause_12
def dkwX9_readClause_10 : List UInt8 := [42, 89, 180, 0, 151, 4, 96, 181, 0, 151, 167, 0, 61, 42, 3, 42, 180, 0, 151, 4, 100, 182, 0, 176]
abbrev dktX9_readClause_10 : List UInt8 := dkwX9_readClause_10 ++ dktX9_readClause_11
def dkwX9_readClause_9 : List UInt8 := [16, 99, 182, 0, 176, 79, 132, 2, 1, 167, 255, 232, 167, 0, 83, 27, 18, 196, 184, 0, 182, 160, 0, 16]
abbrev dktX9_readClause_9 : List UInt8 := dkwX9_readClause_9 ++ dktX9_readClause_10
def dkwX9_readClause_8 : List UInt8 := [184, 0, 182, 160, 0, 35, 3, 61, 28, 8, 162, 0, 25, 42, 180, 0, 23, 16, 7, 28, 96, 42, 3]
abbrev dktX9_readClause_8 : List UInt8 := dkwX9_readClause_8 ++ dktX9_readClause_9
def dkwX9_readClause_7 : List UInt8 := [160, 0, 20, 42, 180, 0, 23, 16, 6, 42, 3, 16, 16, 182, 0, 176, 79, 167, 0, 124, 27, 18, 194]
abbrev dktX9_readClause_7 : List UInt8 := dkwX9_readClause_7 ++ dktX9_readClause_8
def dkwX9_readClause_6 : List UInt8 := [42, 180, 0, 23, 8, 42, 4, 16, 99, 182, 0, 176, 79, 167, 0, 150, 27, 18, 192, 184, 0, 182]
abbrev dktX9_readClause_6 : List UInt8 := dkwX9_readClause_6 ++ dktX9_readClause_7
def dkwX9_readClause_5 : List UInt8 := [180, 0, 23, 7, 42, 3, 16, 16, 182, 0, 176, 79, 167, 0, 175, 27, 18, 190, 184, 0, 182, 160, 0, 19]
abbrev dktX9_readClause_5 : List UInt8 := dkwX9_readClause_5 ++ dktX9_readClause_6
def dkwX9_readClause_4 : List UInt8 := [180, 0, 23, 6, 42, 3, 4, 182, 0, 176, 79, 167, 0, 200, 27, 18, 188, 184, 0, 182, 160, 0, 19, 42]
abbrev dktX9_readClause_4 : List UInt8 := dkwX9_readClause_4 ++ dktX9_readClause_5
def dkwX9_readClause_3 : List UInt8 := [28, 79, 42, 180, 0, 23, 5, 29, 79, 167, 0, 224, 27, 18, 186, 184, 0, 182, 160, 0, 18, 42]
abbrev dktX9_readClause_3 : List UInt8 := dkwX9_readClause_3 ++ dktX9_readClause_4
def dkwX9_readClause_2 : List UInt8 := [180, 0, 23, 3, 46, 28, 100, 182, 0, 176, 62, 42, 182, 0, 137, 154, 0, 4, 177, 42, 180, 0, 23, 4]
abbrev dktX9_readClause_2 : List UInt8 := dkwX9_readClause_2 ++ dktX9_readClause_3
def dkwX9_readClause_1 : List UInt8 := [18, 180, 184, 0, 182, 160, 0, 54, 42, 3, 42, 180, 0, 23, 3, 46, 182, 0, 176, 61, 42, 3, 42]
abbrev dktX9_readClause_1 : List UInt8 := dkwX9_readClause_1 ++ dktX9_readClause_2
def dkwX9_readClause_0 : List UInt8 := [27, 16, 249, 160, 0, 19, 42, 180, 0, 23, 3, 42, 4, 16, 12, 182, 0, 176, 79, 167, 1, 28, 27]
abbrev dktX9_readClause_0 : List UInt8 := dkwX9_readClause_0 ++ dktX9_readClause_1
theorem dksX9_readClause_0 : cX9_readClause.data.toList.drop 0 = dktX9_readClause_0 := by decide +kernel
theorem dksX9_readClause_1 : cX9_readClause.data.toList.drop 23 = dktX9_readClause_1 := dk_seg dksX9_readClause_0 23 rfl rfl
theorem dksX9_readClause_2 : cX9_readClause.data.toList.drop 46 = dktX9_readClause_2 := dk_seg dksX9_readClause_1 23 rfl rfl
theorem dksX9_readClause_3 : cX9_readClause.data.toList.drop 70 = dktX9_readClause_3 := dk_seg dksX9_readClause_2 24 rfl rfl
theorem dksX9_readClause_4 : cX9_readClause.data.toList.drop 92 = dktX9_readClause_4 := dk_seg dksX9_readClause_3 22 rfl rfl
theorem dksX9_readClause_5 : cX9_readClause.data.toList.drop 116 = dktX9_readClause_5 := dk_seg dksX9_readClause_4 24 rfl rfl
theorem dksX9_readClause_6 : cX9_readClause.data.toList.drop 140 = dktX9_readClause_6 := dk_seg dksX9_readClause_5 24 rfl rfl
theorem dksX9_readClause_7 : cX9_readClause.data.toList.drop 162 = dktX9_readClause_7 := dk_seg dksX9_readClause_6 22 rfl rfl
theorem dksX9_readClause_8 : cX9_readClause.data.toList.drop 185 = dktX9_readClause_8 := dk_seg dksX9_readClause_7 23 rfl rfl
theorem dksX9_readClause_9 : cX9_readClause.data.toList.drop 208 = dktX9_readClause_9 := dk_seg dksX9_readClause_8 23 rfl rfl
theorem dksX9_readClause_10 : cX9_readClause.data.toList.drop 232 = dktX9_readClause_10 := dk_seg dksX9_readClause_9 24 rfl rfl
theorem dksX9_readClause_11 : cX9_readClause.data.toList.drop 256 = dktX9_readClause_11 := dk_seg dksX9_readClause_10 24 rfl rfl
theorem dksX9_readClause_12 : cX9_readClause.data.toList.drop 280 = dktX9_readClause_12 := dk_seg dksX9_readClause_11 24 rfl rfl
theorem dX9_readClause_0 : decode cX9_readClause 0 = .ok (.iload_n 1, 1) := dk_27 (dk_at dksX9_readClause_0 0 rfl rfl)
theorem dX9_readClause_1 : decode cX9_readClause 1 = .ok (.bipush (-7), 2) := dk_16 249 (dk_at dksX9_readClause_0 1 rfl rfl)
theorem dX9_readClause_3 : decode cX9_readClause 3 = .ok (.if_icmp .ne 19, 3) := dk_160 0 19 (dk_at dksX9_readClause_0 3 rfl rfl)
theorem dX9_readClause_6 : decode cX9_readClause 6 = .ok (.aload_n 0, 1) := dk_42 (dk_at dksX9_readClause_0 6 rfl rfl)
theorem dX9_readClause_7 : decode cX9_readClause 7 = .ok (.getfield 23, 3) := dk_180 0 23 (dk_at dksX9_readClause_0 7 rfl rfl)
theorem dX9_readClause_10 : decode cX9_readClause 10 = .ok (.iconst 0, 1) := dk_3 (dk_at dksX9_readClause_0 10 rfl rfl)
theorem dX9_readClause_11 : decode cX9_readClause 11 = .ok (.aload_n 0, 1) := dk_42 (dk_at dksX9_readClause_0 11 rfl rfl)
theorem dX9_readClause_12 : decode cX9_readClause 12 = .ok (.iconst 1, 1) := dk_4 (dk_at dksX9_readClause_0 12 rfl rfl)
theorem dX9_readClause_13 : decode cX9_readClause 13 = .ok (.bipush 12, 2) := dk_16 12 (dk_at dksX9_readClause_0 13 rfl rfl)
theorem dX9_readClause_15 : decode cX9_readClause 15 = .ok (.invokevirtual 176, 3) := dk_182 0 176 (dk_at dksX9_readClause_0 15 rfl rfl)
theorem dX9_readClause_18 : decode cX9_readClause 18 = .ok (.iastore, 1) := dk_79 (dk_at dksX9_readClause_0 18 rfl rfl)
theorem dX9_readClause_19 : decode cX9_readClause 19 = .ok (.goto 284, 3) := dk_167 1 28 (dk_at dksX9_readClause_0 19 rfl rfl)
theorem dX9_readClause_22 : decode cX9_readClause 22 = .ok (.iload_n 1, 1) := dk_27 (dk_at dksX9_readClause_0 22 rfl rfl)
theorem dX9_readClause_23 : decode cX9_readClause 23 = .ok (.ldc 180, 2) := dk_18 180 (dk_at dksX9_readClause_1 0 rfl rfl)
theorem dX9_readClause_25 : decode cX9_readClause 25 = .ok (.invokestatic 182, 3) := dk_184 0 182 (dk_at dksX9_readClause_1 2 rfl rfl)
theorem dX9_readClause_28 : decode cX9_readClause 28 = .ok (.if_icmp .ne 54, 3) := dk_160 0 54 (dk_at dksX9_readClause_1 5 rfl rfl)
theorem dX9_readClause_31 : decode cX9_readClause 31 = .ok (.aload_n 0, 1) := dk_42 (dk_at dksX9_readClause_1 8 rfl rfl)
theorem dX9_readClause_32 : decode cX9_readClause 32 = .ok (.iconst 0, 1) := dk_3 (dk_at dksX9_readClause_1 9 rfl rfl)
theorem dX9_readClause_33 : decode cX9_readClause 33 = .ok (.aload_n 0, 1) := dk_42 (dk_at dksX9_readClause_1 10 rfl rfl)
theorem dX9_readClause_34 : decode cX9_readClause 34 = .ok (.getfield 23, 3) := dk_180 0 23 (dk_at dksX9_readClause_1 11 rfl rfl)
theorem dX9_readClause_37 : decode cX9_readClause 37 = .ok (.iconst 0, 1) := dk_3 (dk_at dksX9_readClause_1 14 rfl rfl)
theorem dX9_readClause_38 : decode cX9_readClause 38 = .ok (.iaload, 1) := dk_46 (dk_at dksX9_readClause_1 15 rfl rfl)
theorem dX9_readClause_39 : decode cX9_readClause 39 = .ok (.invokevirtual 176, 3) := dk_182 0 176 (dk_at dksX9_readClause_1 16 rfl rfl)
theorem dX9_readClause_42 : decode cX9_readClause 42 = .ok (.istore_n 2, 1) := dk_61 (dk_at dksX9_readClause_1 19 rfl rfl)
theorem dX9_readClause_43 : decode cX9_readClause 43 = .ok (.aload_n 0, 1) := dk_42 (dk_at dksX9_readClause_1 20 rfl rfl)
theorem dX9_readClause_44 : decode cX9_readClause 44 = .ok (.iconst 0, 1) := dk_3 (dk_at dksX9_readClause_1 21 rfl rfl)
theorem dX9_readClause_45 : decode cX9_readClause 45 = .ok (.aload_n 0, 1) := dk_42 (dk_at dksX9_readClause_1 22 rfl rfl)
theorem dX9_readClause_46 : decode cX9_readClause 46 = .ok (.getfield 23, 3) := dk_180 0 23 (dk_at dksX9_readClause_2 0 rfl rfl)
theorem dX9_readClause_49 : decode cX9_readClause 49 = .ok (.iconst 0, 1) := dk_3 (dk_at dksX9_readClause_2 3 rfl rfl)
theorem dX9_readClause_50 : decode cX9_readClause 50 = .ok (.iaload, 1) := dk_46 (dk_at dksX9_readClause_2 4 rfl rfl)
theorem dX9_readClause_51 : decode cX9_readClause 51 = .ok (.iload_n 2, 1) := dk_28 (dk_at dksX9_readClause_2 5 rfl rfl)
theorem dX9_readClause_52 : decode cX9_readClause 52 = .ok (.isub, 1) := dk_100 (dk_at dksX9_readClause_2 6 rfl rfl)
theorem dX9_readClause_53 : decode cX9_readClause 53 = .ok (.invokevirtual 176, 3) := dk_182 0 176 (dk_at dksX9_readClause_2 7 rfl rfl)
theorem dX9_readClause_56 : decode cX9_readClause 56 = .ok (.istore_n 3, 1) := dk_62 (dk_at dksX9_readClause_2 10 rfl rfl)
theorem dX9_readClause_57 : decode cX9_readClause 57 = .ok (.aload_n 0, 1) := dk_42 (dk_at dksX9_readClause_2 11 rfl rfl)
theorem dX9_readClause_58 : decode cX9_readClause 58 = .ok (.invokevirtual 137, 3) := dk_182 0 137 (dk_at dksX9_readClause_2 12 rfl rfl)
theorem dX9_readClause_61 : decode cX9_readClause 61 = .ok (.ifCond .ne 4, 3) := dk_154 0 4 (dk_at dksX9_readClause_2 15 rfl rfl)
theorem dX9_readClause_64 : decode cX9_readClause 64 = .ok (.return_, 1) := dk_177 (dk_at dksX9_readClause_2 18 rfl rfl)
theorem dX9_readClause_65 : decode cX9_readClause 65 = .ok (.aload_n 0, 1) := dk_42 (dk_at dksX9_readClause_2 19 rfl rfl)
theorem dX9_readClause_66 : decode cX9_readClause 66 = .ok (.getfield 23, 3) := dk_180 0 23 (dk_at dksX9_readClause_2 20 rfl rfl)
theorem dX9_readClause_69 : decode cX9_readClause 69 = .ok (.iconst 1, 1) := dk_4 (dk_at dksX9_readClause_2 23 rfl rfl)
theorem dX9_readClause_70 : decode cX9_readClause 70 = .ok (.iload_n 2, 1) := dk_28 (dk_at dksX9_readClause_3 0 rfl rfl)
theorem dX9_readClause_71 : decode cX9_readClause 71 = .ok (.iastore, 1) := dk_79 (dk_at dksX9_readClause_3 1 rfl rfl)
theorem dX9_readClause_72 : decode cX9_readClause 72 = .ok (.aload_n 0, 1) := dk_42 (dk_at dksX9_readClause_3 2 rfl rfl)
theorem dX9_readClause_73 : decode cX9_readClause 73 = .ok (.getfield 23, 3) := dk_180 0 23 (dk_at dksX9_readClause_3 3 rfl rfl)
theorem dX9_readClause_76 : decode cX9_readClause 76 = .ok (.iconst 2, 1) := dk_5 (dk_at dksX9_readClause_3 6 rfl rfl)
theorem dX9_readClause_77 : decode cX9_readClause 77 = .ok (.iload_n 3, 1) := dk_29 (dk_at dksX9_readClause_3 7 rfl rfl)
theorem dX9_readClause_78 : decode cX9_readClause 78 = .ok (.iastore, 1) := dk_79 (dk_at dksX9_readClause_3 8 rfl rfl)
theorem dX9_readClause_79 : decode cX9_readClause 79 = .ok (.goto 224, 3) := dk_167 0 224 (dk_at dksX9_readClause_3 9 rfl rfl)
theorem dX9_readClause_82 : decode cX9_readClause 82 = .ok (.iload_n 1, 1) := dk_27 (dk_at dksX9_readClause_3 12 rfl rfl)
theorem dX9_readClause_83 : decode cX9_readClause 83 = .ok (.ldc 186, 2) := dk_18 186 (dk_at dksX9_readClause_3 13 rfl rfl)
theorem dX9_readClause_85 : decode cX9_readClause 85 = .ok (.invokestatic 182, 3) := dk_184 0 182 (dk_at dksX9_readClause_3 15 rfl rfl)
theorem dX9_readClause_88 : decode cX9_readClause 88 = .ok (.if_icmp .ne 18, 3) := dk_160 0 18 (dk_at dksX9_readClause_3 18 rfl rfl)
theorem dX9_readClause_91 : decode cX9_readClause 91 = .ok (.aload_n 0, 1) := dk_42 (dk_at dksX9_readClause_3 21 rfl rfl)
theorem dX9_readClause_92 : decode cX9_readClause 92 = .ok (.getfield 23, 3) := dk_180 0 23 (dk_at dksX9_readClause_4 0 rfl rfl)
theorem dX9_readClause_95 : decode cX9_readClause 95 = .ok (.iconst 3, 1) := dk_6 (dk_at dksX9_readClause_4 3 rfl rfl)
theorem dX9_readClause_96 : decode cX9_readClause 96 = .ok (.aload_n 0, 1) := dk_42 (dk_at dksX9_readClause_4 4 rfl rfl)
theorem dX9_readClause_97 : decode cX9_readClause 97 = .ok (.iconst 0, 1) := dk_3 (dk_at dksX9_readClause_4 5 rfl rfl)
theorem dX9_readClause_98 : decode cX9_readClause 98 = .ok (.iconst 1, 1) := dk_4 (dk_at dksX9_readClause_4 6 rfl rfl)
theorem dX9_readClause_99 : decode cX9_readClause 99 = .ok (.invokevirtual 176, 3) := dk_182 0 176 (dk_at dksX9_readClause_4 7 rfl rfl)
theorem dX9_readClause_102 : decode cX9_readClause 102 = .ok (.iastore, 1) := dk_79 (dk_at dksX9_readClause_4 10 rfl rfl)
theorem dX9_readClause_103 : decode cX9_readClause 103 = .ok (.goto 200, 3) := dk_167 0 200 (dk_at dksX9_readClause_4 11 rfl rfl)
theorem dX9_readClause_106 : decode cX9_readClause 106 = .ok (.iload_n 1, 1) := dk_27 (dk_at dksX9_readClause_4 14 rfl rfl)
theorem dX9_readClause_107 : decode cX9_readClause 107 = .ok (.ldc 188, 2) := dk_18 188 (dk_at dksX9_readClause_4 15 rfl rfl)
theorem dX9_readClause_109 : decode cX9_readClause 109 = .ok (.invokestatic 182, 3) := dk_184 0 182 (dk_at dksX9_readClause_4 17 rfl rfl)
theorem dX9_readClause_112 : decode cX9_readClause 112 = .ok (.if_icmp .ne 19, 3) := dk_160 0 19 (dk_at dksX9_readClause_4 20 rfl rfl)
theorem dX9_readClause_115 : decode cX9_readClause 115 = .ok (.aload_n 0, 1) := dk_42 (dk_at dksX9_readClause_4 23 rfl rfl)
theorem dX9_readClause_116 : decode cX9_readClause 116 = .ok (.getfield 23, 3) := dk_180 0 23 (dk_at dksX9_readClause_5 0 rfl rfl)
theorem dX9_readClause_119 : decode cX9_readClause 119 = .ok (.iconst 4, 1) := dk_7 (dk_at dksX9_readClause_5 3 rfl rfl)
theorem dX9_readClause_120 : decode cX9_readClause 120 = .ok (.aload_n 0, 1) := dk_42 (dk_at dksX9_readClause_5 4 rfl rfl)
theorem dX9_readClause_121 : decode cX9_readClause 121 = .ok (.iconst 0, 1) := dk_3 (dk_at dksX9_readClause_5 5 rfl rfl)
theorem dX9_readClause_122 : decode cX9_readClause 122 = .ok (.bipush 16, 2) := dk_16 16 (dk_at dksX9_readClause_5 6 rfl rfl)
theorem dX9_readClause_124 : decode cX9_readClause 124 = .ok (.invokevirtual 176, 3) := dk_182 0 176 (dk_at dksX9_readClause_5 8 rfl rfl)
theorem dX9_readClause_127 : decode cX9_readClause 127 = .ok (.iastore, 1) := dk_79 (dk_at dksX9_readClause_5 11 rfl rfl)
theorem dX9_readClause_128 : decode cX9_readClause 128 = .ok (.goto 175, 3) := dk_167 0 175 (dk_at dksX9_readClause_5 12 rfl rfl)
theorem dX9_readClause_131 : decode cX9_readClause 131 = .ok (.iload_n 1, 1) := dk_27 (dk_at dksX9_readClause_5 15 rfl rfl)
theorem dX9_readClause_132 : decode cX9_readClause 132 = .ok (.ldc 190, 2) := dk_18 190 (dk_at dksX9_readClause_5 16 rfl rfl)
theorem dX9_readClause_134 : decode cX9_readClause 134 = .ok (.invokestatic 182, 3) := dk_184 0 182 (dk_at dksX9_readClause_5 18 rfl rfl)
theorem dX9_readClause_137 : decode cX9_readClause 137 = .ok (.if_icmp .ne 19, 3) := dk_160 0 19 (dk_at dksX9_readClause_5 21 rfl rfl)
theorem dX9_readClause_140 : decode cX9_readClause 140 = .ok (.aload_n 0, 1) := dk_42 (dk_at dksX9_readClause_6 0 rfl rfl)
theorem dX9_readClause_141 : decode cX9_readClause 141 = .ok (.getfield 23, 3) := dk_180 0 23 (dk_at dksX9_readClause_6 1 rfl rfl)
theorem dX9_readClause_144 : decode cX9_readClause 144 = .ok (.iconst 5, 1) := dk_8 (dk_at dksX9_readClause_6 4 rfl rfl)
theorem dX9_readClause_145 : decode cX9_readClause 145 = .ok (.aload_n 0, 1) := dk_42 (dk_at dksX9_readClause_6 5 rfl rfl)
theorem dX9_readClause_146 : decode cX9_readClause 146 = .ok (.iconst 1, 1) := dk_4 (dk_at dksX9_readClause_6 6 rfl rfl)
theorem dX9_readClause_147 : decode cX9_readClause 147 = .ok (.bipush 99, 2) := dk_16 99 (dk_at dksX9_readClause_6 7 rfl rfl)
theorem dX9_readClause_149 : decode cX9_readClause 149 = .ok (.invokevirtual 176, 3) := dk_182 0 176 (dk_at dksX9_readClause_6 9 rfl rfl)
theorem dX9_readClause_152 : decode cX9_readClause 152 = .ok (.iastore, 1) := dk_79 (dk_at dksX9_readClause_6 12 rfl rfl)
theorem dX9_readClause_153 : decode cX9_readClause 153 = .ok (.goto 150, 3) := dk_167 0 150 (dk_at dksX9_readClause_6 13 rfl rfl)
theorem dX9_readClause_156 : decode cX9_readClause 156 = .ok (.iload_n 1, 1) := dk_27 (dk_at dksX9_readClause_6 16 rfl rfl)
theorem dX9_readClause_157 : decode cX9_readClause 157 = .ok (.ldc 192, 2) := dk_18 192 (dk_at dksX9_readClause_6 17 rfl rfl)
theorem dX9_readClause_159 : decode cX9_readClause 159 = .ok (.invokestatic 182, 3) := dk_184 0 182 (dk_at dksX9_readClause_6 19 rfl rfl)
theorem dX9_readClause_162 : decode cX9_readClause 162 = .ok (.if_icmp .ne 20, 3) := dk_160 0 20 (dk_at dksX9_readClause_7 0 rfl rfl)
theorem dX9_readClause_165 : decode cX9_readClause 165 = .ok (.aload_n 0, 1) := dk_42 (dk_at dksX9_readClause_7 3 rfl rfl)
theorem dX9_readClause_166 : decode cX9_readClause 166 = .ok (.getfield 23, 3) := dk_180 0 23 (dk_at dksX9_readClause_7 4 rfl rfl)
theorem dX9_readClause_169 : decode cX9_readClause 169 = .ok (.bipush 6, 2) := dk_16 6 (dk_at dksX9_readClause_7 7 rfl rfl)
theorem dX9_readClause_171 : decode cX9_readClause 171 = .ok (.aload_n 0, 1) := dk_42 (dk_at dksX9_readClause_7 9 rfl rfl)
theorem dX9_readClause_172 : decode cX9_readClause 172 = .ok (.iconst 0, 1) := dk_3 (dk_at dksX9_readClause_7 10 rfl rfl)
theorem dX9_readClause_173 : decode cX9_readClause 173 = .ok (.bipush 16, 2) := dk_16 16 (dk_at dksX9_readClause_7 11 rfl rfl)
theorem dX9_readClause_175 : decode cX9_readClause 175 = .ok (.invokevirtual 176, 3) := dk_182 0 176 (dk_at dksX9_readClause_7 13 rfl rfl)
theorem dX9_readClause_178 : decode cX9_readClause 178 = .ok (.iastore, 1) := dk_79 (dk_at dksX9_readClause_7 16 rfl rfl)
theorem dX9_readClause_179 : decode cX9_readClause 179 = .ok (.goto 124, 3) := dk_167 0 124 (dk_at dksX9_readClause_7 17 rfl rfl)
theorem dX9_readClause_182 : decode cX9_readClause 182 = .ok (.iload_n 1, 1) := dk_27 (dk_at dksX9_readClause_7 20 rfl rfl)
theorem dX9_readClause_183 : decode cX9_readClause 183 = .ok (.ldc 194, 2) := dk_18 194 (dk_at dksX9_readClause_7 21 rfl rfl)
theorem dX9_readClause_185 : decode cX9_readClause 185 = .ok (.invokestatic 182, 3) := dk_184 0 182 (dk_at dksX9_readClause_8 0 rfl rfl)
theorem dX9_readClause_188 : decode cX9_readClause 188 = .ok (.if_icmp .ne 35, 3) := dk_160 0 35 (dk_at dksX9_readClause_8 3 rfl rfl)
theorem dX9_readClause_191 : decode cX9_readClause 191 = .ok (.iconst 0, 1) := dk_3 (dk_at dksX9_readClause_8 6 rfl rfl)
theorem dX9_readClause_192 : decode cX9_readClause 192 = .ok (.istore_n 2, 1) := dk_61 (dk_at dksX9_readClause_8 7 rfl rfl)
theorem dX9_readClause_193 : decode cX9_readClause 193 = .ok (.iload_n 2, 1) := dk_28 (dk_at dksX9_readClause_8 8 rfl rfl)
theorem dX9_readClause_194 : decode cX9_readClause 194 = .ok (.iconst 5, 1) := dk_8 (dk_at dksX9_readClause_8 9 rfl rfl)
theorem dX9_readClause_195 : decode cX9_readClause 195 = .ok (.if_icmp .ge 25, 3) := dk_162 0 25 (dk_at dksX9_readClause_8 10 rfl rfl)
theorem dX9_readClause_198 : decode cX9_readClause 198 = .ok (.aload_n 0, 1) := dk_42 (dk_at dksX9_readClause_8 13 rfl rfl)
theorem dX9_readClause_199 : decode cX9_readClause 199 = .ok (.getfield 23, 3) := dk_180 0 23 (dk_at dksX9_readClause_8 14 rfl rfl)
theorem dX9_readClause_202 : decode cX9_readClause 202 = .ok (.bipush 7, 2) := dk_16 7 (dk_at dksX9_readClause_8 17 rfl rfl)
theorem dX9_readClause_204 : decode cX9_readClause 204 = .ok (.iload_n 2, 1) := dk_28 (dk_at dksX9_readClause_8 19 rfl rfl)
theorem dX9_readClause_205 : decode cX9_readClause 205 = .ok (.iadd, 1) := dk_96 (dk_at dksX9_readClause_8 20 rfl rfl)
theorem dX9_readClause_206 : decode cX9_readClause 206 = .ok (.aload_n 0, 1) := dk_42 (dk_at dksX9_readClause_8 21 rfl rfl)
theorem dX9_readClause_207 : decode cX9_readClause 207 = .ok (.iconst 0, 1) := dk_3 (dk_at dksX9_readClause_8 22 rfl rfl)
theorem dX9_readClause_208 : decode cX9_readClause 208 = .ok (.bipush 99, 2) := dk_16 99 (dk_at dksX9_readClause_9 0 rfl rfl)
theorem dX9_readClause_210 : decode cX9_readClause 210 = .ok (.invokevirtual 176, 3) := dk_182 0 176 (dk_at dksX9_readClause_9 2 rfl rfl)
theorem dX9_readClause_213 : decode cX9_readClause 213 = .ok (.iastore, 1) := dk_79 (dk_at dksX9_readClause_9 5 rfl rfl)
theorem dX9_readClause_214 : decode cX9_readClause 214 = .ok (.iinc 2 1, 3) := dk_132 2 1 (dk_at dksX9_readClause_9 6 rfl rfl)
theorem dX9_readClause_217 : decode cX9_readClause 217 = .ok (.goto (-24), 3) := dk_167 255 232 (dk_at dksX9_readClause_9 9 rfl rfl)
theorem dX9_readClause_220 : decode cX9_readClause 220 = .ok (.goto 83, 3) := dk_167 0 83 (dk_at dksX9_readClause_9 12 rfl rfl)
theorem dX9_readClause_223 : decode cX9_readClause 223 = .ok (.iload_n 1, 1) := dk_27 (dk_at dksX9_readClause_9 15 rfl rfl)
theorem dX9_readClause_224 : decode cX9_readClause 224 = .ok (.ldc 196, 2) := dk_18 196 (dk_at dksX9_readClause_9 16 rfl rfl)
theorem dX9_readClause_226 : decode cX9_readClause 226 = .ok (.invokestatic 182, 3) := dk_184 0 182 (dk_at dksX9_readClause_9 18 rfl rfl)
theorem dX9_readClause_229 : decode cX9_readClause 229 = .ok (.if_icmp .ne 16, 3) := dk_160 0 16 (dk_at dksX9_readClause_9 21 rfl rfl)
theorem dX9_readClause_232 : decode cX9_readClause 232 = .ok (.aload_n 0, 1) := dk_42 (dk_at dksX9_readClause_10 0 rfl rfl)
theorem dX9_readClause_233 : decode cX9_readClause 233 = .ok (.dup, 1) := dk_89 (dk_at dksX9_readClause_10 1 rfl rfl)
theorem dX9_readClause_234 : decode cX9_readClause 234 = .ok (.getfield 151, 3) := dk_180 0 151 (dk_at dksX9_readClause_10 2 rfl rfl)
theorem dX9_readClause_237 : decode cX9_readClause 237 = .ok (.iconst 1, 1) := dk_4 (dk_at dksX9_readClause_10 5 rfl rfl)
theorem dX9_readClause_238 : decode cX9_readClause 238 = .ok (.iadd, 1) := dk_96 (dk_at dksX9_readClause_10 6 rfl rfl)
theorem dX9_readClause_239 : decode cX9_readClause 239 = .ok (.putfield 151, 3) := dk_181 0 151 (dk_at dksX9_readClause_10 7 rfl rfl)
theorem dX9_readClause_242 : decode cX9_readClause 242 = .ok (.goto 61, 3) := dk_167 0 61 (dk_at dksX9_readClause_10 10 rfl rfl)
theorem dX9_readClause_245 : decode cX9_readClause 245 = .ok (.aload_n 0, 1) := dk_42 (dk_at dksX9_readClause_10 13 rfl rfl)
theorem dX9_readClause_246 : decode cX9_readClause 246 = .ok (.iconst 0, 1) := dk_3 (dk_at dksX9_readClause_10 14 rfl rfl)
theorem dX9_readClause_247 : decode cX9_readClause 247 = .ok (.aload_n 0, 1) := dk_42 (dk_at dksX9_readClause_10 15 rfl rfl)
theorem dX9_readClause_248 : decode cX9_readClause 248 = .ok (.getfield 151, 3) := dk_180 0 151 (dk_at dksX9_readClause_10 16 rfl rfl)
theorem dX9_readClause_251 : decode cX9_readClause 251 = .ok (.iconst 1, 1) := dk_4 (dk_at dksX9_readClause_10 19 rfl rfl)
theorem dX9_readClause_252 : decode cX9_readClause 252 = .ok (.isub, 1) := dk_100 (dk_at dksX9_readClause_10 20 rfl rfl)
theorem dX9_readClause_253 : decode cX9_readClause 253 = .ok (.invokevirtual 176, 3) := dk_182 0 176 (dk_at dksX9_readClause_10 21 rfl rfl)
theorem dX9_readClause_256 : decode cX9_readClause 256 = .ok (.istore_n 2, 1) := dk_61 (dk_at dksX9_readClause_11 0 rfl rfl)
theorem dX9_readClause_257 : decode cX9_readClause 257 = .ok (.aload_n 0, 1) := dk_42 (dk_at dksX9_readClause_11 1 rfl rfl)
theorem dX9_readClause_258 : decode cX9_readClause 258 = .ok (.iconst 0, 1) := dk_3 (dk_at dksX9_readClause_11 2 rfl rfl)
theorem dX9_readClause_259 : decode cX9_readClause 259 = .ok (.sipush 480, 3) := dk_17 1 224 (dk_at dksX9_readClause_11 3 rfl rfl)
theorem dX9_readClause_262 : decode cX9_readClause 262 = .ok (.invokevirtual 176, 3) := dk_182 0 176 (dk_at dksX9_readClause_11 6 rfl rfl)
theorem dX9_readClause_265 : decode cX9_readClause 265 = .ok (.istore_n 3, 1) := dk_62 (dk_at dksX9_readClause_11 9 rfl rfl)
theorem dX9_readClause_266 : decode cX9_readClause 266 = .ok (.aload_n 0, 1) := dk_42 (dk_at dksX9_readClause_11 10 rfl rfl)
theorem dX9_readClause_267 : decode cX9_readClause 267 = .ok (.invokevirtual 137, 3) := dk_182 0 137 (dk_at dksX9_readClause_11 11 rfl rfl)
theorem dX9_readClause_270 : decode cX9_readClause 270 = .ok (.ifCond .ne 4, 3) := dk_154 0 4 (dk_at dksX9_readClause_11 14 rfl rfl)
theorem dX9_readClause_273 : decode cX9_readClause 273 = .ok (.return_, 1) := dk_177 (dk_at dksX9_readClause_11 17 rfl rfl)
theorem dX9_readClause_274 : decode cX9_readClause 274 = .ok (.aload_n 0, 1) := dk_42 (dk_at dksX9_readClause_11 18 rfl rfl)
theorem dX9_readClause_275 : decode cX9_readClause 275 = .ok (.aload_n 0, 1) := dk_42 (dk_at dksX9_readClause_11 19 rfl rfl)
theorem dX9_readClause_276 : decode cX9_readClause 276 = .ok (.getfield 29, 3) := dk_180 0 29 (dk_at dksX9_readClause_11 20 rfl rfl)
theorem dX9_readClause_279 : decode cX9_readClause 279 = .ok (.aload_n 0, 1) := dk_42 (dk_at dksX9_readClause_11 23 rfl rfl)
theorem dX9_readClause_280 : decode cX9_readClause 280 = .ok (.getfield 32, 3) := dk_180 0 32 (dk_at dksX9_readClause_12 0 rfl rfl)
theorem dX9_readClause_283 : decode cX9_readClause 283 = .ok (.aload_n 0, 1) := dk_42 (dk_at dksX9_readClause_12 3 rfl rfl)
theorem dX9_readClause_284 : decode cX9_readClause 284 = .ok (.getfield 154, 3) := dk_180 0 154 (dk_at dksX9_readClause_12 4 rfl rfl)
theorem dX9_readClause_287 : decode cX9_readClause 287 = .ok (.iload_n 2, 1) := dk_28 (dk_at dksX9_readClause_12 7 rfl rfl)
theorem dX9_readClause_288 : decode cX9_readClause 288 = .ok (.iload_n 3, 1) := dk_29 (dk_at dksX9_readClause_12 8 rfl rfl)
theorem dX9_readClause_289 : decode cX9_readClause 289 = .ok (.invokevirtual 198, 3) := dk_182 0 198 (dk_at dksX9_readClause_12 9 rfl rfl)
theorem dX9_readClause_292 : decode cX9_readClause 292 = .ok (.pop, 1) := dk_87 (dk_at dksX9_readClause_12 12 rfl rfl)
theorem dX9_readClause_293 : decode cX9_readClause 293 = .ok (.aload_n 0, 1) := dk_42 (dk_at dksX9_readClause_12 13 rfl rfl)
theorem dX9_readClause_294 : decode cX9_readClause 294 = .ok (.dup, 1) := dk_89 (dk_at dksX9_readClause_12 14 rfl rfl)
theorem dX9_readClause_295 : decode cX9_readClause 295 = .ok (.getfield 154, 3) := dk_180 0 154 (dk_at dksX9_readClause_12 15 rfl rfl)
theorem dX9_readClause_298 : decode cX9_readClause 298 = .ok (.iconst 1, 1) := dk_4 (dk_at dksX9_readClause_12 18 rfl rfl)
theorem dX9_readClause_299 : decode cX9_readClause 299 = .ok (.iadd, 1) := dk_96 (dk_at dksX9_readClause_12 19 rfl rfl)
theorem dX9_readClause_300 : decode cX9_readClause 300 = .ok (.putfield 154, 3) := dk_181 0 154 (dk_at dksX9_readClause_12 20 rfl rfl)
theorem dX9_readClause_303 : decode cX9_readClause 303 = .ok (.return_, 1) := dk_177 (dk_at dksX9_readClause_12 23 rfl rfl)
abbrev cX9_readNumber : ByteArray := prog_28_method_14_code
def yX9_readNumber : MethodName := ⟨RX9, "readNumber", "(II)I"⟩
def dkwX9_readNumber_5 : List UInt8 := [21, 5, 27, 161, 0, 9, 21, 5, 28, 164, 0, 12, 42, 5, 21, 4, 182, 0, 144, 3, 172, 21, 5, 172]
abbrev dktX9_readNumber_5 : List UInt8 := dkwX9_readNumber_5 ++ []
def dkwX9_readNumber_4 : List UInt8 := [180, 0, 114, 46, 96, 16, 48, 100, 54, 5, 42, 89, 180, 0, 114, 4, 96, 181, 0, 114, 167, 255, 186]
abbrev dktX9_readNumber_4 : List UInt8 := dkwX9_readNumber_4 ++ dktX9_readNumber_5
def dkwX9_readNumber_3 : List UInt8 := [17, 39, 15, 164, 0, 9, 17, 39, 16, 167, 0, 21, 16, 10, 21, 5, 104, 42, 180, 0, 20, 42]
abbrev dktX9_readNumber_3 : List UInt8 := dkwX9_readNumber_3 ++ dktX9_readNumber_4
def dkwX9_readNumber_2 : List UInt8 := [180, 0, 117, 162, 0, 65, 42, 180, 0, 20, 42, 180, 0, 114, 46, 184, 0, 141, 153, 0, 50, 21, 5]
abbrev dktX9_readNumber_2 : List UInt8 := dkwX9_readNumber_2 ++ dktX9_readNumber_3
def dkwX9_readNumber_1 : List UInt8 := [184, 0, 141, 154, 0, 14, 42, 4, 42, 180, 0, 114, 182, 0, 144, 3, 172, 42, 180, 0, 114, 42]
abbrev dktX9_readNumber_1 : List UInt8 := dkwX9_readNumber_1 ++ dktX9_readNumber_2
def dkwX9_readNumber_0 : List UInt8 := [42, 182, 0, 137, 154, 0, 5, 3, 172, 42, 182, 0, 120, 62, 42, 180, 0, 114, 54, 4, 3, 54, 5, 29]
abbrev dktX9_readNumber_0 : List UInt8 := dkwX9_readNumber_0 ++ dktX9_readNumber_1
theorem dksX9_readNumber_0 : cX9_readNumber.data.toList.drop 0 = dktX9_readNumber_0 := by decide +kernel
theorem dksX9_readNumber_1 : cX9_readNumber.data.toList.drop 24 = dktX9_readNumber_1 := dk_seg dksX9_readNumber_0 24 rfl rfl
theorem dksX9_readNumber_2 : cX9_readNumber.data.toList.drop 46 = dktX9_readNumber_2 := dk_seg dksX9_readNumber_1 22 rfl rfl
theorem dksX9_readNumber_3 : cX9_readNumber.data.toList.drop 69 = dktX9_readNumber_3 := dk_seg dksX9_readNumber_2 23 rfl rfl
theorem dksX9_readNumber_4 : cX9_readNumber.data.toList.drop 91 = dktX9_readNumber_4 := dk_seg dksX9_readNumber_3 22 rfl rfl
theorem dksX9_readNumber_5 : cX9_readNumber.data.toList.drop 114 = dktX9_readNumber_5 := dk_seg dksX9_readNumber_4 23 rfl rfl
theorem dX9_readNumber_0 : decode cX9_readNumber 0 = .ok (.aload_n 0, 1) := dk_42 (dk_at dksX9_readNumber_0 0 rfl rfl)
theorem dX9_readNumber_1 : decode cX9_readNumber 1 = .ok (.invokevirtual 137, 3) := dk_182 0 137 (dk_at dksX9_readNumber_0 1 rfl rfl)
theorem dX9_readNumber_4 : decode cX9_readNumber 4 = .ok (.ifCond .ne 5, 3) := dk_154 0 5 (dk_at dksX9_readNumber_0 4 rfl rfl)
theorem dX9_readNumber_7 : decode cX9_readNumber 7 = .ok (.iconst 0, 1) := dk_3 (dk_at dksX9_readNumber_0 7 rfl rfl)
theorem dX9_readNumber_8 : decode cX9_readNumber 8 = .ok (.ireturn, 1) := dk_172 (dk_at dksX9_readNumber_0 8 rfl rfl)
theorem dX9_readNumber_9 : decode cX9_readNumber 9 = .ok (.aload_n 0, 1) := dk_42 (dk_at dksX9_readNumber_0 9 rfl rfl)
theorem dX9_readNumber_10 : decode cX9_readNumber 10 = .ok (.invokevirtual 120, 3) := dk_182 0 120 (dk_at dksX9_readNumber_0 10 rfl rfl)
theorem dX9_readNumber_13 : decode cX9_readNumber 13 = .ok (.istore_n 3, 1) := dk_62 (dk_at dksX9_readNumber_0 13 rfl rfl)
theorem dX9_readNumber_14 : decode cX9_readNumber 14 = .ok (.aload_n 0, 1) := dk_42 (dk_at dksX9_readNumber_0 14 rfl rfl)
theorem dX9_readNumber_15 : decode cX9_readNumber 15 = .ok (.getfield 114, 3) := dk_180 0 114 (dk_at dksX9_readNumber_0 15 rfl rfl)
theorem dX9_readNumber_18 : decode cX9_readNumber 18 = .ok (.istore 4, 2) := dk_54 4 (dk_at dksX9_readNumber_0 18 rfl rfl)
theorem dX9_readNumber_20 : decode cX9_readNumber 20 = .ok (.iconst 0, 1) := dk_3 (dk_at dksX9_readNumber_0 20 rfl rfl)
theorem dX9_readNumber_21 : decode cX9_readNumber 21 = .ok (.istore 5, 2) := dk_54 5 (dk_at dksX9_readNumber_0 21 rfl rfl)
theorem dX9_readNumber_23 : decode cX9_readNumber 23 = .ok (.iload_n 3, 1) := dk_29 (dk_at dksX9_readNumber_0 23 rfl rfl)
theorem dX9_readNumber_24 : decode cX9_readNumber 24 = .ok (.invokestatic 141, 3) := dk_184 0 141 (dk_at dksX9_readNumber_1 0 rfl rfl)
theorem dX9_readNumber_27 : decode cX9_readNumber 27 = .ok (.ifCond .ne 14, 3) := dk_154 0 14 (dk_at dksX9_readNumber_1 3 rfl rfl)
theorem dX9_readNumber_30 : decode cX9_readNumber 30 = .ok (.aload_n 0, 1) := dk_42 (dk_at dksX9_readNumber_1 6 rfl rfl)
theorem dX9_readNumber_31 : decode cX9_readNumber 31 = .ok (.iconst 1, 1) := dk_4 (dk_at dksX9_readNumber_1 7 rfl rfl)
theorem dX9_readNumber_32 : decode cX9_readNumber 32 = .ok (.aload_n 0, 1) := dk_42 (dk_at dksX9_readNumber_1 8 rfl rfl)
theorem dX9_readNumber_33 : decode cX9_readNumber 33 = .ok (.getfield 114, 3) := dk_180 0 114 (dk_at dksX9_readNumber_1 9 rfl rfl)
theorem dX9_readNumber_36 : decode cX9_readNumber 36 = .ok (.invokevirtual 144, 3) := dk_182 0 144 (dk_at dksX9_readNumber_1 12 rfl rfl)
theorem dX9_readNumber_39 : decode cX9_readNumber 39 = .ok (.iconst 0, 1) := dk_3 (dk_at dksX9_readNumber_1 15 rfl rfl)
theorem dX9_readNumber_40 : decode cX9_readNumber 40 = .ok (.ireturn, 1) := dk_172 (dk_at dksX9_readNumber_1 16 rfl rfl)
theorem dX9_readNumber_41 : decode cX9_readNumber 41 = .ok (.aload_n 0, 1) := dk_42 (dk_at dksX9_readNumber_1 17 rfl rfl)
theorem dX9_readNumber_42 : decode cX9_readNumber 42 = .ok (.getfield 114, 3) := dk_180 0 114 (dk_at dksX9_readNumber_1 18 rfl rfl)
theorem dX9_readNumber_45 : decode cX9_readNumber 45 = .ok (.aload_n 0, 1) := dk_42 (dk_at dksX9_readNumber_1 21 rfl rfl)
theorem dX9_readNumber_46 : decode cX9_readNumber 46 = .ok (.getfield 117, 3) := dk_180 0 117 (dk_at dksX9_readNumber_2 0 rfl rfl)
theorem dX9_readNumber_49 : decode cX9_readNumber 49 = .ok (.if_icmp .ge 65, 3) := dk_162 0 65 (dk_at dksX9_readNumber_2 3 rfl rfl)
theorem dX9_readNumber_52 : decode cX9_readNumber 52 = .ok (.aload_n 0, 1) := dk_42 (dk_at dksX9_readNumber_2 6 rfl rfl)
theorem dX9_readNumber_53 : decode cX9_readNumber 53 = .ok (.getfield 20, 3) := dk_180 0 20 (dk_at dksX9_readNumber_2 7 rfl rfl)
theorem dX9_readNumber_56 : decode cX9_readNumber 56 = .ok (.aload_n 0, 1) := dk_42 (dk_at dksX9_readNumber_2 10 rfl rfl)
theorem dX9_readNumber_57 : decode cX9_readNumber 57 = .ok (.getfield 114, 3) := dk_180 0 114 (dk_at dksX9_readNumber_2 11 rfl rfl)
theorem dX9_readNumber_60 : decode cX9_readNumber 60 = .ok (.iaload, 1) := dk_46 (dk_at dksX9_readNumber_2 14 rfl rfl)
theorem dX9_readNumber_61 : decode cX9_readNumber 61 = .ok (.invokestatic 141, 3) := dk_184 0 141 (dk_at dksX9_readNumber_2 15 rfl rfl)
theorem dX9_readNumber_64 : decode cX9_readNumber 64 = .ok (.ifCond .eq 50, 3) := dk_153 0 50 (dk_at dksX9_readNumber_2 18 rfl rfl)
theorem dX9_readNumber_67 : decode cX9_readNumber 67 = .ok (.iload 5, 2) := dk_21 5 (dk_at dksX9_readNumber_2 21 rfl rfl)
theorem dX9_readNumber_69 : decode cX9_readNumber 69 = .ok (.sipush 9999, 3) := dk_17 39 15 (dk_at dksX9_readNumber_3 0 rfl rfl)
theorem dX9_readNumber_72 : decode cX9_readNumber 72 = .ok (.if_icmp .le 9, 3) := dk_164 0 9 (dk_at dksX9_readNumber_3 3 rfl rfl)
theorem dX9_readNumber_75 : decode cX9_readNumber 75 = .ok (.sipush 10000, 3) := dk_17 39 16 (dk_at dksX9_readNumber_3 6 rfl rfl)
theorem dX9_readNumber_78 : decode cX9_readNumber 78 = .ok (.goto 21, 3) := dk_167 0 21 (dk_at dksX9_readNumber_3 9 rfl rfl)
theorem dX9_readNumber_81 : decode cX9_readNumber 81 = .ok (.bipush 10, 2) := dk_16 10 (dk_at dksX9_readNumber_3 12 rfl rfl)
theorem dX9_readNumber_83 : decode cX9_readNumber 83 = .ok (.iload 5, 2) := dk_21 5 (dk_at dksX9_readNumber_3 14 rfl rfl)
theorem dX9_readNumber_85 : decode cX9_readNumber 85 = .ok (.imul, 1) := dk_104 (dk_at dksX9_readNumber_3 16 rfl rfl)
theorem dX9_readNumber_86 : decode cX9_readNumber 86 = .ok (.aload_n 0, 1) := dk_42 (dk_at dksX9_readNumber_3 17 rfl rfl)
theorem dX9_readNumber_87 : decode cX9_readNumber 87 = .ok (.getfield 20, 3) := dk_180 0 20 (dk_at dksX9_readNumber_3 18 rfl rfl)
theorem dX9_readNumber_90 : decode cX9_readNumber 90 = .ok (.aload_n 0, 1) := dk_42 (dk_at dksX9_readNumber_3 21 rfl rfl)
theorem dX9_readNumber_91 : decode cX9_readNumber 91 = .ok (.getfield 114, 3) := dk_180 0 114 (dk_at dksX9_readNumber_4 0 rfl rfl)
theorem dX9_readNumber_94 : decode cX9_readNumber 94 = .ok (.iaload, 1) := dk_46 (dk_at dksX9_readNumber_4 3 rfl rfl)
theorem dX9_readNumber_95 : decode cX9_readNumber 95 = .ok (.iadd, 1) := dk_96 (dk_at dksX9_readNumber_4 4 rfl rfl)
theorem dX9_readNumber_96 : decode cX9_readNumber 96 = .ok (.bipush 48, 2) := dk_16 48 (dk_at dksX9_readNumber_4 5 rfl rfl)
theorem dX9_readNumber_98 : decode cX9_readNumber 98 = .ok (.isub, 1) := dk_100 (dk_at dksX9_readNumber_4 7 rfl rfl)
theorem dX9_readNumber_99 : decode cX9_readNumber 99 = .ok (.istore 5, 2) := dk_54 5 (dk_at dksX9_readNumber_4 8 rfl rfl)
theorem dX9_readNumber_101 : decode cX9_readNumber 101 = .ok (.aload_n 0, 1) := dk_42 (dk_at dksX9_readNumber_4 10 rfl rfl)
theorem dX9_readNumber_102 : decode cX9_readNumber 102 = .ok (.dup, 1) := dk_89 (dk_at dksX9_readNumber_4 11 rfl rfl)
theorem dX9_readNumber_103 : decode cX9_readNumber 103 = .ok (.getfield 114, 3) := dk_180 0 114 (dk_at dksX9_readNumber_4 12 rfl rfl)
theorem dX9_readNumber_106 : decode cX9_readNumber 106 = .ok (.iconst 1, 1) := dk_4 (dk_at dksX9_readNumber_4 15 rfl rfl)
theorem dX9_readNumber_107 : decode cX9_readNumber 107 = .ok (.iadd, 1) := dk_96 (dk_at dksX9_readNumber_4 16 rfl rfl)
theorem dX9_readNumber_108 : decode cX9_readNumber 108 = .ok (.putfield 114, 3) := dk_181 0 114 (dk_at dksX9_readNumber_4 17 rfl rfl)
theorem dX9_readNumber_111 : decode cX9_readNumber 111 = .ok (.goto (-70), 3) := dk_167 255 186 (dk_at dksX9_readNumber_4 20 rfl rfl)
theorem dX9_readNumber_114 : decode cX9_readNumber 114 = .ok (.iload 5, 2) := dk_21 5 (dk_at dksX9_readNumber_5 0 rfl rfl)
theorem dX9_readNumber_116 : decode cX9_readNumber 116 = .ok (.iload_n 1, 1) := dk_27 (dk_at dksX9_readNumber_5 2 rfl rfl)
theorem dX9_readNumber_117 : decode cX9_readNumber 117 = .ok (.if_icmp .lt 9, 3) := dk_161 0 9 (dk_at dksX9_readNumber_5 3 rfl rfl)
theorem dX9_readNumber_120 : decode cX9_readNumber 120 = .ok (.iload 5, 2) := dk_21 5 (dk_at dksX9_readNumber_5 6 rfl rfl)
theorem dX9_readNumber_122 : decode cX9_readNumber 122 = .ok (.iload_n 2, 1) := dk_28 (dk_at dksX9_readNumber_5 8 rfl rfl)
theorem dX9_readNumber_123 : decode cX9_readNumber 123 = .ok (.if_icmp .le 12, 3) := dk_164 0 12 (dk_at dksX9_readNumber_5 9 rfl rfl)
theorem dX9_readNumber_126 : decode cX9_readNumber 126 = .ok (.aload_n 0, 1) := dk_42 (dk_at dksX9_readNumber_5 12 rfl rfl)
theorem dX9_readNumber_127 : decode cX9_readNumber 127 = .ok (.iconst 2, 1) := dk_5 (dk_at dksX9_readNumber_5 13 rfl rfl)
theorem dX9_readNumber_128 : decode cX9_readNumber 128 = .ok (.iload 4, 2) := dk_21 4 (dk_at dksX9_readNumber_5 14 rfl rfl)
theorem dX9_readNumber_130 : decode cX9_readNumber 130 = .ok (.invokevirtual 144, 3) := dk_182 0 144 (dk_at dksX9_readNumber_5 16 rfl rfl)
theorem dX9_readNumber_133 : decode cX9_readNumber 133 = .ok (.iconst 0, 1) := dk_3 (dk_at dksX9_readNumber_5 19 rfl rfl)
theorem dX9_readNumber_134 : decode cX9_readNumber 134 = .ok (.ireturn, 1) := dk_172 (dk_at dksX9_readNumber_5 20 rfl rfl)
theorem dX9_readNumber_135 : decode cX9_readNumber 135 = .ok (.iload 5, 2) := dk_21 5 (dk_at dksX9_readNumber_5 21 rfl rfl)
theorem dX9_readNumber_137 : decode cX9_readNumber 137 = .ok (.ireturn, 1) := dk_172 (dk_at dksX9_readNumber_5 23 rfl rfl)
abbrev cX9_isDigit : ByteArray := prog_28_method_10_code
def yX9_isDigit : MethodName := ⟨RX9, "isDigit", "(I)Z"⟩
def dkwX9_isDigit_0 : List UInt8 := [26, 16, 48, 161, 0, 13, 26, 16, 57, 163, 0, 7, 4, 167, 0, 4, 3, 172]
abbrev dktX9_isDigit_0 : List UInt8 := dkwX9_isDigit_0 ++ []
theorem dksX9_isDigit_0 : cX9_isDigit.data.toList.drop 0 = dktX9_isDigit_0 := by decide +kernel
theorem dX9_isDigit_0 : decode cX9_isDigit 0 = .ok (.iload_n 0, 1) := dk_26 (dk_at dksX9_isDigit_0 0 rfl rfl)
theorem dX9_isDigit_1 : decode cX9_isDigit 1 = .ok (.bipush 48, 2) := dk_16 48 (dk_at dksX9_isDigit_0 1 rfl rfl)
theorem dX9_isDigit_3 : decode cX9_isDigit 3 = .ok (.if_icmp .lt 13, 3) := dk_161 0 13 (dk_at dksX9_isDigit_0 3 rfl rfl)
theorem dX9_isDigit_6 : decode cX9_isDigit 6 = .ok (.iload_n 0, 1) := dk_26 (dk_at dksX9_isDigit_0 6 rfl rfl)
theorem dX9_isDigit_7 : decode cX9_isDigit 7 = .ok (.bipush 57, 2) := dk_16 57 (dk_at dksX9_isDigit_0 7 rfl rfl)
theorem dX9_isDigit_9 : decode cX9_isDigit 9 = .ok (.if_icmp .gt 7, 3) := dk_163 0 7 (dk_at dksX9_isDigit_0 9 rfl rfl)
theorem dX9_isDigit_12 : decode cX9_isDigit 12 = .ok (.iconst 1, 1) := dk_4 (dk_at dksX9_isDigit_0 12 rfl rfl)
theorem dX9_isDigit_13 : decode cX9_isDigit 13 = .ok (.goto 4, 3) := dk_167 0 4 (dk_at dksX9_isDigit_0 13 rfl rfl)
theorem dX9_isDigit_16 : decode cX9_isDigit 16 = .ok (.iconst 0, 1) := dk_3 (dk_at dksX9_isDigit_0 16 rfl rfl)
theorem dX9_isDigit_17 : decode cX9_isDigit 17 = .ok (.ireturn, 1) := dk_172 (dk_at dksX9_isDigit_0 17 rfl rfl)
abbrev cX9_puts : ByteArray := prog_28_method_23_code
def yX9_puts : MethodName := ⟨RX9, "puts", "([I[IIII)I"⟩
def dkwX9_puts_2 : List UInt8 := [21, 6, 21, 4, 79, 44, 21, 6, 21, 5, 79, 21, 6, 172]
abbrev dktX9_puts_2 : List UInt8 := dkwX9_puts_2 ++ []
def dkwX9_puts_1 : List UInt8 := [21, 6, 4, 100, 46, 79, 44, 21, 6, 44, 21, 6, 4, 100, 46, 79, 132, 6, 255, 167, 255, 217, 43]
abbrev dktX9_puts_1 : List UInt8 := dkwX9_puts_1 ++ dktX9_puts_2
def dkwX9_puts_0 : List UInt8 := [29, 54, 6, 21, 6, 158, 0, 40, 44, 21, 6, 4, 100, 46, 21, 5, 164, 0, 29, 43, 21, 6, 43]
abbrev dktX9_puts_0 : List UInt8 := dkwX9_puts_0 ++ dktX9_puts_1
theorem dksX9_puts_0 : cX9_puts.data.toList.drop 0 = dktX9_puts_0 := by decide +kernel
theorem dksX9_puts_1 : cX9_puts.data.toList.drop 23 = dktX9_puts_1 := dk_seg dksX9_puts_0 23 rfl rfl
theorem dksX9_puts_2 : cX9_puts.data.toList.drop 46 = dktX9_puts_2 := dk_seg dksX9_puts_1 23 rfl rfl
theorem dX9_puts_0 : decode cX9_puts 0 = .ok (.iload_n 3, 1) := dk_29 (dk_at dksX9_puts_0 0 rfl rfl)
theorem dX9_puts_1 : decode cX9_puts 1 = .ok (.istore 6, 2) := dk_54 6 (dk_at dksX9_puts_0 1 rfl rfl)
theorem dX9_puts_3 : decode cX9_puts 3 = .ok (.iload 6, 2) := dk_21 6 (dk_at dksX9_puts_0 3 rfl rfl)
theorem dX9_puts_5 : decode cX9_puts 5 = .ok (.ifCond .le 40, 3) := dk_158 0 40 (dk_at dksX9_puts_0 5 rfl rfl)
theorem dX9_puts_8 : decode cX9_puts 8 = .ok (.aload_n 2, 1) := dk_44 (dk_at dksX9_puts_0 8 rfl rfl)
theorem dX9_puts_9 : decode cX9_puts 9 = .ok (.iload 6, 2) := dk_21 6 (dk_at dksX9_puts_0 9 rfl rfl)
theorem dX9_puts_11 : decode cX9_puts 11 = .ok (.iconst 1, 1) := dk_4 (dk_at dksX9_puts_0 11 rfl rfl)
theorem dX9_puts_12 : decode cX9_puts 12 = .ok (.isub, 1) := dk_100 (dk_at dksX9_puts_0 12 rfl rfl)
theorem dX9_puts_13 : decode cX9_puts 13 = .ok (.iaload, 1) := dk_46 (dk_at dksX9_puts_0 13 rfl rfl)
theorem dX9_puts_14 : decode cX9_puts 14 = .ok (.iload 5, 2) := dk_21 5 (dk_at dksX9_puts_0 14 rfl rfl)
theorem dX9_puts_16 : decode cX9_puts 16 = .ok (.if_icmp .le 29, 3) := dk_164 0 29 (dk_at dksX9_puts_0 16 rfl rfl)
theorem dX9_puts_19 : decode cX9_puts 19 = .ok (.aload_n 1, 1) := dk_43 (dk_at dksX9_puts_0 19 rfl rfl)
theorem dX9_puts_20 : decode cX9_puts 20 = .ok (.iload 6, 2) := dk_21 6 (dk_at dksX9_puts_0 20 rfl rfl)
theorem dX9_puts_22 : decode cX9_puts 22 = .ok (.aload_n 1, 1) := dk_43 (dk_at dksX9_puts_0 22 rfl rfl)
theorem dX9_puts_23 : decode cX9_puts 23 = .ok (.iload 6, 2) := dk_21 6 (dk_at dksX9_puts_1 0 rfl rfl)
theorem dX9_puts_25 : decode cX9_puts 25 = .ok (.iconst 1, 1) := dk_4 (dk_at dksX9_puts_1 2 rfl rfl)
theorem dX9_puts_26 : decode cX9_puts 26 = .ok (.isub, 1) := dk_100 (dk_at dksX9_puts_1 3 rfl rfl)
theorem dX9_puts_27 : decode cX9_puts 27 = .ok (.iaload, 1) := dk_46 (dk_at dksX9_puts_1 4 rfl rfl)
theorem dX9_puts_28 : decode cX9_puts 28 = .ok (.iastore, 1) := dk_79 (dk_at dksX9_puts_1 5 rfl rfl)
theorem dX9_puts_29 : decode cX9_puts 29 = .ok (.aload_n 2, 1) := dk_44 (dk_at dksX9_puts_1 6 rfl rfl)
theorem dX9_puts_30 : decode cX9_puts 30 = .ok (.iload 6, 2) := dk_21 6 (dk_at dksX9_puts_1 7 rfl rfl)
theorem dX9_puts_32 : decode cX9_puts 32 = .ok (.aload_n 2, 1) := dk_44 (dk_at dksX9_puts_1 9 rfl rfl)
theorem dX9_puts_33 : decode cX9_puts 33 = .ok (.iload 6, 2) := dk_21 6 (dk_at dksX9_puts_1 10 rfl rfl)
theorem dX9_puts_35 : decode cX9_puts 35 = .ok (.iconst 1, 1) := dk_4 (dk_at dksX9_puts_1 12 rfl rfl)
theorem dX9_puts_36 : decode cX9_puts 36 = .ok (.isub, 1) := dk_100 (dk_at dksX9_puts_1 13 rfl rfl)
theorem dX9_puts_37 : decode cX9_puts 37 = .ok (.iaload, 1) := dk_46 (dk_at dksX9_puts_1 14 rfl rfl)
theorem dX9_puts_38 : decode cX9_puts 38 = .ok (.iastore, 1) := dk_79 (dk_at dksX9_puts_1 15 rfl rfl)
theorem dX9_puts_39 : decode cX9_puts 39 = .ok (.iinc 6 (-1), 3) := dk_132 6 255 (dk_at dksX9_puts_1 16 rfl rfl)
theorem dX9_puts_42 : decode cX9_puts 42 = .ok (.goto (-39), 3) := dk_167 255 217 (dk_at dksX9_puts_1 19 rfl rfl)
theorem dX9_puts_45 : decode cX9_puts 45 = .ok (.aload_n 1, 1) := dk_43 (dk_at dksX9_puts_1 22 rfl rfl)
theorem dX9_puts_46 : decode cX9_puts 46 = .ok (.iload 6, 2) := dk_21 6 (dk_at dksX9_puts_2 0 rfl rfl)
theorem dX9_puts_48 : decode cX9_puts 48 = .ok (.iload 4, 2) := dk_21 4 (dk_at dksX9_puts_2 2 rfl rfl)
theorem dX9_puts_50 : decode cX9_puts 50 = .ok (.iastore, 1) := dk_79 (dk_at dksX9_puts_2 4 rfl rfl)
theorem dX9_puts_51 : decode cX9_puts 51 = .ok (.aload_n 2, 1) := dk_44 (dk_at dksX9_puts_2 5 rfl rfl)
theorem dX9_puts_52 : decode cX9_puts 52 = .ok (.iload 6, 2) := dk_21 6 (dk_at dksX9_puts_2 6 rfl rfl)
theorem dX9_puts_54 : decode cX9_puts 54 = .ok (.iload 5, 2) := dk_21 5 (dk_at dksX9_puts_2 8 rfl rfl)
theorem dX9_puts_56 : decode cX9_puts 56 = .ok (.iastore, 1) := dk_79 (dk_at dksX9_puts_2 10 rfl rfl)
theorem dX9_puts_57 : decode cX9_puts 57 = .ok (.iload 6, 2) := dk_21 6 (dk_at dksX9_puts_2 11 rfl rfl)
theorem dX9_puts_59 : decode cX9_puts 59 = .ok (.ireturn, 1) := dk_172 (dk_at dksX9_puts_2 13 rfl rfl)
abbrev cX9_sign : ByteArray := prog_28_method_15_code
def yX9_sign : MethodName := ⟨RX9, "sign", "(I)V"⟩
def dkwX9_sign_1 : List UInt8 := [42, 182, 0, 137, 153, 0, 13, 42, 89, 180, 0, 114, 4, 96, 181, 0, 114, 177]
abbrev dktX9_sign_1 : List UInt8 := dkwX9_sign_1 ++ []
def dkwX9_sign_0 : List UInt8 := [42, 182, 0, 137, 153, 0, 20, 42, 182, 0, 120, 27, 159, 0, 12, 42, 4, 42, 180, 0, 114, 182, 0, 144]
abbrev dktX9_sign_0 : List UInt8 := dkwX9_sign_0 ++ dktX9_sign_1
theorem dksX9_sign_0 : cX9_sign.data.toList.drop 0 = dktX9_sign_0 := by decide +kernel
theorem dksX9_sign_1 : cX9_sign.data.toList.drop 24 = dktX9_sign_1 := dk_seg dksX9_sign_0 24 rfl rfl
theorem dX9_sign_0 : decode cX9_sign 0 = .ok (.aload_n 0, 1) := dk_42 (dk_at dksX9_sign_0 0 rfl rfl)
theorem dX9_sign_1 : decode cX9_sign 1 = .ok (.invokevirtual 137, 3) := dk_182 0 137 (dk_at dksX9_sign_0 1 rfl rfl)
theorem dX9_sign_4 : decode cX9_sign 4 = .ok (.ifCond .eq 20, 3) := dk_153 0 20 (dk_at dksX9_sign_0 4 rfl rfl)
theorem dX9_sign_7 : decode cX9_sign 7 = .ok (.aload_n 0, 1) := dk_42 (dk_at dksX9_sign_0 7 rfl rfl)
theorem dX9_sign_8 : decode cX9_sign 8 = .ok (.invokevirtual 120, 3) := dk_182 0 120 (dk_at dksX9_sign_0 8 rfl rfl)
theorem dX9_sign_11 : decode cX9_sign 11 = .ok (.iload_n 1, 1) := dk_27 (dk_at dksX9_sign_0 11 rfl rfl)
theorem dX9_sign_12 : decode cX9_sign 12 = .ok (.if_icmp .eq 12, 3) := dk_159 0 12 (dk_at dksX9_sign_0 12 rfl rfl)
theorem dX9_sign_15 : decode cX9_sign 15 = .ok (.aload_n 0, 1) := dk_42 (dk_at dksX9_sign_0 15 rfl rfl)
theorem dX9_sign_16 : decode cX9_sign 16 = .ok (.iconst 1, 1) := dk_4 (dk_at dksX9_sign_0 16 rfl rfl)
theorem dX9_sign_17 : decode cX9_sign 17 = .ok (.aload_n 0, 1) := dk_42 (dk_at dksX9_sign_0 17 rfl rfl)
theorem dX9_sign_18 : decode cX9_sign 18 = .ok (.getfield 114, 3) := dk_180 0 114 (dk_at dksX9_sign_0 18 rfl rfl)
theorem dX9_sign_21 : decode cX9_sign 21 = .ok (.invokevirtual 144, 3) := dk_182 0 144 (dk_at dksX9_sign_0 21 rfl rfl)
theorem dX9_sign_24 : decode cX9_sign 24 = .ok (.aload_n 0, 1) := dk_42 (dk_at dksX9_sign_1 0 rfl rfl)
theorem dX9_sign_25 : decode cX9_sign 25 = .ok (.invokevirtual 137, 3) := dk_182 0 137 (dk_at dksX9_sign_1 1 rfl rfl)
theorem dX9_sign_28 : decode cX9_sign 28 = .ok (.ifCond .eq 13, 3) := dk_153 0 13 (dk_at dksX9_sign_1 4 rfl rfl)
theorem dX9_sign_31 : decode cX9_sign 31 = .ok (.aload_n 0, 1) := dk_42 (dk_at dksX9_sign_1 7 rfl rfl)
theorem dX9_sign_32 : decode cX9_sign 32 = .ok (.dup, 1) := dk_89 (dk_at dksX9_sign_1 8 rfl rfl)
theorem dX9_sign_33 : decode cX9_sign 33 = .ok (.getfield 114, 3) := dk_180 0 114 (dk_at dksX9_sign_1 9 rfl rfl)
theorem dX9_sign_36 : decode cX9_sign 36 = .ok (.iconst 1, 1) := dk_4 (dk_at dksX9_sign_1 12 rfl rfl)
theorem dX9_sign_37 : decode cX9_sign 37 = .ok (.iadd, 1) := dk_96 (dk_at dksX9_sign_1 13 rfl rfl)
theorem dX9_sign_38 : decode cX9_sign 38 = .ok (.putfield 114, 3) := dk_181 0 114 (dk_at dksX9_sign_1 14 rfl rfl)
theorem dX9_sign_41 : decode cX9_sign 41 = .ok (.return_, 1) := dk_177 (dk_at dksX9_sign_1 17 rfl rfl)
abbrev cX9_result : ByteArray := prog_28_method_18_code
def yX9_result : MethodName := ⟨RX9, "result", "(I)I"⟩
def dkwX9_result_1 : List UInt8 := [16, 10, 100, 172]
abbrev dktX9_result_1 : List UInt8 := dkwX9_result_1 ++ []
def dkwX9_result_0 : List UInt8 := [42, 42, 180, 0, 108, 181, 0, 17, 42, 182, 0, 137, 153, 0, 7, 27, 167, 0, 10, 42, 180, 0, 111]
abbrev dktX9_result_0 : List UInt8 := dkwX9_result_0 ++ dktX9_result_1
theorem dksX9_result_0 : cX9_result.data.toList.drop 0 = dktX9_result_0 := by decide +kernel
theorem dksX9_result_1 : cX9_result.data.toList.drop 23 = dktX9_result_1 := dk_seg dksX9_result_0 23 rfl rfl
theorem dX9_result_0 : decode cX9_result 0 = .ok (.aload_n 0, 1) := dk_42 (dk_at dksX9_result_0 0 rfl rfl)
theorem dX9_result_1 : decode cX9_result 1 = .ok (.aload_n 0, 1) := dk_42 (dk_at dksX9_result_0 1 rfl rfl)
theorem dX9_result_2 : decode cX9_result 2 = .ok (.getfield 108, 3) := dk_180 0 108 (dk_at dksX9_result_0 2 rfl rfl)
theorem dX9_result_5 : decode cX9_result 5 = .ok (.putfield 17, 3) := dk_181 0 17 (dk_at dksX9_result_0 5 rfl rfl)
theorem dX9_result_8 : decode cX9_result 8 = .ok (.aload_n 0, 1) := dk_42 (dk_at dksX9_result_0 8 rfl rfl)
theorem dX9_result_9 : decode cX9_result 9 = .ok (.invokevirtual 137, 3) := dk_182 0 137 (dk_at dksX9_result_0 9 rfl rfl)
theorem dX9_result_12 : decode cX9_result 12 = .ok (.ifCond .eq 7, 3) := dk_153 0 7 (dk_at dksX9_result_0 12 rfl rfl)
theorem dX9_result_15 : decode cX9_result 15 = .ok (.iload_n 1, 1) := dk_27 (dk_at dksX9_result_0 15 rfl rfl)
theorem dX9_result_16 : decode cX9_result 16 = .ok (.goto 10, 3) := dk_167 0 10 (dk_at dksX9_result_0 16 rfl rfl)
theorem dX9_result_19 : decode cX9_result 19 = .ok (.aload_n 0, 1) := dk_42 (dk_at dksX9_result_0 19 rfl rfl)
theorem dX9_result_20 : decode cX9_result 20 = .ok (.getfield 111, 3) := dk_180 0 111 (dk_at dksX9_result_0 20 rfl rfl)
theorem dX9_result_23 : decode cX9_result 23 = .ok (.bipush 10, 2) := dk_16 10 (dk_at dksX9_result_1 0 rfl rfl)
theorem dX9_result_25 : decode cX9_result 25 = .ok (.isub, 1) := dk_100 (dk_at dksX9_result_1 2 rfl rfl)
theorem dX9_result_26 : decode cX9_result 26 = .ok (.ireturn, 1) := dk_172 (dk_at dksX9_result_1 3 rfl rfl)
abbrev cX9_habit : ByteArray := prog_28_method_43_code
def yX9_habit : MethodName := ⟨RX9, "habit", "(II)I"⟩
def dkwX9_habit_1 : List UInt8 := [182, 0, 213, 154, 0, 5, 3, 172, 42, 28, 27, 182, 1, 71, 172]
abbrev dktX9_habit_1 : List UInt8 := dkwX9_habit_1 ++ []
def dkwX9_habit_0 : List UInt8 := [42, 3, 181, 0, 3, 42, 27, 4, 182, 1, 64, 153, 0, 17, 42, 42, 28, 182, 1, 68, 5, 4]
abbrev dktX9_habit_0 : List UInt8 := dkwX9_habit_0 ++ dktX9_habit_1
theorem dksX9_habit_0 : cX9_habit.data.toList.drop 0 = dktX9_habit_0 := by decide +kernel
theorem dksX9_habit_1 : cX9_habit.data.toList.drop 22 = dktX9_habit_1 := dk_seg dksX9_habit_0 22 rfl rfl
theorem dX9_habit_0 : decode cX9_habit 0 = .ok (.aload_n 0, 1) := dk_42 (dk_at dksX9_habit_0 0 rfl rfl)
theorem dX9_habit_1 : decode cX9_habit 1 = .ok (.iconst 0, 1) := dk_3 (dk_at dksX9_habit_0 1 rfl rfl)
theorem dX9_habit_2 : decode cX9_habit 2 = .ok (.putfield 3, 3) := dk_181 0 3 (dk_at dksX9_habit_0 2 rfl rfl)
theorem dX9_habit_5 : decode cX9_habit 5 = .ok (.aload_n 0, 1) := dk_42 (dk_at dksX9_habit_0 5 rfl rfl)
theorem dX9_habit_6 : decode cX9_habit 6 = .ok (.iload_n 1, 1) := dk_27 (dk_at dksX9_habit_0 6 rfl rfl)
theorem dX9_habit_7 : decode cX9_habit 7 = .ok (.iconst 1, 1) := dk_4 (dk_at dksX9_habit_0 7 rfl rfl)
theorem dX9_habit_8 : decode cX9_habit 8 = .ok (.invokevirtual 320, 3) := dk_182 1 64 (dk_at dksX9_habit_0 8 rfl rfl)
theorem dX9_habit_11 : decode cX9_habit 11 = .ok (.ifCond .eq 17, 3) := dk_153 0 17 (dk_at dksX9_habit_0 11 rfl rfl)
theorem dX9_habit_14 : decode cX9_habit 14 = .ok (.aload_n 0, 1) := dk_42 (dk_at dksX9_habit_0 14 rfl rfl)
theorem dX9_habit_15 : decode cX9_habit 15 = .ok (.aload_n 0, 1) := dk_42 (dk_at dksX9_habit_0 15 rfl rfl)
theorem dX9_habit_16 : decode cX9_habit 16 = .ok (.iload_n 2, 1) := dk_28 (dk_at dksX9_habit_0 16 rfl rfl)
theorem dX9_habit_17 : decode cX9_habit 17 = .ok (.invokevirtual 324, 3) := dk_182 1 68 (dk_at dksX9_habit_0 17 rfl rfl)
theorem dX9_habit_20 : decode cX9_habit 20 = .ok (.iconst 2, 1) := dk_5 (dk_at dksX9_habit_0 20 rfl rfl)
theorem dX9_habit_21 : decode cX9_habit 21 = .ok (.iconst 1, 1) := dk_4 (dk_at dksX9_habit_0 21 rfl rfl)
theorem dX9_habit_22 : decode cX9_habit 22 = .ok (.invokevirtual 213, 3) := dk_182 0 213 (dk_at dksX9_habit_1 0 rfl rfl)
theorem dX9_habit_25 : decode cX9_habit 25 = .ok (.ifCond .ne 5, 3) := dk_154 0 5 (dk_at dksX9_habit_1 3 rfl rfl)
theorem dX9_habit_28 : decode cX9_habit 28 = .ok (.iconst 0, 1) := dk_3 (dk_at dksX9_habit_1 6 rfl rfl)
theorem dX9_habit_29 : decode cX9_habit 29 = .ok (.ireturn, 1) := dk_172 (dk_at dksX9_habit_1 7 rfl rfl)
theorem dX9_habit_30 : decode cX9_habit 30 = .ok (.aload_n 0, 1) := dk_42 (dk_at dksX9_habit_1 8 rfl rfl)
theorem dX9_habit_31 : decode cX9_habit 31 = .ok (.iload_n 2, 1) := dk_28 (dk_at dksX9_habit_1 9 rfl rfl)
theorem dX9_habit_32 : decode cX9_habit 32 = .ok (.iload_n 1, 1) := dk_27 (dk_at dksX9_habit_1 10 rfl rfl)
theorem dX9_habit_33 : decode cX9_habit 33 = .ok (.invokevirtual 327, 3) := dk_182 1 71 (dk_at dksX9_habit_1 11 rfl rfl)
theorem dX9_habit_36 : decode cX9_habit 36 = .ok (.ireturn, 1) := dk_172 (dk_at dksX9_habit_1 14 rfl rfl)
abbrev cX9_isPerson : ByteArray := prog_28_method_40_code
def yX9_isPerson : MethodName := ⟨RX9, "isPerson", "(II)Z"⟩
def dkwX9_isPerson_0 : List UInt8 := [42, 27, 3, 42, 180, 0, 161, 4, 100, 184, 1, 60, 28, 3, 182, 0, 213, 172]
abbrev dktX9_isPerson_0 : List UInt8 := dkwX9_isPerson_0 ++ []
theorem dksX9_isPerson_0 : cX9_isPerson.data.toList.drop 0 = dktX9_isPerson_0 := by decide +kernel
theorem dX9_isPerson_0 : decode cX9_isPerson 0 = .ok (.aload_n 0, 1) := dk_42 (dk_at dksX9_isPerson_0 0 rfl rfl)
theorem dX9_isPerson_1 : decode cX9_isPerson 1 = .ok (.iload_n 1, 1) := dk_27 (dk_at dksX9_isPerson_0 1 rfl rfl)
theorem dX9_isPerson_2 : decode cX9_isPerson 2 = .ok (.iconst 0, 1) := dk_3 (dk_at dksX9_isPerson_0 2 rfl rfl)
theorem dX9_isPerson_3 : decode cX9_isPerson 3 = .ok (.aload_n 0, 1) := dk_42 (dk_at dksX9_isPerson_0 3 rfl rfl)
theorem dX9_isPerson_4 : decode cX9_isPerson 4 = .ok (.getfield 161, 3) := dk_180 0 161 (dk_at dksX9_isPerson_0 4 rfl rfl)
theorem dX9_isPerson_7 : decode cX9_isPerson 7 = .ok (.iconst 1, 1) := dk_4 (dk_at dksX9_isPerson_0 7 rfl rfl)
theorem dX9_isPerson_8 : decode cX9_isPerson 8 = .ok (.isub, 1) := dk_100 (dk_at dksX9_isPerson_0 8 rfl rfl)
theorem dX9_isPerson_9 : decode cX9_isPerson 9 = .ok (.invokestatic 316, 3) := dk_184 1 60 (dk_at dksX9_isPerson_0 9 rfl rfl)
theorem dX9_isPerson_12 : decode cX9_isPerson 12 = .ok (.iload_n 2, 1) := dk_28 (dk_at dksX9_isPerson_0 12 rfl rfl)
theorem dX9_isPerson_13 : decode cX9_isPerson 13 = .ok (.iconst 0, 1) := dk_3 (dk_at dksX9_isPerson_0 13 rfl rfl)
theorem dX9_isPerson_14 : decode cX9_isPerson 14 = .ok (.invokevirtual 213, 3) := dk_182 0 213 (dk_at dksX9_isPerson_0 14 rfl rfl)
theorem dX9_isPerson_17 : decode cX9_isPerson 17 = .ok (.ireturn, 1) := dk_172 (dk_at dksX9_isPerson_0 17 rfl rfl)
abbrev cX9_within : ByteArray := prog_28_method_3_code
def yX9_within : MethodName := ⟨RX9, "within", "(III)Z"⟩
def dkwX9_within_0 : List UInt8 := [26, 27, 161, 0, 12, 26, 28, 163, 0, 7, 4, 167, 0, 4, 3, 172]
abbrev dktX9_within_0 : List UInt8 := dkwX9_within_0 ++ []
theorem dksX9_within_0 : cX9_within.data.toList.drop 0 = dktX9_within_0 := by decide +kernel
theorem dX9_within_0 : decode cX9_within 0 = .ok (.iload_n 0, 1) := dk_26 (dk_at dksX9_within_0 0 rfl rfl)
theorem dX9_within_1 : decode cX9_within 1 = .ok (.iload_n 1, 1) := dk_27 (dk_at dksX9_within_0 1 rfl rfl)
theorem dX9_within_2 : decode cX9_within 2 = .ok (.if_icmp .lt 12, 3) := dk_161 0 12 (dk_at dksX9_within_0 2 rfl rfl)
theorem dX9_within_5 : decode cX9_within 5 = .ok (.iload_n 0, 1) := dk_26 (dk_at dksX9_within_0 5 rfl rfl)
theorem dX9_within_6 : decode cX9_within 6 = .ok (.iload_n 2, 1) := dk_28 (dk_at dksX9_within_0 6 rfl rfl)
theorem dX9_within_7 : decode cX9_within 7 = .ok (.if_icmp .gt 7, 3) := dk_163 0 7 (dk_at dksX9_within_0 7 rfl rfl)
theorem dX9_within_10 : decode cX9_within 10 = .ok (.iconst 1, 1) := dk_4 (dk_at dksX9_within_0 10 rfl rfl)
theorem dX9_within_11 : decode cX9_within 11 = .ok (.goto 4, 3) := dk_167 0 4 (dk_at dksX9_within_0 11 rfl rfl)
theorem dX9_within_14 : decode cX9_within 14 = .ok (.iconst 0, 1) := dk_3 (dk_at dksX9_within_0 14 rfl rfl)
theorem dX9_within_15 : decode cX9_within 15 = .ok (.ireturn, 1) := dk_172 (dk_at dksX9_within_0 15 rfl rfl)
abbrev cX9_isTold : ByteArray := prog_28_method_42_code
def yX9_isTold : MethodName := ⟨RX9, "isTold", "(I)Z"⟩
def dkwX9_isTold_1 : List UInt8 := [172]
abbrev dktX9_isTold_1 : List UInt8 := dkwX9_isTold_1 ++ []
def dkwX9_isTold_0 : List UInt8 := [27, 155, 0, 22, 27, 42, 180, 0, 105, 163, 0, 14, 27, 17, 0, 150, 163, 0, 7, 4, 167, 0, 4, 3]
abbrev dktX9_isTold_0 : List UInt8 := dkwX9_isTold_0 ++ dktX9_isTold_1
theorem dksX9_isTold_0 : cX9_isTold.data.toList.drop 0 = dktX9_isTold_0 := by decide +kernel
theorem dksX9_isTold_1 : cX9_isTold.data.toList.drop 24 = dktX9_isTold_1 := dk_seg dksX9_isTold_0 24 rfl rfl
theorem dX9_isTold_0 : decode cX9_isTold 0 = .ok (.iload_n 1, 1) := dk_27 (dk_at dksX9_isTold_0 0 rfl rfl)
theorem dX9_isTold_1 : decode cX9_isTold 1 = .ok (.ifCond .lt 22, 3) := dk_155 0 22 (dk_at dksX9_isTold_0 1 rfl rfl)
theorem dX9_isTold_4 : decode cX9_isTold 4 = .ok (.iload_n 1, 1) := dk_27 (dk_at dksX9_isTold_0 4 rfl rfl)
theorem dX9_isTold_5 : decode cX9_isTold 5 = .ok (.aload_n 0, 1) := dk_42 (dk_at dksX9_isTold_0 5 rfl rfl)
theorem dX9_isTold_6 : decode cX9_isTold 6 = .ok (.getfield 105, 3) := dk_180 0 105 (dk_at dksX9_isTold_0 6 rfl rfl)
theorem dX9_isTold_9 : decode cX9_isTold 9 = .ok (.if_icmp .gt 14, 3) := dk_163 0 14 (dk_at dksX9_isTold_0 9 rfl rfl)
theorem dX9_isTold_12 : decode cX9_isTold 12 = .ok (.iload_n 1, 1) := dk_27 (dk_at dksX9_isTold_0 12 rfl rfl)
theorem dX9_isTold_13 : decode cX9_isTold 13 = .ok (.sipush 150, 3) := dk_17 0 150 (dk_at dksX9_isTold_0 13 rfl rfl)
theorem dX9_isTold_16 : decode cX9_isTold 16 = .ok (.if_icmp .gt 7, 3) := dk_163 0 7 (dk_at dksX9_isTold_0 16 rfl rfl)
theorem dX9_isTold_19 : decode cX9_isTold 19 = .ok (.iconst 1, 1) := dk_4 (dk_at dksX9_isTold_0 19 rfl rfl)
theorem dX9_isTold_20 : decode cX9_isTold 20 = .ok (.goto 4, 3) := dk_167 0 4 (dk_at dksX9_isTold_0 20 rfl rfl)
theorem dX9_isTold_23 : decode cX9_isTold 23 = .ok (.iconst 0, 1) := dk_3 (dk_at dksX9_isTold_0 23 rfl rfl)
theorem dX9_isTold_24 : decode cX9_isTold 24 = .ok (.ireturn, 1) := dk_172 (dk_at dksX9_isTold_1 0 rfl rfl)
abbrev cX9_readHabit : ByteArray := prog_28_method_39_code
def yX9_readHabit : MethodName := ⟨RX9, "readHabit", "(II)I"⟩
def dkwX9_readHabit_6 : List UInt8 := [17, 0, 150, 28, 104, 21, 4, 96, 42, 180, 0, 44, 21, 4, 46, 79, 132, 4, 1, 167, 255, 204, 29, 172]
abbrev dktX9_readHabit_6 : List UInt8 := dkwX9_readHabit_6 ++ []
def dkwX9_readHabit_5 : List UInt8 := [180, 0, 53, 17, 0, 150, 28, 104, 21, 4, 96, 42, 180, 0, 41, 21, 4, 46, 79, 42, 180, 0, 56]
abbrev dktX9_readHabit_5 : List UInt8 := dkwX9_readHabit_5 ++ dktX9_readHabit_6
def dkwX9_readHabit_4 : List UInt8 := [21, 4, 46, 79, 132, 4, 1, 167, 255, 223, 3, 54, 4, 21, 4, 42, 180, 0, 240, 162, 0, 49, 42]
abbrev dktX9_readHabit_4 : List UInt8 := dkwX9_readHabit_4 ++ dktX9_readHabit_5
def dkwX9_readHabit_3 : List UInt8 := [7, 42, 180, 1, 50, 104, 162, 0, 28, 42, 180, 0, 59, 16, 32, 28, 104, 21, 4, 96, 42, 180, 0, 47]
abbrev dktX9_readHabit_3 : List UInt8 := dkwX9_readHabit_3 ++ dktX9_readHabit_4
def dkwX9_readHabit_2 : List UInt8 := [180, 0, 108, 2, 159, 0, 5, 29, 172, 42, 180, 0, 62, 28, 42, 180, 1, 50, 79, 3, 54, 4, 21, 4]
abbrev dktX9_readHabit_2 : List UInt8 := dkwX9_readHabit_2 ++ dktX9_readHabit_3
def dkwX9_readHabit_1 : List UInt8 := [182, 0, 221, 153, 0, 10, 42, 182, 1, 57, 167, 255, 238, 42, 42, 180, 1, 50, 182, 0, 236, 62, 42]
abbrev dktX9_readHabit_1 : List UInt8 := dkwX9_readHabit_1 ++ dktX9_readHabit_2
def dkwX9_readHabit_0 : List UInt8 := [42, 27, 182, 0, 217, 42, 3, 181, 0, 240, 42, 3, 181, 1, 50, 42, 182, 0, 137, 153, 0, 17, 42]
abbrev dktX9_readHabit_0 : List UInt8 := dkwX9_readHabit_0 ++ dktX9_readHabit_1
theorem dksX9_readHabit_0 : cX9_readHabit.data.toList.drop 0 = dktX9_readHabit_0 := by decide +kernel
theorem dksX9_readHabit_1 : cX9_readHabit.data.toList.drop 23 = dktX9_readHabit_1 := dk_seg dksX9_readHabit_0 23 rfl rfl
theorem dksX9_readHabit_2 : cX9_readHabit.data.toList.drop 46 = dktX9_readHabit_2 := dk_seg dksX9_readHabit_1 23 rfl rfl
theorem dksX9_readHabit_3 : cX9_readHabit.data.toList.drop 70 = dktX9_readHabit_3 := dk_seg dksX9_readHabit_2 24 rfl rfl
theorem dksX9_readHabit_4 : cX9_readHabit.data.toList.drop 94 = dktX9_readHabit_4 := dk_seg dksX9_readHabit_3 24 rfl rfl
theorem dksX9_readHabit_5 : cX9_readHabit.data.toList.drop 117 = dktX9_readHabit_5 := dk_seg dksX9_readHabit_4 23 rfl rfl
theorem dksX9_readHabit_6 : cX9_readHabit.data.toList.drop 140 = dktX9_readHabit_6 := dk_seg dksX9_readHabit_5 23 rfl rfl
theorem dX9_readHabit_0 : decode cX9_readHabit 0 = .ok (.aload_n 0, 1) := dk_42 (dk_at dksX9_readHabit_0 0 rfl rfl)
theorem dX9_readHabit_1 : decode cX9_readHabit 1 = .ok (.iload_n 1, 1) := dk_27 (dk_at dksX9_readHabit_0 1 rfl rfl)
theorem dX9_readHabit_2 : decode cX9_readHabit 2 = .ok (.invokevirtual 217, 3) := dk_182 0 217 (dk_at dksX9_readHabit_0 2 rfl rfl)
theorem dX9_readHabit_5 : decode cX9_readHabit 5 = .ok (.aload_n 0, 1) := dk_42 (dk_at dksX9_readHabit_0 5 rfl rfl)
theorem dX9_readHabit_6 : decode cX9_readHabit 6 = .ok (.iconst 0, 1) := dk_3 (dk_at dksX9_readHabit_0 6 rfl rfl)
theorem dX9_readHabit_7 : decode cX9_readHabit 7 = .ok (.putfield 240, 3) := dk_181 0 240 (dk_at dksX9_readHabit_0 7 rfl rfl)
theorem dX9_readHabit_10 : decode cX9_readHabit 10 = .ok (.aload_n 0, 1) := dk_42 (dk_at dksX9_readHabit_0 10 rfl rfl)
theorem dX9_readHabit_11 : decode cX9_readHabit 11 = .ok (.iconst 0, 1) := dk_3 (dk_at dksX9_readHabit_0 11 rfl rfl)
theorem dX9_readHabit_12 : decode cX9_readHabit 12 = .ok (.putfield 306, 3) := dk_181 1 50 (dk_at dksX9_readHabit_0 12 rfl rfl)
theorem dX9_readHabit_15 : decode cX9_readHabit 15 = .ok (.aload_n 0, 1) := dk_42 (dk_at dksX9_readHabit_0 15 rfl rfl)
theorem dX9_readHabit_16 : decode cX9_readHabit 16 = .ok (.invokevirtual 137, 3) := dk_182 0 137 (dk_at dksX9_readHabit_0 16 rfl rfl)
theorem dX9_readHabit_19 : decode cX9_readHabit 19 = .ok (.ifCond .eq 17, 3) := dk_153 0 17 (dk_at dksX9_readHabit_0 19 rfl rfl)
theorem dX9_readHabit_22 : decode cX9_readHabit 22 = .ok (.aload_n 0, 1) := dk_42 (dk_at dksX9_readHabit_0 22 rfl rfl)
theorem dX9_readHabit_23 : decode cX9_readHabit 23 = .ok (.invokevirtual 221, 3) := dk_182 0 221 (dk_at dksX9_readHabit_1 0 rfl rfl)
theorem dX9_readHabit_26 : decode cX9_readHabit 26 = .ok (.ifCond .eq 10, 3) := dk_153 0 10 (dk_at dksX9_readHabit_1 3 rfl rfl)
theorem dX9_readHabit_29 : decode cX9_readHabit 29 = .ok (.aload_n 0, 1) := dk_42 (dk_at dksX9_readHabit_1 6 rfl rfl)
theorem dX9_readHabit_30 : decode cX9_readHabit 30 = .ok (.invokevirtual 313, 3) := dk_182 1 57 (dk_at dksX9_readHabit_1 7 rfl rfl)
theorem dX9_readHabit_33 : decode cX9_readHabit 33 = .ok (.goto (-18), 3) := dk_167 255 238 (dk_at dksX9_readHabit_1 10 rfl rfl)
theorem dX9_readHabit_36 : decode cX9_readHabit 36 = .ok (.aload_n 0, 1) := dk_42 (dk_at dksX9_readHabit_1 13 rfl rfl)
theorem dX9_readHabit_37 : decode cX9_readHabit 37 = .ok (.aload_n 0, 1) := dk_42 (dk_at dksX9_readHabit_1 14 rfl rfl)
theorem dX9_readHabit_38 : decode cX9_readHabit 38 = .ok (.getfield 306, 3) := dk_180 1 50 (dk_at dksX9_readHabit_1 15 rfl rfl)
theorem dX9_readHabit_41 : decode cX9_readHabit 41 = .ok (.invokevirtual 236, 3) := dk_182 0 236 (dk_at dksX9_readHabit_1 18 rfl rfl)
theorem dX9_readHabit_44 : decode cX9_readHabit 44 = .ok (.istore_n 3, 1) := dk_62 (dk_at dksX9_readHabit_1 21 rfl rfl)
theorem dX9_readHabit_45 : decode cX9_readHabit 45 = .ok (.aload_n 0, 1) := dk_42 (dk_at dksX9_readHabit_1 22 rfl rfl)
theorem dX9_readHabit_46 : decode cX9_readHabit 46 = .ok (.getfield 108, 3) := dk_180 0 108 (dk_at dksX9_readHabit_2 0 rfl rfl)
theorem dX9_readHabit_49 : decode cX9_readHabit 49 = .ok (.iconst (-1), 1) := dk_2 (dk_at dksX9_readHabit_2 3 rfl rfl)
theorem dX9_readHabit_50 : decode cX9_readHabit 50 = .ok (.if_icmp .eq 5, 3) := dk_159 0 5 (dk_at dksX9_readHabit_2 4 rfl rfl)
theorem dX9_readHabit_53 : decode cX9_readHabit 53 = .ok (.iload_n 3, 1) := dk_29 (dk_at dksX9_readHabit_2 7 rfl rfl)
theorem dX9_readHabit_54 : decode cX9_readHabit 54 = .ok (.ireturn, 1) := dk_172 (dk_at dksX9_readHabit_2 8 rfl rfl)
theorem dX9_readHabit_55 : decode cX9_readHabit 55 = .ok (.aload_n 0, 1) := dk_42 (dk_at dksX9_readHabit_2 9 rfl rfl)
theorem dX9_readHabit_56 : decode cX9_readHabit 56 = .ok (.getfield 62, 3) := dk_180 0 62 (dk_at dksX9_readHabit_2 10 rfl rfl)
theorem dX9_readHabit_59 : decode cX9_readHabit 59 = .ok (.iload_n 2, 1) := dk_28 (dk_at dksX9_readHabit_2 13 rfl rfl)
theorem dX9_readHabit_60 : decode cX9_readHabit 60 = .ok (.aload_n 0, 1) := dk_42 (dk_at dksX9_readHabit_2 14 rfl rfl)
theorem dX9_readHabit_61 : decode cX9_readHabit 61 = .ok (.getfield 306, 3) := dk_180 1 50 (dk_at dksX9_readHabit_2 15 rfl rfl)
theorem dX9_readHabit_64 : decode cX9_readHabit 64 = .ok (.iastore, 1) := dk_79 (dk_at dksX9_readHabit_2 18 rfl rfl)
theorem dX9_readHabit_65 : decode cX9_readHabit 65 = .ok (.iconst 0, 1) := dk_3 (dk_at dksX9_readHabit_2 19 rfl rfl)
theorem dX9_readHabit_66 : decode cX9_readHabit 66 = .ok (.istore 4, 2) := dk_54 4 (dk_at dksX9_readHabit_2 20 rfl rfl)
theorem dX9_readHabit_68 : decode cX9_readHabit 68 = .ok (.iload 4, 2) := dk_21 4 (dk_at dksX9_readHabit_2 22 rfl rfl)
theorem dX9_readHabit_70 : decode cX9_readHabit 70 = .ok (.iconst 4, 1) := dk_7 (dk_at dksX9_readHabit_3 0 rfl rfl)
theorem dX9_readHabit_71 : decode cX9_readHabit 71 = .ok (.aload_n 0, 1) := dk_42 (dk_at dksX9_readHabit_3 1 rfl rfl)
theorem dX9_readHabit_72 : decode cX9_readHabit 72 = .ok (.getfield 306, 3) := dk_180 1 50 (dk_at dksX9_readHabit_3 2 rfl rfl)
theorem dX9_readHabit_75 : decode cX9_readHabit 75 = .ok (.imul, 1) := dk_104 (dk_at dksX9_readHabit_3 5 rfl rfl)
theorem dX9_readHabit_76 : decode cX9_readHabit 76 = .ok (.if_icmp .ge 28, 3) := dk_162 0 28 (dk_at dksX9_readHabit_3 6 rfl rfl)
theorem dX9_readHabit_79 : decode cX9_readHabit 79 = .ok (.aload_n 0, 1) := dk_42 (dk_at dksX9_readHabit_3 9 rfl rfl)
theorem dX9_readHabit_80 : decode cX9_readHabit 80 = .ok (.getfield 59, 3) := dk_180 0 59 (dk_at dksX9_readHabit_3 10 rfl rfl)
theorem dX9_readHabit_83 : decode cX9_readHabit 83 = .ok (.bipush 32, 2) := dk_16 32 (dk_at dksX9_readHabit_3 13 rfl rfl)
theorem dX9_readHabit_85 : decode cX9_readHabit 85 = .ok (.iload_n 2, 1) := dk_28 (dk_at dksX9_readHabit_3 15 rfl rfl)
theorem dX9_readHabit_86 : decode cX9_readHabit 86 = .ok (.imul, 1) := dk_104 (dk_at dksX9_readHabit_3 16 rfl rfl)
theorem dX9_readHabit_87 : decode cX9_readHabit 87 = .ok (.iload 4, 2) := dk_21 4 (dk_at dksX9_readHabit_3 17 rfl rfl)
theorem dX9_readHabit_89 : decode cX9_readHabit 89 = .ok (.iadd, 1) := dk_96 (dk_at dksX9_readHabit_3 19 rfl rfl)
theorem dX9_readHabit_90 : decode cX9_readHabit 90 = .ok (.aload_n 0, 1) := dk_42 (dk_at dksX9_readHabit_3 20 rfl rfl)
theorem dX9_readHabit_91 : decode cX9_readHabit 91 = .ok (.getfield 47, 3) := dk_180 0 47 (dk_at dksX9_readHabit_3 21 rfl rfl)
theorem dX9_readHabit_94 : decode cX9_readHabit 94 = .ok (.iload 4, 2) := dk_21 4 (dk_at dksX9_readHabit_4 0 rfl rfl)
theorem dX9_readHabit_96 : decode cX9_readHabit 96 = .ok (.iaload, 1) := dk_46 (dk_at dksX9_readHabit_4 2 rfl rfl)
theorem dX9_readHabit_97 : decode cX9_readHabit 97 = .ok (.iastore, 1) := dk_79 (dk_at dksX9_readHabit_4 3 rfl rfl)
theorem dX9_readHabit_98 : decode cX9_readHabit 98 = .ok (.iinc 4 1, 3) := dk_132 4 1 (dk_at dksX9_readHabit_4 4 rfl rfl)
theorem dX9_readHabit_101 : decode cX9_readHabit 101 = .ok (.goto (-33), 3) := dk_167 255 223 (dk_at dksX9_readHabit_4 7 rfl rfl)
theorem dX9_readHabit_104 : decode cX9_readHabit 104 = .ok (.iconst 0, 1) := dk_3 (dk_at dksX9_readHabit_4 10 rfl rfl)
theorem dX9_readHabit_105 : decode cX9_readHabit 105 = .ok (.istore 4, 2) := dk_54 4 (dk_at dksX9_readHabit_4 11 rfl rfl)
theorem dX9_readHabit_107 : decode cX9_readHabit 107 = .ok (.iload 4, 2) := dk_21 4 (dk_at dksX9_readHabit_4 13 rfl rfl)
theorem dX9_readHabit_109 : decode cX9_readHabit 109 = .ok (.aload_n 0, 1) := dk_42 (dk_at dksX9_readHabit_4 15 rfl rfl)
theorem dX9_readHabit_110 : decode cX9_readHabit 110 = .ok (.getfield 240, 3) := dk_180 0 240 (dk_at dksX9_readHabit_4 16 rfl rfl)
theorem dX9_readHabit_113 : decode cX9_readHabit 113 = .ok (.if_icmp .ge 49, 3) := dk_162 0 49 (dk_at dksX9_readHabit_4 19 rfl rfl)
theorem dX9_readHabit_116 : decode cX9_readHabit 116 = .ok (.aload_n 0, 1) := dk_42 (dk_at dksX9_readHabit_4 22 rfl rfl)
theorem dX9_readHabit_117 : decode cX9_readHabit 117 = .ok (.getfield 53, 3) := dk_180 0 53 (dk_at dksX9_readHabit_5 0 rfl rfl)
theorem dX9_readHabit_120 : decode cX9_readHabit 120 = .ok (.sipush 150, 3) := dk_17 0 150 (dk_at dksX9_readHabit_5 3 rfl rfl)
theorem dX9_readHabit_123 : decode cX9_readHabit 123 = .ok (.iload_n 2, 1) := dk_28 (dk_at dksX9_readHabit_5 6 rfl rfl)
theorem dX9_readHabit_124 : decode cX9_readHabit 124 = .ok (.imul, 1) := dk_104 (dk_at dksX9_readHabit_5 7 rfl rfl)
theorem dX9_readHabit_125 : decode cX9_readHabit 125 = .ok (.iload 4, 2) := dk_21 4 (dk_at dksX9_readHabit_5 8 rfl rfl)
theorem dX9_readHabit_127 : decode cX9_readHabit 127 = .ok (.iadd, 1) := dk_96 (dk_at dksX9_readHabit_5 10 rfl rfl)
theorem dX9_readHabit_128 : decode cX9_readHabit 128 = .ok (.aload_n 0, 1) := dk_42 (dk_at dksX9_readHabit_5 11 rfl rfl)
theorem dX9_readHabit_129 : decode cX9_readHabit 129 = .ok (.getfield 41, 3) := dk_180 0 41 (dk_at dksX9_readHabit_5 12 rfl rfl)
theorem dX9_readHabit_132 : decode cX9_readHabit 132 = .ok (.iload 4, 2) := dk_21 4 (dk_at dksX9_readHabit_5 15 rfl rfl)
theorem dX9_readHabit_134 : decode cX9_readHabit 134 = .ok (.iaload, 1) := dk_46 (dk_at dksX9_readHabit_5 17 rfl rfl)
theorem dX9_readHabit_135 : decode cX9_readHabit 135 = .ok (.iastore, 1) := dk_79 (dk_at dksX9_readHabit_5 18 rfl rfl)
theorem dX9_readHabit_136 : decode cX9_readHabit 136 = .ok (.aload_n 0, 1) := dk_42 (dk_at dksX9_readHabit_5 19 rfl rfl)
theorem dX9_readHabit_137 : decode cX9_readHabit 137 = .ok (.getfield 56, 3) := dk_180 0 56 (dk_at dksX9_readHabit_5 20 rfl rfl)
theorem dX9_readHabit_140 : decode cX9_readHabit 140 = .ok (.sipush 150, 3) := dk_17 0 150 (dk_at dksX9_readHabit_6 0 rfl rfl)
theorem dX9_readHabit_143 : decode cX9_readHabit 143 = .ok (.iload_n 2, 1) := dk_28 (dk_at dksX9_readHabit_6 3 rfl rfl)
theorem dX9_readHabit_144 : decode cX9_readHabit 144 = .ok (.imul, 1) := dk_104 (dk_at dksX9_readHabit_6 4 rfl rfl)
theorem dX9_readHabit_145 : decode cX9_readHabit 145 = .ok (.iload 4, 2) := dk_21 4 (dk_at dksX9_readHabit_6 5 rfl rfl)
theorem dX9_readHabit_147 : decode cX9_readHabit 147 = .ok (.iadd, 1) := dk_96 (dk_at dksX9_readHabit_6 7 rfl rfl)
theorem dX9_readHabit_148 : decode cX9_readHabit 148 = .ok (.aload_n 0, 1) := dk_42 (dk_at dksX9_readHabit_6 8 rfl rfl)
theorem dX9_readHabit_149 : decode cX9_readHabit 149 = .ok (.getfield 44, 3) := dk_180 0 44 (dk_at dksX9_readHabit_6 9 rfl rfl)
theorem dX9_readHabit_152 : decode cX9_readHabit 152 = .ok (.iload 4, 2) := dk_21 4 (dk_at dksX9_readHabit_6 12 rfl rfl)
theorem dX9_readHabit_154 : decode cX9_readHabit 154 = .ok (.iaload, 1) := dk_46 (dk_at dksX9_readHabit_6 14 rfl rfl)
theorem dX9_readHabit_155 : decode cX9_readHabit 155 = .ok (.iastore, 1) := dk_79 (dk_at dksX9_readHabit_6 15 rfl rfl)
theorem dX9_readHabit_156 : decode cX9_readHabit 156 = .ok (.iinc 4 1, 3) := dk_132 4 1 (dk_at dksX9_readHabit_6 16 rfl rfl)
theorem dX9_readHabit_159 : decode cX9_readHabit 159 = .ok (.goto (-52), 3) := dk_167 255 204 (dk_at dksX9_readHabit_6 19 rfl rfl)
theorem dX9_readHabit_162 : decode cX9_readHabit 162 = .ok (.iload_n 3, 1) := dk_29 (dk_at dksX9_readHabit_6 22 rfl rfl)
theorem dX9_readHabit_163 : decode cX9_readHabit 163 = .ok (.ireturn, 1) := dk_172 (dk_at dksX9_readHabit_6 23 rfl rfl)
abbrev cX9_readStep : ByteArray := prog_28_method_38_code
def yX9_readStep : MethodName := ⟨RX9, "readStep", "()V"⟩
def dkwX9_readStep_8 : List UInt8 := [181, 1, 50, 177]
abbrev dktX9_readStep_8 : List UInt8 := dkwX9_readStep_8 ++ []
def dkwX9_readStep_7 : List UInt8 := [180, 0, 47, 7, 42, 180, 1, 50, 104, 6, 96, 42, 180, 0, 240, 79, 42, 89, 180, 1, 50, 4, 96]
abbrev dktX9_readStep_7 : List UInt8 := dkwX9_readStep_7 ++ dktX9_readStep_8
def dkwX9_readStep_6 : List UInt8 := [180, 1, 50, 104, 4, 96, 28, 79, 42, 180, 0, 47, 7, 42, 180, 1, 50, 104, 5, 96, 29, 79, 42]
abbrev dktX9_readStep_6 : List UInt8 := dkwX9_readStep_6 ++ dktX9_readStep_7
def dkwX9_readStep_5 : List UInt8 := [42, 16, 59, 182, 0, 233, 42, 180, 0, 47, 7, 42, 180, 1, 50, 104, 27, 79, 42, 180, 0, 47, 7, 42]
abbrev dktX9_readStep_5 : List UInt8 := dkwX9_readStep_5 ++ dktX9_readStep_6
def dkwX9_readStep_4 : List UInt8 := [153, 0, 24, 42, 182, 0, 208, 19, 1, 55, 184, 0, 182, 160, 0, 11, 42, 182, 0, 227, 42, 182, 1, 3]
abbrev dktX9_readStep_4 : List UInt8 := dkwX9_readStep_4 ++ dktX9_readStep_5
def dkwX9_readStep_3 : List UInt8 := [160, 0, 15, 42, 182, 0, 227, 42, 4, 16, 16, 182, 0, 176, 61, 42, 180, 0, 240, 62, 42, 182, 0, 137]
abbrev dktX9_readStep_3 : List UInt8 := dkwX9_readStep_3 ++ dktX9_readStep_4
def dkwX9_readStep_2 : List UInt8 := [182, 0, 137, 154, 0, 4, 177, 42, 182, 0, 227, 3, 61, 42, 182, 0, 208, 19, 1, 53, 184, 0, 182]
abbrev dktX9_readStep_2 : List UInt8 := dkwX9_readStep_2 ++ dktX9_readStep_3
def dkwX9_readStep_1 : List UInt8 := [167, 0, 21, 42, 180, 1, 50, 16, 8, 160, 0, 12, 42, 6, 42, 180, 0, 114, 182, 0, 144, 42]
abbrev dktX9_readStep_1 : List UInt8 := dkwX9_readStep_1 ++ dktX9_readStep_2
def dkwX9_readStep_0 : List UInt8 := [42, 182, 0, 208, 184, 1, 47, 60, 27, 2, 160, 0, 15, 42, 4, 42, 180, 0, 114, 182, 0, 144]
abbrev dktX9_readStep_0 : List UInt8 := dkwX9_readStep_0 ++ dktX9_readStep_1
theorem dksX9_readStep_0 : cX9_readStep.data.toList.drop 0 = dktX9_readStep_0 := by decide +kernel
theorem dksX9_readStep_1 : cX9_readStep.data.toList.drop 22 = dktX9_readStep_1 := dk_seg dksX9_readStep_0 22 rfl rfl
theorem dksX9_readStep_2 : cX9_readStep.data.toList.drop 44 = dktX9_readStep_2 := dk_seg dksX9_readStep_1 22 rfl rfl
theorem dksX9_readStep_3 : cX9_readStep.data.toList.drop 67 = dktX9_readStep_3 := dk_seg dksX9_readStep_2 23 rfl rfl
theorem dksX9_readStep_4 : cX9_readStep.data.toList.drop 91 = dktX9_readStep_4 := dk_seg dksX9_readStep_3 24 rfl rfl
theorem dksX9_readStep_5 : cX9_readStep.data.toList.drop 115 = dktX9_readStep_5 := dk_seg dksX9_readStep_4 24 rfl rfl
theorem dksX9_readStep_6 : cX9_readStep.data.toList.drop 139 = dktX9_readStep_6 := dk_seg dksX9_readStep_5 24 rfl rfl
theorem dksX9_readStep_7 : cX9_readStep.data.toList.drop 162 = dktX9_readStep_7 := dk_seg dksX9_readStep_6 23 rfl rfl
theorem dksX9_readStep_8 : cX9_readStep.data.toList.drop 185 = dktX9_readStep_8 := dk_seg dksX9_readStep_7 23 rfl rfl
theorem dX9_readStep_0 : decode cX9_readStep 0 = .ok (.aload_n 0, 1) := dk_42 (dk_at dksX9_readStep_0 0 rfl rfl)
theorem dX9_readStep_1 : decode cX9_readStep 1 = .ok (.invokevirtual 208, 3) := dk_182 0 208 (dk_at dksX9_readStep_0 1 rfl rfl)
theorem dX9_readStep_4 : decode cX9_readStep 4 = .ok (.invokestatic 303, 3) := dk_184 1 47 (dk_at dksX9_readStep_0 4 rfl rfl)
theorem dX9_readStep_7 : decode cX9_readStep 7 = .ok (.istore_n 1, 1) := dk_60 (dk_at dksX9_readStep_0 7 rfl rfl)
theorem dX9_readStep_8 : decode cX9_readStep 8 = .ok (.iload_n 1, 1) := dk_27 (dk_at dksX9_readStep_0 8 rfl rfl)
theorem dX9_readStep_9 : decode cX9_readStep 9 = .ok (.iconst (-1), 1) := dk_2 (dk_at dksX9_readStep_0 9 rfl rfl)
theorem dX9_readStep_10 : decode cX9_readStep 10 = .ok (.if_icmp .ne 15, 3) := dk_160 0 15 (dk_at dksX9_readStep_0 10 rfl rfl)
theorem dX9_readStep_13 : decode cX9_readStep 13 = .ok (.aload_n 0, 1) := dk_42 (dk_at dksX9_readStep_0 13 rfl rfl)
theorem dX9_readStep_14 : decode cX9_readStep 14 = .ok (.iconst 1, 1) := dk_4 (dk_at dksX9_readStep_0 14 rfl rfl)
theorem dX9_readStep_15 : decode cX9_readStep 15 = .ok (.aload_n 0, 1) := dk_42 (dk_at dksX9_readStep_0 15 rfl rfl)
theorem dX9_readStep_16 : decode cX9_readStep 16 = .ok (.getfield 114, 3) := dk_180 0 114 (dk_at dksX9_readStep_0 16 rfl rfl)
theorem dX9_readStep_19 : decode cX9_readStep 19 = .ok (.invokevirtual 144, 3) := dk_182 0 144 (dk_at dksX9_readStep_0 19 rfl rfl)
theorem dX9_readStep_22 : decode cX9_readStep 22 = .ok (.goto 21, 3) := dk_167 0 21 (dk_at dksX9_readStep_1 0 rfl rfl)
theorem dX9_readStep_25 : decode cX9_readStep 25 = .ok (.aload_n 0, 1) := dk_42 (dk_at dksX9_readStep_1 3 rfl rfl)
theorem dX9_readStep_26 : decode cX9_readStep 26 = .ok (.getfield 306, 3) := dk_180 1 50 (dk_at dksX9_readStep_1 4 rfl rfl)
theorem dX9_readStep_29 : decode cX9_readStep 29 = .ok (.bipush 8, 2) := dk_16 8 (dk_at dksX9_readStep_1 7 rfl rfl)
theorem dX9_readStep_31 : decode cX9_readStep 31 = .ok (.if_icmp .ne 12, 3) := dk_160 0 12 (dk_at dksX9_readStep_1 9 rfl rfl)
theorem dX9_readStep_34 : decode cX9_readStep 34 = .ok (.aload_n 0, 1) := dk_42 (dk_at dksX9_readStep_1 12 rfl rfl)
theorem dX9_readStep_35 : decode cX9_readStep 35 = .ok (.iconst 3, 1) := dk_6 (dk_at dksX9_readStep_1 13 rfl rfl)
theorem dX9_readStep_36 : decode cX9_readStep 36 = .ok (.aload_n 0, 1) := dk_42 (dk_at dksX9_readStep_1 14 rfl rfl)
theorem dX9_readStep_37 : decode cX9_readStep 37 = .ok (.getfield 114, 3) := dk_180 0 114 (dk_at dksX9_readStep_1 15 rfl rfl)
theorem dX9_readStep_40 : decode cX9_readStep 40 = .ok (.invokevirtual 144, 3) := dk_182 0 144 (dk_at dksX9_readStep_1 18 rfl rfl)
theorem dX9_readStep_43 : decode cX9_readStep 43 = .ok (.aload_n 0, 1) := dk_42 (dk_at dksX9_readStep_1 21 rfl rfl)
theorem dX9_readStep_44 : decode cX9_readStep 44 = .ok (.invokevirtual 137, 3) := dk_182 0 137 (dk_at dksX9_readStep_2 0 rfl rfl)
theorem dX9_readStep_47 : decode cX9_readStep 47 = .ok (.ifCond .ne 4, 3) := dk_154 0 4 (dk_at dksX9_readStep_2 3 rfl rfl)
theorem dX9_readStep_50 : decode cX9_readStep 50 = .ok (.return_, 1) := dk_177 (dk_at dksX9_readStep_2 6 rfl rfl)
theorem dX9_readStep_51 : decode cX9_readStep 51 = .ok (.aload_n 0, 1) := dk_42 (dk_at dksX9_readStep_2 7 rfl rfl)
theorem dX9_readStep_52 : decode cX9_readStep 52 = .ok (.invokevirtual 227, 3) := dk_182 0 227 (dk_at dksX9_readStep_2 8 rfl rfl)
theorem dX9_readStep_55 : decode cX9_readStep 55 = .ok (.iconst 0, 1) := dk_3 (dk_at dksX9_readStep_2 11 rfl rfl)
theorem dX9_readStep_56 : decode cX9_readStep 56 = .ok (.istore_n 2, 1) := dk_61 (dk_at dksX9_readStep_2 12 rfl rfl)
theorem dX9_readStep_57 : decode cX9_readStep 57 = .ok (.aload_n 0, 1) := dk_42 (dk_at dksX9_readStep_2 13 rfl rfl)
theorem dX9_readStep_58 : decode cX9_readStep 58 = .ok (.invokevirtual 208, 3) := dk_182 0 208 (dk_at dksX9_readStep_2 14 rfl rfl)
theorem dX9_readStep_61 : decode cX9_readStep 61 = .ok (.ldc_w 309, 3) := dk_19 1 53 (dk_at dksX9_readStep_2 17 rfl rfl)
theorem dX9_readStep_64 : decode cX9_readStep 64 = .ok (.invokestatic 182, 3) := dk_184 0 182 (dk_at dksX9_readStep_2 20 rfl rfl)
theorem dX9_readStep_67 : decode cX9_readStep 67 = .ok (.if_icmp .ne 15, 3) := dk_160 0 15 (dk_at dksX9_readStep_3 0 rfl rfl)
theorem dX9_readStep_70 : decode cX9_readStep 70 = .ok (.aload_n 0, 1) := dk_42 (dk_at dksX9_readStep_3 3 rfl rfl)
theorem dX9_readStep_71 : decode cX9_readStep 71 = .ok (.invokevirtual 227, 3) := dk_182 0 227 (dk_at dksX9_readStep_3 4 rfl rfl)
theorem dX9_readStep_74 : decode cX9_readStep 74 = .ok (.aload_n 0, 1) := dk_42 (dk_at dksX9_readStep_3 7 rfl rfl)
theorem dX9_readStep_75 : decode cX9_readStep 75 = .ok (.iconst 1, 1) := dk_4 (dk_at dksX9_readStep_3 8 rfl rfl)
theorem dX9_readStep_76 : decode cX9_readStep 76 = .ok (.bipush 16, 2) := dk_16 16 (dk_at dksX9_readStep_3 9 rfl rfl)
theorem dX9_readStep_78 : decode cX9_readStep 78 = .ok (.invokevirtual 176, 3) := dk_182 0 176 (dk_at dksX9_readStep_3 11 rfl rfl)
theorem dX9_readStep_81 : decode cX9_readStep 81 = .ok (.istore_n 2, 1) := dk_61 (dk_at dksX9_readStep_3 14 rfl rfl)
theorem dX9_readStep_82 : decode cX9_readStep 82 = .ok (.aload_n 0, 1) := dk_42 (dk_at dksX9_readStep_3 15 rfl rfl)
theorem dX9_readStep_83 : decode cX9_readStep 83 = .ok (.getfield 240, 3) := dk_180 0 240 (dk_at dksX9_readStep_3 16 rfl rfl)
theorem dX9_readStep_86 : decode cX9_readStep 86 = .ok (.istore_n 3, 1) := dk_62 (dk_at dksX9_readStep_3 19 rfl rfl)
theorem dX9_readStep_87 : decode cX9_readStep 87 = .ok (.aload_n 0, 1) := dk_42 (dk_at dksX9_readStep_3 20 rfl rfl)
theorem dX9_readStep_88 : decode cX9_readStep 88 = .ok (.invokevirtual 137, 3) := dk_182 0 137 (dk_at dksX9_readStep_3 21 rfl rfl)
theorem dX9_readStep_91 : decode cX9_readStep 91 = .ok (.ifCond .eq 24, 3) := dk_153 0 24 (dk_at dksX9_readStep_4 0 rfl rfl)
theorem dX9_readStep_94 : decode cX9_readStep 94 = .ok (.aload_n 0, 1) := dk_42 (dk_at dksX9_readStep_4 3 rfl rfl)
theorem dX9_readStep_95 : decode cX9_readStep 95 = .ok (.invokevirtual 208, 3) := dk_182 0 208 (dk_at dksX9_readStep_4 4 rfl rfl)
theorem dX9_readStep_98 : decode cX9_readStep 98 = .ok (.ldc_w 311, 3) := dk_19 1 55 (dk_at dksX9_readStep_4 7 rfl rfl)
theorem dX9_readStep_101 : decode cX9_readStep 101 = .ok (.invokestatic 182, 3) := dk_184 0 182 (dk_at dksX9_readStep_4 10 rfl rfl)
theorem dX9_readStep_104 : decode cX9_readStep 104 = .ok (.if_icmp .ne 11, 3) := dk_160 0 11 (dk_at dksX9_readStep_4 13 rfl rfl)
theorem dX9_readStep_107 : decode cX9_readStep 107 = .ok (.aload_n 0, 1) := dk_42 (dk_at dksX9_readStep_4 16 rfl rfl)
theorem dX9_readStep_108 : decode cX9_readStep 108 = .ok (.invokevirtual 227, 3) := dk_182 0 227 (dk_at dksX9_readStep_4 17 rfl rfl)
theorem dX9_readStep_111 : decode cX9_readStep 111 = .ok (.aload_n 0, 1) := dk_42 (dk_at dksX9_readStep_4 20 rfl rfl)
theorem dX9_readStep_112 : decode cX9_readStep 112 = .ok (.invokevirtual 259, 3) := dk_182 1 3 (dk_at dksX9_readStep_4 21 rfl rfl)
theorem dX9_readStep_115 : decode cX9_readStep 115 = .ok (.aload_n 0, 1) := dk_42 (dk_at dksX9_readStep_5 0 rfl rfl)
theorem dX9_readStep_116 : decode cX9_readStep 116 = .ok (.bipush 59, 2) := dk_16 59 (dk_at dksX9_readStep_5 1 rfl rfl)
theorem dX9_readStep_118 : decode cX9_readStep 118 = .ok (.invokevirtual 233, 3) := dk_182 0 233 (dk_at dksX9_readStep_5 3 rfl rfl)
theorem dX9_readStep_121 : decode cX9_readStep 121 = .ok (.aload_n 0, 1) := dk_42 (dk_at dksX9_readStep_5 6 rfl rfl)
theorem dX9_readStep_122 : decode cX9_readStep 122 = .ok (.getfield 47, 3) := dk_180 0 47 (dk_at dksX9_readStep_5 7 rfl rfl)
theorem dX9_readStep_125 : decode cX9_readStep 125 = .ok (.iconst 4, 1) := dk_7 (dk_at dksX9_readStep_5 10 rfl rfl)
theorem dX9_readStep_126 : decode cX9_readStep 126 = .ok (.aload_n 0, 1) := dk_42 (dk_at dksX9_readStep_5 11 rfl rfl)
theorem dX9_readStep_127 : decode cX9_readStep 127 = .ok (.getfield 306, 3) := dk_180 1 50 (dk_at dksX9_readStep_5 12 rfl rfl)
theorem dX9_readStep_130 : decode cX9_readStep 130 = .ok (.imul, 1) := dk_104 (dk_at dksX9_readStep_5 15 rfl rfl)
theorem dX9_readStep_131 : decode cX9_readStep 131 = .ok (.iload_n 1, 1) := dk_27 (dk_at dksX9_readStep_5 16 rfl rfl)
theorem dX9_readStep_132 : decode cX9_readStep 132 = .ok (.iastore, 1) := dk_79 (dk_at dksX9_readStep_5 17 rfl rfl)
theorem dX9_readStep_133 : decode cX9_readStep 133 = .ok (.aload_n 0, 1) := dk_42 (dk_at dksX9_readStep_5 18 rfl rfl)
theorem dX9_readStep_134 : decode cX9_readStep 134 = .ok (.getfield 47, 3) := dk_180 0 47 (dk_at dksX9_readStep_5 19 rfl rfl)
theorem dX9_readStep_137 : decode cX9_readStep 137 = .ok (.iconst 4, 1) := dk_7 (dk_at dksX9_readStep_5 22 rfl rfl)
theorem dX9_readStep_138 : decode cX9_readStep 138 = .ok (.aload_n 0, 1) := dk_42 (dk_at dksX9_readStep_5 23 rfl rfl)
theorem dX9_readStep_139 : decode cX9_readStep 139 = .ok (.getfield 306, 3) := dk_180 1 50 (dk_at dksX9_readStep_6 0 rfl rfl)
theorem dX9_readStep_142 : decode cX9_readStep 142 = .ok (.imul, 1) := dk_104 (dk_at dksX9_readStep_6 3 rfl rfl)
theorem dX9_readStep_143 : decode cX9_readStep 143 = .ok (.iconst 1, 1) := dk_4 (dk_at dksX9_readStep_6 4 rfl rfl)
theorem dX9_readStep_144 : decode cX9_readStep 144 = .ok (.iadd, 1) := dk_96 (dk_at dksX9_readStep_6 5 rfl rfl)
theorem dX9_readStep_145 : decode cX9_readStep 145 = .ok (.iload_n 2, 1) := dk_28 (dk_at dksX9_readStep_6 6 rfl rfl)
theorem dX9_readStep_146 : decode cX9_readStep 146 = .ok (.iastore, 1) := dk_79 (dk_at dksX9_readStep_6 7 rfl rfl)
theorem dX9_readStep_147 : decode cX9_readStep 147 = .ok (.aload_n 0, 1) := dk_42 (dk_at dksX9_readStep_6 8 rfl rfl)
theorem dX9_readStep_148 : decode cX9_readStep 148 = .ok (.getfield 47, 3) := dk_180 0 47 (dk_at dksX9_readStep_6 9 rfl rfl)
theorem dX9_readStep_151 : decode cX9_readStep 151 = .ok (.iconst 4, 1) := dk_7 (dk_at dksX9_readStep_6 12 rfl rfl)
theorem dX9_readStep_152 : decode cX9_readStep 152 = .ok (.aload_n 0, 1) := dk_42 (dk_at dksX9_readStep_6 13 rfl rfl)
theorem dX9_readStep_153 : decode cX9_readStep 153 = .ok (.getfield 306, 3) := dk_180 1 50 (dk_at dksX9_readStep_6 14 rfl rfl)
theorem dX9_readStep_156 : decode cX9_readStep 156 = .ok (.imul, 1) := dk_104 (dk_at dksX9_readStep_6 17 rfl rfl)
theorem dX9_readStep_157 : decode cX9_readStep 157 = .ok (.iconst 2, 1) := dk_5 (dk_at dksX9_readStep_6 18 rfl rfl)
theorem dX9_readStep_158 : decode cX9_readStep 158 = .ok (.iadd, 1) := dk_96 (dk_at dksX9_readStep_6 19 rfl rfl)
theorem dX9_readStep_159 : decode cX9_readStep 159 = .ok (.iload_n 3, 1) := dk_29 (dk_at dksX9_readStep_6 20 rfl rfl)
theorem dX9_readStep_160 : decode cX9_readStep 160 = .ok (.iastore, 1) := dk_79 (dk_at dksX9_readStep_6 21 rfl rfl)
theorem dX9_readStep_161 : decode cX9_readStep 161 = .ok (.aload_n 0, 1) := dk_42 (dk_at dksX9_readStep_6 22 rfl rfl)
theorem dX9_readStep_162 : decode cX9_readStep 162 = .ok (.getfield 47, 3) := dk_180 0 47 (dk_at dksX9_readStep_7 0 rfl rfl)
theorem dX9_readStep_165 : decode cX9_readStep 165 = .ok (.iconst 4, 1) := dk_7 (dk_at dksX9_readStep_7 3 rfl rfl)
theorem dX9_readStep_166 : decode cX9_readStep 166 = .ok (.aload_n 0, 1) := dk_42 (dk_at dksX9_readStep_7 4 rfl rfl)
theorem dX9_readStep_167 : decode cX9_readStep 167 = .ok (.getfield 306, 3) := dk_180 1 50 (dk_at dksX9_readStep_7 5 rfl rfl)
theorem dX9_readStep_170 : decode cX9_readStep 170 = .ok (.imul, 1) := dk_104 (dk_at dksX9_readStep_7 8 rfl rfl)
theorem dX9_readStep_171 : decode cX9_readStep 171 = .ok (.iconst 3, 1) := dk_6 (dk_at dksX9_readStep_7 9 rfl rfl)
theorem dX9_readStep_172 : decode cX9_readStep 172 = .ok (.iadd, 1) := dk_96 (dk_at dksX9_readStep_7 10 rfl rfl)
theorem dX9_readStep_173 : decode cX9_readStep 173 = .ok (.aload_n 0, 1) := dk_42 (dk_at dksX9_readStep_7 11 rfl rfl)
theorem dX9_readStep_174 : decode cX9_readStep 174 = .ok (.getfield 240, 3) := dk_180 0 240 (dk_at dksX9_readStep_7 12 rfl rfl)
theorem dX9_readStep_177 : decode cX9_readStep 177 = .ok (.iastore, 1) := dk_79 (dk_at dksX9_readStep_7 15 rfl rfl)
theorem dX9_readStep_178 : decode cX9_readStep 178 = .ok (.aload_n 0, 1) := dk_42 (dk_at dksX9_readStep_7 16 rfl rfl)
theorem dX9_readStep_179 : decode cX9_readStep 179 = .ok (.dup, 1) := dk_89 (dk_at dksX9_readStep_7 17 rfl rfl)
theorem dX9_readStep_180 : decode cX9_readStep 180 = .ok (.getfield 306, 3) := dk_180 1 50 (dk_at dksX9_readStep_7 18 rfl rfl)
theorem dX9_readStep_183 : decode cX9_readStep 183 = .ok (.iconst 1, 1) := dk_4 (dk_at dksX9_readStep_7 21 rfl rfl)
theorem dX9_readStep_184 : decode cX9_readStep 184 = .ok (.iadd, 1) := dk_96 (dk_at dksX9_readStep_7 22 rfl rfl)
theorem dX9_readStep_185 : decode cX9_readStep 185 = .ok (.putfield 306, 3) := dk_181 1 50 (dk_at dksX9_readStep_8 0 rfl rfl)
theorem dX9_readStep_188 : decode cX9_readStep 188 = .ok (.return_, 1) := dk_177 (dk_at dksX9_readStep_8 3 rfl rfl)
abbrev cX9_actOf : ByteArray := prog_28_method_37_code
def yX9_actOf : MethodName := ⟨RX9, "actOf", "(I)I"⟩
def dkwX9_actOf_4 : List UInt8 := [16, 6, 167, 0, 19, 26, 19, 1, 45, 184, 0, 182, 160, 0, 8, 16, 7, 167, 0, 4, 2, 172]
abbrev dktX9_actOf_4 : List UInt8 := dkwX9_actOf_4 ++ []
def dkwX9_actOf_3 : List UInt8 := [26, 19, 1, 41, 184, 0, 182, 160, 0, 7, 8, 167, 0, 34, 26, 19, 1, 43, 184, 0, 182, 160, 0, 8]
abbrev dktX9_actOf_3 : List UInt8 := dkwX9_actOf_3 ++ dktX9_actOf_4
def dkwX9_actOf_2 : List UInt8 := [184, 0, 182, 160, 0, 7, 6, 167, 0, 62, 26, 19, 1, 39, 184, 0, 182, 160, 0, 7, 7, 167, 0, 48]
abbrev dktX9_actOf_2 : List UInt8 := dkwX9_actOf_2 ++ dktX9_actOf_3
def dkwX9_actOf_1 : List UInt8 := [4, 167, 0, 90, 26, 19, 1, 35, 184, 0, 182, 160, 0, 7, 5, 167, 0, 76, 26, 19, 1, 37]
abbrev dktX9_actOf_1 : List UInt8 := dkwX9_actOf_1 ++ dktX9_actOf_2
def dkwX9_actOf_0 : List UInt8 := [26, 19, 1, 31, 184, 0, 182, 160, 0, 7, 3, 167, 0, 104, 26, 19, 1, 33, 184, 0, 182, 160, 0, 7]
abbrev dktX9_actOf_0 : List UInt8 := dkwX9_actOf_0 ++ dktX9_actOf_1
theorem dksX9_actOf_0 : cX9_actOf.data.toList.drop 0 = dktX9_actOf_0 := by decide +kernel
theorem dksX9_actOf_1 : cX9_actOf.data.toList.drop 24 = dktX9_actOf_1 := dk_seg dksX9_actOf_0 24 rfl rfl
theorem dksX9_actOf_2 : cX9_actOf.data.toList.drop 46 = dktX9_actOf_2 := dk_seg dksX9_actOf_1 22 rfl rfl
theorem dksX9_actOf_3 : cX9_actOf.data.toList.drop 70 = dktX9_actOf_3 := dk_seg dksX9_actOf_2 24 rfl rfl
theorem dksX9_actOf_4 : cX9_actOf.data.toList.drop 94 = dktX9_actOf_4 := dk_seg dksX9_actOf_3 24 rfl rfl
theorem dX9_actOf_0 : decode cX9_actOf 0 = .ok (.iload_n 0, 1) := dk_26 (dk_at dksX9_actOf_0 0 rfl rfl)
theorem dX9_actOf_1 : decode cX9_actOf 1 = .ok (.ldc_w 287, 3) := dk_19 1 31 (dk_at dksX9_actOf_0 1 rfl rfl)
theorem dX9_actOf_4 : decode cX9_actOf 4 = .ok (.invokestatic 182, 3) := dk_184 0 182 (dk_at dksX9_actOf_0 4 rfl rfl)
theorem dX9_actOf_7 : decode cX9_actOf 7 = .ok (.if_icmp .ne 7, 3) := dk_160 0 7 (dk_at dksX9_actOf_0 7 rfl rfl)
theorem dX9_actOf_10 : decode cX9_actOf 10 = .ok (.iconst 0, 1) := dk_3 (dk_at dksX9_actOf_0 10 rfl rfl)
theorem dX9_actOf_11 : decode cX9_actOf 11 = .ok (.goto 104, 3) := dk_167 0 104 (dk_at dksX9_actOf_0 11 rfl rfl)
theorem dX9_actOf_14 : decode cX9_actOf 14 = .ok (.iload_n 0, 1) := dk_26 (dk_at dksX9_actOf_0 14 rfl rfl)
theorem dX9_actOf_15 : decode cX9_actOf 15 = .ok (.ldc_w 289, 3) := dk_19 1 33 (dk_at dksX9_actOf_0 15 rfl rfl)
theorem dX9_actOf_18 : decode cX9_actOf 18 = .ok (.invokestatic 182, 3) := dk_184 0 182 (dk_at dksX9_actOf_0 18 rfl rfl)
theorem dX9_actOf_21 : decode cX9_actOf 21 = .ok (.if_icmp .ne 7, 3) := dk_160 0 7 (dk_at dksX9_actOf_0 21 rfl rfl)
theorem dX9_actOf_24 : decode cX9_actOf 24 = .ok (.iconst 1, 1) := dk_4 (dk_at dksX9_actOf_1 0 rfl rfl)
theorem dX9_actOf_25 : decode cX9_actOf 25 = .ok (.goto 90, 3) := dk_167 0 90 (dk_at dksX9_actOf_1 1 rfl rfl)
theorem dX9_actOf_28 : decode cX9_actOf 28 = .ok (.iload_n 0, 1) := dk_26 (dk_at dksX9_actOf_1 4 rfl rfl)
theorem dX9_actOf_29 : decode cX9_actOf 29 = .ok (.ldc_w 291, 3) := dk_19 1 35 (dk_at dksX9_actOf_1 5 rfl rfl)
theorem dX9_actOf_32 : decode cX9_actOf 32 = .ok (.invokestatic 182, 3) := dk_184 0 182 (dk_at dksX9_actOf_1 8 rfl rfl)
theorem dX9_actOf_35 : decode cX9_actOf 35 = .ok (.if_icmp .ne 7, 3) := dk_160 0 7 (dk_at dksX9_actOf_1 11 rfl rfl)
theorem dX9_actOf_38 : decode cX9_actOf 38 = .ok (.iconst 2, 1) := dk_5 (dk_at dksX9_actOf_1 14 rfl rfl)
theorem dX9_actOf_39 : decode cX9_actOf 39 = .ok (.goto 76, 3) := dk_167 0 76 (dk_at dksX9_actOf_1 15 rfl rfl)
theorem dX9_actOf_42 : decode cX9_actOf 42 = .ok (.iload_n 0, 1) := dk_26 (dk_at dksX9_actOf_1 18 rfl rfl)
theorem dX9_actOf_43 : decode cX9_actOf 43 = .ok (.ldc_w 293, 3) := dk_19 1 37 (dk_at dksX9_actOf_1 19 rfl rfl)
theorem dX9_actOf_46 : decode cX9_actOf 46 = .ok (.invokestatic 182, 3) := dk_184 0 182 (dk_at dksX9_actOf_2 0 rfl rfl)
theorem dX9_actOf_49 : decode cX9_actOf 49 = .ok (.if_icmp .ne 7, 3) := dk_160 0 7 (dk_at dksX9_actOf_2 3 rfl rfl)
theorem dX9_actOf_52 : decode cX9_actOf 52 = .ok (.iconst 3, 1) := dk_6 (dk_at dksX9_actOf_2 6 rfl rfl)
theorem dX9_actOf_53 : decode cX9_actOf 53 = .ok (.goto 62, 3) := dk_167 0 62 (dk_at dksX9_actOf_2 7 rfl rfl)
theorem dX9_actOf_56 : decode cX9_actOf 56 = .ok (.iload_n 0, 1) := dk_26 (dk_at dksX9_actOf_2 10 rfl rfl)
theorem dX9_actOf_57 : decode cX9_actOf 57 = .ok (.ldc_w 295, 3) := dk_19 1 39 (dk_at dksX9_actOf_2 11 rfl rfl)
theorem dX9_actOf_60 : decode cX9_actOf 60 = .ok (.invokestatic 182, 3) := dk_184 0 182 (dk_at dksX9_actOf_2 14 rfl rfl)
theorem dX9_actOf_63 : decode cX9_actOf 63 = .ok (.if_icmp .ne 7, 3) := dk_160 0 7 (dk_at dksX9_actOf_2 17 rfl rfl)
theorem dX9_actOf_66 : decode cX9_actOf 66 = .ok (.iconst 4, 1) := dk_7 (dk_at dksX9_actOf_2 20 rfl rfl)
theorem dX9_actOf_67 : decode cX9_actOf 67 = .ok (.goto 48, 3) := dk_167 0 48 (dk_at dksX9_actOf_2 21 rfl rfl)
theorem dX9_actOf_70 : decode cX9_actOf 70 = .ok (.iload_n 0, 1) := dk_26 (dk_at dksX9_actOf_3 0 rfl rfl)
theorem dX9_actOf_71 : decode cX9_actOf 71 = .ok (.ldc_w 297, 3) := dk_19 1 41 (dk_at dksX9_actOf_3 1 rfl rfl)
theorem dX9_actOf_74 : decode cX9_actOf 74 = .ok (.invokestatic 182, 3) := dk_184 0 182 (dk_at dksX9_actOf_3 4 rfl rfl)
theorem dX9_actOf_77 : decode cX9_actOf 77 = .ok (.if_icmp .ne 7, 3) := dk_160 0 7 (dk_at dksX9_actOf_3 7 rfl rfl)
theorem dX9_actOf_80 : decode cX9_actOf 80 = .ok (.iconst 5, 1) := dk_8 (dk_at dksX9_actOf_3 10 rfl rfl)
theorem dX9_actOf_81 : decode cX9_actOf 81 = .ok (.goto 34, 3) := dk_167 0 34 (dk_at dksX9_actOf_3 11 rfl rfl)
theorem dX9_actOf_84 : decode cX9_actOf 84 = .ok (.iload_n 0, 1) := dk_26 (dk_at dksX9_actOf_3 14 rfl rfl)
theorem dX9_actOf_85 : decode cX9_actOf 85 = .ok (.ldc_w 299, 3) := dk_19 1 43 (dk_at dksX9_actOf_3 15 rfl rfl)
theorem dX9_actOf_88 : decode cX9_actOf 88 = .ok (.invokestatic 182, 3) := dk_184 0 182 (dk_at dksX9_actOf_3 18 rfl rfl)
theorem dX9_actOf_91 : decode cX9_actOf 91 = .ok (.if_icmp .ne 8, 3) := dk_160 0 8 (dk_at dksX9_actOf_3 21 rfl rfl)
theorem dX9_actOf_94 : decode cX9_actOf 94 = .ok (.bipush 6, 2) := dk_16 6 (dk_at dksX9_actOf_4 0 rfl rfl)
theorem dX9_actOf_96 : decode cX9_actOf 96 = .ok (.goto 19, 3) := dk_167 0 19 (dk_at dksX9_actOf_4 2 rfl rfl)
theorem dX9_actOf_99 : decode cX9_actOf 99 = .ok (.iload_n 0, 1) := dk_26 (dk_at dksX9_actOf_4 5 rfl rfl)
theorem dX9_actOf_100 : decode cX9_actOf 100 = .ok (.ldc_w 301, 3) := dk_19 1 45 (dk_at dksX9_actOf_4 6 rfl rfl)
theorem dX9_actOf_103 : decode cX9_actOf 103 = .ok (.invokestatic 182, 3) := dk_184 0 182 (dk_at dksX9_actOf_4 9 rfl rfl)
theorem dX9_actOf_106 : decode cX9_actOf 106 = .ok (.if_icmp .ne 8, 3) := dk_160 0 8 (dk_at dksX9_actOf_4 12 rfl rfl)
theorem dX9_actOf_109 : decode cX9_actOf 109 = .ok (.bipush 7, 2) := dk_16 7 (dk_at dksX9_actOf_4 15 rfl rfl)
theorem dX9_actOf_111 : decode cX9_actOf 111 = .ok (.goto 4, 3) := dk_167 0 4 (dk_at dksX9_actOf_4 17 rfl rfl)
theorem dX9_actOf_114 : decode cX9_actOf 114 = .ok (.iconst (-1), 1) := dk_2 (dk_at dksX9_actOf_4 20 rfl rfl)
theorem dX9_actOf_115 : decode cX9_actOf 115 = .ok (.ireturn, 1) := dk_172 (dk_at dksX9_actOf_4 21 rfl rfl)
abbrev cX9_readAny : ByteArray := prog_28_method_30_code
def yX9_readAny : MethodName := ⟨RX9, "readAny", "()V"⟩
def dkwX9_readAny_1 : List UInt8 := [182, 0, 227, 42, 182, 0, 243, 42, 16, 10, 3, 182, 0, 248, 167, 255, 222, 177]
abbrev dktX9_readAny_1 : List UInt8 := dkwX9_readAny_1 ++ []
def dkwX9_readAny_0 : List UInt8 := [42, 182, 0, 243, 42, 182, 0, 137, 153, 0, 33, 42, 182, 0, 208, 18, 246, 184, 0, 182, 160, 0, 21, 42]
abbrev dktX9_readAny_0 : List UInt8 := dkwX9_readAny_0 ++ dktX9_readAny_1
theorem dksX9_readAny_0 : cX9_readAny.data.toList.drop 0 = dktX9_readAny_0 := by decide +kernel
theorem dksX9_readAny_1 : cX9_readAny.data.toList.drop 24 = dktX9_readAny_1 := dk_seg dksX9_readAny_0 24 rfl rfl
theorem dX9_readAny_0 : decode cX9_readAny 0 = .ok (.aload_n 0, 1) := dk_42 (dk_at dksX9_readAny_0 0 rfl rfl)
theorem dX9_readAny_1 : decode cX9_readAny 1 = .ok (.invokevirtual 243, 3) := dk_182 0 243 (dk_at dksX9_readAny_0 1 rfl rfl)
theorem dX9_readAny_4 : decode cX9_readAny 4 = .ok (.aload_n 0, 1) := dk_42 (dk_at dksX9_readAny_0 4 rfl rfl)
theorem dX9_readAny_5 : decode cX9_readAny 5 = .ok (.invokevirtual 137, 3) := dk_182 0 137 (dk_at dksX9_readAny_0 5 rfl rfl)
theorem dX9_readAny_8 : decode cX9_readAny 8 = .ok (.ifCond .eq 33, 3) := dk_153 0 33 (dk_at dksX9_readAny_0 8 rfl rfl)
theorem dX9_readAny_11 : decode cX9_readAny 11 = .ok (.aload_n 0, 1) := dk_42 (dk_at dksX9_readAny_0 11 rfl rfl)
theorem dX9_readAny_12 : decode cX9_readAny 12 = .ok (.invokevirtual 208, 3) := dk_182 0 208 (dk_at dksX9_readAny_0 12 rfl rfl)
theorem dX9_readAny_15 : decode cX9_readAny 15 = .ok (.ldc 246, 2) := dk_18 246 (dk_at dksX9_readAny_0 15 rfl rfl)
theorem dX9_readAny_17 : decode cX9_readAny 17 = .ok (.invokestatic 182, 3) := dk_184 0 182 (dk_at dksX9_readAny_0 17 rfl rfl)
theorem dX9_readAny_20 : decode cX9_readAny 20 = .ok (.if_icmp .ne 21, 3) := dk_160 0 21 (dk_at dksX9_readAny_0 20 rfl rfl)
theorem dX9_readAny_23 : decode cX9_readAny 23 = .ok (.aload_n 0, 1) := dk_42 (dk_at dksX9_readAny_0 23 rfl rfl)
theorem dX9_readAny_24 : decode cX9_readAny 24 = .ok (.invokevirtual 227, 3) := dk_182 0 227 (dk_at dksX9_readAny_1 0 rfl rfl)
theorem dX9_readAny_27 : decode cX9_readAny 27 = .ok (.aload_n 0, 1) := dk_42 (dk_at dksX9_readAny_1 3 rfl rfl)
theorem dX9_readAny_28 : decode cX9_readAny 28 = .ok (.invokevirtual 243, 3) := dk_182 0 243 (dk_at dksX9_readAny_1 4 rfl rfl)
theorem dX9_readAny_31 : decode cX9_readAny 31 = .ok (.aload_n 0, 1) := dk_42 (dk_at dksX9_readAny_1 7 rfl rfl)
theorem dX9_readAny_32 : decode cX9_readAny 32 = .ok (.bipush 10, 2) := dk_16 10 (dk_at dksX9_readAny_1 8 rfl rfl)
theorem dX9_readAny_34 : decode cX9_readAny 34 = .ok (.iconst 0, 1) := dk_3 (dk_at dksX9_readAny_1 10 rfl rfl)
theorem dX9_readAny_35 : decode cX9_readAny 35 = .ok (.invokevirtual 248, 3) := dk_182 0 248 (dk_at dksX9_readAny_1 11 rfl rfl)
theorem dX9_readAny_38 : decode cX9_readAny 38 = .ok (.goto (-34), 3) := dk_167 255 222 (dk_at dksX9_readAny_1 14 rfl rfl)
theorem dX9_readAny_41 : decode cX9_readAny 41 = .ok (.return_, 1) := dk_177 (dk_at dksX9_readAny_1 17 rfl rfl)
abbrev cX9_readAll : ByteArray := prog_28_method_31_code
def yX9_readAll : MethodName := ⟨RX9, "readAll", "()V"⟩
def dkwX9_readAll_1 : List UInt8 := [182, 0, 227, 42, 182, 0, 251, 42, 16, 9, 3, 182, 0, 248, 167, 255, 222, 177]
abbrev dktX9_readAll_1 : List UInt8 := dkwX9_readAll_1 ++ []
def dkwX9_readAll_0 : List UInt8 := [42, 182, 0, 251, 42, 182, 0, 137, 153, 0, 33, 42, 182, 0, 208, 18, 254, 184, 0, 182, 160, 0, 21, 42]
abbrev dktX9_readAll_0 : List UInt8 := dkwX9_readAll_0 ++ dktX9_readAll_1
theorem dksX9_readAll_0 : cX9_readAll.data.toList.drop 0 = dktX9_readAll_0 := by decide +kernel
theorem dksX9_readAll_1 : cX9_readAll.data.toList.drop 24 = dktX9_readAll_1 := dk_seg dksX9_readAll_0 24 rfl rfl
theorem dX9_readAll_0 : decode cX9_readAll 0 = .ok (.aload_n 0, 1) := dk_42 (dk_at dksX9_readAll_0 0 rfl rfl)
theorem dX9_readAll_1 : decode cX9_readAll 1 = .ok (.invokevirtual 251, 3) := dk_182 0 251 (dk_at dksX9_readAll_0 1 rfl rfl)
theorem dX9_readAll_4 : decode cX9_readAll 4 = .ok (.aload_n 0, 1) := dk_42 (dk_at dksX9_readAll_0 4 rfl rfl)
theorem dX9_readAll_5 : decode cX9_readAll 5 = .ok (.invokevirtual 137, 3) := dk_182 0 137 (dk_at dksX9_readAll_0 5 rfl rfl)
theorem dX9_readAll_8 : decode cX9_readAll 8 = .ok (.ifCond .eq 33, 3) := dk_153 0 33 (dk_at dksX9_readAll_0 8 rfl rfl)
theorem dX9_readAll_11 : decode cX9_readAll 11 = .ok (.aload_n 0, 1) := dk_42 (dk_at dksX9_readAll_0 11 rfl rfl)
theorem dX9_readAll_12 : decode cX9_readAll 12 = .ok (.invokevirtual 208, 3) := dk_182 0 208 (dk_at dksX9_readAll_0 12 rfl rfl)
theorem dX9_readAll_15 : decode cX9_readAll 15 = .ok (.ldc 254, 2) := dk_18 254 (dk_at dksX9_readAll_0 15 rfl rfl)
theorem dX9_readAll_17 : decode cX9_readAll 17 = .ok (.invokestatic 182, 3) := dk_184 0 182 (dk_at dksX9_readAll_0 17 rfl rfl)
theorem dX9_readAll_20 : decode cX9_readAll 20 = .ok (.if_icmp .ne 21, 3) := dk_160 0 21 (dk_at dksX9_readAll_0 20 rfl rfl)
theorem dX9_readAll_23 : decode cX9_readAll 23 = .ok (.aload_n 0, 1) := dk_42 (dk_at dksX9_readAll_0 23 rfl rfl)
theorem dX9_readAll_24 : decode cX9_readAll 24 = .ok (.invokevirtual 227, 3) := dk_182 0 227 (dk_at dksX9_readAll_1 0 rfl rfl)
theorem dX9_readAll_27 : decode cX9_readAll 27 = .ok (.aload_n 0, 1) := dk_42 (dk_at dksX9_readAll_1 3 rfl rfl)
theorem dX9_readAll_28 : decode cX9_readAll 28 = .ok (.invokevirtual 251, 3) := dk_182 0 251 (dk_at dksX9_readAll_1 4 rfl rfl)
theorem dX9_readAll_31 : decode cX9_readAll 31 = .ok (.aload_n 0, 1) := dk_42 (dk_at dksX9_readAll_1 7 rfl rfl)
theorem dX9_readAll_32 : decode cX9_readAll 32 = .ok (.bipush 9, 2) := dk_16 9 (dk_at dksX9_readAll_1 8 rfl rfl)
theorem dX9_readAll_34 : decode cX9_readAll 34 = .ok (.iconst 0, 1) := dk_3 (dk_at dksX9_readAll_1 10 rfl rfl)
theorem dX9_readAll_35 : decode cX9_readAll 35 = .ok (.invokevirtual 248, 3) := dk_182 0 248 (dk_at dksX9_readAll_1 11 rfl rfl)
theorem dX9_readAll_38 : decode cX9_readAll 38 = .ok (.goto (-34), 3) := dk_167 255 222 (dk_at dksX9_readAll_1 14 rfl rfl)
theorem dX9_readAll_41 : decode cX9_readAll 41 = .ok (.return_, 1) := dk_177 (dk_at dksX9_readAll_1 17 rfl rfl)
abbrev cX9_readOne : ByteArray := prog_28_method_32_code
def yX9_readOne : MethodName := ⟨RX9, "readOne", "()V"⟩
def dkwX9_readOne_7 : List UInt8 := [16, 6, 167, 0, 5, 16, 7, 3, 182, 0, 248, 177]
abbrev dktX9_readOne_7 : List UInt8 := dkwX9_readOne_7 ++ []
def dkwX9_readOne_6 : List UInt8 := [181, 0, 114, 42, 182, 1, 8, 42, 27, 16, 60, 160, 0, 7, 8, 167, 0, 16, 27, 16, 62, 160, 0, 8]
abbrev dktX9_readOne_6 : List UInt8 := dkwX9_readOne_6 ++ dktX9_readOne_7
def dkwX9_readOne_5 : List UInt8 := [42, 180, 0, 114, 182, 0, 144, 42, 182, 0, 137, 154, 0, 4, 177, 42, 89, 180, 0, 114, 4, 96]
abbrev dktX9_readOne_5 : List UInt8 := dkwX9_readOne_5 ++ dktX9_readOne_6
def dkwX9_readOne_4 : List UInt8 := [182, 0, 120, 60, 27, 16, 60, 159, 0, 24, 27, 16, 62, 159, 0, 18, 27, 16, 61, 159, 0, 12, 42, 4]
abbrev dktX9_readOne_4 : List UInt8 := dkwX9_readOne_4 ++ dktX9_readOne_5
def dkwX9_readOne_3 : List UInt8 := [180, 0, 148, 4, 100, 181, 0, 148, 42, 16, 8, 3, 182, 0, 248, 167, 0, 89, 42, 182, 1, 8, 42]
abbrev dktX9_readOne_3 : List UInt8 := dkwX9_readOne_3 ++ dktX9_readOne_4
def dkwX9_readOne_2 : List UInt8 := [182, 0, 208, 19, 1, 6, 184, 0, 182, 160, 0, 32, 42, 6, 182, 1, 0, 42, 182, 0, 251, 42, 89]
abbrev dktX9_readOne_2 : List UInt8 := dkwX9_readOne_2 ++ dktX9_readOne_3
def dkwX9_readOne_1 : List UInt8 := [182, 1, 3, 42, 16, 93, 182, 0, 233, 42, 89, 180, 0, 148, 4, 100, 181, 0, 148, 167, 0, 131, 42]
abbrev dktX9_readOne_1 : List UInt8 := dkwX9_readOne_1 ++ dktX9_readOne_2
def dkwX9_readOne_0 : List UInt8 := [42, 182, 0, 137, 154, 0, 4, 177, 42, 182, 0, 120, 16, 91, 160, 0, 31, 42, 4, 182, 1, 0, 42]
abbrev dktX9_readOne_0 : List UInt8 := dkwX9_readOne_0 ++ dktX9_readOne_1
theorem dksX9_readOne_0 : cX9_readOne.data.toList.drop 0 = dktX9_readOne_0 := by decide +kernel
theorem dksX9_readOne_1 : cX9_readOne.data.toList.drop 23 = dktX9_readOne_1 := dk_seg dksX9_readOne_0 23 rfl rfl
theorem dksX9_readOne_2 : cX9_readOne.data.toList.drop 46 = dktX9_readOne_2 := dk_seg dksX9_readOne_1 23 rfl rfl
theorem dksX9_readOne_3 : cX9_readOne.data.toList.drop 69 = dktX9_readOne_3 := dk_seg dksX9_readOne_2 23 rfl rfl
theorem dksX9_readOne_4 : cX9_readOne.data.toList.drop 92 = dktX9_readOne_4 := dk_seg dksX9_readOne_3 23 rfl rfl
theorem dksX9_readOne_5 : cX9_readOne.data.toList.drop 116 = dktX9_readOne_5 := dk_seg dksX9_readOne_4 24 rfl rfl
theorem dksX9_readOne_6 : cX9_readOne.data.toList.drop 138 = dktX9_readOne_6 := dk_seg dksX9_readOne_5 22 rfl rfl
theorem dksX9_readOne_7 : cX9_readOne.data.toList.drop 162 = dktX9_readOne_7 := dk_seg dksX9_readOne_6 24 rfl rfl
theorem dX9_readOne_0 : decode cX9_readOne 0 = .ok (.aload_n 0, 1) := dk_42 (dk_at dksX9_readOne_0 0 rfl rfl)
theorem dX9_readOne_1 : decode cX9_readOne 1 = .ok (.invokevirtual 137, 3) := dk_182 0 137 (dk_at dksX9_readOne_0 1 rfl rfl)
theorem dX9_readOne_4 : decode cX9_readOne 4 = .ok (.ifCond .ne 4, 3) := dk_154 0 4 (dk_at dksX9_readOne_0 4 rfl rfl)
theorem dX9_readOne_7 : decode cX9_readOne 7 = .ok (.return_, 1) := dk_177 (dk_at dksX9_readOne_0 7 rfl rfl)
theorem dX9_readOne_8 : decode cX9_readOne 8 = .ok (.aload_n 0, 1) := dk_42 (dk_at dksX9_readOne_0 8 rfl rfl)
theorem dX9_readOne_9 : decode cX9_readOne 9 = .ok (.invokevirtual 120, 3) := dk_182 0 120 (dk_at dksX9_readOne_0 9 rfl rfl)
theorem dX9_readOne_12 : decode cX9_readOne 12 = .ok (.bipush 91, 2) := dk_16 91 (dk_at dksX9_readOne_0 12 rfl rfl)
theorem dX9_readOne_14 : decode cX9_readOne 14 = .ok (.if_icmp .ne 31, 3) := dk_160 0 31 (dk_at dksX9_readOne_0 14 rfl rfl)
theorem dX9_readOne_17 : decode cX9_readOne 17 = .ok (.aload_n 0, 1) := dk_42 (dk_at dksX9_readOne_0 17 rfl rfl)
theorem dX9_readOne_18 : decode cX9_readOne 18 = .ok (.iconst 1, 1) := dk_4 (dk_at dksX9_readOne_0 18 rfl rfl)
theorem dX9_readOne_19 : decode cX9_readOne 19 = .ok (.invokevirtual 256, 3) := dk_182 1 0 (dk_at dksX9_readOne_0 19 rfl rfl)
theorem dX9_readOne_22 : decode cX9_readOne 22 = .ok (.aload_n 0, 1) := dk_42 (dk_at dksX9_readOne_0 22 rfl rfl)
theorem dX9_readOne_23 : decode cX9_readOne 23 = .ok (.invokevirtual 259, 3) := dk_182 1 3 (dk_at dksX9_readOne_1 0 rfl rfl)
theorem dX9_readOne_26 : decode cX9_readOne 26 = .ok (.aload_n 0, 1) := dk_42 (dk_at dksX9_readOne_1 3 rfl rfl)
theorem dX9_readOne_27 : decode cX9_readOne 27 = .ok (.bipush 93, 2) := dk_16 93 (dk_at dksX9_readOne_1 4 rfl rfl)
theorem dX9_readOne_29 : decode cX9_readOne 29 = .ok (.invokevirtual 233, 3) := dk_182 0 233 (dk_at dksX9_readOne_1 6 rfl rfl)
theorem dX9_readOne_32 : decode cX9_readOne 32 = .ok (.aload_n 0, 1) := dk_42 (dk_at dksX9_readOne_1 9 rfl rfl)
theorem dX9_readOne_33 : decode cX9_readOne 33 = .ok (.dup, 1) := dk_89 (dk_at dksX9_readOne_1 10 rfl rfl)
theorem dX9_readOne_34 : decode cX9_readOne 34 = .ok (.getfield 148, 3) := dk_180 0 148 (dk_at dksX9_readOne_1 11 rfl rfl)
theorem dX9_readOne_37 : decode cX9_readOne 37 = .ok (.iconst 1, 1) := dk_4 (dk_at dksX9_readOne_1 14 rfl rfl)
theorem dX9_readOne_38 : decode cX9_readOne 38 = .ok (.isub, 1) := dk_100 (dk_at dksX9_readOne_1 15 rfl rfl)
theorem dX9_readOne_39 : decode cX9_readOne 39 = .ok (.putfield 148, 3) := dk_181 0 148 (dk_at dksX9_readOne_1 16 rfl rfl)
theorem dX9_readOne_42 : decode cX9_readOne 42 = .ok (.goto 131, 3) := dk_167 0 131 (dk_at dksX9_readOne_1 19 rfl rfl)
theorem dX9_readOne_45 : decode cX9_readOne 45 = .ok (.aload_n 0, 1) := dk_42 (dk_at dksX9_readOne_1 22 rfl rfl)
theorem dX9_readOne_46 : decode cX9_readOne 46 = .ok (.invokevirtual 208, 3) := dk_182 0 208 (dk_at dksX9_readOne_2 0 rfl rfl)
theorem dX9_readOne_49 : decode cX9_readOne 49 = .ok (.ldc_w 262, 3) := dk_19 1 6 (dk_at dksX9_readOne_2 3 rfl rfl)
theorem dX9_readOne_52 : decode cX9_readOne 52 = .ok (.invokestatic 182, 3) := dk_184 0 182 (dk_at dksX9_readOne_2 6 rfl rfl)
theorem dX9_readOne_55 : decode cX9_readOne 55 = .ok (.if_icmp .ne 32, 3) := dk_160 0 32 (dk_at dksX9_readOne_2 9 rfl rfl)
theorem dX9_readOne_58 : decode cX9_readOne 58 = .ok (.aload_n 0, 1) := dk_42 (dk_at dksX9_readOne_2 12 rfl rfl)
theorem dX9_readOne_59 : decode cX9_readOne 59 = .ok (.iconst 3, 1) := dk_6 (dk_at dksX9_readOne_2 13 rfl rfl)
theorem dX9_readOne_60 : decode cX9_readOne 60 = .ok (.invokevirtual 256, 3) := dk_182 1 0 (dk_at dksX9_readOne_2 14 rfl rfl)
theorem dX9_readOne_63 : decode cX9_readOne 63 = .ok (.aload_n 0, 1) := dk_42 (dk_at dksX9_readOne_2 17 rfl rfl)
theorem dX9_readOne_64 : decode cX9_readOne 64 = .ok (.invokevirtual 251, 3) := dk_182 0 251 (dk_at dksX9_readOne_2 18 rfl rfl)
theorem dX9_readOne_67 : decode cX9_readOne 67 = .ok (.aload_n 0, 1) := dk_42 (dk_at dksX9_readOne_2 21 rfl rfl)
theorem dX9_readOne_68 : decode cX9_readOne 68 = .ok (.dup, 1) := dk_89 (dk_at dksX9_readOne_2 22 rfl rfl)
theorem dX9_readOne_69 : decode cX9_readOne 69 = .ok (.getfield 148, 3) := dk_180 0 148 (dk_at dksX9_readOne_3 0 rfl rfl)
theorem dX9_readOne_72 : decode cX9_readOne 72 = .ok (.iconst 1, 1) := dk_4 (dk_at dksX9_readOne_3 3 rfl rfl)
theorem dX9_readOne_73 : decode cX9_readOne 73 = .ok (.isub, 1) := dk_100 (dk_at dksX9_readOne_3 4 rfl rfl)
theorem dX9_readOne_74 : decode cX9_readOne 74 = .ok (.putfield 148, 3) := dk_181 0 148 (dk_at dksX9_readOne_3 5 rfl rfl)
theorem dX9_readOne_77 : decode cX9_readOne 77 = .ok (.aload_n 0, 1) := dk_42 (dk_at dksX9_readOne_3 8 rfl rfl)
theorem dX9_readOne_78 : decode cX9_readOne 78 = .ok (.bipush 8, 2) := dk_16 8 (dk_at dksX9_readOne_3 9 rfl rfl)
theorem dX9_readOne_80 : decode cX9_readOne 80 = .ok (.iconst 0, 1) := dk_3 (dk_at dksX9_readOne_3 11 rfl rfl)
theorem dX9_readOne_81 : decode cX9_readOne 81 = .ok (.invokevirtual 248, 3) := dk_182 0 248 (dk_at dksX9_readOne_3 12 rfl rfl)
theorem dX9_readOne_84 : decode cX9_readOne 84 = .ok (.goto 89, 3) := dk_167 0 89 (dk_at dksX9_readOne_3 15 rfl rfl)
theorem dX9_readOne_87 : decode cX9_readOne 87 = .ok (.aload_n 0, 1) := dk_42 (dk_at dksX9_readOne_3 18 rfl rfl)
theorem dX9_readOne_88 : decode cX9_readOne 88 = .ok (.invokevirtual 264, 3) := dk_182 1 8 (dk_at dksX9_readOne_3 19 rfl rfl)
theorem dX9_readOne_91 : decode cX9_readOne 91 = .ok (.aload_n 0, 1) := dk_42 (dk_at dksX9_readOne_3 22 rfl rfl)
theorem dX9_readOne_92 : decode cX9_readOne 92 = .ok (.invokevirtual 120, 3) := dk_182 0 120 (dk_at dksX9_readOne_4 0 rfl rfl)
theorem dX9_readOne_95 : decode cX9_readOne 95 = .ok (.istore_n 1, 1) := dk_60 (dk_at dksX9_readOne_4 3 rfl rfl)
theorem dX9_readOne_96 : decode cX9_readOne 96 = .ok (.iload_n 1, 1) := dk_27 (dk_at dksX9_readOne_4 4 rfl rfl)
theorem dX9_readOne_97 : decode cX9_readOne 97 = .ok (.bipush 60, 2) := dk_16 60 (dk_at dksX9_readOne_4 5 rfl rfl)
theorem dX9_readOne_99 : decode cX9_readOne 99 = .ok (.if_icmp .eq 24, 3) := dk_159 0 24 (dk_at dksX9_readOne_4 7 rfl rfl)
theorem dX9_readOne_102 : decode cX9_readOne 102 = .ok (.iload_n 1, 1) := dk_27 (dk_at dksX9_readOne_4 10 rfl rfl)
theorem dX9_readOne_103 : decode cX9_readOne 103 = .ok (.bipush 62, 2) := dk_16 62 (dk_at dksX9_readOne_4 11 rfl rfl)
theorem dX9_readOne_105 : decode cX9_readOne 105 = .ok (.if_icmp .eq 18, 3) := dk_159 0 18 (dk_at dksX9_readOne_4 13 rfl rfl)
theorem dX9_readOne_108 : decode cX9_readOne 108 = .ok (.iload_n 1, 1) := dk_27 (dk_at dksX9_readOne_4 16 rfl rfl)
theorem dX9_readOne_109 : decode cX9_readOne 109 = .ok (.bipush 61, 2) := dk_16 61 (dk_at dksX9_readOne_4 17 rfl rfl)
theorem dX9_readOne_111 : decode cX9_readOne 111 = .ok (.if_icmp .eq 12, 3) := dk_159 0 12 (dk_at dksX9_readOne_4 19 rfl rfl)
theorem dX9_readOne_114 : decode cX9_readOne 114 = .ok (.aload_n 0, 1) := dk_42 (dk_at dksX9_readOne_4 22 rfl rfl)
theorem dX9_readOne_115 : decode cX9_readOne 115 = .ok (.iconst 1, 1) := dk_4 (dk_at dksX9_readOne_4 23 rfl rfl)
theorem dX9_readOne_116 : decode cX9_readOne 116 = .ok (.aload_n 0, 1) := dk_42 (dk_at dksX9_readOne_5 0 rfl rfl)
theorem dX9_readOne_117 : decode cX9_readOne 117 = .ok (.getfield 114, 3) := dk_180 0 114 (dk_at dksX9_readOne_5 1 rfl rfl)
theorem dX9_readOne_120 : decode cX9_readOne 120 = .ok (.invokevirtual 144, 3) := dk_182 0 144 (dk_at dksX9_readOne_5 4 rfl rfl)
theorem dX9_readOne_123 : decode cX9_readOne 123 = .ok (.aload_n 0, 1) := dk_42 (dk_at dksX9_readOne_5 7 rfl rfl)
theorem dX9_readOne_124 : decode cX9_readOne 124 = .ok (.invokevirtual 137, 3) := dk_182 0 137 (dk_at dksX9_readOne_5 8 rfl rfl)
theorem dX9_readOne_127 : decode cX9_readOne 127 = .ok (.ifCond .ne 4, 3) := dk_154 0 4 (dk_at dksX9_readOne_5 11 rfl rfl)
theorem dX9_readOne_130 : decode cX9_readOne 130 = .ok (.return_, 1) := dk_177 (dk_at dksX9_readOne_5 14 rfl rfl)
theorem dX9_readOne_131 : decode cX9_readOne 131 = .ok (.aload_n 0, 1) := dk_42 (dk_at dksX9_readOne_5 15 rfl rfl)
theorem dX9_readOne_132 : decode cX9_readOne 132 = .ok (.dup, 1) := dk_89 (dk_at dksX9_readOne_5 16 rfl rfl)
theorem dX9_readOne_133 : decode cX9_readOne 133 = .ok (.getfield 114, 3) := dk_180 0 114 (dk_at dksX9_readOne_5 17 rfl rfl)
theorem dX9_readOne_136 : decode cX9_readOne 136 = .ok (.iconst 1, 1) := dk_4 (dk_at dksX9_readOne_5 20 rfl rfl)
theorem dX9_readOne_137 : decode cX9_readOne 137 = .ok (.iadd, 1) := dk_96 (dk_at dksX9_readOne_5 21 rfl rfl)
theorem dX9_readOne_138 : decode cX9_readOne 138 = .ok (.putfield 114, 3) := dk_181 0 114 (dk_at dksX9_readOne_6 0 rfl rfl)
theorem dX9_readOne_141 : decode cX9_readOne 141 = .ok (.aload_n 0, 1) := dk_42 (dk_at dksX9_readOne_6 3 rfl rfl)
theorem dX9_readOne_142 : decode cX9_readOne 142 = .ok (.invokevirtual 264, 3) := dk_182 1 8 (dk_at dksX9_readOne_6 4 rfl rfl)
theorem dX9_readOne_145 : decode cX9_readOne 145 = .ok (.aload_n 0, 1) := dk_42 (dk_at dksX9_readOne_6 7 rfl rfl)
theorem dX9_readOne_146 : decode cX9_readOne 146 = .ok (.iload_n 1, 1) := dk_27 (dk_at dksX9_readOne_6 8 rfl rfl)
theorem dX9_readOne_147 : decode cX9_readOne 147 = .ok (.bipush 60, 2) := dk_16 60 (dk_at dksX9_readOne_6 9 rfl rfl)
theorem dX9_readOne_149 : decode cX9_readOne 149 = .ok (.if_icmp .ne 7, 3) := dk_160 0 7 (dk_at dksX9_readOne_6 11 rfl rfl)
theorem dX9_readOne_152 : decode cX9_readOne 152 = .ok (.iconst 5, 1) := dk_8 (dk_at dksX9_readOne_6 14 rfl rfl)
theorem dX9_readOne_153 : decode cX9_readOne 153 = .ok (.goto 16, 3) := dk_167 0 16 (dk_at dksX9_readOne_6 15 rfl rfl)
theorem dX9_readOne_156 : decode cX9_readOne 156 = .ok (.iload_n 1, 1) := dk_27 (dk_at dksX9_readOne_6 18 rfl rfl)
theorem dX9_readOne_157 : decode cX9_readOne 157 = .ok (.bipush 62, 2) := dk_16 62 (dk_at dksX9_readOne_6 19 rfl rfl)
theorem dX9_readOne_159 : decode cX9_readOne 159 = .ok (.if_icmp .ne 8, 3) := dk_160 0 8 (dk_at dksX9_readOne_6 21 rfl rfl)
theorem dX9_readOne_162 : decode cX9_readOne 162 = .ok (.bipush 6, 2) := dk_16 6 (dk_at dksX9_readOne_7 0 rfl rfl)
theorem dX9_readOne_164 : decode cX9_readOne 164 = .ok (.goto 5, 3) := dk_167 0 5 (dk_at dksX9_readOne_7 2 rfl rfl)
theorem dX9_readOne_167 : decode cX9_readOne 167 = .ok (.bipush 7, 2) := dk_16 7 (dk_at dksX9_readOne_7 5 rfl rfl)
theorem dX9_readOne_169 : decode cX9_readOne 169 = .ok (.iconst 0, 1) := dk_3 (dk_at dksX9_readOne_7 7 rfl rfl)
theorem dX9_readOne_170 : decode cX9_readOne 170 = .ok (.invokevirtual 248, 3) := dk_182 0 248 (dk_at dksX9_readOne_7 8 rfl rfl)
theorem dX9_readOne_173 : decode cX9_readOne 173 = .ok (.return_, 1) := dk_177 (dk_at dksX9_readOne_7 11 rfl rfl)
abbrev cX9_opensOne : ByteArray := prog_28_method_29_code
def yX9_opensOne : MethodName := ⟨RX9, "opensOne", "(I)V"⟩
def dkwX9_opensOne_2 : List UInt8 := [180, 0, 148, 4, 96, 181, 0, 148, 177]
abbrev dktX9_opensOne_2 : List UInt8 := dkwX9_opensOne_2 ++ []
def dkwX9_opensOne_1 : List UInt8 := [182, 0, 144, 42, 182, 0, 137, 153, 0, 13, 42, 89, 180, 0, 114, 27, 96, 181, 0, 114, 42, 89]
abbrev dktX9_opensOne_1 : List UInt8 := dkwX9_opensOne_1 ++ dktX9_opensOne_2
def dkwX9_opensOne_0 : List UInt8 := [42, 182, 0, 137, 153, 0, 21, 42, 180, 0, 148, 16, 6, 160, 0, 12, 42, 6, 42, 180, 0, 114]
abbrev dktX9_opensOne_0 : List UInt8 := dkwX9_opensOne_0 ++ dktX9_opensOne_1
theorem dksX9_opensOne_0 : cX9_opensOne.data.toList.drop 0 = dktX9_opensOne_0 := by decide +kernel
theorem dksX9_opensOne_1 : cX9_opensOne.data.toList.drop 22 = dktX9_opensOne_1 := dk_seg dksX9_opensOne_0 22 rfl rfl
theorem dksX9_opensOne_2 : cX9_opensOne.data.toList.drop 44 = dktX9_opensOne_2 := dk_seg dksX9_opensOne_1 22 rfl rfl
theorem dX9_opensOne_0 : decode cX9_opensOne 0 = .ok (.aload_n 0, 1) := dk_42 (dk_at dksX9_opensOne_0 0 rfl rfl)
theorem dX9_opensOne_1 : decode cX9_opensOne 1 = .ok (.invokevirtual 137, 3) := dk_182 0 137 (dk_at dksX9_opensOne_0 1 rfl rfl)
theorem dX9_opensOne_4 : decode cX9_opensOne 4 = .ok (.ifCond .eq 21, 3) := dk_153 0 21 (dk_at dksX9_opensOne_0 4 rfl rfl)
theorem dX9_opensOne_7 : decode cX9_opensOne 7 = .ok (.aload_n 0, 1) := dk_42 (dk_at dksX9_opensOne_0 7 rfl rfl)
theorem dX9_opensOne_8 : decode cX9_opensOne 8 = .ok (.getfield 148, 3) := dk_180 0 148 (dk_at dksX9_opensOne_0 8 rfl rfl)
theorem dX9_opensOne_11 : decode cX9_opensOne 11 = .ok (.bipush 6, 2) := dk_16 6 (dk_at dksX9_opensOne_0 11 rfl rfl)
theorem dX9_opensOne_13 : decode cX9_opensOne 13 = .ok (.if_icmp .ne 12, 3) := dk_160 0 12 (dk_at dksX9_opensOne_0 13 rfl rfl)
theorem dX9_opensOne_16 : decode cX9_opensOne 16 = .ok (.aload_n 0, 1) := dk_42 (dk_at dksX9_opensOne_0 16 rfl rfl)
theorem dX9_opensOne_17 : decode cX9_opensOne 17 = .ok (.iconst 3, 1) := dk_6 (dk_at dksX9_opensOne_0 17 rfl rfl)
theorem dX9_opensOne_18 : decode cX9_opensOne 18 = .ok (.aload_n 0, 1) := dk_42 (dk_at dksX9_opensOne_0 18 rfl rfl)
theorem dX9_opensOne_19 : decode cX9_opensOne 19 = .ok (.getfield 114, 3) := dk_180 0 114 (dk_at dksX9_opensOne_0 19 rfl rfl)
theorem dX9_opensOne_22 : decode cX9_opensOne 22 = .ok (.invokevirtual 144, 3) := dk_182 0 144 (dk_at dksX9_opensOne_1 0 rfl rfl)
theorem dX9_opensOne_25 : decode cX9_opensOne 25 = .ok (.aload_n 0, 1) := dk_42 (dk_at dksX9_opensOne_1 3 rfl rfl)
theorem dX9_opensOne_26 : decode cX9_opensOne 26 = .ok (.invokevirtual 137, 3) := dk_182 0 137 (dk_at dksX9_opensOne_1 4 rfl rfl)
theorem dX9_opensOne_29 : decode cX9_opensOne 29 = .ok (.ifCond .eq 13, 3) := dk_153 0 13 (dk_at dksX9_opensOne_1 7 rfl rfl)
theorem dX9_opensOne_32 : decode cX9_opensOne 32 = .ok (.aload_n 0, 1) := dk_42 (dk_at dksX9_opensOne_1 10 rfl rfl)
theorem dX9_opensOne_33 : decode cX9_opensOne 33 = .ok (.dup, 1) := dk_89 (dk_at dksX9_opensOne_1 11 rfl rfl)
theorem dX9_opensOne_34 : decode cX9_opensOne 34 = .ok (.getfield 114, 3) := dk_180 0 114 (dk_at dksX9_opensOne_1 12 rfl rfl)
theorem dX9_opensOne_37 : decode cX9_opensOne 37 = .ok (.iload_n 1, 1) := dk_27 (dk_at dksX9_opensOne_1 15 rfl rfl)
theorem dX9_opensOne_38 : decode cX9_opensOne 38 = .ok (.iadd, 1) := dk_96 (dk_at dksX9_opensOne_1 16 rfl rfl)
theorem dX9_opensOne_39 : decode cX9_opensOne 39 = .ok (.putfield 114, 3) := dk_181 0 114 (dk_at dksX9_opensOne_1 17 rfl rfl)
theorem dX9_opensOne_42 : decode cX9_opensOne 42 = .ok (.aload_n 0, 1) := dk_42 (dk_at dksX9_opensOne_1 20 rfl rfl)
theorem dX9_opensOne_43 : decode cX9_opensOne 43 = .ok (.dup, 1) := dk_89 (dk_at dksX9_opensOne_1 21 rfl rfl)
theorem dX9_opensOne_44 : decode cX9_opensOne 44 = .ok (.getfield 148, 3) := dk_180 0 148 (dk_at dksX9_opensOne_2 0 rfl rfl)
theorem dX9_opensOne_47 : decode cX9_opensOne 47 = .ok (.iconst 1, 1) := dk_4 (dk_at dksX9_opensOne_2 3 rfl rfl)
theorem dX9_opensOne_48 : decode cX9_opensOne 48 = .ok (.iadd, 1) := dk_96 (dk_at dksX9_opensOne_2 4 rfl rfl)
theorem dX9_opensOne_49 : decode cX9_opensOne 49 = .ok (.putfield 148, 3) := dk_181 0 148 (dk_at dksX9_opensOne_2 5 rfl rfl)
theorem dX9_opensOne_52 : decode cX9_opensOne 52 = .ok (.return_, 1) := dk_177 (dk_at dksX9_opensOne_2 8 rfl rfl)
abbrev cX9_emit : ByteArray := prog_28_method_28_code
def yX9_emit : MethodName := ⟨RX9, "emit", "(II)V"⟩
def dkwX9_emit_1 : List UInt8 := [180, 0, 240, 28, 79, 42, 89, 180, 0, 240, 4, 96, 181, 0, 240, 177]
abbrev dktX9_emit_1 : List UInt8 := dkwX9_emit_1 ++ []
def dkwX9_emit_0 : List UInt8 := [42, 182, 0, 137, 154, 0, 4, 177, 42, 180, 0, 41, 42, 180, 0, 240, 27, 79, 42, 180, 0, 44, 42]
abbrev dktX9_emit_0 : List UInt8 := dkwX9_emit_0 ++ dktX9_emit_1
theorem dksX9_emit_0 : cX9_emit.data.toList.drop 0 = dktX9_emit_0 := by decide +kernel
theorem dksX9_emit_1 : cX9_emit.data.toList.drop 23 = dktX9_emit_1 := dk_seg dksX9_emit_0 23 rfl rfl
theorem dX9_emit_0 : decode cX9_emit 0 = .ok (.aload_n 0, 1) := dk_42 (dk_at dksX9_emit_0 0 rfl rfl)
theorem dX9_emit_1 : decode cX9_emit 1 = .ok (.invokevirtual 137, 3) := dk_182 0 137 (dk_at dksX9_emit_0 1 rfl rfl)
theorem dX9_emit_4 : decode cX9_emit 4 = .ok (.ifCond .ne 4, 3) := dk_154 0 4 (dk_at dksX9_emit_0 4 rfl rfl)
theorem dX9_emit_7 : decode cX9_emit 7 = .ok (.return_, 1) := dk_177 (dk_at dksX9_emit_0 7 rfl rfl)
theorem dX9_emit_8 : decode cX9_emit 8 = .ok (.aload_n 0, 1) := dk_42 (dk_at dksX9_emit_0 8 rfl rfl)
theorem dX9_emit_9 : decode cX9_emit 9 = .ok (.getfield 41, 3) := dk_180 0 41 (dk_at dksX9_emit_0 9 rfl rfl)
theorem dX9_emit_12 : decode cX9_emit 12 = .ok (.aload_n 0, 1) := dk_42 (dk_at dksX9_emit_0 12 rfl rfl)
theorem dX9_emit_13 : decode cX9_emit 13 = .ok (.getfield 240, 3) := dk_180 0 240 (dk_at dksX9_emit_0 13 rfl rfl)
theorem dX9_emit_16 : decode cX9_emit 16 = .ok (.iload_n 1, 1) := dk_27 (dk_at dksX9_emit_0 16 rfl rfl)
theorem dX9_emit_17 : decode cX9_emit 17 = .ok (.iastore, 1) := dk_79 (dk_at dksX9_emit_0 17 rfl rfl)
theorem dX9_emit_18 : decode cX9_emit 18 = .ok (.aload_n 0, 1) := dk_42 (dk_at dksX9_emit_0 18 rfl rfl)
theorem dX9_emit_19 : decode cX9_emit 19 = .ok (.getfield 44, 3) := dk_180 0 44 (dk_at dksX9_emit_0 19 rfl rfl)
theorem dX9_emit_22 : decode cX9_emit 22 = .ok (.aload_n 0, 1) := dk_42 (dk_at dksX9_emit_0 22 rfl rfl)
theorem dX9_emit_23 : decode cX9_emit 23 = .ok (.getfield 240, 3) := dk_180 0 240 (dk_at dksX9_emit_1 0 rfl rfl)
theorem dX9_emit_26 : decode cX9_emit 26 = .ok (.iload_n 2, 1) := dk_28 (dk_at dksX9_emit_1 3 rfl rfl)
theorem dX9_emit_27 : decode cX9_emit 27 = .ok (.iastore, 1) := dk_79 (dk_at dksX9_emit_1 4 rfl rfl)
theorem dX9_emit_28 : decode cX9_emit 28 = .ok (.aload_n 0, 1) := dk_42 (dk_at dksX9_emit_1 5 rfl rfl)
theorem dX9_emit_29 : decode cX9_emit 29 = .ok (.dup, 1) := dk_89 (dk_at dksX9_emit_1 6 rfl rfl)
theorem dX9_emit_30 : decode cX9_emit 30 = .ok (.getfield 240, 3) := dk_180 0 240 (dk_at dksX9_emit_1 7 rfl rfl)
theorem dX9_emit_33 : decode cX9_emit 33 = .ok (.iconst 1, 1) := dk_4 (dk_at dksX9_emit_1 10 rfl rfl)
theorem dX9_emit_34 : decode cX9_emit 34 = .ok (.iadd, 1) := dk_96 (dk_at dksX9_emit_1 11 rfl rfl)
theorem dX9_emit_35 : decode cX9_emit 35 = .ok (.putfield 240, 3) := dk_181 0 240 (dk_at dksX9_emit_1 12 rfl rfl)
theorem dX9_emit_38 : decode cX9_emit 38 = .ok (.return_, 1) := dk_177 (dk_at dksX9_emit_1 15 rfl rfl)
abbrev cX9_readSum : ByteArray := prog_28_method_33_code
def yX9_readSum : MethodName := ⟨RX9, "readSum", "()V"⟩
def dkwX9_readSum_2 : List UInt8 := [180, 0, 114, 4, 96, 181, 0, 114, 42, 182, 1, 11, 42, 27, 3, 182, 0, 248, 167, 255, 196, 177]
abbrev dktX9_readSum_2 : List UInt8 := dkwX9_readSum_2 ++ []
def dkwX9_readSum_1 : List UInt8 := [16, 45, 160, 0, 41, 42, 182, 0, 120, 16, 43, 160, 0, 7, 5, 167, 0, 4, 6, 60, 42, 89]
abbrev dktX9_readSum_1 : List UInt8 := dkwX9_readSum_1 ++ dktX9_readSum_2
def dkwX9_readSum_0 : List UInt8 := [42, 182, 1, 11, 42, 182, 0, 137, 153, 0, 59, 42, 182, 0, 120, 16, 43, 159, 0, 12, 42, 182, 0, 120]
abbrev dktX9_readSum_0 : List UInt8 := dkwX9_readSum_0 ++ dktX9_readSum_1
theorem dksX9_readSum_0 : cX9_readSum.data.toList.drop 0 = dktX9_readSum_0 := by decide +kernel
theorem dksX9_readSum_1 : cX9_readSum.data.toList.drop 24 = dktX9_readSum_1 := dk_seg dksX9_readSum_0 24 rfl rfl
theorem dksX9_readSum_2 : cX9_readSum.data.toList.drop 46 = dktX9_readSum_2 := dk_seg dksX9_readSum_1 22 rfl rfl
theorem dX9_readSum_0 : decode cX9_readSum 0 = .ok (.aload_n 0, 1) := dk_42 (dk_at dksX9_readSum_0 0 rfl rfl)
theorem dX9_readSum_1 : decode cX9_readSum 1 = .ok (.invokevirtual 267, 3) := dk_182 1 11 (dk_at dksX9_readSum_0 1 rfl rfl)
theorem dX9_readSum_4 : decode cX9_readSum 4 = .ok (.aload_n 0, 1) := dk_42 (dk_at dksX9_readSum_0 4 rfl rfl)
theorem dX9_readSum_5 : decode cX9_readSum 5 = .ok (.invokevirtual 137, 3) := dk_182 0 137 (dk_at dksX9_readSum_0 5 rfl rfl)
theorem dX9_readSum_8 : decode cX9_readSum 8 = .ok (.ifCond .eq 59, 3) := dk_153 0 59 (dk_at dksX9_readSum_0 8 rfl rfl)
theorem dX9_readSum_11 : decode cX9_readSum 11 = .ok (.aload_n 0, 1) := dk_42 (dk_at dksX9_readSum_0 11 rfl rfl)
theorem dX9_readSum_12 : decode cX9_readSum 12 = .ok (.invokevirtual 120, 3) := dk_182 0 120 (dk_at dksX9_readSum_0 12 rfl rfl)
theorem dX9_readSum_15 : decode cX9_readSum 15 = .ok (.bipush 43, 2) := dk_16 43 (dk_at dksX9_readSum_0 15 rfl rfl)
theorem dX9_readSum_17 : decode cX9_readSum 17 = .ok (.if_icmp .eq 12, 3) := dk_159 0 12 (dk_at dksX9_readSum_0 17 rfl rfl)
theorem dX9_readSum_20 : decode cX9_readSum 20 = .ok (.aload_n 0, 1) := dk_42 (dk_at dksX9_readSum_0 20 rfl rfl)
theorem dX9_readSum_21 : decode cX9_readSum 21 = .ok (.invokevirtual 120, 3) := dk_182 0 120 (dk_at dksX9_readSum_0 21 rfl rfl)
theorem dX9_readSum_24 : decode cX9_readSum 24 = .ok (.bipush 45, 2) := dk_16 45 (dk_at dksX9_readSum_1 0 rfl rfl)
theorem dX9_readSum_26 : decode cX9_readSum 26 = .ok (.if_icmp .ne 41, 3) := dk_160 0 41 (dk_at dksX9_readSum_1 2 rfl rfl)
theorem dX9_readSum_29 : decode cX9_readSum 29 = .ok (.aload_n 0, 1) := dk_42 (dk_at dksX9_readSum_1 5 rfl rfl)
theorem dX9_readSum_30 : decode cX9_readSum 30 = .ok (.invokevirtual 120, 3) := dk_182 0 120 (dk_at dksX9_readSum_1 6 rfl rfl)
theorem dX9_readSum_33 : decode cX9_readSum 33 = .ok (.bipush 43, 2) := dk_16 43 (dk_at dksX9_readSum_1 9 rfl rfl)
theorem dX9_readSum_35 : decode cX9_readSum 35 = .ok (.if_icmp .ne 7, 3) := dk_160 0 7 (dk_at dksX9_readSum_1 11 rfl rfl)
theorem dX9_readSum_38 : decode cX9_readSum 38 = .ok (.iconst 2, 1) := dk_5 (dk_at dksX9_readSum_1 14 rfl rfl)
theorem dX9_readSum_39 : decode cX9_readSum 39 = .ok (.goto 4, 3) := dk_167 0 4 (dk_at dksX9_readSum_1 15 rfl rfl)
theorem dX9_readSum_42 : decode cX9_readSum 42 = .ok (.iconst 3, 1) := dk_6 (dk_at dksX9_readSum_1 18 rfl rfl)
theorem dX9_readSum_43 : decode cX9_readSum 43 = .ok (.istore_n 1, 1) := dk_60 (dk_at dksX9_readSum_1 19 rfl rfl)
theorem dX9_readSum_44 : decode cX9_readSum 44 = .ok (.aload_n 0, 1) := dk_42 (dk_at dksX9_readSum_1 20 rfl rfl)
theorem dX9_readSum_45 : decode cX9_readSum 45 = .ok (.dup, 1) := dk_89 (dk_at dksX9_readSum_1 21 rfl rfl)
theorem dX9_readSum_46 : decode cX9_readSum 46 = .ok (.getfield 114, 3) := dk_180 0 114 (dk_at dksX9_readSum_2 0 rfl rfl)
theorem dX9_readSum_49 : decode cX9_readSum 49 = .ok (.iconst 1, 1) := dk_4 (dk_at dksX9_readSum_2 3 rfl rfl)
theorem dX9_readSum_50 : decode cX9_readSum 50 = .ok (.iadd, 1) := dk_96 (dk_at dksX9_readSum_2 4 rfl rfl)
theorem dX9_readSum_51 : decode cX9_readSum 51 = .ok (.putfield 114, 3) := dk_181 0 114 (dk_at dksX9_readSum_2 5 rfl rfl)
theorem dX9_readSum_54 : decode cX9_readSum 54 = .ok (.aload_n 0, 1) := dk_42 (dk_at dksX9_readSum_2 8 rfl rfl)
theorem dX9_readSum_55 : decode cX9_readSum 55 = .ok (.invokevirtual 267, 3) := dk_182 1 11 (dk_at dksX9_readSum_2 9 rfl rfl)
theorem dX9_readSum_58 : decode cX9_readSum 58 = .ok (.aload_n 0, 1) := dk_42 (dk_at dksX9_readSum_2 12 rfl rfl)
theorem dX9_readSum_59 : decode cX9_readSum 59 = .ok (.iload_n 1, 1) := dk_27 (dk_at dksX9_readSum_2 13 rfl rfl)
theorem dX9_readSum_60 : decode cX9_readSum 60 = .ok (.iconst 0, 1) := dk_3 (dk_at dksX9_readSum_2 14 rfl rfl)
theorem dX9_readSum_61 : decode cX9_readSum 61 = .ok (.invokevirtual 248, 3) := dk_182 0 248 (dk_at dksX9_readSum_2 15 rfl rfl)
theorem dX9_readSum_64 : decode cX9_readSum 64 = .ok (.goto (-60), 3) := dk_167 255 196 (dk_at dksX9_readSum_2 18 rfl rfl)
theorem dX9_readSum_67 : decode cX9_readSum 67 = .ok (.return_, 1) := dk_177 (dk_at dksX9_readSum_2 21 rfl rfl)
abbrev cX9_readProduct : ByteArray := prog_28_method_34_code
def yX9_readProduct : MethodName := ⟨RX9, "readProduct", "()V"⟩
def dkwX9_readProduct_1 : List UInt8 := [180, 0, 114, 4, 96, 181, 0, 114, 42, 182, 1, 14, 42, 7, 3, 182, 0, 248, 167, 255, 220, 177]
abbrev dktX9_readProduct_1 : List UInt8 := dkwX9_readProduct_1 ++ []
def dkwX9_readProduct_0 : List UInt8 := [42, 182, 1, 14, 42, 182, 0, 137, 153, 0, 35, 42, 182, 0, 120, 16, 42, 160, 0, 26, 42, 89]
abbrev dktX9_readProduct_0 : List UInt8 := dkwX9_readProduct_0 ++ dktX9_readProduct_1
theorem dksX9_readProduct_0 : cX9_readProduct.data.toList.drop 0 = dktX9_readProduct_0 := by decide +kernel
theorem dksX9_readProduct_1 : cX9_readProduct.data.toList.drop 22 = dktX9_readProduct_1 := dk_seg dksX9_readProduct_0 22 rfl rfl
theorem dX9_readProduct_0 : decode cX9_readProduct 0 = .ok (.aload_n 0, 1) := dk_42 (dk_at dksX9_readProduct_0 0 rfl rfl)
theorem dX9_readProduct_1 : decode cX9_readProduct 1 = .ok (.invokevirtual 270, 3) := dk_182 1 14 (dk_at dksX9_readProduct_0 1 rfl rfl)
theorem dX9_readProduct_4 : decode cX9_readProduct 4 = .ok (.aload_n 0, 1) := dk_42 (dk_at dksX9_readProduct_0 4 rfl rfl)
theorem dX9_readProduct_5 : decode cX9_readProduct 5 = .ok (.invokevirtual 137, 3) := dk_182 0 137 (dk_at dksX9_readProduct_0 5 rfl rfl)
theorem dX9_readProduct_8 : decode cX9_readProduct 8 = .ok (.ifCond .eq 35, 3) := dk_153 0 35 (dk_at dksX9_readProduct_0 8 rfl rfl)
theorem dX9_readProduct_11 : decode cX9_readProduct 11 = .ok (.aload_n 0, 1) := dk_42 (dk_at dksX9_readProduct_0 11 rfl rfl)
theorem dX9_readProduct_12 : decode cX9_readProduct 12 = .ok (.invokevirtual 120, 3) := dk_182 0 120 (dk_at dksX9_readProduct_0 12 rfl rfl)
theorem dX9_readProduct_15 : decode cX9_readProduct 15 = .ok (.bipush 42, 2) := dk_16 42 (dk_at dksX9_readProduct_0 15 rfl rfl)
theorem dX9_readProduct_17 : decode cX9_readProduct 17 = .ok (.if_icmp .ne 26, 3) := dk_160 0 26 (dk_at dksX9_readProduct_0 17 rfl rfl)
theorem dX9_readProduct_20 : decode cX9_readProduct 20 = .ok (.aload_n 0, 1) := dk_42 (dk_at dksX9_readProduct_0 20 rfl rfl)
theorem dX9_readProduct_21 : decode cX9_readProduct 21 = .ok (.dup, 1) := dk_89 (dk_at dksX9_readProduct_0 21 rfl rfl)
theorem dX9_readProduct_22 : decode cX9_readProduct 22 = .ok (.getfield 114, 3) := dk_180 0 114 (dk_at dksX9_readProduct_1 0 rfl rfl)
theorem dX9_readProduct_25 : decode cX9_readProduct 25 = .ok (.iconst 1, 1) := dk_4 (dk_at dksX9_readProduct_1 3 rfl rfl)
theorem dX9_readProduct_26 : decode cX9_readProduct 26 = .ok (.iadd, 1) := dk_96 (dk_at dksX9_readProduct_1 4 rfl rfl)
theorem dX9_readProduct_27 : decode cX9_readProduct 27 = .ok (.putfield 114, 3) := dk_181 0 114 (dk_at dksX9_readProduct_1 5 rfl rfl)
theorem dX9_readProduct_30 : decode cX9_readProduct 30 = .ok (.aload_n 0, 1) := dk_42 (dk_at dksX9_readProduct_1 8 rfl rfl)
theorem dX9_readProduct_31 : decode cX9_readProduct 31 = .ok (.invokevirtual 270, 3) := dk_182 1 14 (dk_at dksX9_readProduct_1 9 rfl rfl)
theorem dX9_readProduct_34 : decode cX9_readProduct 34 = .ok (.aload_n 0, 1) := dk_42 (dk_at dksX9_readProduct_1 12 rfl rfl)
theorem dX9_readProduct_35 : decode cX9_readProduct 35 = .ok (.iconst 4, 1) := dk_7 (dk_at dksX9_readProduct_1 13 rfl rfl)
theorem dX9_readProduct_36 : decode cX9_readProduct 36 = .ok (.iconst 0, 1) := dk_3 (dk_at dksX9_readProduct_1 14 rfl rfl)
theorem dX9_readProduct_37 : decode cX9_readProduct 37 = .ok (.invokevirtual 248, 3) := dk_182 0 248 (dk_at dksX9_readProduct_1 15 rfl rfl)
theorem dX9_readProduct_40 : decode cX9_readProduct 40 = .ok (.goto (-36), 3) := dk_167 255 220 (dk_at dksX9_readProduct_1 18 rfl rfl)
theorem dX9_readProduct_43 : decode cX9_readProduct 43 = .ok (.return_, 1) := dk_177 (dk_at dksX9_readProduct_1 21 rfl rfl)
abbrev cX9_readUnit : ByteArray := prog_28_method_36_code
def yX9_readUnit : MethodName := ⟨RX9, "readUnit", "()V"⟩
def dkwX9_readUnit_4 : List UInt8 := [182, 0, 144, 42, 182, 0, 137, 154, 0, 4, 177, 42, 182, 0, 227, 42, 4, 27, 182, 0, 248, 177]
abbrev dktX9_readUnit_4 : List UInt8 := dkwX9_readUnit_4 ++ []
def dkwX9_readUnit_3 : List UInt8 := [167, 0, 43, 42, 182, 0, 208, 184, 1, 28, 60, 27, 2, 160, 0, 12, 42, 4, 42, 180, 0, 114]
abbrev dktX9_readUnit_3 : List UInt8 := dkwX9_readUnit_3 ++ dktX9_readUnit_4
def dkwX9_readUnit_2 : List UInt8 := [182, 0, 120, 184, 0, 141, 153, 0, 19, 42, 3, 42, 3, 17, 3, 231, 182, 0, 176, 182, 0, 248]
abbrev dktX9_readUnit_2 : List UInt8 := dkwX9_readUnit_2 ++ dktX9_readUnit_3
def dkwX9_readUnit_1 : List UInt8 := [182, 1, 8, 42, 16, 41, 182, 0, 233, 42, 89, 180, 0, 148, 4, 100, 181, 0, 148, 167, 0, 69, 42]
abbrev dktX9_readUnit_1 : List UInt8 := dkwX9_readUnit_1 ++ dktX9_readUnit_2
def dkwX9_readUnit_0 : List UInt8 := [42, 182, 0, 137, 154, 0, 4, 177, 42, 182, 0, 120, 16, 40, 160, 0, 31, 42, 4, 182, 1, 0, 42]
abbrev dktX9_readUnit_0 : List UInt8 := dkwX9_readUnit_0 ++ dktX9_readUnit_1
theorem dksX9_readUnit_0 : cX9_readUnit.data.toList.drop 0 = dktX9_readUnit_0 := by decide +kernel
theorem dksX9_readUnit_1 : cX9_readUnit.data.toList.drop 23 = dktX9_readUnit_1 := dk_seg dksX9_readUnit_0 23 rfl rfl
theorem dksX9_readUnit_2 : cX9_readUnit.data.toList.drop 46 = dktX9_readUnit_2 := dk_seg dksX9_readUnit_1 23 rfl rfl
theorem dksX9_readUnit_3 : cX9_readUnit.data.toList.drop 68 = dktX9_readUnit_3 := dk_seg dksX9_readUnit_2 22 rfl rfl
theorem dksX9_readUnit_4 : cX9_readUnit.data.toList.drop 90 = dktX9_readUnit_4 := dk_seg dksX9_readUnit_3 22 rfl rfl
theorem dX9_readUnit_0 : decode cX9_readUnit 0 = .ok (.aload_n 0, 1) := dk_42 (dk_at dksX9_readUnit_0 0 rfl rfl)
theorem dX9_readUnit_1 : decode cX9_readUnit 1 = .ok (.invokevirtual 137, 3) := dk_182 0 137 (dk_at dksX9_readUnit_0 1 rfl rfl)
theorem dX9_readUnit_4 : decode cX9_readUnit 4 = .ok (.ifCond .ne 4, 3) := dk_154 0 4 (dk_at dksX9_readUnit_0 4 rfl rfl)
theorem dX9_readUnit_7 : decode cX9_readUnit 7 = .ok (.return_, 1) := dk_177 (dk_at dksX9_readUnit_0 7 rfl rfl)
theorem dX9_readUnit_8 : decode cX9_readUnit 8 = .ok (.aload_n 0, 1) := dk_42 (dk_at dksX9_readUnit_0 8 rfl rfl)
theorem dX9_readUnit_9 : decode cX9_readUnit 9 = .ok (.invokevirtual 120, 3) := dk_182 0 120 (dk_at dksX9_readUnit_0 9 rfl rfl)
theorem dX9_readUnit_12 : decode cX9_readUnit 12 = .ok (.bipush 40, 2) := dk_16 40 (dk_at dksX9_readUnit_0 12 rfl rfl)
theorem dX9_readUnit_14 : decode cX9_readUnit 14 = .ok (.if_icmp .ne 31, 3) := dk_160 0 31 (dk_at dksX9_readUnit_0 14 rfl rfl)
theorem dX9_readUnit_17 : decode cX9_readUnit 17 = .ok (.aload_n 0, 1) := dk_42 (dk_at dksX9_readUnit_0 17 rfl rfl)
theorem dX9_readUnit_18 : decode cX9_readUnit 18 = .ok (.iconst 1, 1) := dk_4 (dk_at dksX9_readUnit_0 18 rfl rfl)
theorem dX9_readUnit_19 : decode cX9_readUnit 19 = .ok (.invokevirtual 256, 3) := dk_182 1 0 (dk_at dksX9_readUnit_0 19 rfl rfl)
theorem dX9_readUnit_22 : decode cX9_readUnit 22 = .ok (.aload_n 0, 1) := dk_42 (dk_at dksX9_readUnit_0 22 rfl rfl)
theorem dX9_readUnit_23 : decode cX9_readUnit 23 = .ok (.invokevirtual 264, 3) := dk_182 1 8 (dk_at dksX9_readUnit_1 0 rfl rfl)
theorem dX9_readUnit_26 : decode cX9_readUnit 26 = .ok (.aload_n 0, 1) := dk_42 (dk_at dksX9_readUnit_1 3 rfl rfl)
theorem dX9_readUnit_27 : decode cX9_readUnit 27 = .ok (.bipush 41, 2) := dk_16 41 (dk_at dksX9_readUnit_1 4 rfl rfl)
theorem dX9_readUnit_29 : decode cX9_readUnit 29 = .ok (.invokevirtual 233, 3) := dk_182 0 233 (dk_at dksX9_readUnit_1 6 rfl rfl)
theorem dX9_readUnit_32 : decode cX9_readUnit 32 = .ok (.aload_n 0, 1) := dk_42 (dk_at dksX9_readUnit_1 9 rfl rfl)
theorem dX9_readUnit_33 : decode cX9_readUnit 33 = .ok (.dup, 1) := dk_89 (dk_at dksX9_readUnit_1 10 rfl rfl)
theorem dX9_readUnit_34 : decode cX9_readUnit 34 = .ok (.getfield 148, 3) := dk_180 0 148 (dk_at dksX9_readUnit_1 11 rfl rfl)
theorem dX9_readUnit_37 : decode cX9_readUnit 37 = .ok (.iconst 1, 1) := dk_4 (dk_at dksX9_readUnit_1 14 rfl rfl)
theorem dX9_readUnit_38 : decode cX9_readUnit 38 = .ok (.isub, 1) := dk_100 (dk_at dksX9_readUnit_1 15 rfl rfl)
theorem dX9_readUnit_39 : decode cX9_readUnit 39 = .ok (.putfield 148, 3) := dk_181 0 148 (dk_at dksX9_readUnit_1 16 rfl rfl)
theorem dX9_readUnit_42 : decode cX9_readUnit 42 = .ok (.goto 69, 3) := dk_167 0 69 (dk_at dksX9_readUnit_1 19 rfl rfl)
theorem dX9_readUnit_45 : decode cX9_readUnit 45 = .ok (.aload_n 0, 1) := dk_42 (dk_at dksX9_readUnit_1 22 rfl rfl)
theorem dX9_readUnit_46 : decode cX9_readUnit 46 = .ok (.invokevirtual 120, 3) := dk_182 0 120 (dk_at dksX9_readUnit_2 0 rfl rfl)
theorem dX9_readUnit_49 : decode cX9_readUnit 49 = .ok (.invokestatic 141, 3) := dk_184 0 141 (dk_at dksX9_readUnit_2 3 rfl rfl)
theorem dX9_readUnit_52 : decode cX9_readUnit 52 = .ok (.ifCond .eq 19, 3) := dk_153 0 19 (dk_at dksX9_readUnit_2 6 rfl rfl)
theorem dX9_readUnit_55 : decode cX9_readUnit 55 = .ok (.aload_n 0, 1) := dk_42 (dk_at dksX9_readUnit_2 9 rfl rfl)
theorem dX9_readUnit_56 : decode cX9_readUnit 56 = .ok (.iconst 0, 1) := dk_3 (dk_at dksX9_readUnit_2 10 rfl rfl)
theorem dX9_readUnit_57 : decode cX9_readUnit 57 = .ok (.aload_n 0, 1) := dk_42 (dk_at dksX9_readUnit_2 11 rfl rfl)
theorem dX9_readUnit_58 : decode cX9_readUnit 58 = .ok (.iconst 0, 1) := dk_3 (dk_at dksX9_readUnit_2 12 rfl rfl)
theorem dX9_readUnit_59 : decode cX9_readUnit 59 = .ok (.sipush 999, 3) := dk_17 3 231 (dk_at dksX9_readUnit_2 13 rfl rfl)
theorem dX9_readUnit_62 : decode cX9_readUnit 62 = .ok (.invokevirtual 176, 3) := dk_182 0 176 (dk_at dksX9_readUnit_2 16 rfl rfl)
theorem dX9_readUnit_65 : decode cX9_readUnit 65 = .ok (.invokevirtual 248, 3) := dk_182 0 248 (dk_at dksX9_readUnit_2 19 rfl rfl)
theorem dX9_readUnit_68 : decode cX9_readUnit 68 = .ok (.goto 43, 3) := dk_167 0 43 (dk_at dksX9_readUnit_3 0 rfl rfl)
theorem dX9_readUnit_71 : decode cX9_readUnit 71 = .ok (.aload_n 0, 1) := dk_42 (dk_at dksX9_readUnit_3 3 rfl rfl)
theorem dX9_readUnit_72 : decode cX9_readUnit 72 = .ok (.invokevirtual 208, 3) := dk_182 0 208 (dk_at dksX9_readUnit_3 4 rfl rfl)
theorem dX9_readUnit_75 : decode cX9_readUnit 75 = .ok (.invokestatic 284, 3) := dk_184 1 28 (dk_at dksX9_readUnit_3 7 rfl rfl)
theorem dX9_readUnit_78 : decode cX9_readUnit 78 = .ok (.istore_n 1, 1) := dk_60 (dk_at dksX9_readUnit_3 10 rfl rfl)
theorem dX9_readUnit_79 : decode cX9_readUnit 79 = .ok (.iload_n 1, 1) := dk_27 (dk_at dksX9_readUnit_3 11 rfl rfl)
theorem dX9_readUnit_80 : decode cX9_readUnit 80 = .ok (.iconst (-1), 1) := dk_2 (dk_at dksX9_readUnit_3 12 rfl rfl)
theorem dX9_readUnit_81 : decode cX9_readUnit 81 = .ok (.if_icmp .ne 12, 3) := dk_160 0 12 (dk_at dksX9_readUnit_3 13 rfl rfl)
theorem dX9_readUnit_84 : decode cX9_readUnit 84 = .ok (.aload_n 0, 1) := dk_42 (dk_at dksX9_readUnit_3 16 rfl rfl)
theorem dX9_readUnit_85 : decode cX9_readUnit 85 = .ok (.iconst 1, 1) := dk_4 (dk_at dksX9_readUnit_3 17 rfl rfl)
theorem dX9_readUnit_86 : decode cX9_readUnit 86 = .ok (.aload_n 0, 1) := dk_42 (dk_at dksX9_readUnit_3 18 rfl rfl)
theorem dX9_readUnit_87 : decode cX9_readUnit 87 = .ok (.getfield 114, 3) := dk_180 0 114 (dk_at dksX9_readUnit_3 19 rfl rfl)
theorem dX9_readUnit_90 : decode cX9_readUnit 90 = .ok (.invokevirtual 144, 3) := dk_182 0 144 (dk_at dksX9_readUnit_4 0 rfl rfl)
theorem dX9_readUnit_93 : decode cX9_readUnit 93 = .ok (.aload_n 0, 1) := dk_42 (dk_at dksX9_readUnit_4 3 rfl rfl)
theorem dX9_readUnit_94 : decode cX9_readUnit 94 = .ok (.invokevirtual 137, 3) := dk_182 0 137 (dk_at dksX9_readUnit_4 4 rfl rfl)
theorem dX9_readUnit_97 : decode cX9_readUnit 97 = .ok (.ifCond .ne 4, 3) := dk_154 0 4 (dk_at dksX9_readUnit_4 7 rfl rfl)
theorem dX9_readUnit_100 : decode cX9_readUnit 100 = .ok (.return_, 1) := dk_177 (dk_at dksX9_readUnit_4 10 rfl rfl)
theorem dX9_readUnit_101 : decode cX9_readUnit 101 = .ok (.aload_n 0, 1) := dk_42 (dk_at dksX9_readUnit_4 11 rfl rfl)
theorem dX9_readUnit_102 : decode cX9_readUnit 102 = .ok (.invokevirtual 227, 3) := dk_182 0 227 (dk_at dksX9_readUnit_4 12 rfl rfl)
theorem dX9_readUnit_105 : decode cX9_readUnit 105 = .ok (.aload_n 0, 1) := dk_42 (dk_at dksX9_readUnit_4 15 rfl rfl)
theorem dX9_readUnit_106 : decode cX9_readUnit 106 = .ok (.iconst 1, 1) := dk_4 (dk_at dksX9_readUnit_4 16 rfl rfl)
theorem dX9_readUnit_107 : decode cX9_readUnit 107 = .ok (.iload_n 1, 1) := dk_27 (dk_at dksX9_readUnit_4 17 rfl rfl)
theorem dX9_readUnit_108 : decode cX9_readUnit 108 = .ok (.invokevirtual 248, 3) := dk_182 0 248 (dk_at dksX9_readUnit_4 18 rfl rfl)
theorem dX9_readUnit_111 : decode cX9_readUnit 111 = .ok (.return_, 1) := dk_177 (dk_at dksX9_readUnit_4 21 rfl rfl)
abbrev cX9_factOf : ByteArray := prog_28_method_35_code
def yX9_factOf : MethodName := ⟨RX9, "factOf", "(I)I"⟩
def dkwX9_factOf_4 : List UInt8 := [16, 6, 167, 0, 19, 26, 19, 1, 26, 184, 0, 182, 160, 0, 8, 16, 7, 167, 0, 4, 2, 172]
abbrev dktX9_factOf_4 : List UInt8 := dkwX9_factOf_4 ++ []
def dkwX9_factOf_3 : List UInt8 := [19, 1, 22, 184, 0, 182, 160, 0, 7, 8, 167, 0, 34, 26, 19, 1, 24, 184, 0, 182, 160, 0, 8]
abbrev dktX9_factOf_3 : List UInt8 := dkwX9_factOf_3 ++ dktX9_factOf_4
def dkwX9_factOf_2 : List UInt8 := [160, 0, 7, 6, 167, 0, 62, 26, 19, 1, 21, 184, 0, 182, 160, 0, 7, 7, 167, 0, 48, 26]
abbrev dktX9_factOf_2 : List UInt8 := dkwX9_factOf_2 ++ dktX9_factOf_3
def dkwX9_factOf_1 : List UInt8 := [167, 0, 90, 26, 19, 1, 17, 184, 0, 182, 160, 0, 7, 5, 167, 0, 76, 26, 19, 1, 19, 184, 0, 182]
abbrev dktX9_factOf_1 : List UInt8 := dkwX9_factOf_1 ++ dktX9_factOf_2
def dkwX9_factOf_0 : List UInt8 := [26, 18, 186, 184, 0, 182, 160, 0, 7, 3, 167, 0, 103, 26, 18, 190, 184, 0, 182, 160, 0, 7, 4]
abbrev dktX9_factOf_0 : List UInt8 := dkwX9_factOf_0 ++ dktX9_factOf_1
theorem dksX9_factOf_0 : cX9_factOf.data.toList.drop 0 = dktX9_factOf_0 := by decide +kernel
theorem dksX9_factOf_1 : cX9_factOf.data.toList.drop 23 = dktX9_factOf_1 := dk_seg dksX9_factOf_0 23 rfl rfl
theorem dksX9_factOf_2 : cX9_factOf.data.toList.drop 47 = dktX9_factOf_2 := dk_seg dksX9_factOf_1 24 rfl rfl
theorem dksX9_factOf_3 : cX9_factOf.data.toList.drop 69 = dktX9_factOf_3 := dk_seg dksX9_factOf_2 22 rfl rfl
theorem dksX9_factOf_4 : cX9_factOf.data.toList.drop 92 = dktX9_factOf_4 := dk_seg dksX9_factOf_3 23 rfl rfl
theorem dX9_factOf_0 : decode cX9_factOf 0 = .ok (.iload_n 0, 1) := dk_26 (dk_at dksX9_factOf_0 0 rfl rfl)
theorem dX9_factOf_1 : decode cX9_factOf 1 = .ok (.ldc 186, 2) := dk_18 186 (dk_at dksX9_factOf_0 1 rfl rfl)
theorem dX9_factOf_3 : decode cX9_factOf 3 = .ok (.invokestatic 182, 3) := dk_184 0 182 (dk_at dksX9_factOf_0 3 rfl rfl)
theorem dX9_factOf_6 : decode cX9_factOf 6 = .ok (.if_icmp .ne 7, 3) := dk_160 0 7 (dk_at dksX9_factOf_0 6 rfl rfl)
theorem dX9_factOf_9 : decode cX9_factOf 9 = .ok (.iconst 0, 1) := dk_3 (dk_at dksX9_factOf_0 9 rfl rfl)
theorem dX9_factOf_10 : decode cX9_factOf 10 = .ok (.goto 103, 3) := dk_167 0 103 (dk_at dksX9_factOf_0 10 rfl rfl)
theorem dX9_factOf_13 : decode cX9_factOf 13 = .ok (.iload_n 0, 1) := dk_26 (dk_at dksX9_factOf_0 13 rfl rfl)
theorem dX9_factOf_14 : decode cX9_factOf 14 = .ok (.ldc 190, 2) := dk_18 190 (dk_at dksX9_factOf_0 14 rfl rfl)
theorem dX9_factOf_16 : decode cX9_factOf 16 = .ok (.invokestatic 182, 3) := dk_184 0 182 (dk_at dksX9_factOf_0 16 rfl rfl)
theorem dX9_factOf_19 : decode cX9_factOf 19 = .ok (.if_icmp .ne 7, 3) := dk_160 0 7 (dk_at dksX9_factOf_0 19 rfl rfl)
theorem dX9_factOf_22 : decode cX9_factOf 22 = .ok (.iconst 1, 1) := dk_4 (dk_at dksX9_factOf_0 22 rfl rfl)
theorem dX9_factOf_23 : decode cX9_factOf 23 = .ok (.goto 90, 3) := dk_167 0 90 (dk_at dksX9_factOf_1 0 rfl rfl)
theorem dX9_factOf_26 : decode cX9_factOf 26 = .ok (.iload_n 0, 1) := dk_26 (dk_at dksX9_factOf_1 3 rfl rfl)
theorem dX9_factOf_27 : decode cX9_factOf 27 = .ok (.ldc_w 273, 3) := dk_19 1 17 (dk_at dksX9_factOf_1 4 rfl rfl)
theorem dX9_factOf_30 : decode cX9_factOf 30 = .ok (.invokestatic 182, 3) := dk_184 0 182 (dk_at dksX9_factOf_1 7 rfl rfl)
theorem dX9_factOf_33 : decode cX9_factOf 33 = .ok (.if_icmp .ne 7, 3) := dk_160 0 7 (dk_at dksX9_factOf_1 10 rfl rfl)
theorem dX9_factOf_36 : decode cX9_factOf 36 = .ok (.iconst 2, 1) := dk_5 (dk_at dksX9_factOf_1 13 rfl rfl)
theorem dX9_factOf_37 : decode cX9_factOf 37 = .ok (.goto 76, 3) := dk_167 0 76 (dk_at dksX9_factOf_1 14 rfl rfl)
theorem dX9_factOf_40 : decode cX9_factOf 40 = .ok (.iload_n 0, 1) := dk_26 (dk_at dksX9_factOf_1 17 rfl rfl)
theorem dX9_factOf_41 : decode cX9_factOf 41 = .ok (.ldc_w 275, 3) := dk_19 1 19 (dk_at dksX9_factOf_1 18 rfl rfl)
theorem dX9_factOf_44 : decode cX9_factOf 44 = .ok (.invokestatic 182, 3) := dk_184 0 182 (dk_at dksX9_factOf_1 21 rfl rfl)
theorem dX9_factOf_47 : decode cX9_factOf 47 = .ok (.if_icmp .ne 7, 3) := dk_160 0 7 (dk_at dksX9_factOf_2 0 rfl rfl)
theorem dX9_factOf_50 : decode cX9_factOf 50 = .ok (.iconst 3, 1) := dk_6 (dk_at dksX9_factOf_2 3 rfl rfl)
theorem dX9_factOf_51 : decode cX9_factOf 51 = .ok (.goto 62, 3) := dk_167 0 62 (dk_at dksX9_factOf_2 4 rfl rfl)
theorem dX9_factOf_54 : decode cX9_factOf 54 = .ok (.iload_n 0, 1) := dk_26 (dk_at dksX9_factOf_2 7 rfl rfl)
theorem dX9_factOf_55 : decode cX9_factOf 55 = .ok (.ldc_w 277, 3) := dk_19 1 21 (dk_at dksX9_factOf_2 8 rfl rfl)
theorem dX9_factOf_58 : decode cX9_factOf 58 = .ok (.invokestatic 182, 3) := dk_184 0 182 (dk_at dksX9_factOf_2 11 rfl rfl)
theorem dX9_factOf_61 : decode cX9_factOf 61 = .ok (.if_icmp .ne 7, 3) := dk_160 0 7 (dk_at dksX9_factOf_2 14 rfl rfl)
theorem dX9_factOf_64 : decode cX9_factOf 64 = .ok (.iconst 4, 1) := dk_7 (dk_at dksX9_factOf_2 17 rfl rfl)
theorem dX9_factOf_65 : decode cX9_factOf 65 = .ok (.goto 48, 3) := dk_167 0 48 (dk_at dksX9_factOf_2 18 rfl rfl)
theorem dX9_factOf_68 : decode cX9_factOf 68 = .ok (.iload_n 0, 1) := dk_26 (dk_at dksX9_factOf_2 21 rfl rfl)
theorem dX9_factOf_69 : decode cX9_factOf 69 = .ok (.ldc_w 278, 3) := dk_19 1 22 (dk_at dksX9_factOf_3 0 rfl rfl)
theorem dX9_factOf_72 : decode cX9_factOf 72 = .ok (.invokestatic 182, 3) := dk_184 0 182 (dk_at dksX9_factOf_3 3 rfl rfl)
theorem dX9_factOf_75 : decode cX9_factOf 75 = .ok (.if_icmp .ne 7, 3) := dk_160 0 7 (dk_at dksX9_factOf_3 6 rfl rfl)
theorem dX9_factOf_78 : decode cX9_factOf 78 = .ok (.iconst 5, 1) := dk_8 (dk_at dksX9_factOf_3 9 rfl rfl)
theorem dX9_factOf_79 : decode cX9_factOf 79 = .ok (.goto 34, 3) := dk_167 0 34 (dk_at dksX9_factOf_3 10 rfl rfl)
theorem dX9_factOf_82 : decode cX9_factOf 82 = .ok (.iload_n 0, 1) := dk_26 (dk_at dksX9_factOf_3 13 rfl rfl)
theorem dX9_factOf_83 : decode cX9_factOf 83 = .ok (.ldc_w 280, 3) := dk_19 1 24 (dk_at dksX9_factOf_3 14 rfl rfl)
theorem dX9_factOf_86 : decode cX9_factOf 86 = .ok (.invokestatic 182, 3) := dk_184 0 182 (dk_at dksX9_factOf_3 17 rfl rfl)
theorem dX9_factOf_89 : decode cX9_factOf 89 = .ok (.if_icmp .ne 8, 3) := dk_160 0 8 (dk_at dksX9_factOf_3 20 rfl rfl)
theorem dX9_factOf_92 : decode cX9_factOf 92 = .ok (.bipush 6, 2) := dk_16 6 (dk_at dksX9_factOf_4 0 rfl rfl)
theorem dX9_factOf_94 : decode cX9_factOf 94 = .ok (.goto 19, 3) := dk_167 0 19 (dk_at dksX9_factOf_4 2 rfl rfl)
theorem dX9_factOf_97 : decode cX9_factOf 97 = .ok (.iload_n 0, 1) := dk_26 (dk_at dksX9_factOf_4 5 rfl rfl)
theorem dX9_factOf_98 : decode cX9_factOf 98 = .ok (.ldc_w 282, 3) := dk_19 1 26 (dk_at dksX9_factOf_4 6 rfl rfl)
theorem dX9_factOf_101 : decode cX9_factOf 101 = .ok (.invokestatic 182, 3) := dk_184 0 182 (dk_at dksX9_factOf_4 9 rfl rfl)
theorem dX9_factOf_104 : decode cX9_factOf 104 = .ok (.if_icmp .ne 8, 3) := dk_160 0 8 (dk_at dksX9_factOf_4 12 rfl rfl)
theorem dX9_factOf_107 : decode cX9_factOf 107 = .ok (.bipush 7, 2) := dk_16 7 (dk_at dksX9_factOf_4 15 rfl rfl)
theorem dX9_factOf_109 : decode cX9_factOf 109 = .ok (.goto 4, 3) := dk_167 0 4 (dk_at dksX9_factOf_4 17 rfl rfl)
theorem dX9_factOf_112 : decode cX9_factOf 112 = .ok (.iconst (-1), 1) := dk_2 (dk_at dksX9_factOf_4 20 rfl rfl)
theorem dX9_factOf_113 : decode cX9_factOf 113 = .ok (.ireturn, 1) := dk_172 (dk_at dksX9_factOf_4 21 rfl rfl)
abbrev cX9_rule : ByteArray := prog_28_method_44_code
def yX9_rule : MethodName := ⟨RX9, "rule", "(I)I"⟩
def dkwX9_rule_1 : List UInt8 := [16, 6, 182, 1, 71, 172]
abbrev dktX9_rule_1 : List UInt8 := dkwX9_rule_1 ++ []
def dkwX9_rule_0 : List UInt8 := [42, 3, 181, 0, 3, 42, 42, 27, 182, 1, 68, 4, 4, 182, 0, 213, 154, 0, 5, 3, 172, 42, 27]
abbrev dktX9_rule_0 : List UInt8 := dkwX9_rule_0 ++ dktX9_rule_1
theorem dksX9_rule_0 : cX9_rule.data.toList.drop 0 = dktX9_rule_0 := by decide +kernel
theorem dksX9_rule_1 : cX9_rule.data.toList.drop 23 = dktX9_rule_1 := dk_seg dksX9_rule_0 23 rfl rfl
theorem dX9_rule_0 : decode cX9_rule 0 = .ok (.aload_n 0, 1) := dk_42 (dk_at dksX9_rule_0 0 rfl rfl)
theorem dX9_rule_1 : decode cX9_rule 1 = .ok (.iconst 0, 1) := dk_3 (dk_at dksX9_rule_0 1 rfl rfl)
theorem dX9_rule_2 : decode cX9_rule 2 = .ok (.putfield 3, 3) := dk_181 0 3 (dk_at dksX9_rule_0 2 rfl rfl)
theorem dX9_rule_5 : decode cX9_rule 5 = .ok (.aload_n 0, 1) := dk_42 (dk_at dksX9_rule_0 5 rfl rfl)
theorem dX9_rule_6 : decode cX9_rule 6 = .ok (.aload_n 0, 1) := dk_42 (dk_at dksX9_rule_0 6 rfl rfl)
theorem dX9_rule_7 : decode cX9_rule 7 = .ok (.iload_n 1, 1) := dk_27 (dk_at dksX9_rule_0 7 rfl rfl)
theorem dX9_rule_8 : decode cX9_rule 8 = .ok (.invokevirtual 324, 3) := dk_182 1 68 (dk_at dksX9_rule_0 8 rfl rfl)
theorem dX9_rule_11 : decode cX9_rule 11 = .ok (.iconst 1, 1) := dk_4 (dk_at dksX9_rule_0 11 rfl rfl)
theorem dX9_rule_12 : decode cX9_rule 12 = .ok (.iconst 1, 1) := dk_4 (dk_at dksX9_rule_0 12 rfl rfl)
theorem dX9_rule_13 : decode cX9_rule 13 = .ok (.invokevirtual 213, 3) := dk_182 0 213 (dk_at dksX9_rule_0 13 rfl rfl)
theorem dX9_rule_16 : decode cX9_rule 16 = .ok (.ifCond .ne 5, 3) := dk_154 0 5 (dk_at dksX9_rule_0 16 rfl rfl)
theorem dX9_rule_19 : decode cX9_rule 19 = .ok (.iconst 0, 1) := dk_3 (dk_at dksX9_rule_0 19 rfl rfl)
theorem dX9_rule_20 : decode cX9_rule 20 = .ok (.ireturn, 1) := dk_172 (dk_at dksX9_rule_0 20 rfl rfl)
theorem dX9_rule_21 : decode cX9_rule 21 = .ok (.aload_n 0, 1) := dk_42 (dk_at dksX9_rule_0 21 rfl rfl)
theorem dX9_rule_22 : decode cX9_rule 22 = .ok (.iload_n 1, 1) := dk_27 (dk_at dksX9_rule_0 22 rfl rfl)
theorem dX9_rule_23 : decode cX9_rule 23 = .ok (.bipush 6, 2) := dk_16 6 (dk_at dksX9_rule_1 0 rfl rfl)
theorem dX9_rule_25 : decode cX9_rule 25 = .ok (.invokevirtual 327, 3) := dk_182 1 71 (dk_at dksX9_rule_1 2 rfl rfl)
theorem dX9_rule_28 : decode cX9_rule 28 = .ok (.ireturn, 1) := dk_172 (dk_at dksX9_rule_1 5 rfl rfl)
abbrev cX9_book : ByteArray := prog_28_method_45_code
def yX9_book : MethodName := ⟨RX9, "book", "(I)I"⟩
def dkwX9_book_11 : List UInt8 := [42, 180, 0, 68, 6, 28, 104, 182, 0, 157, 29, 172]
abbrev dktX9_book_11 : List UInt8 := dkwX9_book_11 ++ []
def dkwX9_book_10 : List UInt8 := [182, 0, 236, 62, 42, 180, 0, 108, 2, 159, 0, 5, 29, 172, 42, 28, 181, 0, 167, 42, 42, 180, 0, 65]
abbrev dktX9_book_10 : List UInt8 := dkwX9_book_10 ++ dktX9_book_11
def dkwX9_book_9 : List UInt8 := [96, 21, 6, 79, 42, 180, 0, 65, 6, 28, 104, 5, 96, 21, 7, 79, 132, 2, 1, 167, 255, 56, 42, 28]
abbrev dktX9_book_9 : List UInt8 := dkwX9_book_9 ++ dktX9_book_10
def dkwX9_book_8 : List UInt8 := [154, 0, 6, 167, 0, 43, 42, 180, 0, 65, 6, 28, 104, 21, 4, 79, 42, 180, 0, 65, 6, 28, 104, 4]
abbrev dktX9_book_8 : List UInt8 := dkwX9_book_8 ++ dktX9_book_9
def dkwX9_book_7 : List UInt8 := [160, 0, 8, 16, 12, 167, 0, 4, 4, 182, 0, 176, 54, 7, 42, 16, 59, 182, 0, 233, 42, 182, 0, 137]
abbrev dktX9_book_7 : List UInt8 := dkwX9_book_7 ++ dktX9_book_8
def dkwX9_book_6 : List UInt8 := [182, 0, 144, 42, 182, 0, 137, 154, 0, 6, 167, 0, 82, 42, 182, 0, 227, 42, 3, 21, 6, 5]
abbrev dktX9_book_6 : List UInt8 := dkwX9_book_6 ++ dktX9_book_7
def dkwX9_book_5 : List UInt8 := [160, 0, 7, 5, 167, 0, 4, 2, 54, 6, 21, 6, 2, 160, 0, 12, 42, 4, 42, 180, 0, 114]
abbrev dktX9_book_5 : List UInt8 := dkwX9_book_5 ++ dktX9_book_6
def dkwX9_book_4 : List UInt8 := [21, 5, 18, 190, 184, 0, 182, 160, 0, 7, 4, 167, 0, 19, 21, 5, 19, 1, 17, 184, 0, 182]
abbrev dktX9_book_4 : List UInt8 := dkwX9_book_4 ++ dktX9_book_5
def dkwX9_book_3 : List UInt8 := [29, 182, 0, 144, 42, 182, 0, 208, 54, 5, 21, 5, 18, 186, 184, 0, 182, 160, 0, 7, 3, 167, 0, 33]
abbrev dktX9_book_3 : List UInt8 := dkwX9_book_3 ++ dktX9_book_4
def dkwX9_book_2 : List UInt8 := [42, 3, 16, 23, 182, 0, 176, 54, 4, 42, 182, 0, 137, 153, 0, 15, 28, 16, 10, 160, 0, 9, 42, 6]
abbrev dktX9_book_2 : List UInt8 := dkwX9_book_2 ++ dktX9_book_3
def dkwX9_book_1 : List UInt8 := [182, 0, 217, 3, 61, 42, 182, 0, 137, 153, 0, 199, 42, 182, 0, 221, 153, 0, 192, 42, 180, 0, 114, 62]
abbrev dktX9_book_1 : List UInt8 := dkwX9_book_1 ++ dktX9_book_2
def dkwX9_book_0 : List UInt8 := [42, 3, 181, 0, 3, 42, 42, 27, 182, 1, 68, 4, 4, 182, 0, 213, 154, 0, 5, 3, 172, 42, 27]
abbrev dktX9_book_0 : List UInt8 := dkwX9_book_0 ++ dktX9_book_1
theorem dksX9_book_0 : cX9_book.data.toList.drop 0 = dktX9_book_0 := by decide +kernel
theorem dksX9_book_1 : cX9_book.data.toList.drop 23 = dktX9_book_1 := dk_seg dksX9_book_0 23 rfl rfl
theorem dksX9_book_2 : cX9_book.data.toList.drop 47 = dktX9_book_2 := dk_seg dksX9_book_1 24 rfl rfl
theorem dksX9_book_3 : cX9_book.data.toList.drop 71 = dktX9_book_3 := dk_seg dksX9_book_2 24 rfl rfl
theorem dksX9_book_4 : cX9_book.data.toList.drop 95 = dktX9_book_4 := dk_seg dksX9_book_3 24 rfl rfl
theorem dksX9_book_5 : cX9_book.data.toList.drop 117 = dktX9_book_5 := dk_seg dksX9_book_4 22 rfl rfl
theorem dksX9_book_6 : cX9_book.data.toList.drop 139 = dktX9_book_6 := dk_seg dksX9_book_5 22 rfl rfl
theorem dksX9_book_7 : cX9_book.data.toList.drop 161 = dktX9_book_7 := dk_seg dksX9_book_6 22 rfl rfl
theorem dksX9_book_8 : cX9_book.data.toList.drop 185 = dktX9_book_8 := dk_seg dksX9_book_7 24 rfl rfl
theorem dksX9_book_9 : cX9_book.data.toList.drop 209 = dktX9_book_9 := dk_seg dksX9_book_8 24 rfl rfl
theorem dksX9_book_10 : cX9_book.data.toList.drop 233 = dktX9_book_10 := dk_seg dksX9_book_9 24 rfl rfl
theorem dksX9_book_11 : cX9_book.data.toList.drop 257 = dktX9_book_11 := dk_seg dksX9_book_10 24 rfl rfl
theorem dX9_book_0 : decode cX9_book 0 = .ok (.aload_n 0, 1) := dk_42 (dk_at dksX9_book_0 0 rfl rfl)
theorem dX9_book_1 : decode cX9_book 1 = .ok (.iconst 0, 1) := dk_3 (dk_at dksX9_book_0 1 rfl rfl)
theorem dX9_book_2 : decode cX9_book 2 = .ok (.putfield 3, 3) := dk_181 0 3 (dk_at dksX9_book_0 2 rfl rfl)
theorem dX9_book_5 : decode cX9_book 5 = .ok (.aload_n 0, 1) := dk_42 (dk_at dksX9_book_0 5 rfl rfl)
theorem dX9_book_6 : decode cX9_book 6 = .ok (.aload_n 0, 1) := dk_42 (dk_at dksX9_book_0 6 rfl rfl)
theorem dX9_book_7 : decode cX9_book 7 = .ok (.iload_n 1, 1) := dk_27 (dk_at dksX9_book_0 7 rfl rfl)
theorem dX9_book_8 : decode cX9_book 8 = .ok (.invokevirtual 324, 3) := dk_182 1 68 (dk_at dksX9_book_0 8 rfl rfl)
theorem dX9_book_11 : decode cX9_book 11 = .ok (.iconst 1, 1) := dk_4 (dk_at dksX9_book_0 11 rfl rfl)
theorem dX9_book_12 : decode cX9_book 12 = .ok (.iconst 1, 1) := dk_4 (dk_at dksX9_book_0 12 rfl rfl)
theorem dX9_book_13 : decode cX9_book 13 = .ok (.invokevirtual 213, 3) := dk_182 0 213 (dk_at dksX9_book_0 13 rfl rfl)
theorem dX9_book_16 : decode cX9_book 16 = .ok (.ifCond .ne 5, 3) := dk_154 0 5 (dk_at dksX9_book_0 16 rfl rfl)
theorem dX9_book_19 : decode cX9_book 19 = .ok (.iconst 0, 1) := dk_3 (dk_at dksX9_book_0 19 rfl rfl)
theorem dX9_book_20 : decode cX9_book 20 = .ok (.ireturn, 1) := dk_172 (dk_at dksX9_book_0 20 rfl rfl)
theorem dX9_book_21 : decode cX9_book 21 = .ok (.aload_n 0, 1) := dk_42 (dk_at dksX9_book_0 21 rfl rfl)
theorem dX9_book_22 : decode cX9_book 22 = .ok (.iload_n 1, 1) := dk_27 (dk_at dksX9_book_0 22 rfl rfl)
theorem dX9_book_23 : decode cX9_book 23 = .ok (.invokevirtual 217, 3) := dk_182 0 217 (dk_at dksX9_book_1 0 rfl rfl)
theorem dX9_book_26 : decode cX9_book 26 = .ok (.iconst 0, 1) := dk_3 (dk_at dksX9_book_1 3 rfl rfl)
theorem dX9_book_27 : decode cX9_book 27 = .ok (.istore_n 2, 1) := dk_61 (dk_at dksX9_book_1 4 rfl rfl)
theorem dX9_book_28 : decode cX9_book 28 = .ok (.aload_n 0, 1) := dk_42 (dk_at dksX9_book_1 5 rfl rfl)
theorem dX9_book_29 : decode cX9_book 29 = .ok (.invokevirtual 137, 3) := dk_182 0 137 (dk_at dksX9_book_1 6 rfl rfl)
theorem dX9_book_32 : decode cX9_book 32 = .ok (.ifCond .eq 199, 3) := dk_153 0 199 (dk_at dksX9_book_1 9 rfl rfl)
theorem dX9_book_35 : decode cX9_book 35 = .ok (.aload_n 0, 1) := dk_42 (dk_at dksX9_book_1 12 rfl rfl)
theorem dX9_book_36 : decode cX9_book 36 = .ok (.invokevirtual 221, 3) := dk_182 0 221 (dk_at dksX9_book_1 13 rfl rfl)
theorem dX9_book_39 : decode cX9_book 39 = .ok (.ifCond .eq 192, 3) := dk_153 0 192 (dk_at dksX9_book_1 16 rfl rfl)
theorem dX9_book_42 : decode cX9_book 42 = .ok (.aload_n 0, 1) := dk_42 (dk_at dksX9_book_1 19 rfl rfl)
theorem dX9_book_43 : decode cX9_book 43 = .ok (.getfield 114, 3) := dk_180 0 114 (dk_at dksX9_book_1 20 rfl rfl)
theorem dX9_book_46 : decode cX9_book 46 = .ok (.istore_n 3, 1) := dk_62 (dk_at dksX9_book_1 23 rfl rfl)
theorem dX9_book_47 : decode cX9_book 47 = .ok (.aload_n 0, 1) := dk_42 (dk_at dksX9_book_2 0 rfl rfl)
theorem dX9_book_48 : decode cX9_book 48 = .ok (.iconst 0, 1) := dk_3 (dk_at dksX9_book_2 1 rfl rfl)
theorem dX9_book_49 : decode cX9_book 49 = .ok (.bipush 23, 2) := dk_16 23 (dk_at dksX9_book_2 2 rfl rfl)
theorem dX9_book_51 : decode cX9_book 51 = .ok (.invokevirtual 176, 3) := dk_182 0 176 (dk_at dksX9_book_2 4 rfl rfl)
theorem dX9_book_54 : decode cX9_book 54 = .ok (.istore 4, 2) := dk_54 4 (dk_at dksX9_book_2 7 rfl rfl)
theorem dX9_book_56 : decode cX9_book 56 = .ok (.aload_n 0, 1) := dk_42 (dk_at dksX9_book_2 9 rfl rfl)
theorem dX9_book_57 : decode cX9_book 57 = .ok (.invokevirtual 137, 3) := dk_182 0 137 (dk_at dksX9_book_2 10 rfl rfl)
theorem dX9_book_60 : decode cX9_book 60 = .ok (.ifCond .eq 15, 3) := dk_153 0 15 (dk_at dksX9_book_2 13 rfl rfl)
theorem dX9_book_63 : decode cX9_book 63 = .ok (.iload_n 2, 1) := dk_28 (dk_at dksX9_book_2 16 rfl rfl)
theorem dX9_book_64 : decode cX9_book 64 = .ok (.bipush 10, 2) := dk_16 10 (dk_at dksX9_book_2 17 rfl rfl)
theorem dX9_book_66 : decode cX9_book 66 = .ok (.if_icmp .ne 9, 3) := dk_160 0 9 (dk_at dksX9_book_2 19 rfl rfl)
theorem dX9_book_69 : decode cX9_book 69 = .ok (.aload_n 0, 1) := dk_42 (dk_at dksX9_book_2 22 rfl rfl)
theorem dX9_book_70 : decode cX9_book 70 = .ok (.iconst 3, 1) := dk_6 (dk_at dksX9_book_2 23 rfl rfl)
theorem dX9_book_71 : decode cX9_book 71 = .ok (.iload_n 3, 1) := dk_29 (dk_at dksX9_book_3 0 rfl rfl)
theorem dX9_book_72 : decode cX9_book 72 = .ok (.invokevirtual 144, 3) := dk_182 0 144 (dk_at dksX9_book_3 1 rfl rfl)
theorem dX9_book_75 : decode cX9_book 75 = .ok (.aload_n 0, 1) := dk_42 (dk_at dksX9_book_3 4 rfl rfl)
theorem dX9_book_76 : decode cX9_book 76 = .ok (.invokevirtual 208, 3) := dk_182 0 208 (dk_at dksX9_book_3 5 rfl rfl)
theorem dX9_book_79 : decode cX9_book 79 = .ok (.istore 5, 2) := dk_54 5 (dk_at dksX9_book_3 8 rfl rfl)
theorem dX9_book_81 : decode cX9_book 81 = .ok (.iload 5, 2) := dk_21 5 (dk_at dksX9_book_3 10 rfl rfl)
theorem dX9_book_83 : decode cX9_book 83 = .ok (.ldc 186, 2) := dk_18 186 (dk_at dksX9_book_3 12 rfl rfl)
theorem dX9_book_85 : decode cX9_book 85 = .ok (.invokestatic 182, 3) := dk_184 0 182 (dk_at dksX9_book_3 14 rfl rfl)
theorem dX9_book_88 : decode cX9_book 88 = .ok (.if_icmp .ne 7, 3) := dk_160 0 7 (dk_at dksX9_book_3 17 rfl rfl)
theorem dX9_book_91 : decode cX9_book 91 = .ok (.iconst 0, 1) := dk_3 (dk_at dksX9_book_3 20 rfl rfl)
theorem dX9_book_92 : decode cX9_book 92 = .ok (.goto 33, 3) := dk_167 0 33 (dk_at dksX9_book_3 21 rfl rfl)
theorem dX9_book_95 : decode cX9_book 95 = .ok (.iload 5, 2) := dk_21 5 (dk_at dksX9_book_4 0 rfl rfl)
theorem dX9_book_97 : decode cX9_book 97 = .ok (.ldc 190, 2) := dk_18 190 (dk_at dksX9_book_4 2 rfl rfl)
theorem dX9_book_99 : decode cX9_book 99 = .ok (.invokestatic 182, 3) := dk_184 0 182 (dk_at dksX9_book_4 4 rfl rfl)
theorem dX9_book_102 : decode cX9_book 102 = .ok (.if_icmp .ne 7, 3) := dk_160 0 7 (dk_at dksX9_book_4 7 rfl rfl)
theorem dX9_book_105 : decode cX9_book 105 = .ok (.iconst 1, 1) := dk_4 (dk_at dksX9_book_4 10 rfl rfl)
theorem dX9_book_106 : decode cX9_book 106 = .ok (.goto 19, 3) := dk_167 0 19 (dk_at dksX9_book_4 11 rfl rfl)
theorem dX9_book_109 : decode cX9_book 109 = .ok (.iload 5, 2) := dk_21 5 (dk_at dksX9_book_4 14 rfl rfl)
theorem dX9_book_111 : decode cX9_book 111 = .ok (.ldc_w 273, 3) := dk_19 1 17 (dk_at dksX9_book_4 16 rfl rfl)
theorem dX9_book_114 : decode cX9_book 114 = .ok (.invokestatic 182, 3) := dk_184 0 182 (dk_at dksX9_book_4 19 rfl rfl)
theorem dX9_book_117 : decode cX9_book 117 = .ok (.if_icmp .ne 7, 3) := dk_160 0 7 (dk_at dksX9_book_5 0 rfl rfl)
theorem dX9_book_120 : decode cX9_book 120 = .ok (.iconst 2, 1) := dk_5 (dk_at dksX9_book_5 3 rfl rfl)
theorem dX9_book_121 : decode cX9_book 121 = .ok (.goto 4, 3) := dk_167 0 4 (dk_at dksX9_book_5 4 rfl rfl)
theorem dX9_book_124 : decode cX9_book 124 = .ok (.iconst (-1), 1) := dk_2 (dk_at dksX9_book_5 7 rfl rfl)
theorem dX9_book_125 : decode cX9_book 125 = .ok (.istore 6, 2) := dk_54 6 (dk_at dksX9_book_5 8 rfl rfl)
theorem dX9_book_127 : decode cX9_book 127 = .ok (.iload 6, 2) := dk_21 6 (dk_at dksX9_book_5 10 rfl rfl)
theorem dX9_book_129 : decode cX9_book 129 = .ok (.iconst (-1), 1) := dk_2 (dk_at dksX9_book_5 12 rfl rfl)
theorem dX9_book_130 : decode cX9_book 130 = .ok (.if_icmp .ne 12, 3) := dk_160 0 12 (dk_at dksX9_book_5 13 rfl rfl)
theorem dX9_book_133 : decode cX9_book 133 = .ok (.aload_n 0, 1) := dk_42 (dk_at dksX9_book_5 16 rfl rfl)
theorem dX9_book_134 : decode cX9_book 134 = .ok (.iconst 1, 1) := dk_4 (dk_at dksX9_book_5 17 rfl rfl)
theorem dX9_book_135 : decode cX9_book 135 = .ok (.aload_n 0, 1) := dk_42 (dk_at dksX9_book_5 18 rfl rfl)
theorem dX9_book_136 : decode cX9_book 136 = .ok (.getfield 114, 3) := dk_180 0 114 (dk_at dksX9_book_5 19 rfl rfl)
theorem dX9_book_139 : decode cX9_book 139 = .ok (.invokevirtual 144, 3) := dk_182 0 144 (dk_at dksX9_book_6 0 rfl rfl)
theorem dX9_book_142 : decode cX9_book 142 = .ok (.aload_n 0, 1) := dk_42 (dk_at dksX9_book_6 3 rfl rfl)
theorem dX9_book_143 : decode cX9_book 143 = .ok (.invokevirtual 137, 3) := dk_182 0 137 (dk_at dksX9_book_6 4 rfl rfl)
theorem dX9_book_146 : decode cX9_book 146 = .ok (.ifCond .ne 6, 3) := dk_154 0 6 (dk_at dksX9_book_6 7 rfl rfl)
theorem dX9_book_149 : decode cX9_book 149 = .ok (.goto 82, 3) := dk_167 0 82 (dk_at dksX9_book_6 10 rfl rfl)
theorem dX9_book_152 : decode cX9_book 152 = .ok (.aload_n 0, 1) := dk_42 (dk_at dksX9_book_6 13 rfl rfl)
theorem dX9_book_153 : decode cX9_book 153 = .ok (.invokevirtual 227, 3) := dk_182 0 227 (dk_at dksX9_book_6 14 rfl rfl)
theorem dX9_book_156 : decode cX9_book 156 = .ok (.aload_n 0, 1) := dk_42 (dk_at dksX9_book_6 17 rfl rfl)
theorem dX9_book_157 : decode cX9_book 157 = .ok (.iconst 0, 1) := dk_3 (dk_at dksX9_book_6 18 rfl rfl)
theorem dX9_book_158 : decode cX9_book 158 = .ok (.iload 6, 2) := dk_21 6 (dk_at dksX9_book_6 19 rfl rfl)
theorem dX9_book_160 : decode cX9_book 160 = .ok (.iconst 2, 1) := dk_5 (dk_at dksX9_book_6 21 rfl rfl)
theorem dX9_book_161 : decode cX9_book 161 = .ok (.if_icmp .ne 8, 3) := dk_160 0 8 (dk_at dksX9_book_7 0 rfl rfl)
theorem dX9_book_164 : decode cX9_book 164 = .ok (.bipush 12, 2) := dk_16 12 (dk_at dksX9_book_7 3 rfl rfl)
theorem dX9_book_166 : decode cX9_book 166 = .ok (.goto 4, 3) := dk_167 0 4 (dk_at dksX9_book_7 5 rfl rfl)
theorem dX9_book_169 : decode cX9_book 169 = .ok (.iconst 1, 1) := dk_4 (dk_at dksX9_book_7 8 rfl rfl)
theorem dX9_book_170 : decode cX9_book 170 = .ok (.invokevirtual 176, 3) := dk_182 0 176 (dk_at dksX9_book_7 9 rfl rfl)
theorem dX9_book_173 : decode cX9_book 173 = .ok (.istore 7, 2) := dk_54 7 (dk_at dksX9_book_7 12 rfl rfl)
theorem dX9_book_175 : decode cX9_book 175 = .ok (.aload_n 0, 1) := dk_42 (dk_at dksX9_book_7 14 rfl rfl)
theorem dX9_book_176 : decode cX9_book 176 = .ok (.bipush 59, 2) := dk_16 59 (dk_at dksX9_book_7 15 rfl rfl)
theorem dX9_book_178 : decode cX9_book 178 = .ok (.invokevirtual 233, 3) := dk_182 0 233 (dk_at dksX9_book_7 17 rfl rfl)
theorem dX9_book_181 : decode cX9_book 181 = .ok (.aload_n 0, 1) := dk_42 (dk_at dksX9_book_7 20 rfl rfl)
theorem dX9_book_182 : decode cX9_book 182 = .ok (.invokevirtual 137, 3) := dk_182 0 137 (dk_at dksX9_book_7 21 rfl rfl)
theorem dX9_book_185 : decode cX9_book 185 = .ok (.ifCond .ne 6, 3) := dk_154 0 6 (dk_at dksX9_book_8 0 rfl rfl)
theorem dX9_book_188 : decode cX9_book 188 = .ok (.goto 43, 3) := dk_167 0 43 (dk_at dksX9_book_8 3 rfl rfl)
theorem dX9_book_191 : decode cX9_book 191 = .ok (.aload_n 0, 1) := dk_42 (dk_at dksX9_book_8 6 rfl rfl)
theorem dX9_book_192 : decode cX9_book 192 = .ok (.getfield 65, 3) := dk_180 0 65 (dk_at dksX9_book_8 7 rfl rfl)
theorem dX9_book_195 : decode cX9_book 195 = .ok (.iconst 3, 1) := dk_6 (dk_at dksX9_book_8 10 rfl rfl)
theorem dX9_book_196 : decode cX9_book 196 = .ok (.iload_n 2, 1) := dk_28 (dk_at dksX9_book_8 11 rfl rfl)
theorem dX9_book_197 : decode cX9_book 197 = .ok (.imul, 1) := dk_104 (dk_at dksX9_book_8 12 rfl rfl)
theorem dX9_book_198 : decode cX9_book 198 = .ok (.iload 4, 2) := dk_21 4 (dk_at dksX9_book_8 13 rfl rfl)
theorem dX9_book_200 : decode cX9_book 200 = .ok (.iastore, 1) := dk_79 (dk_at dksX9_book_8 15 rfl rfl)
theorem dX9_book_201 : decode cX9_book 201 = .ok (.aload_n 0, 1) := dk_42 (dk_at dksX9_book_8 16 rfl rfl)
theorem dX9_book_202 : decode cX9_book 202 = .ok (.getfield 65, 3) := dk_180 0 65 (dk_at dksX9_book_8 17 rfl rfl)
theorem dX9_book_205 : decode cX9_book 205 = .ok (.iconst 3, 1) := dk_6 (dk_at dksX9_book_8 20 rfl rfl)
theorem dX9_book_206 : decode cX9_book 206 = .ok (.iload_n 2, 1) := dk_28 (dk_at dksX9_book_8 21 rfl rfl)
theorem dX9_book_207 : decode cX9_book 207 = .ok (.imul, 1) := dk_104 (dk_at dksX9_book_8 22 rfl rfl)
theorem dX9_book_208 : decode cX9_book 208 = .ok (.iconst 1, 1) := dk_4 (dk_at dksX9_book_8 23 rfl rfl)
theorem dX9_book_209 : decode cX9_book 209 = .ok (.iadd, 1) := dk_96 (dk_at dksX9_book_9 0 rfl rfl)
theorem dX9_book_210 : decode cX9_book 210 = .ok (.iload 6, 2) := dk_21 6 (dk_at dksX9_book_9 1 rfl rfl)
theorem dX9_book_212 : decode cX9_book 212 = .ok (.iastore, 1) := dk_79 (dk_at dksX9_book_9 3 rfl rfl)
theorem dX9_book_213 : decode cX9_book 213 = .ok (.aload_n 0, 1) := dk_42 (dk_at dksX9_book_9 4 rfl rfl)
theorem dX9_book_214 : decode cX9_book 214 = .ok (.getfield 65, 3) := dk_180 0 65 (dk_at dksX9_book_9 5 rfl rfl)
theorem dX9_book_217 : decode cX9_book 217 = .ok (.iconst 3, 1) := dk_6 (dk_at dksX9_book_9 8 rfl rfl)
theorem dX9_book_218 : decode cX9_book 218 = .ok (.iload_n 2, 1) := dk_28 (dk_at dksX9_book_9 9 rfl rfl)
theorem dX9_book_219 : decode cX9_book 219 = .ok (.imul, 1) := dk_104 (dk_at dksX9_book_9 10 rfl rfl)
theorem dX9_book_220 : decode cX9_book 220 = .ok (.iconst 2, 1) := dk_5 (dk_at dksX9_book_9 11 rfl rfl)
theorem dX9_book_221 : decode cX9_book 221 = .ok (.iadd, 1) := dk_96 (dk_at dksX9_book_9 12 rfl rfl)
theorem dX9_book_222 : decode cX9_book 222 = .ok (.iload 7, 2) := dk_21 7 (dk_at dksX9_book_9 13 rfl rfl)
theorem dX9_book_224 : decode cX9_book 224 = .ok (.iastore, 1) := dk_79 (dk_at dksX9_book_9 15 rfl rfl)
theorem dX9_book_225 : decode cX9_book 225 = .ok (.iinc 2 1, 3) := dk_132 2 1 (dk_at dksX9_book_9 16 rfl rfl)
theorem dX9_book_228 : decode cX9_book 228 = .ok (.goto (-200), 3) := dk_167 255 56 (dk_at dksX9_book_9 19 rfl rfl)
theorem dX9_book_231 : decode cX9_book 231 = .ok (.aload_n 0, 1) := dk_42 (dk_at dksX9_book_9 22 rfl rfl)
theorem dX9_book_232 : decode cX9_book 232 = .ok (.iload_n 2, 1) := dk_28 (dk_at dksX9_book_9 23 rfl rfl)
theorem dX9_book_233 : decode cX9_book 233 = .ok (.invokevirtual 236, 3) := dk_182 0 236 (dk_at dksX9_book_10 0 rfl rfl)
theorem dX9_book_236 : decode cX9_book 236 = .ok (.istore_n 3, 1) := dk_62 (dk_at dksX9_book_10 3 rfl rfl)
theorem dX9_book_237 : decode cX9_book 237 = .ok (.aload_n 0, 1) := dk_42 (dk_at dksX9_book_10 4 rfl rfl)
theorem dX9_book_238 : decode cX9_book 238 = .ok (.getfield 108, 3) := dk_180 0 108 (dk_at dksX9_book_10 5 rfl rfl)
theorem dX9_book_241 : decode cX9_book 241 = .ok (.iconst (-1), 1) := dk_2 (dk_at dksX9_book_10 8 rfl rfl)
theorem dX9_book_242 : decode cX9_book 242 = .ok (.if_icmp .eq 5, 3) := dk_159 0 5 (dk_at dksX9_book_10 9 rfl rfl)
theorem dX9_book_245 : decode cX9_book 245 = .ok (.iload_n 3, 1) := dk_29 (dk_at dksX9_book_10 12 rfl rfl)
theorem dX9_book_246 : decode cX9_book 246 = .ok (.ireturn, 1) := dk_172 (dk_at dksX9_book_10 13 rfl rfl)
theorem dX9_book_247 : decode cX9_book 247 = .ok (.aload_n 0, 1) := dk_42 (dk_at dksX9_book_10 14 rfl rfl)
theorem dX9_book_248 : decode cX9_book 248 = .ok (.iload_n 2, 1) := dk_28 (dk_at dksX9_book_10 15 rfl rfl)
theorem dX9_book_249 : decode cX9_book 249 = .ok (.putfield 167, 3) := dk_181 0 167 (dk_at dksX9_book_10 16 rfl rfl)
theorem dX9_book_252 : decode cX9_book 252 = .ok (.aload_n 0, 1) := dk_42 (dk_at dksX9_book_10 19 rfl rfl)
theorem dX9_book_253 : decode cX9_book 253 = .ok (.aload_n 0, 1) := dk_42 (dk_at dksX9_book_10 20 rfl rfl)
theorem dX9_book_254 : decode cX9_book 254 = .ok (.getfield 65, 3) := dk_180 0 65 (dk_at dksX9_book_10 21 rfl rfl)
theorem dX9_book_257 : decode cX9_book 257 = .ok (.aload_n 0, 1) := dk_42 (dk_at dksX9_book_11 0 rfl rfl)
theorem dX9_book_258 : decode cX9_book 258 = .ok (.getfield 68, 3) := dk_180 0 68 (dk_at dksX9_book_11 1 rfl rfl)
theorem dX9_book_261 : decode cX9_book 261 = .ok (.iconst 3, 1) := dk_6 (dk_at dksX9_book_11 4 rfl rfl)
theorem dX9_book_262 : decode cX9_book 262 = .ok (.iload_n 2, 1) := dk_28 (dk_at dksX9_book_11 5 rfl rfl)
theorem dX9_book_263 : decode cX9_book 263 = .ok (.imul, 1) := dk_104 (dk_at dksX9_book_11 6 rfl rfl)
theorem dX9_book_264 : decode cX9_book 264 = .ok (.invokevirtual 157, 3) := dk_182 0 157 (dk_at dksX9_book_11 7 rfl rfl)
theorem dX9_book_267 : decode cX9_book 267 = .ok (.iload_n 3, 1) := dk_29 (dk_at dksX9_book_11 10 rfl rfl)
theorem dX9_book_268 : decode cX9_book 268 = .ok (.ireturn, 1) := dk_172 (dk_at dksX9_book_11 11 rfl rfl)
abbrev cX9_told : ByteArray := prog_28_method_46_code
def yX9_told : MethodName := ⟨RX9, "told", "(I)I"⟩
def dkwX9_told_2 : List UInt8 := [167, 0, 20, 27, 16, 8, 160, 0, 10, 42, 180, 0, 164, 167, 0, 7, 42, 180, 0, 167, 172]
abbrev dktX9_told_2 : List UInt8 := dkwX9_told_2 ++ []
def dkwX9_told_1 : List UInt8 := [16, 7, 162, 0, 10, 42, 180, 0, 26, 27, 46, 172, 27, 16, 7, 160, 0, 10, 42, 180, 0, 161]
abbrev dktX9_told_1 : List UInt8 := dkwX9_told_1 ++ dktX9_told_2
def dkwX9_told_0 : List UInt8 := [42, 3, 181, 0, 3, 42, 27, 3, 16, 9, 184, 1, 60, 4, 4, 182, 0, 213, 154, 0, 5, 3, 172, 27]
abbrev dktX9_told_0 : List UInt8 := dkwX9_told_0 ++ dktX9_told_1
theorem dksX9_told_0 : cX9_told.data.toList.drop 0 = dktX9_told_0 := by decide +kernel
theorem dksX9_told_1 : cX9_told.data.toList.drop 24 = dktX9_told_1 := dk_seg dksX9_told_0 24 rfl rfl
theorem dksX9_told_2 : cX9_told.data.toList.drop 46 = dktX9_told_2 := dk_seg dksX9_told_1 22 rfl rfl
theorem dX9_told_0 : decode cX9_told 0 = .ok (.aload_n 0, 1) := dk_42 (dk_at dksX9_told_0 0 rfl rfl)
theorem dX9_told_1 : decode cX9_told 1 = .ok (.iconst 0, 1) := dk_3 (dk_at dksX9_told_0 1 rfl rfl)
theorem dX9_told_2 : decode cX9_told 2 = .ok (.putfield 3, 3) := dk_181 0 3 (dk_at dksX9_told_0 2 rfl rfl)
theorem dX9_told_5 : decode cX9_told 5 = .ok (.aload_n 0, 1) := dk_42 (dk_at dksX9_told_0 5 rfl rfl)
theorem dX9_told_6 : decode cX9_told 6 = .ok (.iload_n 1, 1) := dk_27 (dk_at dksX9_told_0 6 rfl rfl)
theorem dX9_told_7 : decode cX9_told 7 = .ok (.iconst 0, 1) := dk_3 (dk_at dksX9_told_0 7 rfl rfl)
theorem dX9_told_8 : decode cX9_told 8 = .ok (.bipush 9, 2) := dk_16 9 (dk_at dksX9_told_0 8 rfl rfl)
theorem dX9_told_10 : decode cX9_told 10 = .ok (.invokestatic 316, 3) := dk_184 1 60 (dk_at dksX9_told_0 10 rfl rfl)
theorem dX9_told_13 : decode cX9_told 13 = .ok (.iconst 1, 1) := dk_4 (dk_at dksX9_told_0 13 rfl rfl)
theorem dX9_told_14 : decode cX9_told 14 = .ok (.iconst 1, 1) := dk_4 (dk_at dksX9_told_0 14 rfl rfl)
theorem dX9_told_15 : decode cX9_told 15 = .ok (.invokevirtual 213, 3) := dk_182 0 213 (dk_at dksX9_told_0 15 rfl rfl)
theorem dX9_told_18 : decode cX9_told 18 = .ok (.ifCond .ne 5, 3) := dk_154 0 5 (dk_at dksX9_told_0 18 rfl rfl)
theorem dX9_told_21 : decode cX9_told 21 = .ok (.iconst 0, 1) := dk_3 (dk_at dksX9_told_0 21 rfl rfl)
theorem dX9_told_22 : decode cX9_told 22 = .ok (.ireturn, 1) := dk_172 (dk_at dksX9_told_0 22 rfl rfl)
theorem dX9_told_23 : decode cX9_told 23 = .ok (.iload_n 1, 1) := dk_27 (dk_at dksX9_told_0 23 rfl rfl)
theorem dX9_told_24 : decode cX9_told 24 = .ok (.bipush 7, 2) := dk_16 7 (dk_at dksX9_told_1 0 rfl rfl)
theorem dX9_told_26 : decode cX9_told 26 = .ok (.if_icmp .ge 10, 3) := dk_162 0 10 (dk_at dksX9_told_1 2 rfl rfl)
theorem dX9_told_29 : decode cX9_told 29 = .ok (.aload_n 0, 1) := dk_42 (dk_at dksX9_told_1 5 rfl rfl)
theorem dX9_told_30 : decode cX9_told 30 = .ok (.getfield 26, 3) := dk_180 0 26 (dk_at dksX9_told_1 6 rfl rfl)
theorem dX9_told_33 : decode cX9_told 33 = .ok (.iload_n 1, 1) := dk_27 (dk_at dksX9_told_1 9 rfl rfl)
theorem dX9_told_34 : decode cX9_told 34 = .ok (.iaload, 1) := dk_46 (dk_at dksX9_told_1 10 rfl rfl)
theorem dX9_told_35 : decode cX9_told 35 = .ok (.ireturn, 1) := dk_172 (dk_at dksX9_told_1 11 rfl rfl)
theorem dX9_told_36 : decode cX9_told 36 = .ok (.iload_n 1, 1) := dk_27 (dk_at dksX9_told_1 12 rfl rfl)
theorem dX9_told_37 : decode cX9_told 37 = .ok (.bipush 7, 2) := dk_16 7 (dk_at dksX9_told_1 13 rfl rfl)
theorem dX9_told_39 : decode cX9_told 39 = .ok (.if_icmp .ne 10, 3) := dk_160 0 10 (dk_at dksX9_told_1 15 rfl rfl)
theorem dX9_told_42 : decode cX9_told 42 = .ok (.aload_n 0, 1) := dk_42 (dk_at dksX9_told_1 18 rfl rfl)
theorem dX9_told_43 : decode cX9_told 43 = .ok (.getfield 161, 3) := dk_180 0 161 (dk_at dksX9_told_1 19 rfl rfl)
theorem dX9_told_46 : decode cX9_told 46 = .ok (.goto 20, 3) := dk_167 0 20 (dk_at dksX9_told_2 0 rfl rfl)
theorem dX9_told_49 : decode cX9_told 49 = .ok (.iload_n 1, 1) := dk_27 (dk_at dksX9_told_2 3 rfl rfl)
theorem dX9_told_50 : decode cX9_told 50 = .ok (.bipush 8, 2) := dk_16 8 (dk_at dksX9_told_2 4 rfl rfl)
theorem dX9_told_52 : decode cX9_told 52 = .ok (.if_icmp .ne 10, 3) := dk_160 0 10 (dk_at dksX9_told_2 6 rfl rfl)
theorem dX9_told_55 : decode cX9_told 55 = .ok (.aload_n 0, 1) := dk_42 (dk_at dksX9_told_2 9 rfl rfl)
theorem dX9_told_56 : decode cX9_told 56 = .ok (.getfield 164, 3) := dk_180 0 164 (dk_at dksX9_told_2 10 rfl rfl)
theorem dX9_told_59 : decode cX9_told 59 = .ok (.goto 7, 3) := dk_167 0 7 (dk_at dksX9_told_2 13 rfl rfl)
theorem dX9_told_62 : decode cX9_told 62 = .ok (.aload_n 0, 1) := dk_42 (dk_at dksX9_told_2 16 rfl rfl)
theorem dX9_told_63 : decode cX9_told 63 = .ok (.getfield 167, 3) := dk_180 0 167 (dk_at dksX9_told_2 17 rfl rfl)
theorem dX9_told_66 : decode cX9_told 66 = .ok (.ireturn, 1) := dk_172 (dk_at dksX9_told_2 20 rfl rfl)
abbrev cX9_visit : ByteArray := prog_28_method_49_code
def yX9_visit : MethodName := ⟨RX9, "visit", "(II)I"⟩
def dkwX9_visit_3 : List UInt8 := [167, 0, 8, 42, 27, 182, 1, 80, 172]
abbrev dktX9_visit_3 : List UInt8 := dkwX9_visit_3 ++ []
def dkwX9_visit_2 : List UInt8 := [160, 0, 12, 42, 180, 0, 38, 27, 46, 167, 0, 21, 28, 5, 160, 0, 11, 42, 27, 182, 1, 77]
abbrev dktX9_visit_2 : List UInt8 := dkwX9_visit_2 ++ dktX9_visit_3
def dkwX9_visit_1 : List UInt8 := [182, 0, 213, 154, 0, 5, 3, 172, 28, 154, 0, 12, 42, 180, 0, 35, 27, 46, 167, 0, 35, 28, 4]
abbrev dktX9_visit_1 : List UInt8 := dkwX9_visit_1 ++ dktX9_visit_2
def dkwX9_visit_0 : List UInt8 := [42, 3, 181, 0, 3, 42, 27, 4, 182, 1, 74, 153, 0, 18, 42, 28, 3, 6, 184, 1, 60, 5, 4]
abbrev dktX9_visit_0 : List UInt8 := dkwX9_visit_0 ++ dktX9_visit_1
theorem dksX9_visit_0 : cX9_visit.data.toList.drop 0 = dktX9_visit_0 := by decide +kernel
theorem dksX9_visit_1 : cX9_visit.data.toList.drop 23 = dktX9_visit_1 := dk_seg dksX9_visit_0 23 rfl rfl
theorem dksX9_visit_2 : cX9_visit.data.toList.drop 46 = dktX9_visit_2 := dk_seg dksX9_visit_1 23 rfl rfl
theorem dksX9_visit_3 : cX9_visit.data.toList.drop 68 = dktX9_visit_3 := dk_seg dksX9_visit_2 22 rfl rfl
theorem dX9_visit_0 : decode cX9_visit 0 = .ok (.aload_n 0, 1) := dk_42 (dk_at dksX9_visit_0 0 rfl rfl)
theorem dX9_visit_1 : decode cX9_visit 1 = .ok (.iconst 0, 1) := dk_3 (dk_at dksX9_visit_0 1 rfl rfl)
theorem dX9_visit_2 : decode cX9_visit 2 = .ok (.putfield 3, 3) := dk_181 0 3 (dk_at dksX9_visit_0 2 rfl rfl)
theorem dX9_visit_5 : decode cX9_visit 5 = .ok (.aload_n 0, 1) := dk_42 (dk_at dksX9_visit_0 5 rfl rfl)
theorem dX9_visit_6 : decode cX9_visit 6 = .ok (.iload_n 1, 1) := dk_27 (dk_at dksX9_visit_0 6 rfl rfl)
theorem dX9_visit_7 : decode cX9_visit 7 = .ok (.iconst 1, 1) := dk_4 (dk_at dksX9_visit_0 7 rfl rfl)
theorem dX9_visit_8 : decode cX9_visit 8 = .ok (.invokevirtual 330, 3) := dk_182 1 74 (dk_at dksX9_visit_0 8 rfl rfl)
theorem dX9_visit_11 : decode cX9_visit 11 = .ok (.ifCond .eq 18, 3) := dk_153 0 18 (dk_at dksX9_visit_0 11 rfl rfl)
theorem dX9_visit_14 : decode cX9_visit 14 = .ok (.aload_n 0, 1) := dk_42 (dk_at dksX9_visit_0 14 rfl rfl)
theorem dX9_visit_15 : decode cX9_visit 15 = .ok (.iload_n 2, 1) := dk_28 (dk_at dksX9_visit_0 15 rfl rfl)
theorem dX9_visit_16 : decode cX9_visit 16 = .ok (.iconst 0, 1) := dk_3 (dk_at dksX9_visit_0 16 rfl rfl)
theorem dX9_visit_17 : decode cX9_visit 17 = .ok (.iconst 3, 1) := dk_6 (dk_at dksX9_visit_0 17 rfl rfl)
theorem dX9_visit_18 : decode cX9_visit 18 = .ok (.invokestatic 316, 3) := dk_184 1 60 (dk_at dksX9_visit_0 18 rfl rfl)
theorem dX9_visit_21 : decode cX9_visit 21 = .ok (.iconst 2, 1) := dk_5 (dk_at dksX9_visit_0 21 rfl rfl)
theorem dX9_visit_22 : decode cX9_visit 22 = .ok (.iconst 1, 1) := dk_4 (dk_at dksX9_visit_0 22 rfl rfl)
theorem dX9_visit_23 : decode cX9_visit 23 = .ok (.invokevirtual 213, 3) := dk_182 0 213 (dk_at dksX9_visit_1 0 rfl rfl)
theorem dX9_visit_26 : decode cX9_visit 26 = .ok (.ifCond .ne 5, 3) := dk_154 0 5 (dk_at dksX9_visit_1 3 rfl rfl)
theorem dX9_visit_29 : decode cX9_visit 29 = .ok (.iconst 0, 1) := dk_3 (dk_at dksX9_visit_1 6 rfl rfl)
theorem dX9_visit_30 : decode cX9_visit 30 = .ok (.ireturn, 1) := dk_172 (dk_at dksX9_visit_1 7 rfl rfl)
theorem dX9_visit_31 : decode cX9_visit 31 = .ok (.iload_n 2, 1) := dk_28 (dk_at dksX9_visit_1 8 rfl rfl)
theorem dX9_visit_32 : decode cX9_visit 32 = .ok (.ifCond .ne 12, 3) := dk_154 0 12 (dk_at dksX9_visit_1 9 rfl rfl)
theorem dX9_visit_35 : decode cX9_visit 35 = .ok (.aload_n 0, 1) := dk_42 (dk_at dksX9_visit_1 12 rfl rfl)
theorem dX9_visit_36 : decode cX9_visit 36 = .ok (.getfield 35, 3) := dk_180 0 35 (dk_at dksX9_visit_1 13 rfl rfl)
theorem dX9_visit_39 : decode cX9_visit 39 = .ok (.iload_n 1, 1) := dk_27 (dk_at dksX9_visit_1 16 rfl rfl)
theorem dX9_visit_40 : decode cX9_visit 40 = .ok (.iaload, 1) := dk_46 (dk_at dksX9_visit_1 17 rfl rfl)
theorem dX9_visit_41 : decode cX9_visit 41 = .ok (.goto 35, 3) := dk_167 0 35 (dk_at dksX9_visit_1 18 rfl rfl)
theorem dX9_visit_44 : decode cX9_visit 44 = .ok (.iload_n 2, 1) := dk_28 (dk_at dksX9_visit_1 21 rfl rfl)
theorem dX9_visit_45 : decode cX9_visit 45 = .ok (.iconst 1, 1) := dk_4 (dk_at dksX9_visit_1 22 rfl rfl)
theorem dX9_visit_46 : decode cX9_visit 46 = .ok (.if_icmp .ne 12, 3) := dk_160 0 12 (dk_at dksX9_visit_2 0 rfl rfl)
theorem dX9_visit_49 : decode cX9_visit 49 = .ok (.aload_n 0, 1) := dk_42 (dk_at dksX9_visit_2 3 rfl rfl)
theorem dX9_visit_50 : decode cX9_visit 50 = .ok (.getfield 38, 3) := dk_180 0 38 (dk_at dksX9_visit_2 4 rfl rfl)
theorem dX9_visit_53 : decode cX9_visit 53 = .ok (.iload_n 1, 1) := dk_27 (dk_at dksX9_visit_2 7 rfl rfl)
theorem dX9_visit_54 : decode cX9_visit 54 = .ok (.iaload, 1) := dk_46 (dk_at dksX9_visit_2 8 rfl rfl)
theorem dX9_visit_55 : decode cX9_visit 55 = .ok (.goto 21, 3) := dk_167 0 21 (dk_at dksX9_visit_2 9 rfl rfl)
theorem dX9_visit_58 : decode cX9_visit 58 = .ok (.iload_n 2, 1) := dk_28 (dk_at dksX9_visit_2 12 rfl rfl)
theorem dX9_visit_59 : decode cX9_visit 59 = .ok (.iconst 2, 1) := dk_5 (dk_at dksX9_visit_2 13 rfl rfl)
theorem dX9_visit_60 : decode cX9_visit 60 = .ok (.if_icmp .ne 11, 3) := dk_160 0 11 (dk_at dksX9_visit_2 14 rfl rfl)
theorem dX9_visit_63 : decode cX9_visit 63 = .ok (.aload_n 0, 1) := dk_42 (dk_at dksX9_visit_2 17 rfl rfl)
theorem dX9_visit_64 : decode cX9_visit 64 = .ok (.iload_n 1, 1) := dk_27 (dk_at dksX9_visit_2 18 rfl rfl)
theorem dX9_visit_65 : decode cX9_visit 65 = .ok (.invokevirtual 333, 3) := dk_182 1 77 (dk_at dksX9_visit_2 19 rfl rfl)
theorem dX9_visit_68 : decode cX9_visit 68 = .ok (.goto 8, 3) := dk_167 0 8 (dk_at dksX9_visit_3 0 rfl rfl)
theorem dX9_visit_71 : decode cX9_visit 71 = .ok (.aload_n 0, 1) := dk_42 (dk_at dksX9_visit_3 3 rfl rfl)
theorem dX9_visit_72 : decode cX9_visit 72 = .ok (.iload_n 1, 1) := dk_27 (dk_at dksX9_visit_3 4 rfl rfl)
theorem dX9_visit_73 : decode cX9_visit 73 = .ok (.invokevirtual 336, 3) := dk_182 1 80 (dk_at dksX9_visit_3 5 rfl rfl)
theorem dX9_visit_76 : decode cX9_visit 76 = .ok (.ireturn, 1) := dk_172 (dk_at dksX9_visit_3 8 rfl rfl)
abbrev cX9_isVisit : ByteArray := prog_28_method_41_code
def yX9_isVisit : MethodName := ⟨RX9, "isVisit", "(II)Z"⟩
def dkwX9_isVisit_0 : List UInt8 := [42, 27, 3, 42, 180, 0, 164, 4, 100, 184, 1, 60, 28, 3, 182, 0, 213, 172]
abbrev dktX9_isVisit_0 : List UInt8 := dkwX9_isVisit_0 ++ []
theorem dksX9_isVisit_0 : cX9_isVisit.data.toList.drop 0 = dktX9_isVisit_0 := by decide +kernel
theorem dX9_isVisit_0 : decode cX9_isVisit 0 = .ok (.aload_n 0, 1) := dk_42 (dk_at dksX9_isVisit_0 0 rfl rfl)
theorem dX9_isVisit_1 : decode cX9_isVisit 1 = .ok (.iload_n 1, 1) := dk_27 (dk_at dksX9_isVisit_0 1 rfl rfl)
theorem dX9_isVisit_2 : decode cX9_isVisit 2 = .ok (.iconst 0, 1) := dk_3 (dk_at dksX9_isVisit_0 2 rfl rfl)
theorem dX9_isVisit_3 : decode cX9_isVisit 3 = .ok (.aload_n 0, 1) := dk_42 (dk_at dksX9_isVisit_0 3 rfl rfl)
theorem dX9_isVisit_4 : decode cX9_isVisit 4 = .ok (.getfield 164, 3) := dk_180 0 164 (dk_at dksX9_isVisit_0 4 rfl rfl)
theorem dX9_isVisit_7 : decode cX9_isVisit 7 = .ok (.iconst 1, 1) := dk_4 (dk_at dksX9_isVisit_0 7 rfl rfl)
theorem dX9_isVisit_8 : decode cX9_isVisit 8 = .ok (.isub, 1) := dk_100 (dk_at dksX9_isVisit_0 8 rfl rfl)
theorem dX9_isVisit_9 : decode cX9_isVisit 9 = .ok (.invokestatic 316, 3) := dk_184 1 60 (dk_at dksX9_isVisit_0 9 rfl rfl)
theorem dX9_isVisit_12 : decode cX9_isVisit 12 = .ok (.iload_n 2, 1) := dk_28 (dk_at dksX9_isVisit_0 12 rfl rfl)
theorem dX9_isVisit_13 : decode cX9_isVisit 13 = .ok (.iconst 0, 1) := dk_3 (dk_at dksX9_isVisit_0 13 rfl rfl)
theorem dX9_isVisit_14 : decode cX9_isVisit 14 = .ok (.invokevirtual 213, 3) := dk_182 0 213 (dk_at dksX9_isVisit_0 14 rfl rfl)
theorem dX9_isVisit_17 : decode cX9_isVisit 17 = .ok (.ireturn, 1) := dk_172 (dk_at dksX9_isVisit_0 17 rfl rfl)
abbrev cX9_whichOf : ByteArray := prog_28_method_47_code
def yX9_whichOf : MethodName := ⟨RX9, "whichOf", "(I)I"⟩
def dkwX9_whichOf_1 : List UInt8 := [160, 0, 7, 4, 167, 0, 4, 3, 96, 61, 132, 3, 1, 167, 255, 225, 28, 172]
abbrev dktX9_whichOf_1 : List UInt8 := dkwX9_whichOf_1 ++ []
def dkwX9_whichOf_0 : List UInt8 := [3, 61, 3, 62, 29, 27, 163, 0, 32, 28, 42, 180, 0, 35, 29, 46, 42, 180, 0, 35, 27, 46]
abbrev dktX9_whichOf_0 : List UInt8 := dkwX9_whichOf_0 ++ dktX9_whichOf_1
theorem dksX9_whichOf_0 : cX9_whichOf.data.toList.drop 0 = dktX9_whichOf_0 := by decide +kernel
theorem dksX9_whichOf_1 : cX9_whichOf.data.toList.drop 22 = dktX9_whichOf_1 := dk_seg dksX9_whichOf_0 22 rfl rfl
theorem dX9_whichOf_0 : decode cX9_whichOf 0 = .ok (.iconst 0, 1) := dk_3 (dk_at dksX9_whichOf_0 0 rfl rfl)
theorem dX9_whichOf_1 : decode cX9_whichOf 1 = .ok (.istore_n 2, 1) := dk_61 (dk_at dksX9_whichOf_0 1 rfl rfl)
theorem dX9_whichOf_2 : decode cX9_whichOf 2 = .ok (.iconst 0, 1) := dk_3 (dk_at dksX9_whichOf_0 2 rfl rfl)
theorem dX9_whichOf_3 : decode cX9_whichOf 3 = .ok (.istore_n 3, 1) := dk_62 (dk_at dksX9_whichOf_0 3 rfl rfl)
theorem dX9_whichOf_4 : decode cX9_whichOf 4 = .ok (.iload_n 3, 1) := dk_29 (dk_at dksX9_whichOf_0 4 rfl rfl)
theorem dX9_whichOf_5 : decode cX9_whichOf 5 = .ok (.iload_n 1, 1) := dk_27 (dk_at dksX9_whichOf_0 5 rfl rfl)
theorem dX9_whichOf_6 : decode cX9_whichOf 6 = .ok (.if_icmp .gt 32, 3) := dk_163 0 32 (dk_at dksX9_whichOf_0 6 rfl rfl)
theorem dX9_whichOf_9 : decode cX9_whichOf 9 = .ok (.iload_n 2, 1) := dk_28 (dk_at dksX9_whichOf_0 9 rfl rfl)
theorem dX9_whichOf_10 : decode cX9_whichOf 10 = .ok (.aload_n 0, 1) := dk_42 (dk_at dksX9_whichOf_0 10 rfl rfl)
theorem dX9_whichOf_11 : decode cX9_whichOf 11 = .ok (.getfield 35, 3) := dk_180 0 35 (dk_at dksX9_whichOf_0 11 rfl rfl)
theorem dX9_whichOf_14 : decode cX9_whichOf 14 = .ok (.iload_n 3, 1) := dk_29 (dk_at dksX9_whichOf_0 14 rfl rfl)
theorem dX9_whichOf_15 : decode cX9_whichOf 15 = .ok (.iaload, 1) := dk_46 (dk_at dksX9_whichOf_0 15 rfl rfl)
theorem dX9_whichOf_16 : decode cX9_whichOf 16 = .ok (.aload_n 0, 1) := dk_42 (dk_at dksX9_whichOf_0 16 rfl rfl)
theorem dX9_whichOf_17 : decode cX9_whichOf 17 = .ok (.getfield 35, 3) := dk_180 0 35 (dk_at dksX9_whichOf_0 17 rfl rfl)
theorem dX9_whichOf_20 : decode cX9_whichOf 20 = .ok (.iload_n 1, 1) := dk_27 (dk_at dksX9_whichOf_0 20 rfl rfl)
theorem dX9_whichOf_21 : decode cX9_whichOf 21 = .ok (.iaload, 1) := dk_46 (dk_at dksX9_whichOf_0 21 rfl rfl)
theorem dX9_whichOf_22 : decode cX9_whichOf 22 = .ok (.if_icmp .ne 7, 3) := dk_160 0 7 (dk_at dksX9_whichOf_1 0 rfl rfl)
theorem dX9_whichOf_25 : decode cX9_whichOf 25 = .ok (.iconst 1, 1) := dk_4 (dk_at dksX9_whichOf_1 3 rfl rfl)
theorem dX9_whichOf_26 : decode cX9_whichOf 26 = .ok (.goto 4, 3) := dk_167 0 4 (dk_at dksX9_whichOf_1 4 rfl rfl)
theorem dX9_whichOf_29 : decode cX9_whichOf 29 = .ok (.iconst 0, 1) := dk_3 (dk_at dksX9_whichOf_1 7 rfl rfl)
theorem dX9_whichOf_30 : decode cX9_whichOf 30 = .ok (.iadd, 1) := dk_96 (dk_at dksX9_whichOf_1 8 rfl rfl)
theorem dX9_whichOf_31 : decode cX9_whichOf 31 = .ok (.istore_n 2, 1) := dk_61 (dk_at dksX9_whichOf_1 9 rfl rfl)
theorem dX9_whichOf_32 : decode cX9_whichOf 32 = .ok (.iinc 3 1, 3) := dk_132 3 1 (dk_at dksX9_whichOf_1 10 rfl rfl)
theorem dX9_whichOf_35 : decode cX9_whichOf 35 = .ok (.goto (-31), 3) := dk_167 255 225 (dk_at dksX9_whichOf_1 13 rfl rfl)
theorem dX9_whichOf_38 : decode cX9_whichOf 38 = .ok (.iload_n 2, 1) := dk_28 (dk_at dksX9_whichOf_1 16 rfl rfl)
theorem dX9_whichOf_39 : decode cX9_whichOf 39 = .ok (.ireturn, 1) := dk_172 (dk_at dksX9_whichOf_1 17 rfl rfl)
abbrev cX9_sinceOf : ByteArray := prog_28_method_48_code
def yX9_sinceOf : MethodName := ⟨RX9, "sinceOf", "(I)I"⟩
def dkwX9_sinceOf_1 : List UInt8 := [180, 0, 38, 27, 46, 42, 180, 0, 38, 28, 46, 100, 172, 132, 2, 255, 167, 255, 220, 17, 3, 231, 172]
abbrev dktX9_sinceOf_1 : List UInt8 := dkwX9_sinceOf_1 ++ []
def dkwX9_sinceOf_0 : List UInt8 := [27, 4, 100, 61, 28, 155, 0, 38, 42, 180, 0, 35, 28, 46, 42, 180, 0, 35, 27, 46, 160, 0, 17, 42]
abbrev dktX9_sinceOf_0 : List UInt8 := dkwX9_sinceOf_0 ++ dktX9_sinceOf_1
theorem dksX9_sinceOf_0 : cX9_sinceOf.data.toList.drop 0 = dktX9_sinceOf_0 := by decide +kernel
theorem dksX9_sinceOf_1 : cX9_sinceOf.data.toList.drop 24 = dktX9_sinceOf_1 := dk_seg dksX9_sinceOf_0 24 rfl rfl
theorem dX9_sinceOf_0 : decode cX9_sinceOf 0 = .ok (.iload_n 1, 1) := dk_27 (dk_at dksX9_sinceOf_0 0 rfl rfl)
theorem dX9_sinceOf_1 : decode cX9_sinceOf 1 = .ok (.iconst 1, 1) := dk_4 (dk_at dksX9_sinceOf_0 1 rfl rfl)
theorem dX9_sinceOf_2 : decode cX9_sinceOf 2 = .ok (.isub, 1) := dk_100 (dk_at dksX9_sinceOf_0 2 rfl rfl)
theorem dX9_sinceOf_3 : decode cX9_sinceOf 3 = .ok (.istore_n 2, 1) := dk_61 (dk_at dksX9_sinceOf_0 3 rfl rfl)
theorem dX9_sinceOf_4 : decode cX9_sinceOf 4 = .ok (.iload_n 2, 1) := dk_28 (dk_at dksX9_sinceOf_0 4 rfl rfl)
theorem dX9_sinceOf_5 : decode cX9_sinceOf 5 = .ok (.ifCond .lt 38, 3) := dk_155 0 38 (dk_at dksX9_sinceOf_0 5 rfl rfl)
theorem dX9_sinceOf_8 : decode cX9_sinceOf 8 = .ok (.aload_n 0, 1) := dk_42 (dk_at dksX9_sinceOf_0 8 rfl rfl)
theorem dX9_sinceOf_9 : decode cX9_sinceOf 9 = .ok (.getfield 35, 3) := dk_180 0 35 (dk_at dksX9_sinceOf_0 9 rfl rfl)
theorem dX9_sinceOf_12 : decode cX9_sinceOf 12 = .ok (.iload_n 2, 1) := dk_28 (dk_at dksX9_sinceOf_0 12 rfl rfl)
theorem dX9_sinceOf_13 : decode cX9_sinceOf 13 = .ok (.iaload, 1) := dk_46 (dk_at dksX9_sinceOf_0 13 rfl rfl)
theorem dX9_sinceOf_14 : decode cX9_sinceOf 14 = .ok (.aload_n 0, 1) := dk_42 (dk_at dksX9_sinceOf_0 14 rfl rfl)
theorem dX9_sinceOf_15 : decode cX9_sinceOf 15 = .ok (.getfield 35, 3) := dk_180 0 35 (dk_at dksX9_sinceOf_0 15 rfl rfl)
theorem dX9_sinceOf_18 : decode cX9_sinceOf 18 = .ok (.iload_n 1, 1) := dk_27 (dk_at dksX9_sinceOf_0 18 rfl rfl)
theorem dX9_sinceOf_19 : decode cX9_sinceOf 19 = .ok (.iaload, 1) := dk_46 (dk_at dksX9_sinceOf_0 19 rfl rfl)
theorem dX9_sinceOf_20 : decode cX9_sinceOf 20 = .ok (.if_icmp .ne 17, 3) := dk_160 0 17 (dk_at dksX9_sinceOf_0 20 rfl rfl)
theorem dX9_sinceOf_23 : decode cX9_sinceOf 23 = .ok (.aload_n 0, 1) := dk_42 (dk_at dksX9_sinceOf_0 23 rfl rfl)
theorem dX9_sinceOf_24 : decode cX9_sinceOf 24 = .ok (.getfield 38, 3) := dk_180 0 38 (dk_at dksX9_sinceOf_1 0 rfl rfl)
theorem dX9_sinceOf_27 : decode cX9_sinceOf 27 = .ok (.iload_n 1, 1) := dk_27 (dk_at dksX9_sinceOf_1 3 rfl rfl)
theorem dX9_sinceOf_28 : decode cX9_sinceOf 28 = .ok (.iaload, 1) := dk_46 (dk_at dksX9_sinceOf_1 4 rfl rfl)
theorem dX9_sinceOf_29 : decode cX9_sinceOf 29 = .ok (.aload_n 0, 1) := dk_42 (dk_at dksX9_sinceOf_1 5 rfl rfl)
theorem dX9_sinceOf_30 : decode cX9_sinceOf 30 = .ok (.getfield 38, 3) := dk_180 0 38 (dk_at dksX9_sinceOf_1 6 rfl rfl)
theorem dX9_sinceOf_33 : decode cX9_sinceOf 33 = .ok (.iload_n 2, 1) := dk_28 (dk_at dksX9_sinceOf_1 9 rfl rfl)
theorem dX9_sinceOf_34 : decode cX9_sinceOf 34 = .ok (.iaload, 1) := dk_46 (dk_at dksX9_sinceOf_1 10 rfl rfl)
theorem dX9_sinceOf_35 : decode cX9_sinceOf 35 = .ok (.isub, 1) := dk_100 (dk_at dksX9_sinceOf_1 11 rfl rfl)
theorem dX9_sinceOf_36 : decode cX9_sinceOf 36 = .ok (.ireturn, 1) := dk_172 (dk_at dksX9_sinceOf_1 12 rfl rfl)
theorem dX9_sinceOf_37 : decode cX9_sinceOf 37 = .ok (.iinc 2 (-1), 3) := dk_132 2 255 (dk_at dksX9_sinceOf_1 13 rfl rfl)
theorem dX9_sinceOf_40 : decode cX9_sinceOf 40 = .ok (.goto (-36), 3) := dk_167 255 220 (dk_at dksX9_sinceOf_1 16 rfl rfl)
theorem dX9_sinceOf_43 : decode cX9_sinceOf 43 = .ok (.sipush 999, 3) := dk_17 3 231 (dk_at dksX9_sinceOf_1 19 rfl rfl)
theorem dX9_sinceOf_46 : decode cX9_sinceOf 46 = .ok (.ireturn, 1) := dk_172 (dk_at dksX9_sinceOf_1 22 rfl rfl)
abbrev cX9_person : ByteArray := prog_28_method_50_code
def yX9_person : MethodName := ⟨RX9, "person", "(II)I"⟩
def dkwX9_person_4 : List UInt8 := [167, 0, 5, 21, 4, 172]
abbrev dktX9_person_4 : List UInt8 := dkwX9_person_4 ++ []
def dkwX9_person_3 : List UInt8 := [167, 0, 10, 132, 3, 1, 21, 5, 54, 4, 132, 5, 255, 167, 255, 227, 28, 4, 160, 0, 7, 29]
abbrev dktX9_person_3 : List UInt8 := dkwX9_person_3 ++ dktX9_person_4
def dkwX9_person_2 : List UInt8 := [42, 180, 0, 164, 4, 100, 54, 5, 21, 5, 155, 0, 30, 42, 180, 0, 35, 21, 5, 46, 27, 159, 0, 6]
abbrev dktX9_person_2 : List UInt8 := dkwX9_person_2 ++ dktX9_person_3
def dkwX9_person_1 : List UInt8 := [182, 0, 213, 154, 0, 5, 3, 172, 28, 154, 0, 10, 42, 180, 0, 62, 27, 46, 172, 3, 62, 2, 54, 4]
abbrev dktX9_person_1 : List UInt8 := dkwX9_person_1 ++ dktX9_person_2
def dkwX9_person_0 : List UInt8 := [42, 3, 181, 0, 3, 42, 27, 4, 182, 1, 64, 153, 0, 18, 42, 28, 3, 5, 184, 1, 60, 5, 4]
abbrev dktX9_person_0 : List UInt8 := dkwX9_person_0 ++ dktX9_person_1
theorem dksX9_person_0 : cX9_person.data.toList.drop 0 = dktX9_person_0 := by decide +kernel
theorem dksX9_person_1 : cX9_person.data.toList.drop 23 = dktX9_person_1 := dk_seg dksX9_person_0 23 rfl rfl
theorem dksX9_person_2 : cX9_person.data.toList.drop 47 = dktX9_person_2 := dk_seg dksX9_person_1 24 rfl rfl
theorem dksX9_person_3 : cX9_person.data.toList.drop 71 = dktX9_person_3 := dk_seg dksX9_person_2 24 rfl rfl
theorem dksX9_person_4 : cX9_person.data.toList.drop 93 = dktX9_person_4 := dk_seg dksX9_person_3 22 rfl rfl
theorem dX9_person_0 : decode cX9_person 0 = .ok (.aload_n 0, 1) := dk_42 (dk_at dksX9_person_0 0 rfl rfl)
theorem dX9_person_1 : decode cX9_person 1 = .ok (.iconst 0, 1) := dk_3 (dk_at dksX9_person_0 1 rfl rfl)
theorem dX9_person_2 : decode cX9_person 2 = .ok (.putfield 3, 3) := dk_181 0 3 (dk_at dksX9_person_0 2 rfl rfl)
theorem dX9_person_5 : decode cX9_person 5 = .ok (.aload_n 0, 1) := dk_42 (dk_at dksX9_person_0 5 rfl rfl)
theorem dX9_person_6 : decode cX9_person 6 = .ok (.iload_n 1, 1) := dk_27 (dk_at dksX9_person_0 6 rfl rfl)
theorem dX9_person_7 : decode cX9_person 7 = .ok (.iconst 1, 1) := dk_4 (dk_at dksX9_person_0 7 rfl rfl)
theorem dX9_person_8 : decode cX9_person 8 = .ok (.invokevirtual 320, 3) := dk_182 1 64 (dk_at dksX9_person_0 8 rfl rfl)
theorem dX9_person_11 : decode cX9_person 11 = .ok (.ifCond .eq 18, 3) := dk_153 0 18 (dk_at dksX9_person_0 11 rfl rfl)
theorem dX9_person_14 : decode cX9_person 14 = .ok (.aload_n 0, 1) := dk_42 (dk_at dksX9_person_0 14 rfl rfl)
theorem dX9_person_15 : decode cX9_person 15 = .ok (.iload_n 2, 1) := dk_28 (dk_at dksX9_person_0 15 rfl rfl)
theorem dX9_person_16 : decode cX9_person 16 = .ok (.iconst 0, 1) := dk_3 (dk_at dksX9_person_0 16 rfl rfl)
theorem dX9_person_17 : decode cX9_person 17 = .ok (.iconst 2, 1) := dk_5 (dk_at dksX9_person_0 17 rfl rfl)
theorem dX9_person_18 : decode cX9_person 18 = .ok (.invokestatic 316, 3) := dk_184 1 60 (dk_at dksX9_person_0 18 rfl rfl)
theorem dX9_person_21 : decode cX9_person 21 = .ok (.iconst 2, 1) := dk_5 (dk_at dksX9_person_0 21 rfl rfl)
theorem dX9_person_22 : decode cX9_person 22 = .ok (.iconst 1, 1) := dk_4 (dk_at dksX9_person_0 22 rfl rfl)
theorem dX9_person_23 : decode cX9_person 23 = .ok (.invokevirtual 213, 3) := dk_182 0 213 (dk_at dksX9_person_1 0 rfl rfl)
theorem dX9_person_26 : decode cX9_person 26 = .ok (.ifCond .ne 5, 3) := dk_154 0 5 (dk_at dksX9_person_1 3 rfl rfl)
theorem dX9_person_29 : decode cX9_person 29 = .ok (.iconst 0, 1) := dk_3 (dk_at dksX9_person_1 6 rfl rfl)
theorem dX9_person_30 : decode cX9_person 30 = .ok (.ireturn, 1) := dk_172 (dk_at dksX9_person_1 7 rfl rfl)
theorem dX9_person_31 : decode cX9_person 31 = .ok (.iload_n 2, 1) := dk_28 (dk_at dksX9_person_1 8 rfl rfl)
theorem dX9_person_32 : decode cX9_person 32 = .ok (.ifCond .ne 10, 3) := dk_154 0 10 (dk_at dksX9_person_1 9 rfl rfl)
theorem dX9_person_35 : decode cX9_person 35 = .ok (.aload_n 0, 1) := dk_42 (dk_at dksX9_person_1 12 rfl rfl)
theorem dX9_person_36 : decode cX9_person 36 = .ok (.getfield 62, 3) := dk_180 0 62 (dk_at dksX9_person_1 13 rfl rfl)
theorem dX9_person_39 : decode cX9_person 39 = .ok (.iload_n 1, 1) := dk_27 (dk_at dksX9_person_1 16 rfl rfl)
theorem dX9_person_40 : decode cX9_person 40 = .ok (.iaload, 1) := dk_46 (dk_at dksX9_person_1 17 rfl rfl)
theorem dX9_person_41 : decode cX9_person 41 = .ok (.ireturn, 1) := dk_172 (dk_at dksX9_person_1 18 rfl rfl)
theorem dX9_person_42 : decode cX9_person 42 = .ok (.iconst 0, 1) := dk_3 (dk_at dksX9_person_1 19 rfl rfl)
theorem dX9_person_43 : decode cX9_person 43 = .ok (.istore_n 3, 1) := dk_62 (dk_at dksX9_person_1 20 rfl rfl)
theorem dX9_person_44 : decode cX9_person 44 = .ok (.iconst (-1), 1) := dk_2 (dk_at dksX9_person_1 21 rfl rfl)
theorem dX9_person_45 : decode cX9_person 45 = .ok (.istore 4, 2) := dk_54 4 (dk_at dksX9_person_1 22 rfl rfl)
theorem dX9_person_47 : decode cX9_person 47 = .ok (.aload_n 0, 1) := dk_42 (dk_at dksX9_person_2 0 rfl rfl)
theorem dX9_person_48 : decode cX9_person 48 = .ok (.getfield 164, 3) := dk_180 0 164 (dk_at dksX9_person_2 1 rfl rfl)
theorem dX9_person_51 : decode cX9_person 51 = .ok (.iconst 1, 1) := dk_4 (dk_at dksX9_person_2 4 rfl rfl)
theorem dX9_person_52 : decode cX9_person 52 = .ok (.isub, 1) := dk_100 (dk_at dksX9_person_2 5 rfl rfl)
theorem dX9_person_53 : decode cX9_person 53 = .ok (.istore 5, 2) := dk_54 5 (dk_at dksX9_person_2 6 rfl rfl)
theorem dX9_person_55 : decode cX9_person 55 = .ok (.iload 5, 2) := dk_21 5 (dk_at dksX9_person_2 8 rfl rfl)
theorem dX9_person_57 : decode cX9_person 57 = .ok (.ifCond .lt 30, 3) := dk_155 0 30 (dk_at dksX9_person_2 10 rfl rfl)
theorem dX9_person_60 : decode cX9_person 60 = .ok (.aload_n 0, 1) := dk_42 (dk_at dksX9_person_2 13 rfl rfl)
theorem dX9_person_61 : decode cX9_person 61 = .ok (.getfield 35, 3) := dk_180 0 35 (dk_at dksX9_person_2 14 rfl rfl)
theorem dX9_person_64 : decode cX9_person 64 = .ok (.iload 5, 2) := dk_21 5 (dk_at dksX9_person_2 17 rfl rfl)
theorem dX9_person_66 : decode cX9_person 66 = .ok (.iaload, 1) := dk_46 (dk_at dksX9_person_2 19 rfl rfl)
theorem dX9_person_67 : decode cX9_person 67 = .ok (.iload_n 1, 1) := dk_27 (dk_at dksX9_person_2 20 rfl rfl)
theorem dX9_person_68 : decode cX9_person 68 = .ok (.if_icmp .eq 6, 3) := dk_159 0 6 (dk_at dksX9_person_2 21 rfl rfl)
theorem dX9_person_71 : decode cX9_person 71 = .ok (.goto 10, 3) := dk_167 0 10 (dk_at dksX9_person_3 0 rfl rfl)
theorem dX9_person_74 : decode cX9_person 74 = .ok (.iinc 3 1, 3) := dk_132 3 1 (dk_at dksX9_person_3 3 rfl rfl)
theorem dX9_person_77 : decode cX9_person 77 = .ok (.iload 5, 2) := dk_21 5 (dk_at dksX9_person_3 6 rfl rfl)
theorem dX9_person_79 : decode cX9_person 79 = .ok (.istore 4, 2) := dk_54 4 (dk_at dksX9_person_3 8 rfl rfl)
theorem dX9_person_81 : decode cX9_person 81 = .ok (.iinc 5 (-1), 3) := dk_132 5 255 (dk_at dksX9_person_3 10 rfl rfl)
theorem dX9_person_84 : decode cX9_person 84 = .ok (.goto (-29), 3) := dk_167 255 227 (dk_at dksX9_person_3 13 rfl rfl)
theorem dX9_person_87 : decode cX9_person 87 = .ok (.iload_n 2, 1) := dk_28 (dk_at dksX9_person_3 16 rfl rfl)
theorem dX9_person_88 : decode cX9_person 88 = .ok (.iconst 1, 1) := dk_4 (dk_at dksX9_person_3 17 rfl rfl)
theorem dX9_person_89 : decode cX9_person 89 = .ok (.if_icmp .ne 7, 3) := dk_160 0 7 (dk_at dksX9_person_3 18 rfl rfl)
theorem dX9_person_92 : decode cX9_person 92 = .ok (.iload_n 3, 1) := dk_29 (dk_at dksX9_person_3 21 rfl rfl)
theorem dX9_person_93 : decode cX9_person 93 = .ok (.goto 5, 3) := dk_167 0 5 (dk_at dksX9_person_4 0 rfl rfl)
theorem dX9_person_96 : decode cX9_person 96 = .ok (.iload 4, 2) := dk_21 4 (dk_at dksX9_person_4 3 rfl rfl)
theorem dX9_person_98 : decode cX9_person 98 = .ok (.ireturn, 1) := dk_172 (dk_at dksX9_person_4 5 rfl rfl)
abbrev cX9_price : ByteArray := prog_28_method_51_code
def yX9_price : MethodName := ⟨RX9, "price", "(I)I"⟩
def dkwX9_price_1 : List UInt8 := [180, 0, 26, 16, 7, 27, 96, 46, 172]
abbrev dktX9_price_1 : List UInt8 := dkwX9_price_1 ++ []
def dkwX9_price_0 : List UInt8 := [42, 3, 181, 0, 3, 42, 27, 3, 7, 184, 1, 60, 4, 4, 182, 0, 213, 154, 0, 5, 3, 172, 42]
abbrev dktX9_price_0 : List UInt8 := dkwX9_price_0 ++ dktX9_price_1
theorem dksX9_price_0 : cX9_price.data.toList.drop 0 = dktX9_price_0 := by decide +kernel
theorem dksX9_price_1 : cX9_price.data.toList.drop 23 = dktX9_price_1 := dk_seg dksX9_price_0 23 rfl rfl
theorem dX9_price_0 : decode cX9_price 0 = .ok (.aload_n 0, 1) := dk_42 (dk_at dksX9_price_0 0 rfl rfl)
theorem dX9_price_1 : decode cX9_price 1 = .ok (.iconst 0, 1) := dk_3 (dk_at dksX9_price_0 1 rfl rfl)
theorem dX9_price_2 : decode cX9_price 2 = .ok (.putfield 3, 3) := dk_181 0 3 (dk_at dksX9_price_0 2 rfl rfl)
theorem dX9_price_5 : decode cX9_price 5 = .ok (.aload_n 0, 1) := dk_42 (dk_at dksX9_price_0 5 rfl rfl)
theorem dX9_price_6 : decode cX9_price 6 = .ok (.iload_n 1, 1) := dk_27 (dk_at dksX9_price_0 6 rfl rfl)
theorem dX9_price_7 : decode cX9_price 7 = .ok (.iconst 0, 1) := dk_3 (dk_at dksX9_price_0 7 rfl rfl)
theorem dX9_price_8 : decode cX9_price 8 = .ok (.iconst 4, 1) := dk_7 (dk_at dksX9_price_0 8 rfl rfl)
theorem dX9_price_9 : decode cX9_price 9 = .ok (.invokestatic 316, 3) := dk_184 1 60 (dk_at dksX9_price_0 9 rfl rfl)
theorem dX9_price_12 : decode cX9_price 12 = .ok (.iconst 1, 1) := dk_4 (dk_at dksX9_price_0 12 rfl rfl)
theorem dX9_price_13 : decode cX9_price 13 = .ok (.iconst 1, 1) := dk_4 (dk_at dksX9_price_0 13 rfl rfl)
theorem dX9_price_14 : decode cX9_price 14 = .ok (.invokevirtual 213, 3) := dk_182 0 213 (dk_at dksX9_price_0 14 rfl rfl)
theorem dX9_price_17 : decode cX9_price 17 = .ok (.ifCond .ne 5, 3) := dk_154 0 5 (dk_at dksX9_price_0 17 rfl rfl)
theorem dX9_price_20 : decode cX9_price 20 = .ok (.iconst 0, 1) := dk_3 (dk_at dksX9_price_0 20 rfl rfl)
theorem dX9_price_21 : decode cX9_price 21 = .ok (.ireturn, 1) := dk_172 (dk_at dksX9_price_0 21 rfl rfl)
theorem dX9_price_22 : decode cX9_price 22 = .ok (.aload_n 0, 1) := dk_42 (dk_at dksX9_price_0 22 rfl rfl)
theorem dX9_price_23 : decode cX9_price 23 = .ok (.getfield 26, 3) := dk_180 0 26 (dk_at dksX9_price_1 0 rfl rfl)
theorem dX9_price_26 : decode cX9_price 26 = .ok (.bipush 7, 2) := dk_16 7 (dk_at dksX9_price_1 3 rfl rfl)
theorem dX9_price_28 : decode cX9_price 28 = .ok (.iload_n 1, 1) := dk_27 (dk_at dksX9_price_1 5 rfl rfl)
theorem dX9_price_29 : decode cX9_price 29 = .ok (.iadd, 1) := dk_96 (dk_at dksX9_price_1 6 rfl rfl)
theorem dX9_price_30 : decode cX9_price 30 = .ok (.iaload, 1) := dk_46 (dk_at dksX9_price_1 7 rfl rfl)
theorem dX9_price_31 : decode cX9_price 31 = .ok (.ireturn, 1) := dk_172 (dk_at dksX9_price_1 8 rfl rfl)
abbrev cX9_states : ByteArray := prog_28_method_78_code
def yX9_states : MethodName := ⟨RX9, "states", "(I)I"⟩
def dkwX9_states_2 : List UInt8 := [29, 46, 47, 9, 148, 158, 0, 7, 4, 167, 0, 4, 3, 96, 61, 132, 3, 1, 167, 255, 221, 28, 172]
abbrev dktX9_states_2 : List UInt8 := dkwX9_states_2 ++ []
def dkwX9_states_1 : List UInt8 := [182, 1, 203, 3, 61, 3, 62, 29, 42, 180, 1, 108, 162, 0, 33, 28, 42, 180, 0, 77, 42, 180, 0, 71]
abbrev dktX9_states_1 : List UInt8 := dkwX9_states_1 ++ dktX9_states_2
def dkwX9_states_0 : List UInt8 := [42, 3, 181, 0, 3, 42, 27, 4, 182, 1, 74, 154, 0, 5, 3, 172, 42, 182, 1, 209, 42, 27]
abbrev dktX9_states_0 : List UInt8 := dkwX9_states_0 ++ dktX9_states_1
theorem dksX9_states_0 : cX9_states.data.toList.drop 0 = dktX9_states_0 := by decide +kernel
theorem dksX9_states_1 : cX9_states.data.toList.drop 22 = dktX9_states_1 := dk_seg dksX9_states_0 22 rfl rfl
theorem dksX9_states_2 : cX9_states.data.toList.drop 46 = dktX9_states_2 := dk_seg dksX9_states_1 24 rfl rfl
theorem dX9_states_0 : decode cX9_states 0 = .ok (.aload_n 0, 1) := dk_42 (dk_at dksX9_states_0 0 rfl rfl)
theorem dX9_states_1 : decode cX9_states 1 = .ok (.iconst 0, 1) := dk_3 (dk_at dksX9_states_0 1 rfl rfl)
theorem dX9_states_2 : decode cX9_states 2 = .ok (.putfield 3, 3) := dk_181 0 3 (dk_at dksX9_states_0 2 rfl rfl)
theorem dX9_states_5 : decode cX9_states 5 = .ok (.aload_n 0, 1) := dk_42 (dk_at dksX9_states_0 5 rfl rfl)
theorem dX9_states_6 : decode cX9_states 6 = .ok (.iload_n 1, 1) := dk_27 (dk_at dksX9_states_0 6 rfl rfl)
theorem dX9_states_7 : decode cX9_states 7 = .ok (.iconst 1, 1) := dk_4 (dk_at dksX9_states_0 7 rfl rfl)
theorem dX9_states_8 : decode cX9_states 8 = .ok (.invokevirtual 330, 3) := dk_182 1 74 (dk_at dksX9_states_0 8 rfl rfl)
theorem dX9_states_11 : decode cX9_states 11 = .ok (.ifCond .ne 5, 3) := dk_154 0 5 (dk_at dksX9_states_0 11 rfl rfl)
theorem dX9_states_14 : decode cX9_states 14 = .ok (.iconst 0, 1) := dk_3 (dk_at dksX9_states_0 14 rfl rfl)
theorem dX9_states_15 : decode cX9_states 15 = .ok (.ireturn, 1) := dk_172 (dk_at dksX9_states_0 15 rfl rfl)
theorem dX9_states_16 : decode cX9_states 16 = .ok (.aload_n 0, 1) := dk_42 (dk_at dksX9_states_0 16 rfl rfl)
theorem dX9_states_17 : decode cX9_states 17 = .ok (.invokevirtual 465, 3) := dk_182 1 209 (dk_at dksX9_states_0 17 rfl rfl)
theorem dX9_states_20 : decode cX9_states 20 = .ok (.aload_n 0, 1) := dk_42 (dk_at dksX9_states_0 20 rfl rfl)
theorem dX9_states_21 : decode cX9_states 21 = .ok (.iload_n 1, 1) := dk_27 (dk_at dksX9_states_0 21 rfl rfl)
theorem dX9_states_22 : decode cX9_states 22 = .ok (.invokevirtual 459, 3) := dk_182 1 203 (dk_at dksX9_states_1 0 rfl rfl)
theorem dX9_states_25 : decode cX9_states 25 = .ok (.iconst 0, 1) := dk_3 (dk_at dksX9_states_1 3 rfl rfl)
theorem dX9_states_26 : decode cX9_states 26 = .ok (.istore_n 2, 1) := dk_61 (dk_at dksX9_states_1 4 rfl rfl)
theorem dX9_states_27 : decode cX9_states 27 = .ok (.iconst 0, 1) := dk_3 (dk_at dksX9_states_1 5 rfl rfl)
theorem dX9_states_28 : decode cX9_states 28 = .ok (.istore_n 3, 1) := dk_62 (dk_at dksX9_states_1 6 rfl rfl)
theorem dX9_states_29 : decode cX9_states 29 = .ok (.iload_n 3, 1) := dk_29 (dk_at dksX9_states_1 7 rfl rfl)
theorem dX9_states_30 : decode cX9_states 30 = .ok (.aload_n 0, 1) := dk_42 (dk_at dksX9_states_1 8 rfl rfl)
theorem dX9_states_31 : decode cX9_states 31 = .ok (.getfield 364, 3) := dk_180 1 108 (dk_at dksX9_states_1 9 rfl rfl)
theorem dX9_states_34 : decode cX9_states 34 = .ok (.if_icmp .ge 33, 3) := dk_162 0 33 (dk_at dksX9_states_1 12 rfl rfl)
theorem dX9_states_37 : decode cX9_states 37 = .ok (.iload_n 2, 1) := dk_28 (dk_at dksX9_states_1 15 rfl rfl)
theorem dX9_states_38 : decode cX9_states 38 = .ok (.aload_n 0, 1) := dk_42 (dk_at dksX9_states_1 16 rfl rfl)
theorem dX9_states_39 : decode cX9_states 39 = .ok (.getfield 77, 3) := dk_180 0 77 (dk_at dksX9_states_1 17 rfl rfl)
theorem dX9_states_42 : decode cX9_states 42 = .ok (.aload_n 0, 1) := dk_42 (dk_at dksX9_states_1 20 rfl rfl)
theorem dX9_states_43 : decode cX9_states 43 = .ok (.getfield 71, 3) := dk_180 0 71 (dk_at dksX9_states_1 21 rfl rfl)
theorem dX9_states_46 : decode cX9_states 46 = .ok (.iload_n 3, 1) := dk_29 (dk_at dksX9_states_2 0 rfl rfl)
theorem dX9_states_47 : decode cX9_states 47 = .ok (.iaload, 1) := dk_46 (dk_at dksX9_states_2 1 rfl rfl)
theorem dX9_states_48 : decode cX9_states 48 = .ok (.laload, 1) := dk_47 (dk_at dksX9_states_2 2 rfl rfl)
theorem dX9_states_49 : decode cX9_states 49 = .ok (.lconst 0, 1) := dk_9 (dk_at dksX9_states_2 3 rfl rfl)
theorem dX9_states_50 : decode cX9_states 50 = .ok (.lcmp, 1) := dk_148 (dk_at dksX9_states_2 4 rfl rfl)
theorem dX9_states_51 : decode cX9_states 51 = .ok (.ifCond .le 7, 3) := dk_158 0 7 (dk_at dksX9_states_2 5 rfl rfl)
theorem dX9_states_54 : decode cX9_states 54 = .ok (.iconst 1, 1) := dk_4 (dk_at dksX9_states_2 8 rfl rfl)
theorem dX9_states_55 : decode cX9_states 55 = .ok (.goto 4, 3) := dk_167 0 4 (dk_at dksX9_states_2 9 rfl rfl)
theorem dX9_states_58 : decode cX9_states 58 = .ok (.iconst 0, 1) := dk_3 (dk_at dksX9_states_2 12 rfl rfl)
theorem dX9_states_59 : decode cX9_states 59 = .ok (.iadd, 1) := dk_96 (dk_at dksX9_states_2 13 rfl rfl)
theorem dX9_states_60 : decode cX9_states 60 = .ok (.istore_n 2, 1) := dk_61 (dk_at dksX9_states_2 14 rfl rfl)
theorem dX9_states_61 : decode cX9_states 61 = .ok (.iinc 3 1, 3) := dk_132 3 1 (dk_at dksX9_states_2 15 rfl rfl)
theorem dX9_states_64 : decode cX9_states 64 = .ok (.goto (-35), 3) := dk_167 255 221 (dk_at dksX9_states_2 18 rfl rfl)
theorem dX9_states_67 : decode cX9_states 67 = .ok (.iload_n 2, 1) := dk_28 (dk_at dksX9_states_2 21 rfl rfl)
theorem dX9_states_68 : decode cX9_states 68 = .ok (.ireturn, 1) := dk_172 (dk_at dksX9_states_2 22 rfl rfl)
abbrev cX9_plain : ByteArray := prog_28_method_52_code
def yX9_plain : MethodName := ⟨RX9, "plain", "()V"⟩
def dkwX9_plain_2 : List UInt8 := [3, 181, 1, 105, 177]
abbrev dktX9_plain_2 : List UInt8 := dkwX9_plain_2 ++ []
def dkwX9_plain_1 : List UInt8 := [181, 1, 89, 42, 2, 181, 1, 92, 42, 2, 181, 1, 95, 42, 2, 181, 1, 98, 42, 3, 181, 1, 101, 42]
abbrev dktX9_plain_1 : List UInt8 := dkwX9_plain_1 ++ dktX9_plain_2
def dkwX9_plain_0 : List UInt8 := [42, 42, 180, 0, 26, 7, 46, 181, 1, 83, 42, 42, 180, 0, 26, 16, 6, 46, 181, 1, 86, 42, 3]
abbrev dktX9_plain_0 : List UInt8 := dkwX9_plain_0 ++ dktX9_plain_1
theorem dksX9_plain_0 : cX9_plain.data.toList.drop 0 = dktX9_plain_0 := by decide +kernel
theorem dksX9_plain_1 : cX9_plain.data.toList.drop 23 = dktX9_plain_1 := dk_seg dksX9_plain_0 23 rfl rfl
theorem dksX9_plain_2 : cX9_plain.data.toList.drop 47 = dktX9_plain_2 := dk_seg dksX9_plain_1 24 rfl rfl
theorem dX9_plain_0 : decode cX9_plain 0 = .ok (.aload_n 0, 1) := dk_42 (dk_at dksX9_plain_0 0 rfl rfl)
theorem dX9_plain_1 : decode cX9_plain 1 = .ok (.aload_n 0, 1) := dk_42 (dk_at dksX9_plain_0 1 rfl rfl)
theorem dX9_plain_2 : decode cX9_plain 2 = .ok (.getfield 26, 3) := dk_180 0 26 (dk_at dksX9_plain_0 2 rfl rfl)
theorem dX9_plain_5 : decode cX9_plain 5 = .ok (.iconst 4, 1) := dk_7 (dk_at dksX9_plain_0 5 rfl rfl)
theorem dX9_plain_6 : decode cX9_plain 6 = .ok (.iaload, 1) := dk_46 (dk_at dksX9_plain_0 6 rfl rfl)
theorem dX9_plain_7 : decode cX9_plain 7 = .ok (.putfield 339, 3) := dk_181 1 83 (dk_at dksX9_plain_0 7 rfl rfl)
theorem dX9_plain_10 : decode cX9_plain 10 = .ok (.aload_n 0, 1) := dk_42 (dk_at dksX9_plain_0 10 rfl rfl)
theorem dX9_plain_11 : decode cX9_plain 11 = .ok (.aload_n 0, 1) := dk_42 (dk_at dksX9_plain_0 11 rfl rfl)
theorem dX9_plain_12 : decode cX9_plain 12 = .ok (.getfield 26, 3) := dk_180 0 26 (dk_at dksX9_plain_0 12 rfl rfl)
theorem dX9_plain_15 : decode cX9_plain 15 = .ok (.bipush 6, 2) := dk_16 6 (dk_at dksX9_plain_0 15 rfl rfl)
theorem dX9_plain_17 : decode cX9_plain 17 = .ok (.iaload, 1) := dk_46 (dk_at dksX9_plain_0 17 rfl rfl)
theorem dX9_plain_18 : decode cX9_plain 18 = .ok (.putfield 342, 3) := dk_181 1 86 (dk_at dksX9_plain_0 18 rfl rfl)
theorem dX9_plain_21 : decode cX9_plain 21 = .ok (.aload_n 0, 1) := dk_42 (dk_at dksX9_plain_0 21 rfl rfl)
theorem dX9_plain_22 : decode cX9_plain 22 = .ok (.iconst 0, 1) := dk_3 (dk_at dksX9_plain_0 22 rfl rfl)
theorem dX9_plain_23 : decode cX9_plain 23 = .ok (.putfield 345, 3) := dk_181 1 89 (dk_at dksX9_plain_1 0 rfl rfl)
theorem dX9_plain_26 : decode cX9_plain 26 = .ok (.aload_n 0, 1) := dk_42 (dk_at dksX9_plain_1 3 rfl rfl)
theorem dX9_plain_27 : decode cX9_plain 27 = .ok (.iconst (-1), 1) := dk_2 (dk_at dksX9_plain_1 4 rfl rfl)
theorem dX9_plain_28 : decode cX9_plain 28 = .ok (.putfield 348, 3) := dk_181 1 92 (dk_at dksX9_plain_1 5 rfl rfl)
theorem dX9_plain_31 : decode cX9_plain 31 = .ok (.aload_n 0, 1) := dk_42 (dk_at dksX9_plain_1 8 rfl rfl)
theorem dX9_plain_32 : decode cX9_plain 32 = .ok (.iconst (-1), 1) := dk_2 (dk_at dksX9_plain_1 9 rfl rfl)
theorem dX9_plain_33 : decode cX9_plain 33 = .ok (.putfield 351, 3) := dk_181 1 95 (dk_at dksX9_plain_1 10 rfl rfl)
theorem dX9_plain_36 : decode cX9_plain 36 = .ok (.aload_n 0, 1) := dk_42 (dk_at dksX9_plain_1 13 rfl rfl)
theorem dX9_plain_37 : decode cX9_plain 37 = .ok (.iconst (-1), 1) := dk_2 (dk_at dksX9_plain_1 14 rfl rfl)
theorem dX9_plain_38 : decode cX9_plain 38 = .ok (.putfield 354, 3) := dk_181 1 98 (dk_at dksX9_plain_1 15 rfl rfl)
theorem dX9_plain_41 : decode cX9_plain 41 = .ok (.aload_n 0, 1) := dk_42 (dk_at dksX9_plain_1 18 rfl rfl)
theorem dX9_plain_42 : decode cX9_plain 42 = .ok (.iconst 0, 1) := dk_3 (dk_at dksX9_plain_1 19 rfl rfl)
theorem dX9_plain_43 : decode cX9_plain 43 = .ok (.putfield 357, 3) := dk_181 1 101 (dk_at dksX9_plain_1 20 rfl rfl)
theorem dX9_plain_46 : decode cX9_plain 46 = .ok (.aload_n 0, 1) := dk_42 (dk_at dksX9_plain_1 23 rfl rfl)
theorem dX9_plain_47 : decode cX9_plain 47 = .ok (.iconst 0, 1) := dk_3 (dk_at dksX9_plain_2 0 rfl rfl)
theorem dX9_plain_48 : decode cX9_plain 48 = .ok (.putfield 361, 3) := dk_181 1 105 (dk_at dksX9_plain_2 1 rfl rfl)
theorem dX9_plain_51 : decode cX9_plain 51 = .ok (.return_, 1) := dk_177 (dk_at dksX9_plain_2 4 rfl rfl)
abbrev cX9_goes : ByteArray := prog_28_method_72_code
def yX9_goes : MethodName := ⟨RX9, "goes", "(I)V"⟩
def dkwX9_goes_3 : List UInt8 := [28, 182, 1, 196, 42, 180, 0, 87, 28, 42, 4, 28, 182, 1, 199, 80, 132, 2, 1, 167, 255, 171, 177]
abbrev dktX9_goes_3 : List UInt8 := dkwX9_goes_3 ++ []
def dkwX9_goes_2 : List UInt8 := [42, 180, 0, 62, 29, 46, 162, 0, 17, 42, 29, 21, 4, 28, 182, 1, 192, 132, 4, 1, 167, 255, 234, 42]
abbrev dktX9_goes_2 : List UInt8 := dkwX9_goes_2 ++ dktX9_goes_3
def dkwX9_goes_1 : List UInt8 := [167, 0, 64, 42, 28, 182, 1, 187, 42, 42, 180, 0, 35, 28, 46, 182, 1, 189, 62, 3, 54, 4, 21, 4]
abbrev dktX9_goes_1 : List UInt8 := dkwX9_goes_1 ++ dktX9_goes_2
def dkwX9_goes_0 : List UInt8 := [42, 182, 1, 184, 3, 61, 28, 27, 163, 0, 86, 42, 180, 0, 35, 28, 46, 42, 180, 1, 92, 160, 0, 6]
abbrev dktX9_goes_0 : List UInt8 := dkwX9_goes_0 ++ dktX9_goes_1
theorem dksX9_goes_0 : cX9_goes.data.toList.drop 0 = dktX9_goes_0 := by decide +kernel
theorem dksX9_goes_1 : cX9_goes.data.toList.drop 24 = dktX9_goes_1 := dk_seg dksX9_goes_0 24 rfl rfl
theorem dksX9_goes_2 : cX9_goes.data.toList.drop 48 = dktX9_goes_2 := dk_seg dksX9_goes_1 24 rfl rfl
theorem dksX9_goes_3 : cX9_goes.data.toList.drop 72 = dktX9_goes_3 := dk_seg dksX9_goes_2 24 rfl rfl
theorem dX9_goes_0 : decode cX9_goes 0 = .ok (.aload_n 0, 1) := dk_42 (dk_at dksX9_goes_0 0 rfl rfl)
theorem dX9_goes_1 : decode cX9_goes 1 = .ok (.invokevirtual 440, 3) := dk_182 1 184 (dk_at dksX9_goes_0 1 rfl rfl)
theorem dX9_goes_4 : decode cX9_goes 4 = .ok (.iconst 0, 1) := dk_3 (dk_at dksX9_goes_0 4 rfl rfl)
theorem dX9_goes_5 : decode cX9_goes 5 = .ok (.istore_n 2, 1) := dk_61 (dk_at dksX9_goes_0 5 rfl rfl)
theorem dX9_goes_6 : decode cX9_goes 6 = .ok (.iload_n 2, 1) := dk_28 (dk_at dksX9_goes_0 6 rfl rfl)
theorem dX9_goes_7 : decode cX9_goes 7 = .ok (.iload_n 1, 1) := dk_27 (dk_at dksX9_goes_0 7 rfl rfl)
theorem dX9_goes_8 : decode cX9_goes 8 = .ok (.if_icmp .gt 86, 3) := dk_163 0 86 (dk_at dksX9_goes_0 8 rfl rfl)
theorem dX9_goes_11 : decode cX9_goes 11 = .ok (.aload_n 0, 1) := dk_42 (dk_at dksX9_goes_0 11 rfl rfl)
theorem dX9_goes_12 : decode cX9_goes 12 = .ok (.getfield 35, 3) := dk_180 0 35 (dk_at dksX9_goes_0 12 rfl rfl)
theorem dX9_goes_15 : decode cX9_goes 15 = .ok (.iload_n 2, 1) := dk_28 (dk_at dksX9_goes_0 15 rfl rfl)
theorem dX9_goes_16 : decode cX9_goes 16 = .ok (.iaload, 1) := dk_46 (dk_at dksX9_goes_0 16 rfl rfl)
theorem dX9_goes_17 : decode cX9_goes 17 = .ok (.aload_n 0, 1) := dk_42 (dk_at dksX9_goes_0 17 rfl rfl)
theorem dX9_goes_18 : decode cX9_goes 18 = .ok (.getfield 348, 3) := dk_180 1 92 (dk_at dksX9_goes_0 18 rfl rfl)
theorem dX9_goes_21 : decode cX9_goes 21 = .ok (.if_icmp .ne 6, 3) := dk_160 0 6 (dk_at dksX9_goes_0 21 rfl rfl)
theorem dX9_goes_24 : decode cX9_goes 24 = .ok (.goto 64, 3) := dk_167 0 64 (dk_at dksX9_goes_1 0 rfl rfl)
theorem dX9_goes_27 : decode cX9_goes 27 = .ok (.aload_n 0, 1) := dk_42 (dk_at dksX9_goes_1 3 rfl rfl)
theorem dX9_goes_28 : decode cX9_goes 28 = .ok (.iload_n 2, 1) := dk_28 (dk_at dksX9_goes_1 4 rfl rfl)
theorem dX9_goes_29 : decode cX9_goes 29 = .ok (.invokevirtual 443, 3) := dk_182 1 187 (dk_at dksX9_goes_1 5 rfl rfl)
theorem dX9_goes_32 : decode cX9_goes 32 = .ok (.aload_n 0, 1) := dk_42 (dk_at dksX9_goes_1 8 rfl rfl)
theorem dX9_goes_33 : decode cX9_goes 33 = .ok (.aload_n 0, 1) := dk_42 (dk_at dksX9_goes_1 9 rfl rfl)
theorem dX9_goes_34 : decode cX9_goes 34 = .ok (.getfield 35, 3) := dk_180 0 35 (dk_at dksX9_goes_1 10 rfl rfl)
theorem dX9_goes_37 : decode cX9_goes 37 = .ok (.iload_n 2, 1) := dk_28 (dk_at dksX9_goes_1 13 rfl rfl)
theorem dX9_goes_38 : decode cX9_goes 38 = .ok (.iaload, 1) := dk_46 (dk_at dksX9_goes_1 14 rfl rfl)
theorem dX9_goes_39 : decode cX9_goes 39 = .ok (.invokevirtual 445, 3) := dk_182 1 189 (dk_at dksX9_goes_1 15 rfl rfl)
theorem dX9_goes_42 : decode cX9_goes 42 = .ok (.istore_n 3, 1) := dk_62 (dk_at dksX9_goes_1 18 rfl rfl)
theorem dX9_goes_43 : decode cX9_goes 43 = .ok (.iconst 0, 1) := dk_3 (dk_at dksX9_goes_1 19 rfl rfl)
theorem dX9_goes_44 : decode cX9_goes 44 = .ok (.istore 4, 2) := dk_54 4 (dk_at dksX9_goes_1 20 rfl rfl)
theorem dX9_goes_46 : decode cX9_goes 46 = .ok (.iload 4, 2) := dk_21 4 (dk_at dksX9_goes_1 22 rfl rfl)
theorem dX9_goes_48 : decode cX9_goes 48 = .ok (.aload_n 0, 1) := dk_42 (dk_at dksX9_goes_2 0 rfl rfl)
theorem dX9_goes_49 : decode cX9_goes 49 = .ok (.getfield 62, 3) := dk_180 0 62 (dk_at dksX9_goes_2 1 rfl rfl)
theorem dX9_goes_52 : decode cX9_goes 52 = .ok (.iload_n 3, 1) := dk_29 (dk_at dksX9_goes_2 4 rfl rfl)
theorem dX9_goes_53 : decode cX9_goes 53 = .ok (.iaload, 1) := dk_46 (dk_at dksX9_goes_2 5 rfl rfl)
theorem dX9_goes_54 : decode cX9_goes 54 = .ok (.if_icmp .ge 17, 3) := dk_162 0 17 (dk_at dksX9_goes_2 6 rfl rfl)
theorem dX9_goes_57 : decode cX9_goes 57 = .ok (.aload_n 0, 1) := dk_42 (dk_at dksX9_goes_2 9 rfl rfl)
theorem dX9_goes_58 : decode cX9_goes 58 = .ok (.iload_n 3, 1) := dk_29 (dk_at dksX9_goes_2 10 rfl rfl)
theorem dX9_goes_59 : decode cX9_goes 59 = .ok (.iload 4, 2) := dk_21 4 (dk_at dksX9_goes_2 11 rfl rfl)
theorem dX9_goes_61 : decode cX9_goes 61 = .ok (.iload_n 2, 1) := dk_28 (dk_at dksX9_goes_2 13 rfl rfl)
theorem dX9_goes_62 : decode cX9_goes 62 = .ok (.invokevirtual 448, 3) := dk_182 1 192 (dk_at dksX9_goes_2 14 rfl rfl)
theorem dX9_goes_65 : decode cX9_goes 65 = .ok (.iinc 4 1, 3) := dk_132 4 1 (dk_at dksX9_goes_2 17 rfl rfl)
theorem dX9_goes_68 : decode cX9_goes 68 = .ok (.goto (-22), 3) := dk_167 255 234 (dk_at dksX9_goes_2 20 rfl rfl)
theorem dX9_goes_71 : decode cX9_goes 71 = .ok (.aload_n 0, 1) := dk_42 (dk_at dksX9_goes_2 23 rfl rfl)
theorem dX9_goes_72 : decode cX9_goes 72 = .ok (.iload_n 2, 1) := dk_28 (dk_at dksX9_goes_3 0 rfl rfl)
theorem dX9_goes_73 : decode cX9_goes 73 = .ok (.invokevirtual 452, 3) := dk_182 1 196 (dk_at dksX9_goes_3 1 rfl rfl)
theorem dX9_goes_76 : decode cX9_goes 76 = .ok (.aload_n 0, 1) := dk_42 (dk_at dksX9_goes_3 4 rfl rfl)
theorem dX9_goes_77 : decode cX9_goes 77 = .ok (.getfield 87, 3) := dk_180 0 87 (dk_at dksX9_goes_3 5 rfl rfl)
theorem dX9_goes_80 : decode cX9_goes 80 = .ok (.iload_n 2, 1) := dk_28 (dk_at dksX9_goes_3 8 rfl rfl)
theorem dX9_goes_81 : decode cX9_goes 81 = .ok (.aload_n 0, 1) := dk_42 (dk_at dksX9_goes_3 9 rfl rfl)
theorem dX9_goes_82 : decode cX9_goes 82 = .ok (.iconst 1, 1) := dk_4 (dk_at dksX9_goes_3 10 rfl rfl)
theorem dX9_goes_83 : decode cX9_goes 83 = .ok (.iload_n 2, 1) := dk_28 (dk_at dksX9_goes_3 11 rfl rfl)
theorem dX9_goes_84 : decode cX9_goes 84 = .ok (.invokevirtual 455, 3) := dk_182 1 199 (dk_at dksX9_goes_3 12 rfl rfl)
theorem dX9_goes_87 : decode cX9_goes 87 = .ok (.lastore, 1) := dk_80 (dk_at dksX9_goes_3 15 rfl rfl)
theorem dX9_goes_88 : decode cX9_goes 88 = .ok (.iinc 2 1, 3) := dk_132 2 1 (dk_at dksX9_goes_3 16 rfl rfl)
theorem dX9_goes_91 : decode cX9_goes 91 = .ok (.goto (-85), 3) := dk_167 255 171 (dk_at dksX9_goes_3 19 rfl rfl)
theorem dX9_goes_94 : decode cX9_goes 94 = .ok (.return_, 1) := dk_177 (dk_at dksX9_goes_3 22 rfl rfl)
abbrev cX9_begin : ByteArray := prog_28_method_54_code
def yX9_begin : MethodName := ⟨RX9, "begin", "()V"⟩
def dkwX9_begin_4 : List UInt8 := [132, 1, 1, 167, 255, 240, 42, 9, 181, 1, 117, 42, 9, 181, 1, 121, 177]
abbrev dktX9_begin_4 : List UInt8 := dkwX9_begin_4 ++ []
def dkwX9_begin_3 : List UInt8 := [180, 0, 71, 3, 46, 20, 1, 115, 80, 3, 60, 27, 16, 6, 162, 0, 16, 42, 180, 0, 84, 27, 9, 80]
abbrev dktX9_begin_3 : List UInt8 := dkwX9_begin_3 ++ dktX9_begin_4
def dkwX9_begin_2 : List UInt8 := [180, 0, 26, 5, 46, 42, 180, 0, 26, 6, 46, 3, 3, 184, 1, 111, 79, 42, 180, 0, 77, 42]
abbrev dktX9_begin_2 : List UInt8 := dkwX9_begin_2 ++ dktX9_begin_3
def dkwX9_begin_1 : List UInt8 := [132, 1, 1, 167, 255, 233, 42, 4, 181, 1, 108, 42, 180, 0, 71, 3, 42, 180, 0, 26, 4, 46, 42]
abbrev dktX9_begin_1 : List UInt8 := dkwX9_begin_1 ++ dktX9_begin_2
def dkwX9_begin_0 : List UInt8 := [3, 60, 27, 42, 180, 1, 108, 162, 0, 21, 42, 180, 0, 77, 42, 180, 0, 71, 27, 46, 9, 80]
abbrev dktX9_begin_0 : List UInt8 := dkwX9_begin_0 ++ dktX9_begin_1
theorem dksX9_begin_0 : cX9_begin.data.toList.drop 0 = dktX9_begin_0 := by decide +kernel
theorem dksX9_begin_1 : cX9_begin.data.toList.drop 22 = dktX9_begin_1 := dk_seg dksX9_begin_0 22 rfl rfl
theorem dksX9_begin_2 : cX9_begin.data.toList.drop 45 = dktX9_begin_2 := dk_seg dksX9_begin_1 23 rfl rfl
theorem dksX9_begin_3 : cX9_begin.data.toList.drop 67 = dktX9_begin_3 := dk_seg dksX9_begin_2 22 rfl rfl
theorem dksX9_begin_4 : cX9_begin.data.toList.drop 91 = dktX9_begin_4 := dk_seg dksX9_begin_3 24 rfl rfl
theorem dX9_begin_0 : decode cX9_begin 0 = .ok (.iconst 0, 1) := dk_3 (dk_at dksX9_begin_0 0 rfl rfl)
theorem dX9_begin_1 : decode cX9_begin 1 = .ok (.istore_n 1, 1) := dk_60 (dk_at dksX9_begin_0 1 rfl rfl)
theorem dX9_begin_2 : decode cX9_begin 2 = .ok (.iload_n 1, 1) := dk_27 (dk_at dksX9_begin_0 2 rfl rfl)
theorem dX9_begin_3 : decode cX9_begin 3 = .ok (.aload_n 0, 1) := dk_42 (dk_at dksX9_begin_0 3 rfl rfl)
theorem dX9_begin_4 : decode cX9_begin 4 = .ok (.getfield 364, 3) := dk_180 1 108 (dk_at dksX9_begin_0 4 rfl rfl)
theorem dX9_begin_7 : decode cX9_begin 7 = .ok (.if_icmp .ge 21, 3) := dk_162 0 21 (dk_at dksX9_begin_0 7 rfl rfl)
theorem dX9_begin_10 : decode cX9_begin 10 = .ok (.aload_n 0, 1) := dk_42 (dk_at dksX9_begin_0 10 rfl rfl)
theorem dX9_begin_11 : decode cX9_begin 11 = .ok (.getfield 77, 3) := dk_180 0 77 (dk_at dksX9_begin_0 11 rfl rfl)
theorem dX9_begin_14 : decode cX9_begin 14 = .ok (.aload_n 0, 1) := dk_42 (dk_at dksX9_begin_0 14 rfl rfl)
theorem dX9_begin_15 : decode cX9_begin 15 = .ok (.getfield 71, 3) := dk_180 0 71 (dk_at dksX9_begin_0 15 rfl rfl)
theorem dX9_begin_18 : decode cX9_begin 18 = .ok (.iload_n 1, 1) := dk_27 (dk_at dksX9_begin_0 18 rfl rfl)
theorem dX9_begin_19 : decode cX9_begin 19 = .ok (.iaload, 1) := dk_46 (dk_at dksX9_begin_0 19 rfl rfl)
theorem dX9_begin_20 : decode cX9_begin 20 = .ok (.lconst 0, 1) := dk_9 (dk_at dksX9_begin_0 20 rfl rfl)
theorem dX9_begin_21 : decode cX9_begin 21 = .ok (.lastore, 1) := dk_80 (dk_at dksX9_begin_0 21 rfl rfl)
theorem dX9_begin_22 : decode cX9_begin 22 = .ok (.iinc 1 1, 3) := dk_132 1 1 (dk_at dksX9_begin_1 0 rfl rfl)
theorem dX9_begin_25 : decode cX9_begin 25 = .ok (.goto (-23), 3) := dk_167 255 233 (dk_at dksX9_begin_1 3 rfl rfl)
theorem dX9_begin_28 : decode cX9_begin 28 = .ok (.aload_n 0, 1) := dk_42 (dk_at dksX9_begin_1 6 rfl rfl)
theorem dX9_begin_29 : decode cX9_begin 29 = .ok (.iconst 1, 1) := dk_4 (dk_at dksX9_begin_1 7 rfl rfl)
theorem dX9_begin_30 : decode cX9_begin 30 = .ok (.putfield 364, 3) := dk_181 1 108 (dk_at dksX9_begin_1 8 rfl rfl)
theorem dX9_begin_33 : decode cX9_begin 33 = .ok (.aload_n 0, 1) := dk_42 (dk_at dksX9_begin_1 11 rfl rfl)
theorem dX9_begin_34 : decode cX9_begin 34 = .ok (.getfield 71, 3) := dk_180 0 71 (dk_at dksX9_begin_1 12 rfl rfl)
theorem dX9_begin_37 : decode cX9_begin 37 = .ok (.iconst 0, 1) := dk_3 (dk_at dksX9_begin_1 15 rfl rfl)
theorem dX9_begin_38 : decode cX9_begin 38 = .ok (.aload_n 0, 1) := dk_42 (dk_at dksX9_begin_1 16 rfl rfl)
theorem dX9_begin_39 : decode cX9_begin 39 = .ok (.getfield 26, 3) := dk_180 0 26 (dk_at dksX9_begin_1 17 rfl rfl)
theorem dX9_begin_42 : decode cX9_begin 42 = .ok (.iconst 1, 1) := dk_4 (dk_at dksX9_begin_1 20 rfl rfl)
theorem dX9_begin_43 : decode cX9_begin 43 = .ok (.iaload, 1) := dk_46 (dk_at dksX9_begin_1 21 rfl rfl)
theorem dX9_begin_44 : decode cX9_begin 44 = .ok (.aload_n 0, 1) := dk_42 (dk_at dksX9_begin_1 22 rfl rfl)
theorem dX9_begin_45 : decode cX9_begin 45 = .ok (.getfield 26, 3) := dk_180 0 26 (dk_at dksX9_begin_2 0 rfl rfl)
theorem dX9_begin_48 : decode cX9_begin 48 = .ok (.iconst 2, 1) := dk_5 (dk_at dksX9_begin_2 3 rfl rfl)
theorem dX9_begin_49 : decode cX9_begin 49 = .ok (.iaload, 1) := dk_46 (dk_at dksX9_begin_2 4 rfl rfl)
theorem dX9_begin_50 : decode cX9_begin 50 = .ok (.aload_n 0, 1) := dk_42 (dk_at dksX9_begin_2 5 rfl rfl)
theorem dX9_begin_51 : decode cX9_begin 51 = .ok (.getfield 26, 3) := dk_180 0 26 (dk_at dksX9_begin_2 6 rfl rfl)
theorem dX9_begin_54 : decode cX9_begin 54 = .ok (.iconst 3, 1) := dk_6 (dk_at dksX9_begin_2 9 rfl rfl)
theorem dX9_begin_55 : decode cX9_begin 55 = .ok (.iaload, 1) := dk_46 (dk_at dksX9_begin_2 10 rfl rfl)
theorem dX9_begin_56 : decode cX9_begin 56 = .ok (.iconst 0, 1) := dk_3 (dk_at dksX9_begin_2 11 rfl rfl)
theorem dX9_begin_57 : decode cX9_begin 57 = .ok (.iconst 0, 1) := dk_3 (dk_at dksX9_begin_2 12 rfl rfl)
theorem dX9_begin_58 : decode cX9_begin 58 = .ok (.invokestatic 367, 3) := dk_184 1 111 (dk_at dksX9_begin_2 13 rfl rfl)
theorem dX9_begin_61 : decode cX9_begin 61 = .ok (.iastore, 1) := dk_79 (dk_at dksX9_begin_2 16 rfl rfl)
theorem dX9_begin_62 : decode cX9_begin 62 = .ok (.aload_n 0, 1) := dk_42 (dk_at dksX9_begin_2 17 rfl rfl)
theorem dX9_begin_63 : decode cX9_begin 63 = .ok (.getfield 77, 3) := dk_180 0 77 (dk_at dksX9_begin_2 18 rfl rfl)
theorem dX9_begin_66 : decode cX9_begin 66 = .ok (.aload_n 0, 1) := dk_42 (dk_at dksX9_begin_2 21 rfl rfl)
theorem dX9_begin_67 : decode cX9_begin 67 = .ok (.getfield 71, 3) := dk_180 0 71 (dk_at dksX9_begin_3 0 rfl rfl)
theorem dX9_begin_70 : decode cX9_begin 70 = .ok (.iconst 0, 1) := dk_3 (dk_at dksX9_begin_3 3 rfl rfl)
theorem dX9_begin_71 : decode cX9_begin 71 = .ok (.iaload, 1) := dk_46 (dk_at dksX9_begin_3 4 rfl rfl)
theorem dX9_begin_72 : decode cX9_begin 72 = .ok (.ldc2_w 371, 3) := dk_20 1 115 (dk_at dksX9_begin_3 5 rfl rfl)
theorem dX9_begin_75 : decode cX9_begin 75 = .ok (.lastore, 1) := dk_80 (dk_at dksX9_begin_3 8 rfl rfl)
theorem dX9_begin_76 : decode cX9_begin 76 = .ok (.iconst 0, 1) := dk_3 (dk_at dksX9_begin_3 9 rfl rfl)
theorem dX9_begin_77 : decode cX9_begin 77 = .ok (.istore_n 1, 1) := dk_60 (dk_at dksX9_begin_3 10 rfl rfl)
theorem dX9_begin_78 : decode cX9_begin 78 = .ok (.iload_n 1, 1) := dk_27 (dk_at dksX9_begin_3 11 rfl rfl)
theorem dX9_begin_79 : decode cX9_begin 79 = .ok (.bipush 6, 2) := dk_16 6 (dk_at dksX9_begin_3 12 rfl rfl)
theorem dX9_begin_81 : decode cX9_begin 81 = .ok (.if_icmp .ge 16, 3) := dk_162 0 16 (dk_at dksX9_begin_3 14 rfl rfl)
theorem dX9_begin_84 : decode cX9_begin 84 = .ok (.aload_n 0, 1) := dk_42 (dk_at dksX9_begin_3 17 rfl rfl)
theorem dX9_begin_85 : decode cX9_begin 85 = .ok (.getfield 84, 3) := dk_180 0 84 (dk_at dksX9_begin_3 18 rfl rfl)
theorem dX9_begin_88 : decode cX9_begin 88 = .ok (.iload_n 1, 1) := dk_27 (dk_at dksX9_begin_3 21 rfl rfl)
theorem dX9_begin_89 : decode cX9_begin 89 = .ok (.lconst 0, 1) := dk_9 (dk_at dksX9_begin_3 22 rfl rfl)
theorem dX9_begin_90 : decode cX9_begin 90 = .ok (.lastore, 1) := dk_80 (dk_at dksX9_begin_3 23 rfl rfl)
theorem dX9_begin_91 : decode cX9_begin 91 = .ok (.iinc 1 1, 3) := dk_132 1 1 (dk_at dksX9_begin_4 0 rfl rfl)
theorem dX9_begin_94 : decode cX9_begin 94 = .ok (.goto (-16), 3) := dk_167 255 240 (dk_at dksX9_begin_4 3 rfl rfl)
theorem dX9_begin_97 : decode cX9_begin 97 = .ok (.aload_n 0, 1) := dk_42 (dk_at dksX9_begin_4 6 rfl rfl)
theorem dX9_begin_98 : decode cX9_begin 98 = .ok (.lconst 0, 1) := dk_9 (dk_at dksX9_begin_4 7 rfl rfl)
theorem dX9_begin_99 : decode cX9_begin 99 = .ok (.putfield 373, 3) := dk_181 1 117 (dk_at dksX9_begin_4 8 rfl rfl)
theorem dX9_begin_102 : decode cX9_begin 102 = .ok (.aload_n 0, 1) := dk_42 (dk_at dksX9_begin_4 11 rfl rfl)
theorem dX9_begin_103 : decode cX9_begin 103 = .ok (.lconst 0, 1) := dk_9 (dk_at dksX9_begin_4 12 rfl rfl)
theorem dX9_begin_104 : decode cX9_begin 104 = .ok (.putfield 377, 3) := dk_181 1 121 (dk_at dksX9_begin_4 13 rfl rfl)
theorem dX9_begin_107 : decode cX9_begin 107 = .ok (.return_, 1) := dk_177 (dk_at dksX9_begin_4 16 rfl rfl)
abbrev cX9_index : ByteArray := prog_28_method_53_code
def yX9_index : MethodName := ⟨RX9, "index", "(IIIII)I"⟩
def dkwX9_index_0 : List UInt8 := [26, 16, 13, 104, 27, 96, 5, 104, 28, 96, 16, 25, 104, 29, 96, 5, 104, 21, 4, 96, 172]
abbrev dktX9_index_0 : List UInt8 := dkwX9_index_0 ++ []
theorem dksX9_index_0 : cX9_index.data.toList.drop 0 = dktX9_index_0 := by decide +kernel
theorem dX9_index_0 : decode cX9_index 0 = .ok (.iload_n 0, 1) := dk_26 (dk_at dksX9_index_0 0 rfl rfl)
theorem dX9_index_1 : decode cX9_index 1 = .ok (.bipush 13, 2) := dk_16 13 (dk_at dksX9_index_0 1 rfl rfl)
theorem dX9_index_3 : decode cX9_index 3 = .ok (.imul, 1) := dk_104 (dk_at dksX9_index_0 3 rfl rfl)
theorem dX9_index_4 : decode cX9_index 4 = .ok (.iload_n 1, 1) := dk_27 (dk_at dksX9_index_0 4 rfl rfl)
theorem dX9_index_5 : decode cX9_index 5 = .ok (.iadd, 1) := dk_96 (dk_at dksX9_index_0 5 rfl rfl)
theorem dX9_index_6 : decode cX9_index 6 = .ok (.iconst 2, 1) := dk_5 (dk_at dksX9_index_0 6 rfl rfl)
theorem dX9_index_7 : decode cX9_index 7 = .ok (.imul, 1) := dk_104 (dk_at dksX9_index_0 7 rfl rfl)
theorem dX9_index_8 : decode cX9_index 8 = .ok (.iload_n 2, 1) := dk_28 (dk_at dksX9_index_0 8 rfl rfl)
theorem dX9_index_9 : decode cX9_index 9 = .ok (.iadd, 1) := dk_96 (dk_at dksX9_index_0 9 rfl rfl)
theorem dX9_index_10 : decode cX9_index 10 = .ok (.bipush 25, 2) := dk_16 25 (dk_at dksX9_index_0 10 rfl rfl)
theorem dX9_index_12 : decode cX9_index 12 = .ok (.imul, 1) := dk_104 (dk_at dksX9_index_0 12 rfl rfl)
theorem dX9_index_13 : decode cX9_index 13 = .ok (.iload_n 3, 1) := dk_29 (dk_at dksX9_index_0 13 rfl rfl)
theorem dX9_index_14 : decode cX9_index 14 = .ok (.iadd, 1) := dk_96 (dk_at dksX9_index_0 14 rfl rfl)
theorem dX9_index_15 : decode cX9_index 15 = .ok (.iconst 2, 1) := dk_5 (dk_at dksX9_index_0 15 rfl rfl)
theorem dX9_index_16 : decode cX9_index 16 = .ok (.imul, 1) := dk_104 (dk_at dksX9_index_0 16 rfl rfl)
theorem dX9_index_17 : decode cX9_index 17 = .ok (.iload 4, 2) := dk_21 4 (dk_at dksX9_index_0 17 rfl rfl)
theorem dX9_index_19 : decode cX9_index 19 = .ok (.iadd, 1) := dk_96 (dk_at dksX9_index_0 19 rfl rfl)
theorem dX9_index_20 : decode cX9_index 20 = .ok (.ireturn, 1) := dk_172 (dk_at dksX9_index_0 20 rfl rfl)
abbrev cX9_comes : ByteArray := prog_28_method_71_code
def yX9_comes : MethodName := ⟨RX9, "comes", "(I)V"⟩
def dkwX9_comes_2 : List UInt8 := [42, 27, 182, 1, 77, 79, 177]
abbrev dktX9_comes_2 : List UInt8 := dkwX9_comes_2 ++ []
def dkwX9_comes_1 : List UInt8 := [180, 0, 38, 27, 46, 79, 42, 180, 0, 90, 16, 6, 42, 27, 182, 1, 80, 79, 42, 180, 0, 90, 16, 7]
abbrev dktX9_comes_1 : List UInt8 := dkwX9_comes_1 ++ dktX9_comes_2
def dkwX9_comes_0 : List UInt8 := [42, 182, 1, 178, 42, 180, 1, 105, 153, 0, 8, 42, 27, 182, 1, 181, 42, 180, 0, 90, 7, 42]
abbrev dktX9_comes_0 : List UInt8 := dkwX9_comes_0 ++ dktX9_comes_1
theorem dksX9_comes_0 : cX9_comes.data.toList.drop 0 = dktX9_comes_0 := by decide +kernel
theorem dksX9_comes_1 : cX9_comes.data.toList.drop 22 = dktX9_comes_1 := dk_seg dksX9_comes_0 22 rfl rfl
theorem dksX9_comes_2 : cX9_comes.data.toList.drop 46 = dktX9_comes_2 := dk_seg dksX9_comes_1 24 rfl rfl
theorem dX9_comes_0 : decode cX9_comes 0 = .ok (.aload_n 0, 1) := dk_42 (dk_at dksX9_comes_0 0 rfl rfl)
theorem dX9_comes_1 : decode cX9_comes 1 = .ok (.invokevirtual 434, 3) := dk_182 1 178 (dk_at dksX9_comes_0 1 rfl rfl)
theorem dX9_comes_4 : decode cX9_comes 4 = .ok (.aload_n 0, 1) := dk_42 (dk_at dksX9_comes_0 4 rfl rfl)
theorem dX9_comes_5 : decode cX9_comes 5 = .ok (.getfield 361, 3) := dk_180 1 105 (dk_at dksX9_comes_0 5 rfl rfl)
theorem dX9_comes_8 : decode cX9_comes 8 = .ok (.ifCond .eq 8, 3) := dk_153 0 8 (dk_at dksX9_comes_0 8 rfl rfl)
theorem dX9_comes_11 : decode cX9_comes 11 = .ok (.aload_n 0, 1) := dk_42 (dk_at dksX9_comes_0 11 rfl rfl)
theorem dX9_comes_12 : decode cX9_comes 12 = .ok (.iload_n 1, 1) := dk_27 (dk_at dksX9_comes_0 12 rfl rfl)
theorem dX9_comes_13 : decode cX9_comes 13 = .ok (.invokevirtual 437, 3) := dk_182 1 181 (dk_at dksX9_comes_0 13 rfl rfl)
theorem dX9_comes_16 : decode cX9_comes 16 = .ok (.aload_n 0, 1) := dk_42 (dk_at dksX9_comes_0 16 rfl rfl)
theorem dX9_comes_17 : decode cX9_comes 17 = .ok (.getfield 90, 3) := dk_180 0 90 (dk_at dksX9_comes_0 17 rfl rfl)
theorem dX9_comes_20 : decode cX9_comes 20 = .ok (.iconst 4, 1) := dk_7 (dk_at dksX9_comes_0 20 rfl rfl)
theorem dX9_comes_21 : decode cX9_comes 21 = .ok (.aload_n 0, 1) := dk_42 (dk_at dksX9_comes_0 21 rfl rfl)
theorem dX9_comes_22 : decode cX9_comes 22 = .ok (.getfield 38, 3) := dk_180 0 38 (dk_at dksX9_comes_1 0 rfl rfl)
theorem dX9_comes_25 : decode cX9_comes 25 = .ok (.iload_n 1, 1) := dk_27 (dk_at dksX9_comes_1 3 rfl rfl)
theorem dX9_comes_26 : decode cX9_comes 26 = .ok (.iaload, 1) := dk_46 (dk_at dksX9_comes_1 4 rfl rfl)
theorem dX9_comes_27 : decode cX9_comes 27 = .ok (.iastore, 1) := dk_79 (dk_at dksX9_comes_1 5 rfl rfl)
theorem dX9_comes_28 : decode cX9_comes 28 = .ok (.aload_n 0, 1) := dk_42 (dk_at dksX9_comes_1 6 rfl rfl)
theorem dX9_comes_29 : decode cX9_comes 29 = .ok (.getfield 90, 3) := dk_180 0 90 (dk_at dksX9_comes_1 7 rfl rfl)
theorem dX9_comes_32 : decode cX9_comes 32 = .ok (.bipush 6, 2) := dk_16 6 (dk_at dksX9_comes_1 10 rfl rfl)
theorem dX9_comes_34 : decode cX9_comes 34 = .ok (.aload_n 0, 1) := dk_42 (dk_at dksX9_comes_1 12 rfl rfl)
theorem dX9_comes_35 : decode cX9_comes 35 = .ok (.iload_n 1, 1) := dk_27 (dk_at dksX9_comes_1 13 rfl rfl)
theorem dX9_comes_36 : decode cX9_comes 36 = .ok (.invokevirtual 336, 3) := dk_182 1 80 (dk_at dksX9_comes_1 14 rfl rfl)
theorem dX9_comes_39 : decode cX9_comes 39 = .ok (.iastore, 1) := dk_79 (dk_at dksX9_comes_1 17 rfl rfl)
theorem dX9_comes_40 : decode cX9_comes 40 = .ok (.aload_n 0, 1) := dk_42 (dk_at dksX9_comes_1 18 rfl rfl)
theorem dX9_comes_41 : decode cX9_comes 41 = .ok (.getfield 90, 3) := dk_180 0 90 (dk_at dksX9_comes_1 19 rfl rfl)
theorem dX9_comes_44 : decode cX9_comes 44 = .ok (.bipush 7, 2) := dk_16 7 (dk_at dksX9_comes_1 22 rfl rfl)
theorem dX9_comes_46 : decode cX9_comes 46 = .ok (.aload_n 0, 1) := dk_42 (dk_at dksX9_comes_2 0 rfl rfl)
theorem dX9_comes_47 : decode cX9_comes 47 = .ok (.iload_n 1, 1) := dk_27 (dk_at dksX9_comes_2 1 rfl rfl)
theorem dX9_comes_48 : decode cX9_comes 48 = .ok (.invokevirtual 333, 3) := dk_182 1 77 (dk_at dksX9_comes_2 2 rfl rfl)
theorem dX9_comes_51 : decode cX9_comes 51 = .ok (.iastore, 1) := dk_79 (dk_at dksX9_comes_2 5 rfl rfl)
theorem dX9_comes_52 : decode cX9_comes 52 = .ok (.return_, 1) := dk_177 (dk_at dksX9_comes_2 6 rfl rfl)
abbrev cX9_falls : ByteArray := prog_28_method_58_code
def yX9_falls : MethodName := ⟨RX9, "falls", "()V"⟩
def dkwX9_falls_3 : List UInt8 := [42, 180, 1, 127, 184, 1, 111, 33, 182, 1, 144, 132, 1, 1, 167, 255, 173, 42, 182, 1, 148, 177]
abbrev dktX9_falls_3 : List UInt8 := dkwX9_falls_3 ++ []
def dkwX9_falls_2 : List UInt8 := [33, 101, 182, 1, 144, 42, 42, 180, 1, 136, 42, 180, 1, 133, 4, 42, 180, 1, 131, 100, 42, 180, 1, 129]
abbrev dktX9_falls_2 : List UInt8 := dkwX9_falls_2 ++ dktX9_falls_3
def dkwX9_falls_1 : List UInt8 := [180, 0, 77, 28, 47, 42, 180, 1, 83, 133, 105, 20, 1, 142, 109, 66, 42, 28, 42, 180, 0, 77, 28, 47]
abbrev dktX9_falls_1 : List UInt8 := dkwX9_falls_1 ++ dktX9_falls_2
def dkwX9_falls_0 : List UInt8 := [3, 60, 27, 42, 180, 1, 108, 162, 0, 81, 42, 180, 0, 71, 27, 46, 61, 42, 28, 182, 1, 139, 42]
abbrev dktX9_falls_0 : List UInt8 := dkwX9_falls_0 ++ dktX9_falls_1
theorem dksX9_falls_0 : cX9_falls.data.toList.drop 0 = dktX9_falls_0 := by decide +kernel
theorem dksX9_falls_1 : cX9_falls.data.toList.drop 23 = dktX9_falls_1 := dk_seg dksX9_falls_0 23 rfl rfl
theorem dksX9_falls_2 : cX9_falls.data.toList.drop 47 = dktX9_falls_2 := dk_seg dksX9_falls_1 24 rfl rfl
theorem dksX9_falls_3 : cX9_falls.data.toList.drop 71 = dktX9_falls_3 := dk_seg dksX9_falls_2 24 rfl rfl
theorem dX9_falls_0 : decode cX9_falls 0 = .ok (.iconst 0, 1) := dk_3 (dk_at dksX9_falls_0 0 rfl rfl)
theorem dX9_falls_1 : decode cX9_falls 1 = .ok (.istore_n 1, 1) := dk_60 (dk_at dksX9_falls_0 1 rfl rfl)
theorem dX9_falls_2 : decode cX9_falls 2 = .ok (.iload_n 1, 1) := dk_27 (dk_at dksX9_falls_0 2 rfl rfl)
theorem dX9_falls_3 : decode cX9_falls 3 = .ok (.aload_n 0, 1) := dk_42 (dk_at dksX9_falls_0 3 rfl rfl)
theorem dX9_falls_4 : decode cX9_falls 4 = .ok (.getfield 364, 3) := dk_180 1 108 (dk_at dksX9_falls_0 4 rfl rfl)
theorem dX9_falls_7 : decode cX9_falls 7 = .ok (.if_icmp .ge 81, 3) := dk_162 0 81 (dk_at dksX9_falls_0 7 rfl rfl)
theorem dX9_falls_10 : decode cX9_falls 10 = .ok (.aload_n 0, 1) := dk_42 (dk_at dksX9_falls_0 10 rfl rfl)
theorem dX9_falls_11 : decode cX9_falls 11 = .ok (.getfield 71, 3) := dk_180 0 71 (dk_at dksX9_falls_0 11 rfl rfl)
theorem dX9_falls_14 : decode cX9_falls 14 = .ok (.iload_n 1, 1) := dk_27 (dk_at dksX9_falls_0 14 rfl rfl)
theorem dX9_falls_15 : decode cX9_falls 15 = .ok (.iaload, 1) := dk_46 (dk_at dksX9_falls_0 15 rfl rfl)
theorem dX9_falls_16 : decode cX9_falls 16 = .ok (.istore_n 2, 1) := dk_61 (dk_at dksX9_falls_0 16 rfl rfl)
theorem dX9_falls_17 : decode cX9_falls 17 = .ok (.aload_n 0, 1) := dk_42 (dk_at dksX9_falls_0 17 rfl rfl)
theorem dX9_falls_18 : decode cX9_falls 18 = .ok (.iload_n 2, 1) := dk_28 (dk_at dksX9_falls_0 18 rfl rfl)
theorem dX9_falls_19 : decode cX9_falls 19 = .ok (.invokevirtual 395, 3) := dk_182 1 139 (dk_at dksX9_falls_0 19 rfl rfl)
theorem dX9_falls_22 : decode cX9_falls 22 = .ok (.aload_n 0, 1) := dk_42 (dk_at dksX9_falls_0 22 rfl rfl)
theorem dX9_falls_23 : decode cX9_falls 23 = .ok (.getfield 77, 3) := dk_180 0 77 (dk_at dksX9_falls_1 0 rfl rfl)
theorem dX9_falls_26 : decode cX9_falls 26 = .ok (.iload_n 2, 1) := dk_28 (dk_at dksX9_falls_1 3 rfl rfl)
theorem dX9_falls_27 : decode cX9_falls 27 = .ok (.laload, 1) := dk_47 (dk_at dksX9_falls_1 4 rfl rfl)
theorem dX9_falls_28 : decode cX9_falls 28 = .ok (.aload_n 0, 1) := dk_42 (dk_at dksX9_falls_1 5 rfl rfl)
theorem dX9_falls_29 : decode cX9_falls 29 = .ok (.getfield 339, 3) := dk_180 1 83 (dk_at dksX9_falls_1 6 rfl rfl)
theorem dX9_falls_32 : decode cX9_falls 32 = .ok (.i2l, 1) := dk_133 (dk_at dksX9_falls_1 9 rfl rfl)
theorem dX9_falls_33 : decode cX9_falls 33 = .ok (.lmul, 1) := dk_105 (dk_at dksX9_falls_1 10 rfl rfl)
theorem dX9_falls_34 : decode cX9_falls 34 = .ok (.ldc2_w 398, 3) := dk_20 1 142 (dk_at dksX9_falls_1 11 rfl rfl)
theorem dX9_falls_37 : decode cX9_falls 37 = .ok (.ldiv, 1) := dk_109 (dk_at dksX9_falls_1 14 rfl rfl)
theorem dX9_falls_38 : decode cX9_falls 38 = .ok (.lstore_n 3, 1) := dk_66 (dk_at dksX9_falls_1 15 rfl rfl)
theorem dX9_falls_39 : decode cX9_falls 39 = .ok (.aload_n 0, 1) := dk_42 (dk_at dksX9_falls_1 16 rfl rfl)
theorem dX9_falls_40 : decode cX9_falls 40 = .ok (.iload_n 2, 1) := dk_28 (dk_at dksX9_falls_1 17 rfl rfl)
theorem dX9_falls_41 : decode cX9_falls 41 = .ok (.aload_n 0, 1) := dk_42 (dk_at dksX9_falls_1 18 rfl rfl)
theorem dX9_falls_42 : decode cX9_falls 42 = .ok (.getfield 77, 3) := dk_180 0 77 (dk_at dksX9_falls_1 19 rfl rfl)
theorem dX9_falls_45 : decode cX9_falls 45 = .ok (.iload_n 2, 1) := dk_28 (dk_at dksX9_falls_1 22 rfl rfl)
theorem dX9_falls_46 : decode cX9_falls 46 = .ok (.laload, 1) := dk_47 (dk_at dksX9_falls_1 23 rfl rfl)
theorem dX9_falls_47 : decode cX9_falls 47 = .ok (.lload_n 3, 1) := dk_33 (dk_at dksX9_falls_2 0 rfl rfl)
theorem dX9_falls_48 : decode cX9_falls 48 = .ok (.lsub, 1) := dk_101 (dk_at dksX9_falls_2 1 rfl rfl)
theorem dX9_falls_49 : decode cX9_falls 49 = .ok (.invokevirtual 400, 3) := dk_182 1 144 (dk_at dksX9_falls_2 2 rfl rfl)
theorem dX9_falls_52 : decode cX9_falls 52 = .ok (.aload_n 0, 1) := dk_42 (dk_at dksX9_falls_2 5 rfl rfl)
theorem dX9_falls_53 : decode cX9_falls 53 = .ok (.aload_n 0, 1) := dk_42 (dk_at dksX9_falls_2 6 rfl rfl)
theorem dX9_falls_54 : decode cX9_falls 54 = .ok (.getfield 392, 3) := dk_180 1 136 (dk_at dksX9_falls_2 7 rfl rfl)
theorem dX9_falls_57 : decode cX9_falls 57 = .ok (.aload_n 0, 1) := dk_42 (dk_at dksX9_falls_2 10 rfl rfl)
theorem dX9_falls_58 : decode cX9_falls 58 = .ok (.getfield 389, 3) := dk_180 1 133 (dk_at dksX9_falls_2 11 rfl rfl)
theorem dX9_falls_61 : decode cX9_falls 61 = .ok (.iconst 1, 1) := dk_4 (dk_at dksX9_falls_2 14 rfl rfl)
theorem dX9_falls_62 : decode cX9_falls 62 = .ok (.aload_n 0, 1) := dk_42 (dk_at dksX9_falls_2 15 rfl rfl)
theorem dX9_falls_63 : decode cX9_falls 63 = .ok (.getfield 387, 3) := dk_180 1 131 (dk_at dksX9_falls_2 16 rfl rfl)
theorem dX9_falls_66 : decode cX9_falls 66 = .ok (.isub, 1) := dk_100 (dk_at dksX9_falls_2 19 rfl rfl)
theorem dX9_falls_67 : decode cX9_falls 67 = .ok (.aload_n 0, 1) := dk_42 (dk_at dksX9_falls_2 20 rfl rfl)
theorem dX9_falls_68 : decode cX9_falls 68 = .ok (.getfield 385, 3) := dk_180 1 129 (dk_at dksX9_falls_2 21 rfl rfl)
theorem dX9_falls_71 : decode cX9_falls 71 = .ok (.aload_n 0, 1) := dk_42 (dk_at dksX9_falls_3 0 rfl rfl)
theorem dX9_falls_72 : decode cX9_falls 72 = .ok (.getfield 383, 3) := dk_180 1 127 (dk_at dksX9_falls_3 1 rfl rfl)
theorem dX9_falls_75 : decode cX9_falls 75 = .ok (.invokestatic 367, 3) := dk_184 1 111 (dk_at dksX9_falls_3 4 rfl rfl)
theorem dX9_falls_78 : decode cX9_falls 78 = .ok (.lload_n 3, 1) := dk_33 (dk_at dksX9_falls_3 7 rfl rfl)
theorem dX9_falls_79 : decode cX9_falls 79 = .ok (.invokevirtual 400, 3) := dk_182 1 144 (dk_at dksX9_falls_3 8 rfl rfl)
theorem dX9_falls_82 : decode cX9_falls 82 = .ok (.iinc 1 1, 3) := dk_132 1 1 (dk_at dksX9_falls_3 11 rfl rfl)
theorem dX9_falls_85 : decode cX9_falls 85 = .ok (.goto (-83), 3) := dk_167 255 173 (dk_at dksX9_falls_3 14 rfl rfl)
theorem dX9_falls_88 : decode cX9_falls 88 = .ok (.aload_n 0, 1) := dk_42 (dk_at dksX9_falls_3 17 rfl rfl)
theorem dX9_falls_89 : decode cX9_falls 89 = .ok (.invokevirtual 404, 3) := dk_182 1 148 (dk_at dksX9_falls_3 18 rfl rfl)
theorem dX9_falls_92 : decode cX9_falls 92 = .ok (.return_, 1) := dk_177 (dk_at dksX9_falls_3 21 rfl rfl)
abbrev cX9_stateOf : ByteArray := prog_28_method_57_code
def yX9_stateOf : MethodName := ⟨RX9, "stateOf", "(I)V"⟩
def dkwX9_stateOf_1 : List UInt8 := [181, 1, 131, 42, 27, 16, 100, 108, 16, 13, 112, 181, 1, 133, 42, 27, 17, 5, 20, 108, 181, 1, 136, 177]
abbrev dktX9_stateOf_1 : List UInt8 := dkwX9_stateOf_1 ++ []
def dkwX9_stateOf_0 : List UInt8 := [42, 27, 5, 112, 181, 1, 127, 42, 27, 5, 108, 16, 25, 112, 181, 1, 129, 42, 27, 16, 50, 108, 5, 112]
abbrev dktX9_stateOf_0 : List UInt8 := dkwX9_stateOf_0 ++ dktX9_stateOf_1
theorem dksX9_stateOf_0 : cX9_stateOf.data.toList.drop 0 = dktX9_stateOf_0 := by decide +kernel
theorem dksX9_stateOf_1 : cX9_stateOf.data.toList.drop 24 = dktX9_stateOf_1 := dk_seg dksX9_stateOf_0 24 rfl rfl
theorem dX9_stateOf_0 : decode cX9_stateOf 0 = .ok (.aload_n 0, 1) := dk_42 (dk_at dksX9_stateOf_0 0 rfl rfl)
theorem dX9_stateOf_1 : decode cX9_stateOf 1 = .ok (.iload_n 1, 1) := dk_27 (dk_at dksX9_stateOf_0 1 rfl rfl)
theorem dX9_stateOf_2 : decode cX9_stateOf 2 = .ok (.iconst 2, 1) := dk_5 (dk_at dksX9_stateOf_0 2 rfl rfl)
theorem dX9_stateOf_3 : decode cX9_stateOf 3 = .ok (.irem, 1) := dk_112 (dk_at dksX9_stateOf_0 3 rfl rfl)
theorem dX9_stateOf_4 : decode cX9_stateOf 4 = .ok (.putfield 383, 3) := dk_181 1 127 (dk_at dksX9_stateOf_0 4 rfl rfl)
theorem dX9_stateOf_7 : decode cX9_stateOf 7 = .ok (.aload_n 0, 1) := dk_42 (dk_at dksX9_stateOf_0 7 rfl rfl)
theorem dX9_stateOf_8 : decode cX9_stateOf 8 = .ok (.iload_n 1, 1) := dk_27 (dk_at dksX9_stateOf_0 8 rfl rfl)
theorem dX9_stateOf_9 : decode cX9_stateOf 9 = .ok (.iconst 2, 1) := dk_5 (dk_at dksX9_stateOf_0 9 rfl rfl)
theorem dX9_stateOf_10 : decode cX9_stateOf 10 = .ok (.idiv, 1) := dk_108 (dk_at dksX9_stateOf_0 10 rfl rfl)
theorem dX9_stateOf_11 : decode cX9_stateOf 11 = .ok (.bipush 25, 2) := dk_16 25 (dk_at dksX9_stateOf_0 11 rfl rfl)
theorem dX9_stateOf_13 : decode cX9_stateOf 13 = .ok (.irem, 1) := dk_112 (dk_at dksX9_stateOf_0 13 rfl rfl)
theorem dX9_stateOf_14 : decode cX9_stateOf 14 = .ok (.putfield 385, 3) := dk_181 1 129 (dk_at dksX9_stateOf_0 14 rfl rfl)
theorem dX9_stateOf_17 : decode cX9_stateOf 17 = .ok (.aload_n 0, 1) := dk_42 (dk_at dksX9_stateOf_0 17 rfl rfl)
theorem dX9_stateOf_18 : decode cX9_stateOf 18 = .ok (.iload_n 1, 1) := dk_27 (dk_at dksX9_stateOf_0 18 rfl rfl)
theorem dX9_stateOf_19 : decode cX9_stateOf 19 = .ok (.bipush 50, 2) := dk_16 50 (dk_at dksX9_stateOf_0 19 rfl rfl)
theorem dX9_stateOf_21 : decode cX9_stateOf 21 = .ok (.idiv, 1) := dk_108 (dk_at dksX9_stateOf_0 21 rfl rfl)
theorem dX9_stateOf_22 : decode cX9_stateOf 22 = .ok (.iconst 2, 1) := dk_5 (dk_at dksX9_stateOf_0 22 rfl rfl)
theorem dX9_stateOf_23 : decode cX9_stateOf 23 = .ok (.irem, 1) := dk_112 (dk_at dksX9_stateOf_0 23 rfl rfl)
theorem dX9_stateOf_24 : decode cX9_stateOf 24 = .ok (.putfield 387, 3) := dk_181 1 131 (dk_at dksX9_stateOf_1 0 rfl rfl)
theorem dX9_stateOf_27 : decode cX9_stateOf 27 = .ok (.aload_n 0, 1) := dk_42 (dk_at dksX9_stateOf_1 3 rfl rfl)
theorem dX9_stateOf_28 : decode cX9_stateOf 28 = .ok (.iload_n 1, 1) := dk_27 (dk_at dksX9_stateOf_1 4 rfl rfl)
theorem dX9_stateOf_29 : decode cX9_stateOf 29 = .ok (.bipush 100, 2) := dk_16 100 (dk_at dksX9_stateOf_1 5 rfl rfl)
theorem dX9_stateOf_31 : decode cX9_stateOf 31 = .ok (.idiv, 1) := dk_108 (dk_at dksX9_stateOf_1 7 rfl rfl)
theorem dX9_stateOf_32 : decode cX9_stateOf 32 = .ok (.bipush 13, 2) := dk_16 13 (dk_at dksX9_stateOf_1 8 rfl rfl)
theorem dX9_stateOf_34 : decode cX9_stateOf 34 = .ok (.irem, 1) := dk_112 (dk_at dksX9_stateOf_1 10 rfl rfl)
theorem dX9_stateOf_35 : decode cX9_stateOf 35 = .ok (.putfield 389, 3) := dk_181 1 133 (dk_at dksX9_stateOf_1 11 rfl rfl)
theorem dX9_stateOf_38 : decode cX9_stateOf 38 = .ok (.aload_n 0, 1) := dk_42 (dk_at dksX9_stateOf_1 14 rfl rfl)
theorem dX9_stateOf_39 : decode cX9_stateOf 39 = .ok (.iload_n 1, 1) := dk_27 (dk_at dksX9_stateOf_1 15 rfl rfl)
theorem dX9_stateOf_40 : decode cX9_stateOf 40 = .ok (.sipush 1300, 3) := dk_17 5 20 (dk_at dksX9_stateOf_1 16 rfl rfl)
theorem dX9_stateOf_43 : decode cX9_stateOf 43 = .ok (.idiv, 1) := dk_108 (dk_at dksX9_stateOf_1 19 rfl rfl)
theorem dX9_stateOf_44 : decode cX9_stateOf 44 = .ok (.putfield 392, 3) := dk_181 1 136 (dk_at dksX9_stateOf_1 20 rfl rfl)
theorem dX9_stateOf_47 : decode cX9_stateOf 47 = .ok (.return_, 1) := dk_177 (dk_at dksX9_stateOf_1 23 rfl rfl)
abbrev cX9_gives : ByteArray := prog_28_method_55_code
def yX9_gives : MethodName := ⟨RX9, "gives", "(IJ)V"⟩
def dkwX9_gives_2 : List UInt8 := [80, 177]
abbrev dktX9_gives_2 : List UInt8 := dkwX9_gives_2 ++ []
def dkwX9_gives_1 : List UInt8 := [180, 1, 124, 27, 79, 42, 89, 180, 1, 124, 4, 96, 181, 1, 124, 42, 180, 0, 81, 27, 92, 47, 32, 97]
abbrev dktX9_gives_1 : List UInt8 := dkwX9_gives_1 ++ dktX9_gives_2
def dkwX9_gives_0 : List UInt8 := [32, 9, 148, 154, 0, 4, 177, 42, 180, 0, 81, 27, 47, 9, 148, 154, 0, 23, 42, 180, 0, 74, 42]
abbrev dktX9_gives_0 : List UInt8 := dkwX9_gives_0 ++ dktX9_gives_1
theorem dksX9_gives_0 : cX9_gives.data.toList.drop 0 = dktX9_gives_0 := by decide +kernel
theorem dksX9_gives_1 : cX9_gives.data.toList.drop 23 = dktX9_gives_1 := dk_seg dksX9_gives_0 23 rfl rfl
theorem dksX9_gives_2 : cX9_gives.data.toList.drop 47 = dktX9_gives_2 := dk_seg dksX9_gives_1 24 rfl rfl
theorem dX9_gives_0 : decode cX9_gives 0 = .ok (.lload_n 2, 1) := dk_32 (dk_at dksX9_gives_0 0 rfl rfl)
theorem dX9_gives_1 : decode cX9_gives 1 = .ok (.lconst 0, 1) := dk_9 (dk_at dksX9_gives_0 1 rfl rfl)
theorem dX9_gives_2 : decode cX9_gives 2 = .ok (.lcmp, 1) := dk_148 (dk_at dksX9_gives_0 2 rfl rfl)
theorem dX9_gives_3 : decode cX9_gives 3 = .ok (.ifCond .ne 4, 3) := dk_154 0 4 (dk_at dksX9_gives_0 3 rfl rfl)
theorem dX9_gives_6 : decode cX9_gives 6 = .ok (.return_, 1) := dk_177 (dk_at dksX9_gives_0 6 rfl rfl)
theorem dX9_gives_7 : decode cX9_gives 7 = .ok (.aload_n 0, 1) := dk_42 (dk_at dksX9_gives_0 7 rfl rfl)
theorem dX9_gives_8 : decode cX9_gives 8 = .ok (.getfield 81, 3) := dk_180 0 81 (dk_at dksX9_gives_0 8 rfl rfl)
theorem dX9_gives_11 : decode cX9_gives 11 = .ok (.iload_n 1, 1) := dk_27 (dk_at dksX9_gives_0 11 rfl rfl)
theorem dX9_gives_12 : decode cX9_gives 12 = .ok (.laload, 1) := dk_47 (dk_at dksX9_gives_0 12 rfl rfl)
theorem dX9_gives_13 : decode cX9_gives 13 = .ok (.lconst 0, 1) := dk_9 (dk_at dksX9_gives_0 13 rfl rfl)
theorem dX9_gives_14 : decode cX9_gives 14 = .ok (.lcmp, 1) := dk_148 (dk_at dksX9_gives_0 14 rfl rfl)
theorem dX9_gives_15 : decode cX9_gives 15 = .ok (.ifCond .ne 23, 3) := dk_154 0 23 (dk_at dksX9_gives_0 15 rfl rfl)
theorem dX9_gives_18 : decode cX9_gives 18 = .ok (.aload_n 0, 1) := dk_42 (dk_at dksX9_gives_0 18 rfl rfl)
theorem dX9_gives_19 : decode cX9_gives 19 = .ok (.getfield 74, 3) := dk_180 0 74 (dk_at dksX9_gives_0 19 rfl rfl)
theorem dX9_gives_22 : decode cX9_gives 22 = .ok (.aload_n 0, 1) := dk_42 (dk_at dksX9_gives_0 22 rfl rfl)
theorem dX9_gives_23 : decode cX9_gives 23 = .ok (.getfield 380, 3) := dk_180 1 124 (dk_at dksX9_gives_1 0 rfl rfl)
theorem dX9_gives_26 : decode cX9_gives 26 = .ok (.iload_n 1, 1) := dk_27 (dk_at dksX9_gives_1 3 rfl rfl)
theorem dX9_gives_27 : decode cX9_gives 27 = .ok (.iastore, 1) := dk_79 (dk_at dksX9_gives_1 4 rfl rfl)
theorem dX9_gives_28 : decode cX9_gives 28 = .ok (.aload_n 0, 1) := dk_42 (dk_at dksX9_gives_1 5 rfl rfl)
theorem dX9_gives_29 : decode cX9_gives 29 = .ok (.dup, 1) := dk_89 (dk_at dksX9_gives_1 6 rfl rfl)
theorem dX9_gives_30 : decode cX9_gives 30 = .ok (.getfield 380, 3) := dk_180 1 124 (dk_at dksX9_gives_1 7 rfl rfl)
theorem dX9_gives_33 : decode cX9_gives 33 = .ok (.iconst 1, 1) := dk_4 (dk_at dksX9_gives_1 10 rfl rfl)
theorem dX9_gives_34 : decode cX9_gives 34 = .ok (.iadd, 1) := dk_96 (dk_at dksX9_gives_1 11 rfl rfl)
theorem dX9_gives_35 : decode cX9_gives 35 = .ok (.putfield 380, 3) := dk_181 1 124 (dk_at dksX9_gives_1 12 rfl rfl)
theorem dX9_gives_38 : decode cX9_gives 38 = .ok (.aload_n 0, 1) := dk_42 (dk_at dksX9_gives_1 15 rfl rfl)
theorem dX9_gives_39 : decode cX9_gives 39 = .ok (.getfield 81, 3) := dk_180 0 81 (dk_at dksX9_gives_1 16 rfl rfl)
theorem dX9_gives_42 : decode cX9_gives 42 = .ok (.iload_n 1, 1) := dk_27 (dk_at dksX9_gives_1 19 rfl rfl)
theorem dX9_gives_43 : decode cX9_gives 43 = .ok (.dup2, 1) := dk_92 (dk_at dksX9_gives_1 20 rfl rfl)
theorem dX9_gives_44 : decode cX9_gives 44 = .ok (.laload, 1) := dk_47 (dk_at dksX9_gives_1 21 rfl rfl)
theorem dX9_gives_45 : decode cX9_gives 45 = .ok (.lload_n 2, 1) := dk_32 (dk_at dksX9_gives_1 22 rfl rfl)
theorem dX9_gives_46 : decode cX9_gives 46 = .ok (.ladd, 1) := dk_97 (dk_at dksX9_gives_1 23 rfl rfl)
theorem dX9_gives_47 : decode cX9_gives 47 = .ok (.lastore, 1) := dk_80 (dk_at dksX9_gives_2 0 rfl rfl)
theorem dX9_gives_48 : decode cX9_gives 48 = .ok (.return_, 1) := dk_177 (dk_at dksX9_gives_2 1 rfl rfl)
abbrev cX9_takesNext : ByteArray := prog_28_method_56_code
def yX9_takesNext : MethodName := ⟨RX9, "takesNext", "()V"⟩
def dkwX9_takesNext_4 : List UInt8 := [180, 1, 124, 181, 1, 108, 42, 3, 181, 1, 124, 177]
abbrev dktX9_takesNext_4 : List UInt8 := dkwX9_takesNext_4 ++ []
def dkwX9_takesNext_3 : List UInt8 := [27, 46, 47, 80, 42, 180, 0, 81, 42, 180, 0, 71, 27, 46, 9, 80, 132, 1, 1, 167, 255, 199, 42, 42]
abbrev dktX9_takesNext_3 : List UInt8 := dkwX9_takesNext_3 ++ dktX9_takesNext_4
def dkwX9_takesNext_2 : List UInt8 := [180, 0, 74, 27, 46, 79, 42, 180, 0, 77, 42, 180, 0, 71, 27, 46, 42, 180, 0, 81, 42, 180, 0, 71]
abbrev dktX9_takesNext_2 : List UInt8 := dkwX9_takesNext_2 ++ dktX9_takesNext_3
def dkwX9_takesNext_1 : List UInt8 := [132, 1, 1, 167, 255, 233, 3, 60, 27, 42, 180, 1, 124, 162, 0, 55, 42, 180, 0, 71, 27, 42]
abbrev dktX9_takesNext_1 : List UInt8 := dkwX9_takesNext_1 ++ dktX9_takesNext_2
def dkwX9_takesNext_0 : List UInt8 := [3, 60, 27, 42, 180, 1, 108, 162, 0, 21, 42, 180, 0, 77, 42, 180, 0, 71, 27, 46, 9, 80]
abbrev dktX9_takesNext_0 : List UInt8 := dkwX9_takesNext_0 ++ dktX9_takesNext_1
theorem dksX9_takesNext_0 : cX9_takesNext.data.toList.drop 0 = dktX9_takesNext_0 := by decide +kernel
theorem dksX9_takesNext_1 : cX9_takesNext.data.toList.drop 22 = dktX9_takesNext_1 := dk_seg dksX9_takesNext_0 22 rfl rfl
theorem dksX9_takesNext_2 : cX9_takesNext.data.toList.drop 44 = dktX9_takesNext_2 := dk_seg dksX9_takesNext_1 22 rfl rfl
theorem dksX9_takesNext_3 : cX9_takesNext.data.toList.drop 68 = dktX9_takesNext_3 := dk_seg dksX9_takesNext_2 24 rfl rfl
theorem dksX9_takesNext_4 : cX9_takesNext.data.toList.drop 92 = dktX9_takesNext_4 := dk_seg dksX9_takesNext_3 24 rfl rfl
theorem dX9_takesNext_0 : decode cX9_takesNext 0 = .ok (.iconst 0, 1) := dk_3 (dk_at dksX9_takesNext_0 0 rfl rfl)
theorem dX9_takesNext_1 : decode cX9_takesNext 1 = .ok (.istore_n 1, 1) := dk_60 (dk_at dksX9_takesNext_0 1 rfl rfl)
theorem dX9_takesNext_2 : decode cX9_takesNext 2 = .ok (.iload_n 1, 1) := dk_27 (dk_at dksX9_takesNext_0 2 rfl rfl)
theorem dX9_takesNext_3 : decode cX9_takesNext 3 = .ok (.aload_n 0, 1) := dk_42 (dk_at dksX9_takesNext_0 3 rfl rfl)
theorem dX9_takesNext_4 : decode cX9_takesNext 4 = .ok (.getfield 364, 3) := dk_180 1 108 (dk_at dksX9_takesNext_0 4 rfl rfl)
theorem dX9_takesNext_7 : decode cX9_takesNext 7 = .ok (.if_icmp .ge 21, 3) := dk_162 0 21 (dk_at dksX9_takesNext_0 7 rfl rfl)
theorem dX9_takesNext_10 : decode cX9_takesNext 10 = .ok (.aload_n 0, 1) := dk_42 (dk_at dksX9_takesNext_0 10 rfl rfl)
theorem dX9_takesNext_11 : decode cX9_takesNext 11 = .ok (.getfield 77, 3) := dk_180 0 77 (dk_at dksX9_takesNext_0 11 rfl rfl)
theorem dX9_takesNext_14 : decode cX9_takesNext 14 = .ok (.aload_n 0, 1) := dk_42 (dk_at dksX9_takesNext_0 14 rfl rfl)
theorem dX9_takesNext_15 : decode cX9_takesNext 15 = .ok (.getfield 71, 3) := dk_180 0 71 (dk_at dksX9_takesNext_0 15 rfl rfl)
theorem dX9_takesNext_18 : decode cX9_takesNext 18 = .ok (.iload_n 1, 1) := dk_27 (dk_at dksX9_takesNext_0 18 rfl rfl)
theorem dX9_takesNext_19 : decode cX9_takesNext 19 = .ok (.iaload, 1) := dk_46 (dk_at dksX9_takesNext_0 19 rfl rfl)
theorem dX9_takesNext_20 : decode cX9_takesNext 20 = .ok (.lconst 0, 1) := dk_9 (dk_at dksX9_takesNext_0 20 rfl rfl)
theorem dX9_takesNext_21 : decode cX9_takesNext 21 = .ok (.lastore, 1) := dk_80 (dk_at dksX9_takesNext_0 21 rfl rfl)
theorem dX9_takesNext_22 : decode cX9_takesNext 22 = .ok (.iinc 1 1, 3) := dk_132 1 1 (dk_at dksX9_takesNext_1 0 rfl rfl)
theorem dX9_takesNext_25 : decode cX9_takesNext 25 = .ok (.goto (-23), 3) := dk_167 255 233 (dk_at dksX9_takesNext_1 3 rfl rfl)
theorem dX9_takesNext_28 : decode cX9_takesNext 28 = .ok (.iconst 0, 1) := dk_3 (dk_at dksX9_takesNext_1 6 rfl rfl)
theorem dX9_takesNext_29 : decode cX9_takesNext 29 = .ok (.istore_n 1, 1) := dk_60 (dk_at dksX9_takesNext_1 7 rfl rfl)
theorem dX9_takesNext_30 : decode cX9_takesNext 30 = .ok (.iload_n 1, 1) := dk_27 (dk_at dksX9_takesNext_1 8 rfl rfl)
theorem dX9_takesNext_31 : decode cX9_takesNext 31 = .ok (.aload_n 0, 1) := dk_42 (dk_at dksX9_takesNext_1 9 rfl rfl)
theorem dX9_takesNext_32 : decode cX9_takesNext 32 = .ok (.getfield 380, 3) := dk_180 1 124 (dk_at dksX9_takesNext_1 10 rfl rfl)
theorem dX9_takesNext_35 : decode cX9_takesNext 35 = .ok (.if_icmp .ge 55, 3) := dk_162 0 55 (dk_at dksX9_takesNext_1 13 rfl rfl)
theorem dX9_takesNext_38 : decode cX9_takesNext 38 = .ok (.aload_n 0, 1) := dk_42 (dk_at dksX9_takesNext_1 16 rfl rfl)
theorem dX9_takesNext_39 : decode cX9_takesNext 39 = .ok (.getfield 71, 3) := dk_180 0 71 (dk_at dksX9_takesNext_1 17 rfl rfl)
theorem dX9_takesNext_42 : decode cX9_takesNext 42 = .ok (.iload_n 1, 1) := dk_27 (dk_at dksX9_takesNext_1 20 rfl rfl)
theorem dX9_takesNext_43 : decode cX9_takesNext 43 = .ok (.aload_n 0, 1) := dk_42 (dk_at dksX9_takesNext_1 21 rfl rfl)
theorem dX9_takesNext_44 : decode cX9_takesNext 44 = .ok (.getfield 74, 3) := dk_180 0 74 (dk_at dksX9_takesNext_2 0 rfl rfl)
theorem dX9_takesNext_47 : decode cX9_takesNext 47 = .ok (.iload_n 1, 1) := dk_27 (dk_at dksX9_takesNext_2 3 rfl rfl)
theorem dX9_takesNext_48 : decode cX9_takesNext 48 = .ok (.iaload, 1) := dk_46 (dk_at dksX9_takesNext_2 4 rfl rfl)
theorem dX9_takesNext_49 : decode cX9_takesNext 49 = .ok (.iastore, 1) := dk_79 (dk_at dksX9_takesNext_2 5 rfl rfl)
theorem dX9_takesNext_50 : decode cX9_takesNext 50 = .ok (.aload_n 0, 1) := dk_42 (dk_at dksX9_takesNext_2 6 rfl rfl)
theorem dX9_takesNext_51 : decode cX9_takesNext 51 = .ok (.getfield 77, 3) := dk_180 0 77 (dk_at dksX9_takesNext_2 7 rfl rfl)
theorem dX9_takesNext_54 : decode cX9_takesNext 54 = .ok (.aload_n 0, 1) := dk_42 (dk_at dksX9_takesNext_2 10 rfl rfl)
theorem dX9_takesNext_55 : decode cX9_takesNext 55 = .ok (.getfield 71, 3) := dk_180 0 71 (dk_at dksX9_takesNext_2 11 rfl rfl)
theorem dX9_takesNext_58 : decode cX9_takesNext 58 = .ok (.iload_n 1, 1) := dk_27 (dk_at dksX9_takesNext_2 14 rfl rfl)
theorem dX9_takesNext_59 : decode cX9_takesNext 59 = .ok (.iaload, 1) := dk_46 (dk_at dksX9_takesNext_2 15 rfl rfl)
theorem dX9_takesNext_60 : decode cX9_takesNext 60 = .ok (.aload_n 0, 1) := dk_42 (dk_at dksX9_takesNext_2 16 rfl rfl)
theorem dX9_takesNext_61 : decode cX9_takesNext 61 = .ok (.getfield 81, 3) := dk_180 0 81 (dk_at dksX9_takesNext_2 17 rfl rfl)
theorem dX9_takesNext_64 : decode cX9_takesNext 64 = .ok (.aload_n 0, 1) := dk_42 (dk_at dksX9_takesNext_2 20 rfl rfl)
theorem dX9_takesNext_65 : decode cX9_takesNext 65 = .ok (.getfield 71, 3) := dk_180 0 71 (dk_at dksX9_takesNext_2 21 rfl rfl)
theorem dX9_takesNext_68 : decode cX9_takesNext 68 = .ok (.iload_n 1, 1) := dk_27 (dk_at dksX9_takesNext_3 0 rfl rfl)
theorem dX9_takesNext_69 : decode cX9_takesNext 69 = .ok (.iaload, 1) := dk_46 (dk_at dksX9_takesNext_3 1 rfl rfl)
theorem dX9_takesNext_70 : decode cX9_takesNext 70 = .ok (.laload, 1) := dk_47 (dk_at dksX9_takesNext_3 2 rfl rfl)
theorem dX9_takesNext_71 : decode cX9_takesNext 71 = .ok (.lastore, 1) := dk_80 (dk_at dksX9_takesNext_3 3 rfl rfl)
theorem dX9_takesNext_72 : decode cX9_takesNext 72 = .ok (.aload_n 0, 1) := dk_42 (dk_at dksX9_takesNext_3 4 rfl rfl)
theorem dX9_takesNext_73 : decode cX9_takesNext 73 = .ok (.getfield 81, 3) := dk_180 0 81 (dk_at dksX9_takesNext_3 5 rfl rfl)
theorem dX9_takesNext_76 : decode cX9_takesNext 76 = .ok (.aload_n 0, 1) := dk_42 (dk_at dksX9_takesNext_3 8 rfl rfl)
theorem dX9_takesNext_77 : decode cX9_takesNext 77 = .ok (.getfield 71, 3) := dk_180 0 71 (dk_at dksX9_takesNext_3 9 rfl rfl)
theorem dX9_takesNext_80 : decode cX9_takesNext 80 = .ok (.iload_n 1, 1) := dk_27 (dk_at dksX9_takesNext_3 12 rfl rfl)
theorem dX9_takesNext_81 : decode cX9_takesNext 81 = .ok (.iaload, 1) := dk_46 (dk_at dksX9_takesNext_3 13 rfl rfl)
theorem dX9_takesNext_82 : decode cX9_takesNext 82 = .ok (.lconst 0, 1) := dk_9 (dk_at dksX9_takesNext_3 14 rfl rfl)
theorem dX9_takesNext_83 : decode cX9_takesNext 83 = .ok (.lastore, 1) := dk_80 (dk_at dksX9_takesNext_3 15 rfl rfl)
theorem dX9_takesNext_84 : decode cX9_takesNext 84 = .ok (.iinc 1 1, 3) := dk_132 1 1 (dk_at dksX9_takesNext_3 16 rfl rfl)
theorem dX9_takesNext_87 : decode cX9_takesNext 87 = .ok (.goto (-57), 3) := dk_167 255 199 (dk_at dksX9_takesNext_3 19 rfl rfl)
theorem dX9_takesNext_90 : decode cX9_takesNext 90 = .ok (.aload_n 0, 1) := dk_42 (dk_at dksX9_takesNext_3 22 rfl rfl)
theorem dX9_takesNext_91 : decode cX9_takesNext 91 = .ok (.aload_n 0, 1) := dk_42 (dk_at dksX9_takesNext_3 23 rfl rfl)
theorem dX9_takesNext_92 : decode cX9_takesNext 92 = .ok (.getfield 380, 3) := dk_180 1 124 (dk_at dksX9_takesNext_4 0 rfl rfl)
theorem dX9_takesNext_95 : decode cX9_takesNext 95 = .ok (.putfield 364, 3) := dk_181 1 108 (dk_at dksX9_takesNext_4 3 rfl rfl)
theorem dX9_takesNext_98 : decode cX9_takesNext 98 = .ok (.aload_n 0, 1) := dk_42 (dk_at dksX9_takesNext_4 6 rfl rfl)
theorem dX9_takesNext_99 : decode cX9_takesNext 99 = .ok (.iconst 0, 1) := dk_3 (dk_at dksX9_takesNext_4 7 rfl rfl)
theorem dX9_takesNext_100 : decode cX9_takesNext 100 = .ok (.putfield 380, 3) := dk_181 1 124 (dk_at dksX9_takesNext_4 8 rfl rfl)
theorem dX9_takesNext_103 : decode cX9_takesNext 103 = .ok (.return_, 1) := dk_177 (dk_at dksX9_takesNext_4 11 rfl rfl)
abbrev cX9_keepsBook : ByteArray := prog_28_method_61_code
def yX9_keepsBook : MethodName := ⟨RX9, "keepsBook", "(I)V"⟩
def dkwX9_keepsBook_3 : List UInt8 := [167, 255, 214, 132, 2, 1, 167, 255, 183, 177]
abbrev dktX9_keepsBook_3 : List UInt8 := dkwX9_keepsBook_3 ++ []
def dkwX9_keepsBook_2 : List UInt8 := [28, 27, 182, 1, 154, 154, 0, 15, 42, 180, 0, 77, 42, 180, 0, 71, 29, 46, 9, 80, 132, 3, 1]
abbrev dktX9_keepsBook_2 : List UInt8 := dkwX9_keepsBook_2 ++ dktX9_keepsBook_3
def dkwX9_keepsBook_1 : List UInt8 := [167, 0, 50, 3, 62, 29, 42, 180, 1, 108, 162, 0, 40, 42, 42, 180, 0, 71, 29, 46, 182, 1, 139, 42]
abbrev dktX9_keepsBook_1 : List UInt8 := dkwX9_keepsBook_1 ++ dktX9_keepsBook_2
def dkwX9_keepsBook_0 : List UInt8 := [3, 61, 28, 42, 180, 0, 167, 162, 0, 71, 42, 180, 0, 68, 6, 28, 104, 46, 27, 159, 0, 6]
abbrev dktX9_keepsBook_0 : List UInt8 := dkwX9_keepsBook_0 ++ dktX9_keepsBook_1
theorem dksX9_keepsBook_0 : cX9_keepsBook.data.toList.drop 0 = dktX9_keepsBook_0 := by decide +kernel
theorem dksX9_keepsBook_1 : cX9_keepsBook.data.toList.drop 22 = dktX9_keepsBook_1 := dk_seg dksX9_keepsBook_0 22 rfl rfl
theorem dksX9_keepsBook_2 : cX9_keepsBook.data.toList.drop 46 = dktX9_keepsBook_2 := dk_seg dksX9_keepsBook_1 24 rfl rfl
theorem dksX9_keepsBook_3 : cX9_keepsBook.data.toList.drop 69 = dktX9_keepsBook_3 := dk_seg dksX9_keepsBook_2 23 rfl rfl
theorem dX9_keepsBook_0 : decode cX9_keepsBook 0 = .ok (.iconst 0, 1) := dk_3 (dk_at dksX9_keepsBook_0 0 rfl rfl)
theorem dX9_keepsBook_1 : decode cX9_keepsBook 1 = .ok (.istore_n 2, 1) := dk_61 (dk_at dksX9_keepsBook_0 1 rfl rfl)
theorem dX9_keepsBook_2 : decode cX9_keepsBook 2 = .ok (.iload_n 2, 1) := dk_28 (dk_at dksX9_keepsBook_0 2 rfl rfl)
theorem dX9_keepsBook_3 : decode cX9_keepsBook 3 = .ok (.aload_n 0, 1) := dk_42 (dk_at dksX9_keepsBook_0 3 rfl rfl)
theorem dX9_keepsBook_4 : decode cX9_keepsBook 4 = .ok (.getfield 167, 3) := dk_180 0 167 (dk_at dksX9_keepsBook_0 4 rfl rfl)
theorem dX9_keepsBook_7 : decode cX9_keepsBook 7 = .ok (.if_icmp .ge 71, 3) := dk_162 0 71 (dk_at dksX9_keepsBook_0 7 rfl rfl)
theorem dX9_keepsBook_10 : decode cX9_keepsBook 10 = .ok (.aload_n 0, 1) := dk_42 (dk_at dksX9_keepsBook_0 10 rfl rfl)
theorem dX9_keepsBook_11 : decode cX9_keepsBook 11 = .ok (.getfield 68, 3) := dk_180 0 68 (dk_at dksX9_keepsBook_0 11 rfl rfl)
theorem dX9_keepsBook_14 : decode cX9_keepsBook 14 = .ok (.iconst 3, 1) := dk_6 (dk_at dksX9_keepsBook_0 14 rfl rfl)
theorem dX9_keepsBook_15 : decode cX9_keepsBook 15 = .ok (.iload_n 2, 1) := dk_28 (dk_at dksX9_keepsBook_0 15 rfl rfl)
theorem dX9_keepsBook_16 : decode cX9_keepsBook 16 = .ok (.imul, 1) := dk_104 (dk_at dksX9_keepsBook_0 16 rfl rfl)
theorem dX9_keepsBook_17 : decode cX9_keepsBook 17 = .ok (.iaload, 1) := dk_46 (dk_at dksX9_keepsBook_0 17 rfl rfl)
theorem dX9_keepsBook_18 : decode cX9_keepsBook 18 = .ok (.iload_n 1, 1) := dk_27 (dk_at dksX9_keepsBook_0 18 rfl rfl)
theorem dX9_keepsBook_19 : decode cX9_keepsBook 19 = .ok (.if_icmp .eq 6, 3) := dk_159 0 6 (dk_at dksX9_keepsBook_0 19 rfl rfl)
theorem dX9_keepsBook_22 : decode cX9_keepsBook 22 = .ok (.goto 50, 3) := dk_167 0 50 (dk_at dksX9_keepsBook_1 0 rfl rfl)
theorem dX9_keepsBook_25 : decode cX9_keepsBook 25 = .ok (.iconst 0, 1) := dk_3 (dk_at dksX9_keepsBook_1 3 rfl rfl)
theorem dX9_keepsBook_26 : decode cX9_keepsBook 26 = .ok (.istore_n 3, 1) := dk_62 (dk_at dksX9_keepsBook_1 4 rfl rfl)
theorem dX9_keepsBook_27 : decode cX9_keepsBook 27 = .ok (.iload_n 3, 1) := dk_29 (dk_at dksX9_keepsBook_1 5 rfl rfl)
theorem dX9_keepsBook_28 : decode cX9_keepsBook 28 = .ok (.aload_n 0, 1) := dk_42 (dk_at dksX9_keepsBook_1 6 rfl rfl)
theorem dX9_keepsBook_29 : decode cX9_keepsBook 29 = .ok (.getfield 364, 3) := dk_180 1 108 (dk_at dksX9_keepsBook_1 7 rfl rfl)
theorem dX9_keepsBook_32 : decode cX9_keepsBook 32 = .ok (.if_icmp .ge 40, 3) := dk_162 0 40 (dk_at dksX9_keepsBook_1 10 rfl rfl)
theorem dX9_keepsBook_35 : decode cX9_keepsBook 35 = .ok (.aload_n 0, 1) := dk_42 (dk_at dksX9_keepsBook_1 13 rfl rfl)
theorem dX9_keepsBook_36 : decode cX9_keepsBook 36 = .ok (.aload_n 0, 1) := dk_42 (dk_at dksX9_keepsBook_1 14 rfl rfl)
theorem dX9_keepsBook_37 : decode cX9_keepsBook 37 = .ok (.getfield 71, 3) := dk_180 0 71 (dk_at dksX9_keepsBook_1 15 rfl rfl)
theorem dX9_keepsBook_40 : decode cX9_keepsBook 40 = .ok (.iload_n 3, 1) := dk_29 (dk_at dksX9_keepsBook_1 18 rfl rfl)
theorem dX9_keepsBook_41 : decode cX9_keepsBook 41 = .ok (.iaload, 1) := dk_46 (dk_at dksX9_keepsBook_1 19 rfl rfl)
theorem dX9_keepsBook_42 : decode cX9_keepsBook 42 = .ok (.invokevirtual 395, 3) := dk_182 1 139 (dk_at dksX9_keepsBook_1 20 rfl rfl)
theorem dX9_keepsBook_45 : decode cX9_keepsBook 45 = .ok (.aload_n 0, 1) := dk_42 (dk_at dksX9_keepsBook_1 23 rfl rfl)
theorem dX9_keepsBook_46 : decode cX9_keepsBook 46 = .ok (.iload_n 2, 1) := dk_28 (dk_at dksX9_keepsBook_2 0 rfl rfl)
theorem dX9_keepsBook_47 : decode cX9_keepsBook 47 = .ok (.iload_n 1, 1) := dk_27 (dk_at dksX9_keepsBook_2 1 rfl rfl)
theorem dX9_keepsBook_48 : decode cX9_keepsBook 48 = .ok (.invokevirtual 410, 3) := dk_182 1 154 (dk_at dksX9_keepsBook_2 2 rfl rfl)
theorem dX9_keepsBook_51 : decode cX9_keepsBook 51 = .ok (.ifCond .ne 15, 3) := dk_154 0 15 (dk_at dksX9_keepsBook_2 5 rfl rfl)
theorem dX9_keepsBook_54 : decode cX9_keepsBook 54 = .ok (.aload_n 0, 1) := dk_42 (dk_at dksX9_keepsBook_2 8 rfl rfl)
theorem dX9_keepsBook_55 : decode cX9_keepsBook 55 = .ok (.getfield 77, 3) := dk_180 0 77 (dk_at dksX9_keepsBook_2 9 rfl rfl)
theorem dX9_keepsBook_58 : decode cX9_keepsBook 58 = .ok (.aload_n 0, 1) := dk_42 (dk_at dksX9_keepsBook_2 12 rfl rfl)
theorem dX9_keepsBook_59 : decode cX9_keepsBook 59 = .ok (.getfield 71, 3) := dk_180 0 71 (dk_at dksX9_keepsBook_2 13 rfl rfl)
theorem dX9_keepsBook_62 : decode cX9_keepsBook 62 = .ok (.iload_n 3, 1) := dk_29 (dk_at dksX9_keepsBook_2 16 rfl rfl)
theorem dX9_keepsBook_63 : decode cX9_keepsBook 63 = .ok (.iaload, 1) := dk_46 (dk_at dksX9_keepsBook_2 17 rfl rfl)
theorem dX9_keepsBook_64 : decode cX9_keepsBook 64 = .ok (.lconst 0, 1) := dk_9 (dk_at dksX9_keepsBook_2 18 rfl rfl)
theorem dX9_keepsBook_65 : decode cX9_keepsBook 65 = .ok (.lastore, 1) := dk_80 (dk_at dksX9_keepsBook_2 19 rfl rfl)
theorem dX9_keepsBook_66 : decode cX9_keepsBook 66 = .ok (.iinc 3 1, 3) := dk_132 3 1 (dk_at dksX9_keepsBook_2 20 rfl rfl)
theorem dX9_keepsBook_69 : decode cX9_keepsBook 69 = .ok (.goto (-42), 3) := dk_167 255 214 (dk_at dksX9_keepsBook_3 0 rfl rfl)
theorem dX9_keepsBook_72 : decode cX9_keepsBook 72 = .ok (.iinc 2 1, 3) := dk_132 2 1 (dk_at dksX9_keepsBook_3 3 rfl rfl)
theorem dX9_keepsBook_75 : decode cX9_keepsBook 75 = .ok (.goto (-73), 3) := dk_167 255 183 (dk_at dksX9_keepsBook_3 6 rfl rfl)
theorem dX9_keepsBook_78 : decode cX9_keepsBook 78 = .ok (.return_, 1) := dk_177 (dk_at dksX9_keepsBook_3 9 rfl rfl)
abbrev cX9_isLine : ByteArray := prog_28_method_60_code
def yX9_isLine : MethodName := ⟨RX9, "isLine", "(II)Z"⟩
def dkwX9_isLine_3 : List UInt8 := [160, 0, 7, 4, 167, 0, 4, 3, 172]
abbrev dktX9_isLine_3 : List UInt8 := dkwX9_isLine_3 ++ []
def dkwX9_isLine_2 : List UInt8 := [167, 0, 12, 42, 180, 1, 136, 42, 180, 1, 133, 96, 62, 29, 42, 180, 0, 68, 6, 27, 104, 5, 96, 46]
abbrev dktX9_isLine_2 : List UInt8 := dkwX9_isLine_2 ++ dktX9_isLine_3
def dkwX9_isLine_1 : List UInt8 := [6, 27, 104, 4, 96, 46, 4, 160, 0, 19, 42, 28, 182, 1, 151, 153, 0, 7, 4, 167, 0, 16, 3]
abbrev dktX9_isLine_1 : List UInt8 := dkwX9_isLine_1 ++ dktX9_isLine_2
def dkwX9_isLine_0 : List UInt8 := [42, 180, 0, 68, 6, 27, 104, 4, 96, 46, 154, 0, 10, 42, 180, 1, 131, 167, 0, 42, 42, 180, 0, 68]
abbrev dktX9_isLine_0 : List UInt8 := dkwX9_isLine_0 ++ dktX9_isLine_1
theorem dksX9_isLine_0 : cX9_isLine.data.toList.drop 0 = dktX9_isLine_0 := by decide +kernel
theorem dksX9_isLine_1 : cX9_isLine.data.toList.drop 24 = dktX9_isLine_1 := dk_seg dksX9_isLine_0 24 rfl rfl
theorem dksX9_isLine_2 : cX9_isLine.data.toList.drop 47 = dktX9_isLine_2 := dk_seg dksX9_isLine_1 23 rfl rfl
theorem dksX9_isLine_3 : cX9_isLine.data.toList.drop 71 = dktX9_isLine_3 := dk_seg dksX9_isLine_2 24 rfl rfl
theorem dX9_isLine_0 : decode cX9_isLine 0 = .ok (.aload_n 0, 1) := dk_42 (dk_at dksX9_isLine_0 0 rfl rfl)
theorem dX9_isLine_1 : decode cX9_isLine 1 = .ok (.getfield 68, 3) := dk_180 0 68 (dk_at dksX9_isLine_0 1 rfl rfl)
theorem dX9_isLine_4 : decode cX9_isLine 4 = .ok (.iconst 3, 1) := dk_6 (dk_at dksX9_isLine_0 4 rfl rfl)
theorem dX9_isLine_5 : decode cX9_isLine 5 = .ok (.iload_n 1, 1) := dk_27 (dk_at dksX9_isLine_0 5 rfl rfl)
theorem dX9_isLine_6 : decode cX9_isLine 6 = .ok (.imul, 1) := dk_104 (dk_at dksX9_isLine_0 6 rfl rfl)
theorem dX9_isLine_7 : decode cX9_isLine 7 = .ok (.iconst 1, 1) := dk_4 (dk_at dksX9_isLine_0 7 rfl rfl)
theorem dX9_isLine_8 : decode cX9_isLine 8 = .ok (.iadd, 1) := dk_96 (dk_at dksX9_isLine_0 8 rfl rfl)
theorem dX9_isLine_9 : decode cX9_isLine 9 = .ok (.iaload, 1) := dk_46 (dk_at dksX9_isLine_0 9 rfl rfl)
theorem dX9_isLine_10 : decode cX9_isLine 10 = .ok (.ifCond .ne 10, 3) := dk_154 0 10 (dk_at dksX9_isLine_0 10 rfl rfl)
theorem dX9_isLine_13 : decode cX9_isLine 13 = .ok (.aload_n 0, 1) := dk_42 (dk_at dksX9_isLine_0 13 rfl rfl)
theorem dX9_isLine_14 : decode cX9_isLine 14 = .ok (.getfield 387, 3) := dk_180 1 131 (dk_at dksX9_isLine_0 14 rfl rfl)
theorem dX9_isLine_17 : decode cX9_isLine 17 = .ok (.goto 42, 3) := dk_167 0 42 (dk_at dksX9_isLine_0 17 rfl rfl)
theorem dX9_isLine_20 : decode cX9_isLine 20 = .ok (.aload_n 0, 1) := dk_42 (dk_at dksX9_isLine_0 20 rfl rfl)
theorem dX9_isLine_21 : decode cX9_isLine 21 = .ok (.getfield 68, 3) := dk_180 0 68 (dk_at dksX9_isLine_0 21 rfl rfl)
theorem dX9_isLine_24 : decode cX9_isLine 24 = .ok (.iconst 3, 1) := dk_6 (dk_at dksX9_isLine_1 0 rfl rfl)
theorem dX9_isLine_25 : decode cX9_isLine 25 = .ok (.iload_n 1, 1) := dk_27 (dk_at dksX9_isLine_1 1 rfl rfl)
theorem dX9_isLine_26 : decode cX9_isLine 26 = .ok (.imul, 1) := dk_104 (dk_at dksX9_isLine_1 2 rfl rfl)
theorem dX9_isLine_27 : decode cX9_isLine 27 = .ok (.iconst 1, 1) := dk_4 (dk_at dksX9_isLine_1 3 rfl rfl)
theorem dX9_isLine_28 : decode cX9_isLine 28 = .ok (.iadd, 1) := dk_96 (dk_at dksX9_isLine_1 4 rfl rfl)
theorem dX9_isLine_29 : decode cX9_isLine 29 = .ok (.iaload, 1) := dk_46 (dk_at dksX9_isLine_1 5 rfl rfl)
theorem dX9_isLine_30 : decode cX9_isLine 30 = .ok (.iconst 1, 1) := dk_4 (dk_at dksX9_isLine_1 6 rfl rfl)
theorem dX9_isLine_31 : decode cX9_isLine 31 = .ok (.if_icmp .ne 19, 3) := dk_160 0 19 (dk_at dksX9_isLine_1 7 rfl rfl)
theorem dX9_isLine_34 : decode cX9_isLine 34 = .ok (.aload_n 0, 1) := dk_42 (dk_at dksX9_isLine_1 10 rfl rfl)
theorem dX9_isLine_35 : decode cX9_isLine 35 = .ok (.iload_n 2, 1) := dk_28 (dk_at dksX9_isLine_1 11 rfl rfl)
theorem dX9_isLine_36 : decode cX9_isLine 36 = .ok (.invokevirtual 407, 3) := dk_182 1 151 (dk_at dksX9_isLine_1 12 rfl rfl)
theorem dX9_isLine_39 : decode cX9_isLine 39 = .ok (.ifCond .eq 7, 3) := dk_153 0 7 (dk_at dksX9_isLine_1 15 rfl rfl)
theorem dX9_isLine_42 : decode cX9_isLine 42 = .ok (.iconst 1, 1) := dk_4 (dk_at dksX9_isLine_1 18 rfl rfl)
theorem dX9_isLine_43 : decode cX9_isLine 43 = .ok (.goto 16, 3) := dk_167 0 16 (dk_at dksX9_isLine_1 19 rfl rfl)
theorem dX9_isLine_46 : decode cX9_isLine 46 = .ok (.iconst 0, 1) := dk_3 (dk_at dksX9_isLine_1 22 rfl rfl)
theorem dX9_isLine_47 : decode cX9_isLine 47 = .ok (.goto 12, 3) := dk_167 0 12 (dk_at dksX9_isLine_2 0 rfl rfl)
theorem dX9_isLine_50 : decode cX9_isLine 50 = .ok (.aload_n 0, 1) := dk_42 (dk_at dksX9_isLine_2 3 rfl rfl)
theorem dX9_isLine_51 : decode cX9_isLine 51 = .ok (.getfield 392, 3) := dk_180 1 136 (dk_at dksX9_isLine_2 4 rfl rfl)
theorem dX9_isLine_54 : decode cX9_isLine 54 = .ok (.aload_n 0, 1) := dk_42 (dk_at dksX9_isLine_2 7 rfl rfl)
theorem dX9_isLine_55 : decode cX9_isLine 55 = .ok (.getfield 389, 3) := dk_180 1 133 (dk_at dksX9_isLine_2 8 rfl rfl)
theorem dX9_isLine_58 : decode cX9_isLine 58 = .ok (.iadd, 1) := dk_96 (dk_at dksX9_isLine_2 11 rfl rfl)
theorem dX9_isLine_59 : decode cX9_isLine 59 = .ok (.istore_n 3, 1) := dk_62 (dk_at dksX9_isLine_2 12 rfl rfl)
theorem dX9_isLine_60 : decode cX9_isLine 60 = .ok (.iload_n 3, 1) := dk_29 (dk_at dksX9_isLine_2 13 rfl rfl)
theorem dX9_isLine_61 : decode cX9_isLine 61 = .ok (.aload_n 0, 1) := dk_42 (dk_at dksX9_isLine_2 14 rfl rfl)
theorem dX9_isLine_62 : decode cX9_isLine 62 = .ok (.getfield 68, 3) := dk_180 0 68 (dk_at dksX9_isLine_2 15 rfl rfl)
theorem dX9_isLine_65 : decode cX9_isLine 65 = .ok (.iconst 3, 1) := dk_6 (dk_at dksX9_isLine_2 18 rfl rfl)
theorem dX9_isLine_66 : decode cX9_isLine 66 = .ok (.iload_n 1, 1) := dk_27 (dk_at dksX9_isLine_2 19 rfl rfl)
theorem dX9_isLine_67 : decode cX9_isLine 67 = .ok (.imul, 1) := dk_104 (dk_at dksX9_isLine_2 20 rfl rfl)
theorem dX9_isLine_68 : decode cX9_isLine 68 = .ok (.iconst 2, 1) := dk_5 (dk_at dksX9_isLine_2 21 rfl rfl)
theorem dX9_isLine_69 : decode cX9_isLine 69 = .ok (.iadd, 1) := dk_96 (dk_at dksX9_isLine_2 22 rfl rfl)
theorem dX9_isLine_70 : decode cX9_isLine 70 = .ok (.iaload, 1) := dk_46 (dk_at dksX9_isLine_2 23 rfl rfl)
theorem dX9_isLine_71 : decode cX9_isLine 71 = .ok (.if_icmp .ne 7, 3) := dk_160 0 7 (dk_at dksX9_isLine_3 0 rfl rfl)
theorem dX9_isLine_74 : decode cX9_isLine 74 = .ok (.iconst 1, 1) := dk_4 (dk_at dksX9_isLine_3 3 rfl rfl)
theorem dX9_isLine_75 : decode cX9_isLine 75 = .ok (.goto 4, 3) := dk_167 0 4 (dk_at dksX9_isLine_3 4 rfl rfl)
theorem dX9_isLine_78 : decode cX9_isLine 78 = .ok (.iconst 0, 1) := dk_3 (dk_at dksX9_isLine_3 7 rfl rfl)
theorem dX9_isLine_79 : decode cX9_isLine 79 = .ok (.ireturn, 1) := dk_172 (dk_at dksX9_isLine_3 8 rfl rfl)
abbrev cX9_isWarm : ByteArray := prog_28_method_59_code
def yX9_isWarm : MethodName := ⟨RX9, "isWarm", "(I)Z"⟩
def dkwX9_isWarm_1 : List UInt8 := [100, 42, 180, 0, 26, 8, 46, 162, 0, 7, 4, 167, 0, 4, 3, 172]
abbrev dktX9_isWarm_1 : List UInt8 := dkwX9_isWarm_1 ++ []
def dkwX9_isWarm_0 : List UInt8 := [42, 180, 1, 129, 158, 0, 34, 42, 180, 0, 38, 27, 46, 42, 180, 0, 38, 42, 180, 1, 129, 4, 100, 46]
abbrev dktX9_isWarm_0 : List UInt8 := dkwX9_isWarm_0 ++ dktX9_isWarm_1
theorem dksX9_isWarm_0 : cX9_isWarm.data.toList.drop 0 = dktX9_isWarm_0 := by decide +kernel
theorem dksX9_isWarm_1 : cX9_isWarm.data.toList.drop 24 = dktX9_isWarm_1 := dk_seg dksX9_isWarm_0 24 rfl rfl
theorem dX9_isWarm_0 : decode cX9_isWarm 0 = .ok (.aload_n 0, 1) := dk_42 (dk_at dksX9_isWarm_0 0 rfl rfl)
theorem dX9_isWarm_1 : decode cX9_isWarm 1 = .ok (.getfield 385, 3) := dk_180 1 129 (dk_at dksX9_isWarm_0 1 rfl rfl)
theorem dX9_isWarm_4 : decode cX9_isWarm 4 = .ok (.ifCond .le 34, 3) := dk_158 0 34 (dk_at dksX9_isWarm_0 4 rfl rfl)
theorem dX9_isWarm_7 : decode cX9_isWarm 7 = .ok (.aload_n 0, 1) := dk_42 (dk_at dksX9_isWarm_0 7 rfl rfl)
theorem dX9_isWarm_8 : decode cX9_isWarm 8 = .ok (.getfield 38, 3) := dk_180 0 38 (dk_at dksX9_isWarm_0 8 rfl rfl)
theorem dX9_isWarm_11 : decode cX9_isWarm 11 = .ok (.iload_n 1, 1) := dk_27 (dk_at dksX9_isWarm_0 11 rfl rfl)
theorem dX9_isWarm_12 : decode cX9_isWarm 12 = .ok (.iaload, 1) := dk_46 (dk_at dksX9_isWarm_0 12 rfl rfl)
theorem dX9_isWarm_13 : decode cX9_isWarm 13 = .ok (.aload_n 0, 1) := dk_42 (dk_at dksX9_isWarm_0 13 rfl rfl)
theorem dX9_isWarm_14 : decode cX9_isWarm 14 = .ok (.getfield 38, 3) := dk_180 0 38 (dk_at dksX9_isWarm_0 14 rfl rfl)
theorem dX9_isWarm_17 : decode cX9_isWarm 17 = .ok (.aload_n 0, 1) := dk_42 (dk_at dksX9_isWarm_0 17 rfl rfl)
theorem dX9_isWarm_18 : decode cX9_isWarm 18 = .ok (.getfield 385, 3) := dk_180 1 129 (dk_at dksX9_isWarm_0 18 rfl rfl)
theorem dX9_isWarm_21 : decode cX9_isWarm 21 = .ok (.iconst 1, 1) := dk_4 (dk_at dksX9_isWarm_0 21 rfl rfl)
theorem dX9_isWarm_22 : decode cX9_isWarm 22 = .ok (.isub, 1) := dk_100 (dk_at dksX9_isWarm_0 22 rfl rfl)
theorem dX9_isWarm_23 : decode cX9_isWarm 23 = .ok (.iaload, 1) := dk_46 (dk_at dksX9_isWarm_0 23 rfl rfl)
theorem dX9_isWarm_24 : decode cX9_isWarm 24 = .ok (.isub, 1) := dk_100 (dk_at dksX9_isWarm_1 0 rfl rfl)
theorem dX9_isWarm_25 : decode cX9_isWarm 25 = .ok (.aload_n 0, 1) := dk_42 (dk_at dksX9_isWarm_1 1 rfl rfl)
theorem dX9_isWarm_26 : decode cX9_isWarm 26 = .ok (.getfield 26, 3) := dk_180 0 26 (dk_at dksX9_isWarm_1 2 rfl rfl)
theorem dX9_isWarm_29 : decode cX9_isWarm 29 = .ok (.iconst 5, 1) := dk_8 (dk_at dksX9_isWarm_1 5 rfl rfl)
theorem dX9_isWarm_30 : decode cX9_isWarm 30 = .ok (.iaload, 1) := dk_46 (dk_at dksX9_isWarm_1 6 rfl rfl)
theorem dX9_isWarm_31 : decode cX9_isWarm 31 = .ok (.if_icmp .ge 7, 3) := dk_162 0 7 (dk_at dksX9_isWarm_1 7 rfl rfl)
theorem dX9_isWarm_34 : decode cX9_isWarm 34 = .ok (.iconst 1, 1) := dk_4 (dk_at dksX9_isWarm_1 10 rfl rfl)
theorem dX9_isWarm_35 : decode cX9_isWarm 35 = .ok (.goto 4, 3) := dk_167 0 4 (dk_at dksX9_isWarm_1 11 rfl rfl)
theorem dX9_isWarm_38 : decode cX9_isWarm 38 = .ok (.iconst 0, 1) := dk_3 (dk_at dksX9_isWarm_1 14 rfl rfl)
theorem dX9_isWarm_39 : decode cX9_isWarm 39 = .ok (.ireturn, 1) := dk_172 (dk_at dksX9_isWarm_1 15 rfl rfl)
abbrev cX9_habitOf : ByteArray := prog_28_method_65_code
def yX9_habitOf : MethodName := ⟨RX9, "habitOf", "(I)I"⟩
def dkwX9_habitOf_1 : List UInt8 := [167, 0, 19, 27, 42, 180, 1, 98, 160, 0, 10, 42, 180, 1, 95, 167, 0, 4, 27, 172]
abbrev dktX9_habitOf_1 : List UInt8 := dkwX9_habitOf_1 ++ []
def dkwX9_habitOf_0 : List UInt8 := [42, 180, 1, 101, 153, 0, 8, 16, 6, 167, 0, 34, 27, 42, 180, 1, 95, 160, 0, 10, 42, 180, 1, 98]
abbrev dktX9_habitOf_0 : List UInt8 := dkwX9_habitOf_0 ++ dktX9_habitOf_1
theorem dksX9_habitOf_0 : cX9_habitOf.data.toList.drop 0 = dktX9_habitOf_0 := by decide +kernel
theorem dksX9_habitOf_1 : cX9_habitOf.data.toList.drop 24 = dktX9_habitOf_1 := dk_seg dksX9_habitOf_0 24 rfl rfl
theorem dX9_habitOf_0 : decode cX9_habitOf 0 = .ok (.aload_n 0, 1) := dk_42 (dk_at dksX9_habitOf_0 0 rfl rfl)
theorem dX9_habitOf_1 : decode cX9_habitOf 1 = .ok (.getfield 357, 3) := dk_180 1 101 (dk_at dksX9_habitOf_0 1 rfl rfl)
theorem dX9_habitOf_4 : decode cX9_habitOf 4 = .ok (.ifCond .eq 8, 3) := dk_153 0 8 (dk_at dksX9_habitOf_0 4 rfl rfl)
theorem dX9_habitOf_7 : decode cX9_habitOf 7 = .ok (.bipush 6, 2) := dk_16 6 (dk_at dksX9_habitOf_0 7 rfl rfl)
theorem dX9_habitOf_9 : decode cX9_habitOf 9 = .ok (.goto 34, 3) := dk_167 0 34 (dk_at dksX9_habitOf_0 9 rfl rfl)
theorem dX9_habitOf_12 : decode cX9_habitOf 12 = .ok (.iload_n 1, 1) := dk_27 (dk_at dksX9_habitOf_0 12 rfl rfl)
theorem dX9_habitOf_13 : decode cX9_habitOf 13 = .ok (.aload_n 0, 1) := dk_42 (dk_at dksX9_habitOf_0 13 rfl rfl)
theorem dX9_habitOf_14 : decode cX9_habitOf 14 = .ok (.getfield 351, 3) := dk_180 1 95 (dk_at dksX9_habitOf_0 14 rfl rfl)
theorem dX9_habitOf_17 : decode cX9_habitOf 17 = .ok (.if_icmp .ne 10, 3) := dk_160 0 10 (dk_at dksX9_habitOf_0 17 rfl rfl)
theorem dX9_habitOf_20 : decode cX9_habitOf 20 = .ok (.aload_n 0, 1) := dk_42 (dk_at dksX9_habitOf_0 20 rfl rfl)
theorem dX9_habitOf_21 : decode cX9_habitOf 21 = .ok (.getfield 354, 3) := dk_180 1 98 (dk_at dksX9_habitOf_0 21 rfl rfl)
theorem dX9_habitOf_24 : decode cX9_habitOf 24 = .ok (.goto 19, 3) := dk_167 0 19 (dk_at dksX9_habitOf_1 0 rfl rfl)
theorem dX9_habitOf_27 : decode cX9_habitOf 27 = .ok (.iload_n 1, 1) := dk_27 (dk_at dksX9_habitOf_1 3 rfl rfl)
theorem dX9_habitOf_28 : decode cX9_habitOf 28 = .ok (.aload_n 0, 1) := dk_42 (dk_at dksX9_habitOf_1 4 rfl rfl)
theorem dX9_habitOf_29 : decode cX9_habitOf 29 = .ok (.getfield 354, 3) := dk_180 1 98 (dk_at dksX9_habitOf_1 5 rfl rfl)
theorem dX9_habitOf_32 : decode cX9_habitOf 32 = .ok (.if_icmp .ne 10, 3) := dk_160 0 10 (dk_at dksX9_habitOf_1 8 rfl rfl)
theorem dX9_habitOf_35 : decode cX9_habitOf 35 = .ok (.aload_n 0, 1) := dk_42 (dk_at dksX9_habitOf_1 11 rfl rfl)
theorem dX9_habitOf_36 : decode cX9_habitOf 36 = .ok (.getfield 351, 3) := dk_180 1 95 (dk_at dksX9_habitOf_1 12 rfl rfl)
theorem dX9_habitOf_39 : decode cX9_habitOf 39 = .ok (.goto 4, 3) := dk_167 0 4 (dk_at dksX9_habitOf_1 15 rfl rfl)
theorem dX9_habitOf_42 : decode cX9_habitOf 42 = .ok (.iload_n 1, 1) := dk_27 (dk_at dksX9_habitOf_1 18 rfl rfl)
theorem dX9_habitOf_43 : decode cX9_habitOf 43 = .ok (.ireturn, 1) := dk_172 (dk_at dksX9_habitOf_1 19 rfl rfl)
abbrev cX9_goesStep : ByteArray := prog_28_method_69_code
def yX9_goesStep : MethodName := ⟨RX9, "goesStep", "(III)V"⟩
def dkwX9_goesStep_6 : List UInt8 := [167, 255, 153, 42, 182, 1, 148, 177]
abbrev dktX9_goesStep_6 : List UInt8 := dkwX9_goesStep_6 ++ []
def dkwX9_goesStep_5 : List UInt8 := [182, 1, 144, 22, 10, 9, 148, 158, 0, 12, 42, 21, 4, 22, 10, 29, 182, 1, 174, 132, 6, 1]
abbrev dktX9_goesStep_5 : List UInt8 := dkwX9_goesStep_5 ++ dktX9_goesStep_6
def dkwX9_goesStep_4 : List UInt8 := [167, 0, 13, 22, 8, 21, 5, 133, 105, 20, 1, 142, 109, 55, 10, 42, 21, 7, 22, 8, 22, 10, 101]
abbrev dktX9_goesStep_4 : List UInt8 := dkwX9_goesStep_4 ++ dktX9_goesStep_5
def dkwX9_goesStep_3 : List UInt8 := [182, 1, 168, 42, 27, 28, 182, 1, 171, 154, 0, 7, 9, 167, 0, 23, 21, 5, 154, 0, 8, 22, 8]
abbrev dktX9_goesStep_3 : List UInt8 := dkwX9_goesStep_3 ++ dktX9_goesStep_4
def dkwX9_goesStep_2 : List UInt8 := [21, 6, 46, 54, 7, 42, 180, 0, 77, 21, 7, 47, 55, 8, 42, 21, 7, 182, 1, 139, 42, 29]
abbrev dktX9_goesStep_2 : List UInt8 := dkwX9_goesStep_2 ++ dktX9_goesStep_3
def dkwX9_goesStep_1 : List UInt8 := [28, 104, 96, 4, 96, 46, 54, 5, 3, 54, 6, 21, 6, 42, 180, 1, 108, 162, 0, 100, 42, 180, 0, 71]
abbrev dktX9_goesStep_1 : List UInt8 := dkwX9_goesStep_1 ++ dktX9_goesStep_2
def dkwX9_goesStep_0 : List UInt8 := [42, 180, 0, 59, 16, 32, 27, 104, 7, 28, 104, 96, 46, 54, 4, 42, 180, 0, 59, 16, 32, 27, 104, 7]
abbrev dktX9_goesStep_0 : List UInt8 := dkwX9_goesStep_0 ++ dktX9_goesStep_1
theorem dksX9_goesStep_0 : cX9_goesStep.data.toList.drop 0 = dktX9_goesStep_0 := by decide +kernel
theorem dksX9_goesStep_1 : cX9_goesStep.data.toList.drop 24 = dktX9_goesStep_1 := dk_seg dksX9_goesStep_0 24 rfl rfl
theorem dksX9_goesStep_2 : cX9_goesStep.data.toList.drop 48 = dktX9_goesStep_2 := dk_seg dksX9_goesStep_1 24 rfl rfl
theorem dksX9_goesStep_3 : cX9_goesStep.data.toList.drop 70 = dktX9_goesStep_3 := dk_seg dksX9_goesStep_2 22 rfl rfl
theorem dksX9_goesStep_4 : cX9_goesStep.data.toList.drop 93 = dktX9_goesStep_4 := dk_seg dksX9_goesStep_3 23 rfl rfl
theorem dksX9_goesStep_5 : cX9_goesStep.data.toList.drop 116 = dktX9_goesStep_5 := dk_seg dksX9_goesStep_4 23 rfl rfl
theorem dksX9_goesStep_6 : cX9_goesStep.data.toList.drop 138 = dktX9_goesStep_6 := dk_seg dksX9_goesStep_5 22 rfl rfl
theorem dX9_goesStep_0 : decode cX9_goesStep 0 = .ok (.aload_n 0, 1) := dk_42 (dk_at dksX9_goesStep_0 0 rfl rfl)
theorem dX9_goesStep_1 : decode cX9_goesStep 1 = .ok (.getfield 59, 3) := dk_180 0 59 (dk_at dksX9_goesStep_0 1 rfl rfl)
theorem dX9_goesStep_4 : decode cX9_goesStep 4 = .ok (.bipush 32, 2) := dk_16 32 (dk_at dksX9_goesStep_0 4 rfl rfl)
theorem dX9_goesStep_6 : decode cX9_goesStep 6 = .ok (.iload_n 1, 1) := dk_27 (dk_at dksX9_goesStep_0 6 rfl rfl)
theorem dX9_goesStep_7 : decode cX9_goesStep 7 = .ok (.imul, 1) := dk_104 (dk_at dksX9_goesStep_0 7 rfl rfl)
theorem dX9_goesStep_8 : decode cX9_goesStep 8 = .ok (.iconst 4, 1) := dk_7 (dk_at dksX9_goesStep_0 8 rfl rfl)
theorem dX9_goesStep_9 : decode cX9_goesStep 9 = .ok (.iload_n 2, 1) := dk_28 (dk_at dksX9_goesStep_0 9 rfl rfl)
theorem dX9_goesStep_10 : decode cX9_goesStep 10 = .ok (.imul, 1) := dk_104 (dk_at dksX9_goesStep_0 10 rfl rfl)
theorem dX9_goesStep_11 : decode cX9_goesStep 11 = .ok (.iadd, 1) := dk_96 (dk_at dksX9_goesStep_0 11 rfl rfl)
theorem dX9_goesStep_12 : decode cX9_goesStep 12 = .ok (.iaload, 1) := dk_46 (dk_at dksX9_goesStep_0 12 rfl rfl)
theorem dX9_goesStep_13 : decode cX9_goesStep 13 = .ok (.istore 4, 2) := dk_54 4 (dk_at dksX9_goesStep_0 13 rfl rfl)
theorem dX9_goesStep_15 : decode cX9_goesStep 15 = .ok (.aload_n 0, 1) := dk_42 (dk_at dksX9_goesStep_0 15 rfl rfl)
theorem dX9_goesStep_16 : decode cX9_goesStep 16 = .ok (.getfield 59, 3) := dk_180 0 59 (dk_at dksX9_goesStep_0 16 rfl rfl)
theorem dX9_goesStep_19 : decode cX9_goesStep 19 = .ok (.bipush 32, 2) := dk_16 32 (dk_at dksX9_goesStep_0 19 rfl rfl)
theorem dX9_goesStep_21 : decode cX9_goesStep 21 = .ok (.iload_n 1, 1) := dk_27 (dk_at dksX9_goesStep_0 21 rfl rfl)
theorem dX9_goesStep_22 : decode cX9_goesStep 22 = .ok (.imul, 1) := dk_104 (dk_at dksX9_goesStep_0 22 rfl rfl)
theorem dX9_goesStep_23 : decode cX9_goesStep 23 = .ok (.iconst 4, 1) := dk_7 (dk_at dksX9_goesStep_0 23 rfl rfl)
theorem dX9_goesStep_24 : decode cX9_goesStep 24 = .ok (.iload_n 2, 1) := dk_28 (dk_at dksX9_goesStep_1 0 rfl rfl)
theorem dX9_goesStep_25 : decode cX9_goesStep 25 = .ok (.imul, 1) := dk_104 (dk_at dksX9_goesStep_1 1 rfl rfl)
theorem dX9_goesStep_26 : decode cX9_goesStep 26 = .ok (.iadd, 1) := dk_96 (dk_at dksX9_goesStep_1 2 rfl rfl)
theorem dX9_goesStep_27 : decode cX9_goesStep 27 = .ok (.iconst 1, 1) := dk_4 (dk_at dksX9_goesStep_1 3 rfl rfl)
theorem dX9_goesStep_28 : decode cX9_goesStep 28 = .ok (.iadd, 1) := dk_96 (dk_at dksX9_goesStep_1 4 rfl rfl)
theorem dX9_goesStep_29 : decode cX9_goesStep 29 = .ok (.iaload, 1) := dk_46 (dk_at dksX9_goesStep_1 5 rfl rfl)
theorem dX9_goesStep_30 : decode cX9_goesStep 30 = .ok (.istore 5, 2) := dk_54 5 (dk_at dksX9_goesStep_1 6 rfl rfl)
theorem dX9_goesStep_32 : decode cX9_goesStep 32 = .ok (.iconst 0, 1) := dk_3 (dk_at dksX9_goesStep_1 8 rfl rfl)
theorem dX9_goesStep_33 : decode cX9_goesStep 33 = .ok (.istore 6, 2) := dk_54 6 (dk_at dksX9_goesStep_1 9 rfl rfl)
theorem dX9_goesStep_35 : decode cX9_goesStep 35 = .ok (.iload 6, 2) := dk_21 6 (dk_at dksX9_goesStep_1 11 rfl rfl)
theorem dX9_goesStep_37 : decode cX9_goesStep 37 = .ok (.aload_n 0, 1) := dk_42 (dk_at dksX9_goesStep_1 13 rfl rfl)
theorem dX9_goesStep_38 : decode cX9_goesStep 38 = .ok (.getfield 364, 3) := dk_180 1 108 (dk_at dksX9_goesStep_1 14 rfl rfl)
theorem dX9_goesStep_41 : decode cX9_goesStep 41 = .ok (.if_icmp .ge 100, 3) := dk_162 0 100 (dk_at dksX9_goesStep_1 17 rfl rfl)
theorem dX9_goesStep_44 : decode cX9_goesStep 44 = .ok (.aload_n 0, 1) := dk_42 (dk_at dksX9_goesStep_1 20 rfl rfl)
theorem dX9_goesStep_45 : decode cX9_goesStep 45 = .ok (.getfield 71, 3) := dk_180 0 71 (dk_at dksX9_goesStep_1 21 rfl rfl)
theorem dX9_goesStep_48 : decode cX9_goesStep 48 = .ok (.iload 6, 2) := dk_21 6 (dk_at dksX9_goesStep_2 0 rfl rfl)
theorem dX9_goesStep_50 : decode cX9_goesStep 50 = .ok (.iaload, 1) := dk_46 (dk_at dksX9_goesStep_2 2 rfl rfl)
theorem dX9_goesStep_51 : decode cX9_goesStep 51 = .ok (.istore 7, 2) := dk_54 7 (dk_at dksX9_goesStep_2 3 rfl rfl)
theorem dX9_goesStep_53 : decode cX9_goesStep 53 = .ok (.aload_n 0, 1) := dk_42 (dk_at dksX9_goesStep_2 5 rfl rfl)
theorem dX9_goesStep_54 : decode cX9_goesStep 54 = .ok (.getfield 77, 3) := dk_180 0 77 (dk_at dksX9_goesStep_2 6 rfl rfl)
theorem dX9_goesStep_57 : decode cX9_goesStep 57 = .ok (.iload 7, 2) := dk_21 7 (dk_at dksX9_goesStep_2 9 rfl rfl)
theorem dX9_goesStep_59 : decode cX9_goesStep 59 = .ok (.laload, 1) := dk_47 (dk_at dksX9_goesStep_2 11 rfl rfl)
theorem dX9_goesStep_60 : decode cX9_goesStep 60 = .ok (.lstore 8, 2) := dk_55 8 (dk_at dksX9_goesStep_2 12 rfl rfl)
theorem dX9_goesStep_62 : decode cX9_goesStep 62 = .ok (.aload_n 0, 1) := dk_42 (dk_at dksX9_goesStep_2 14 rfl rfl)
theorem dX9_goesStep_63 : decode cX9_goesStep 63 = .ok (.iload 7, 2) := dk_21 7 (dk_at dksX9_goesStep_2 15 rfl rfl)
theorem dX9_goesStep_65 : decode cX9_goesStep 65 = .ok (.invokevirtual 395, 3) := dk_182 1 139 (dk_at dksX9_goesStep_2 17 rfl rfl)
theorem dX9_goesStep_68 : decode cX9_goesStep 68 = .ok (.aload_n 0, 1) := dk_42 (dk_at dksX9_goesStep_2 20 rfl rfl)
theorem dX9_goesStep_69 : decode cX9_goesStep 69 = .ok (.iload_n 3, 1) := dk_29 (dk_at dksX9_goesStep_2 21 rfl rfl)
theorem dX9_goesStep_70 : decode cX9_goesStep 70 = .ok (.invokevirtual 424, 3) := dk_182 1 168 (dk_at dksX9_goesStep_3 0 rfl rfl)
theorem dX9_goesStep_73 : decode cX9_goesStep 73 = .ok (.aload_n 0, 1) := dk_42 (dk_at dksX9_goesStep_3 3 rfl rfl)
theorem dX9_goesStep_74 : decode cX9_goesStep 74 = .ok (.iload_n 1, 1) := dk_27 (dk_at dksX9_goesStep_3 4 rfl rfl)
theorem dX9_goesStep_75 : decode cX9_goesStep 75 = .ok (.iload_n 2, 1) := dk_28 (dk_at dksX9_goesStep_3 5 rfl rfl)
theorem dX9_goesStep_76 : decode cX9_goesStep 76 = .ok (.invokevirtual 427, 3) := dk_182 1 171 (dk_at dksX9_goesStep_3 6 rfl rfl)
theorem dX9_goesStep_79 : decode cX9_goesStep 79 = .ok (.ifCond .ne 7, 3) := dk_154 0 7 (dk_at dksX9_goesStep_3 9 rfl rfl)
theorem dX9_goesStep_82 : decode cX9_goesStep 82 = .ok (.lconst 0, 1) := dk_9 (dk_at dksX9_goesStep_3 12 rfl rfl)
theorem dX9_goesStep_83 : decode cX9_goesStep 83 = .ok (.goto 23, 3) := dk_167 0 23 (dk_at dksX9_goesStep_3 13 rfl rfl)
theorem dX9_goesStep_86 : decode cX9_goesStep 86 = .ok (.iload 5, 2) := dk_21 5 (dk_at dksX9_goesStep_3 16 rfl rfl)
theorem dX9_goesStep_88 : decode cX9_goesStep 88 = .ok (.ifCond .ne 8, 3) := dk_154 0 8 (dk_at dksX9_goesStep_3 18 rfl rfl)
theorem dX9_goesStep_91 : decode cX9_goesStep 91 = .ok (.lload 8, 2) := dk_22 8 (dk_at dksX9_goesStep_3 21 rfl rfl)
theorem dX9_goesStep_93 : decode cX9_goesStep 93 = .ok (.goto 13, 3) := dk_167 0 13 (dk_at dksX9_goesStep_4 0 rfl rfl)
theorem dX9_goesStep_96 : decode cX9_goesStep 96 = .ok (.lload 8, 2) := dk_22 8 (dk_at dksX9_goesStep_4 3 rfl rfl)
theorem dX9_goesStep_98 : decode cX9_goesStep 98 = .ok (.iload 5, 2) := dk_21 5 (dk_at dksX9_goesStep_4 5 rfl rfl)
theorem dX9_goesStep_100 : decode cX9_goesStep 100 = .ok (.i2l, 1) := dk_133 (dk_at dksX9_goesStep_4 7 rfl rfl)
theorem dX9_goesStep_101 : decode cX9_goesStep 101 = .ok (.lmul, 1) := dk_105 (dk_at dksX9_goesStep_4 8 rfl rfl)
theorem dX9_goesStep_102 : decode cX9_goesStep 102 = .ok (.ldc2_w 398, 3) := dk_20 1 142 (dk_at dksX9_goesStep_4 9 rfl rfl)
theorem dX9_goesStep_105 : decode cX9_goesStep 105 = .ok (.ldiv, 1) := dk_109 (dk_at dksX9_goesStep_4 12 rfl rfl)
theorem dX9_goesStep_106 : decode cX9_goesStep 106 = .ok (.lstore 10, 2) := dk_55 10 (dk_at dksX9_goesStep_4 13 rfl rfl)
theorem dX9_goesStep_108 : decode cX9_goesStep 108 = .ok (.aload_n 0, 1) := dk_42 (dk_at dksX9_goesStep_4 15 rfl rfl)
theorem dX9_goesStep_109 : decode cX9_goesStep 109 = .ok (.iload 7, 2) := dk_21 7 (dk_at dksX9_goesStep_4 16 rfl rfl)
theorem dX9_goesStep_111 : decode cX9_goesStep 111 = .ok (.lload 8, 2) := dk_22 8 (dk_at dksX9_goesStep_4 18 rfl rfl)
theorem dX9_goesStep_113 : decode cX9_goesStep 113 = .ok (.lload 10, 2) := dk_22 10 (dk_at dksX9_goesStep_4 20 rfl rfl)
theorem dX9_goesStep_115 : decode cX9_goesStep 115 = .ok (.lsub, 1) := dk_101 (dk_at dksX9_goesStep_4 22 rfl rfl)
theorem dX9_goesStep_116 : decode cX9_goesStep 116 = .ok (.invokevirtual 400, 3) := dk_182 1 144 (dk_at dksX9_goesStep_5 0 rfl rfl)
theorem dX9_goesStep_119 : decode cX9_goesStep 119 = .ok (.lload 10, 2) := dk_22 10 (dk_at dksX9_goesStep_5 3 rfl rfl)
theorem dX9_goesStep_121 : decode cX9_goesStep 121 = .ok (.lconst 0, 1) := dk_9 (dk_at dksX9_goesStep_5 5 rfl rfl)
theorem dX9_goesStep_122 : decode cX9_goesStep 122 = .ok (.lcmp, 1) := dk_148 (dk_at dksX9_goesStep_5 6 rfl rfl)
theorem dX9_goesStep_123 : decode cX9_goesStep 123 = .ok (.ifCond .le 12, 3) := dk_158 0 12 (dk_at dksX9_goesStep_5 7 rfl rfl)
theorem dX9_goesStep_126 : decode cX9_goesStep 126 = .ok (.aload_n 0, 1) := dk_42 (dk_at dksX9_goesStep_5 10 rfl rfl)
theorem dX9_goesStep_127 : decode cX9_goesStep 127 = .ok (.iload 4, 2) := dk_21 4 (dk_at dksX9_goesStep_5 11 rfl rfl)
theorem dX9_goesStep_129 : decode cX9_goesStep 129 = .ok (.lload 10, 2) := dk_22 10 (dk_at dksX9_goesStep_5 13 rfl rfl)
theorem dX9_goesStep_131 : decode cX9_goesStep 131 = .ok (.iload_n 3, 1) := dk_29 (dk_at dksX9_goesStep_5 15 rfl rfl)
theorem dX9_goesStep_132 : decode cX9_goesStep 132 = .ok (.invokevirtual 430, 3) := dk_182 1 174 (dk_at dksX9_goesStep_5 16 rfl rfl)
theorem dX9_goesStep_135 : decode cX9_goesStep 135 = .ok (.iinc 6 1, 3) := dk_132 6 1 (dk_at dksX9_goesStep_5 19 rfl rfl)
theorem dX9_goesStep_138 : decode cX9_goesStep 138 = .ok (.goto (-103), 3) := dk_167 255 153 (dk_at dksX9_goesStep_6 0 rfl rfl)
theorem dX9_goesStep_141 : decode cX9_goesStep 141 = .ok (.aload_n 0, 1) := dk_42 (dk_at dksX9_goesStep_6 3 rfl rfl)
theorem dX9_goesStep_142 : decode cX9_goesStep 142 = .ok (.invokevirtual 404, 3) := dk_182 1 148 (dk_at dksX9_goesStep_6 4 rfl rfl)
theorem dX9_goesStep_145 : decode cX9_goesStep 145 = .ok (.return_, 1) := dk_177 (dk_at dksX9_goesStep_6 7 rfl rfl)
abbrev cX9_findFacts : ByteArray := prog_28_method_64_code
def yX9_findFacts : MethodName := ⟨RX9, "findFacts", "(I)V"⟩
def dkwX9_findFacts_3 : List UInt8 := [180, 1, 127, 79, 177]
abbrev dktX9_findFacts_3 : List UInt8 := dkwX9_findFacts_3 ++ []
def dkwX9_findFacts_2 : List UInt8 := [6, 42, 180, 0, 26, 3, 46, 42, 180, 1, 136, 100, 42, 180, 1, 133, 100, 79, 42, 180, 0, 90, 8, 42]
abbrev dktX9_findFacts_2 : List UInt8 := dkwX9_findFacts_2 ++ dktX9_findFacts_3
def dkwX9_findFacts_1 : List UInt8 := [167, 0, 4, 3, 79, 42, 180, 0, 90, 5, 42, 180, 1, 136, 42, 180, 1, 133, 96, 79, 42, 180, 0, 90]
abbrev dktX9_findFacts_1 : List UInt8 := dkwX9_findFacts_1 ++ dktX9_findFacts_2
def dkwX9_findFacts_0 : List UInt8 := [42, 180, 0, 90, 3, 42, 180, 1, 131, 79, 42, 180, 0, 90, 4, 42, 27, 182, 1, 151, 153, 0, 7, 4]
abbrev dktX9_findFacts_0 : List UInt8 := dkwX9_findFacts_0 ++ dktX9_findFacts_1
theorem dksX9_findFacts_0 : cX9_findFacts.data.toList.drop 0 = dktX9_findFacts_0 := by decide +kernel
theorem dksX9_findFacts_1 : cX9_findFacts.data.toList.drop 24 = dktX9_findFacts_1 := dk_seg dksX9_findFacts_0 24 rfl rfl
theorem dksX9_findFacts_2 : cX9_findFacts.data.toList.drop 48 = dktX9_findFacts_2 := dk_seg dksX9_findFacts_1 24 rfl rfl
theorem dksX9_findFacts_3 : cX9_findFacts.data.toList.drop 72 = dktX9_findFacts_3 := dk_seg dksX9_findFacts_2 24 rfl rfl
theorem dX9_findFacts_0 : decode cX9_findFacts 0 = .ok (.aload_n 0, 1) := dk_42 (dk_at dksX9_findFacts_0 0 rfl rfl)
theorem dX9_findFacts_1 : decode cX9_findFacts 1 = .ok (.getfield 90, 3) := dk_180 0 90 (dk_at dksX9_findFacts_0 1 rfl rfl)
theorem dX9_findFacts_4 : decode cX9_findFacts 4 = .ok (.iconst 0, 1) := dk_3 (dk_at dksX9_findFacts_0 4 rfl rfl)
theorem dX9_findFacts_5 : decode cX9_findFacts 5 = .ok (.aload_n 0, 1) := dk_42 (dk_at dksX9_findFacts_0 5 rfl rfl)
theorem dX9_findFacts_6 : decode cX9_findFacts 6 = .ok (.getfield 387, 3) := dk_180 1 131 (dk_at dksX9_findFacts_0 6 rfl rfl)
theorem dX9_findFacts_9 : decode cX9_findFacts 9 = .ok (.iastore, 1) := dk_79 (dk_at dksX9_findFacts_0 9 rfl rfl)
theorem dX9_findFacts_10 : decode cX9_findFacts 10 = .ok (.aload_n 0, 1) := dk_42 (dk_at dksX9_findFacts_0 10 rfl rfl)
theorem dX9_findFacts_11 : decode cX9_findFacts 11 = .ok (.getfield 90, 3) := dk_180 0 90 (dk_at dksX9_findFacts_0 11 rfl rfl)
theorem dX9_findFacts_14 : decode cX9_findFacts 14 = .ok (.iconst 1, 1) := dk_4 (dk_at dksX9_findFacts_0 14 rfl rfl)
theorem dX9_findFacts_15 : decode cX9_findFacts 15 = .ok (.aload_n 0, 1) := dk_42 (dk_at dksX9_findFacts_0 15 rfl rfl)
theorem dX9_findFacts_16 : decode cX9_findFacts 16 = .ok (.iload_n 1, 1) := dk_27 (dk_at dksX9_findFacts_0 16 rfl rfl)
theorem dX9_findFacts_17 : decode cX9_findFacts 17 = .ok (.invokevirtual 407, 3) := dk_182 1 151 (dk_at dksX9_findFacts_0 17 rfl rfl)
theorem dX9_findFacts_20 : decode cX9_findFacts 20 = .ok (.ifCond .eq 7, 3) := dk_153 0 7 (dk_at dksX9_findFacts_0 20 rfl rfl)
theorem dX9_findFacts_23 : decode cX9_findFacts 23 = .ok (.iconst 1, 1) := dk_4 (dk_at dksX9_findFacts_0 23 rfl rfl)
theorem dX9_findFacts_24 : decode cX9_findFacts 24 = .ok (.goto 4, 3) := dk_167 0 4 (dk_at dksX9_findFacts_1 0 rfl rfl)
theorem dX9_findFacts_27 : decode cX9_findFacts 27 = .ok (.iconst 0, 1) := dk_3 (dk_at dksX9_findFacts_1 3 rfl rfl)
theorem dX9_findFacts_28 : decode cX9_findFacts 28 = .ok (.iastore, 1) := dk_79 (dk_at dksX9_findFacts_1 4 rfl rfl)
theorem dX9_findFacts_29 : decode cX9_findFacts 29 = .ok (.aload_n 0, 1) := dk_42 (dk_at dksX9_findFacts_1 5 rfl rfl)
theorem dX9_findFacts_30 : decode cX9_findFacts 30 = .ok (.getfield 90, 3) := dk_180 0 90 (dk_at dksX9_findFacts_1 6 rfl rfl)
theorem dX9_findFacts_33 : decode cX9_findFacts 33 = .ok (.iconst 2, 1) := dk_5 (dk_at dksX9_findFacts_1 9 rfl rfl)
theorem dX9_findFacts_34 : decode cX9_findFacts 34 = .ok (.aload_n 0, 1) := dk_42 (dk_at dksX9_findFacts_1 10 rfl rfl)
theorem dX9_findFacts_35 : decode cX9_findFacts 35 = .ok (.getfield 392, 3) := dk_180 1 136 (dk_at dksX9_findFacts_1 11 rfl rfl)
theorem dX9_findFacts_38 : decode cX9_findFacts 38 = .ok (.aload_n 0, 1) := dk_42 (dk_at dksX9_findFacts_1 14 rfl rfl)
theorem dX9_findFacts_39 : decode cX9_findFacts 39 = .ok (.getfield 389, 3) := dk_180 1 133 (dk_at dksX9_findFacts_1 15 rfl rfl)
theorem dX9_findFacts_42 : decode cX9_findFacts 42 = .ok (.iadd, 1) := dk_96 (dk_at dksX9_findFacts_1 18 rfl rfl)
theorem dX9_findFacts_43 : decode cX9_findFacts 43 = .ok (.iastore, 1) := dk_79 (dk_at dksX9_findFacts_1 19 rfl rfl)
theorem dX9_findFacts_44 : decode cX9_findFacts 44 = .ok (.aload_n 0, 1) := dk_42 (dk_at dksX9_findFacts_1 20 rfl rfl)
theorem dX9_findFacts_45 : decode cX9_findFacts 45 = .ok (.getfield 90, 3) := dk_180 0 90 (dk_at dksX9_findFacts_1 21 rfl rfl)
theorem dX9_findFacts_48 : decode cX9_findFacts 48 = .ok (.iconst 3, 1) := dk_6 (dk_at dksX9_findFacts_2 0 rfl rfl)
theorem dX9_findFacts_49 : decode cX9_findFacts 49 = .ok (.aload_n 0, 1) := dk_42 (dk_at dksX9_findFacts_2 1 rfl rfl)
theorem dX9_findFacts_50 : decode cX9_findFacts 50 = .ok (.getfield 26, 3) := dk_180 0 26 (dk_at dksX9_findFacts_2 2 rfl rfl)
theorem dX9_findFacts_53 : decode cX9_findFacts 53 = .ok (.iconst 0, 1) := dk_3 (dk_at dksX9_findFacts_2 5 rfl rfl)
theorem dX9_findFacts_54 : decode cX9_findFacts 54 = .ok (.iaload, 1) := dk_46 (dk_at dksX9_findFacts_2 6 rfl rfl)
theorem dX9_findFacts_55 : decode cX9_findFacts 55 = .ok (.aload_n 0, 1) := dk_42 (dk_at dksX9_findFacts_2 7 rfl rfl)
theorem dX9_findFacts_56 : decode cX9_findFacts 56 = .ok (.getfield 392, 3) := dk_180 1 136 (dk_at dksX9_findFacts_2 8 rfl rfl)
theorem dX9_findFacts_59 : decode cX9_findFacts 59 = .ok (.isub, 1) := dk_100 (dk_at dksX9_findFacts_2 11 rfl rfl)
theorem dX9_findFacts_60 : decode cX9_findFacts 60 = .ok (.aload_n 0, 1) := dk_42 (dk_at dksX9_findFacts_2 12 rfl rfl)
theorem dX9_findFacts_61 : decode cX9_findFacts 61 = .ok (.getfield 389, 3) := dk_180 1 133 (dk_at dksX9_findFacts_2 13 rfl rfl)
theorem dX9_findFacts_64 : decode cX9_findFacts 64 = .ok (.isub, 1) := dk_100 (dk_at dksX9_findFacts_2 16 rfl rfl)
theorem dX9_findFacts_65 : decode cX9_findFacts 65 = .ok (.iastore, 1) := dk_79 (dk_at dksX9_findFacts_2 17 rfl rfl)
theorem dX9_findFacts_66 : decode cX9_findFacts 66 = .ok (.aload_n 0, 1) := dk_42 (dk_at dksX9_findFacts_2 18 rfl rfl)
theorem dX9_findFacts_67 : decode cX9_findFacts 67 = .ok (.getfield 90, 3) := dk_180 0 90 (dk_at dksX9_findFacts_2 19 rfl rfl)
theorem dX9_findFacts_70 : decode cX9_findFacts 70 = .ok (.iconst 5, 1) := dk_8 (dk_at dksX9_findFacts_2 22 rfl rfl)
theorem dX9_findFacts_71 : decode cX9_findFacts 71 = .ok (.aload_n 0, 1) := dk_42 (dk_at dksX9_findFacts_2 23 rfl rfl)
theorem dX9_findFacts_72 : decode cX9_findFacts 72 = .ok (.getfield 383, 3) := dk_180 1 127 (dk_at dksX9_findFacts_3 0 rfl rfl)
theorem dX9_findFacts_75 : decode cX9_findFacts 75 = .ok (.iastore, 1) := dk_79 (dk_at dksX9_findFacts_3 3 rfl rfl)
theorem dX9_findFacts_76 : decode cX9_findFacts 76 = .ok (.return_, 1) := dk_177 (dk_at dksX9_findFacts_3 4 rfl rfl)
abbrev cX9_isSo : ByteArray := prog_28_method_62_code
def yX9_isSo : MethodName := ⟨RX9, "isSo", "(II)Z"⟩
def dkwX9_isSo_8 : List UInt8 := [167, 255, 122, 42, 180, 0, 50, 3, 46, 4, 160, 0, 7, 4, 167, 0, 4, 3, 172]
abbrev dktX9_isSo_8 : List UInt8 := dkwX9_isSo_8 ++ []
def dkwX9_isSo_7 : List UInt8 := [180, 0, 50, 21, 5, 4, 100, 46, 42, 180, 0, 50, 21, 5, 46, 184, 1, 157, 79, 132, 6, 1]
abbrev dktX9_isSo_7 : List UInt8 := dkwX9_isSo_7 ++ dktX9_isSo_8
def dkwX9_isSo_6 : List UInt8 := [21, 5, 4, 100, 46, 100, 79, 167, 0, 36, 132, 5, 255, 42, 180, 0, 50, 21, 5, 4, 100, 21, 7, 42]
abbrev dktX9_isSo_6 : List UInt8 := dkwX9_isSo_6 ++ dktX9_isSo_7
def dkwX9_isSo_5 : List UInt8 := [167, 0, 66, 21, 7, 16, 8, 160, 0, 26, 42, 180, 0, 50, 21, 5, 4, 100, 4, 42, 180, 0, 50]
abbrev dktX9_isSo_5 : List UInt8 := dkwX9_isSo_5 ++ dktX9_isSo_6
def dkwX9_isSo_4 : List UInt8 := [21, 6, 46, 167, 0, 15, 42, 180, 0, 90, 42, 180, 0, 56, 21, 6, 46, 46, 79, 132, 5, 1]
abbrev dktX9_isSo_4 : List UInt8 := dkwX9_isSo_4 ++ dktX9_isSo_5
def dkwX9_isSo_3 : List UInt8 := [46, 54, 7, 21, 7, 4, 163, 0, 43, 42, 180, 0, 50, 21, 5, 21, 7, 154, 0, 13, 42, 180, 0, 56]
abbrev dktX9_isSo_3 : List UInt8 := dkwX9_isSo_3 ++ dktX9_isSo_4
def dkwX9_isSo_2 : List UInt8 := [104, 29, 96, 54, 6, 21, 6, 17, 0, 150, 27, 104, 21, 4, 96, 162, 0, 127, 42, 180, 0, 53, 21, 6]
abbrev dktX9_isSo_2 : List UInt8 := dkwX9_isSo_2 ++ dktX9_isSo_3
def dkwX9_isSo_1 : List UInt8 := [7, 28, 104, 96, 6, 96, 46, 54, 4, 29, 21, 4, 160, 0, 5, 4, 172, 3, 54, 5, 17, 0, 150, 27]
abbrev dktX9_isSo_1 : List UInt8 := dkwX9_isSo_1 ++ dktX9_isSo_2
def dkwX9_isSo_0 : List UInt8 := [42, 180, 0, 59, 16, 32, 27, 104, 7, 28, 104, 96, 5, 96, 46, 62, 42, 180, 0, 59, 16, 32, 27, 104]
abbrev dktX9_isSo_0 : List UInt8 := dkwX9_isSo_0 ++ dktX9_isSo_1
theorem dksX9_isSo_0 : cX9_isSo.data.toList.drop 0 = dktX9_isSo_0 := by decide +kernel
theorem dksX9_isSo_1 : cX9_isSo.data.toList.drop 24 = dktX9_isSo_1 := dk_seg dksX9_isSo_0 24 rfl rfl
theorem dksX9_isSo_2 : cX9_isSo.data.toList.drop 48 = dktX9_isSo_2 := dk_seg dksX9_isSo_1 24 rfl rfl
theorem dksX9_isSo_3 : cX9_isSo.data.toList.drop 72 = dktX9_isSo_3 := dk_seg dksX9_isSo_2 24 rfl rfl
theorem dksX9_isSo_4 : cX9_isSo.data.toList.drop 96 = dktX9_isSo_4 := dk_seg dksX9_isSo_3 24 rfl rfl
theorem dksX9_isSo_5 : cX9_isSo.data.toList.drop 118 = dktX9_isSo_5 := dk_seg dksX9_isSo_4 22 rfl rfl
theorem dksX9_isSo_6 : cX9_isSo.data.toList.drop 141 = dktX9_isSo_6 := dk_seg dksX9_isSo_5 23 rfl rfl
theorem dksX9_isSo_7 : cX9_isSo.data.toList.drop 165 = dktX9_isSo_7 := dk_seg dksX9_isSo_6 24 rfl rfl
theorem dksX9_isSo_8 : cX9_isSo.data.toList.drop 187 = dktX9_isSo_8 := dk_seg dksX9_isSo_7 22 rfl rfl
theorem dX9_isSo_0 : decode cX9_isSo 0 = .ok (.aload_n 0, 1) := dk_42 (dk_at dksX9_isSo_0 0 rfl rfl)
theorem dX9_isSo_1 : decode cX9_isSo 1 = .ok (.getfield 59, 3) := dk_180 0 59 (dk_at dksX9_isSo_0 1 rfl rfl)
theorem dX9_isSo_4 : decode cX9_isSo 4 = .ok (.bipush 32, 2) := dk_16 32 (dk_at dksX9_isSo_0 4 rfl rfl)
theorem dX9_isSo_6 : decode cX9_isSo 6 = .ok (.iload_n 1, 1) := dk_27 (dk_at dksX9_isSo_0 6 rfl rfl)
theorem dX9_isSo_7 : decode cX9_isSo 7 = .ok (.imul, 1) := dk_104 (dk_at dksX9_isSo_0 7 rfl rfl)
theorem dX9_isSo_8 : decode cX9_isSo 8 = .ok (.iconst 4, 1) := dk_7 (dk_at dksX9_isSo_0 8 rfl rfl)
theorem dX9_isSo_9 : decode cX9_isSo 9 = .ok (.iload_n 2, 1) := dk_28 (dk_at dksX9_isSo_0 9 rfl rfl)
theorem dX9_isSo_10 : decode cX9_isSo 10 = .ok (.imul, 1) := dk_104 (dk_at dksX9_isSo_0 10 rfl rfl)
theorem dX9_isSo_11 : decode cX9_isSo 11 = .ok (.iadd, 1) := dk_96 (dk_at dksX9_isSo_0 11 rfl rfl)
theorem dX9_isSo_12 : decode cX9_isSo 12 = .ok (.iconst 2, 1) := dk_5 (dk_at dksX9_isSo_0 12 rfl rfl)
theorem dX9_isSo_13 : decode cX9_isSo 13 = .ok (.iadd, 1) := dk_96 (dk_at dksX9_isSo_0 13 rfl rfl)
theorem dX9_isSo_14 : decode cX9_isSo 14 = .ok (.iaload, 1) := dk_46 (dk_at dksX9_isSo_0 14 rfl rfl)
theorem dX9_isSo_15 : decode cX9_isSo 15 = .ok (.istore_n 3, 1) := dk_62 (dk_at dksX9_isSo_0 15 rfl rfl)
theorem dX9_isSo_16 : decode cX9_isSo 16 = .ok (.aload_n 0, 1) := dk_42 (dk_at dksX9_isSo_0 16 rfl rfl)
theorem dX9_isSo_17 : decode cX9_isSo 17 = .ok (.getfield 59, 3) := dk_180 0 59 (dk_at dksX9_isSo_0 17 rfl rfl)
theorem dX9_isSo_20 : decode cX9_isSo 20 = .ok (.bipush 32, 2) := dk_16 32 (dk_at dksX9_isSo_0 20 rfl rfl)
theorem dX9_isSo_22 : decode cX9_isSo 22 = .ok (.iload_n 1, 1) := dk_27 (dk_at dksX9_isSo_0 22 rfl rfl)
theorem dX9_isSo_23 : decode cX9_isSo 23 = .ok (.imul, 1) := dk_104 (dk_at dksX9_isSo_0 23 rfl rfl)
theorem dX9_isSo_24 : decode cX9_isSo 24 = .ok (.iconst 4, 1) := dk_7 (dk_at dksX9_isSo_1 0 rfl rfl)
theorem dX9_isSo_25 : decode cX9_isSo 25 = .ok (.iload_n 2, 1) := dk_28 (dk_at dksX9_isSo_1 1 rfl rfl)
theorem dX9_isSo_26 : decode cX9_isSo 26 = .ok (.imul, 1) := dk_104 (dk_at dksX9_isSo_1 2 rfl rfl)
theorem dX9_isSo_27 : decode cX9_isSo 27 = .ok (.iadd, 1) := dk_96 (dk_at dksX9_isSo_1 3 rfl rfl)
theorem dX9_isSo_28 : decode cX9_isSo 28 = .ok (.iconst 3, 1) := dk_6 (dk_at dksX9_isSo_1 4 rfl rfl)
theorem dX9_isSo_29 : decode cX9_isSo 29 = .ok (.iadd, 1) := dk_96 (dk_at dksX9_isSo_1 5 rfl rfl)
theorem dX9_isSo_30 : decode cX9_isSo 30 = .ok (.iaload, 1) := dk_46 (dk_at dksX9_isSo_1 6 rfl rfl)
theorem dX9_isSo_31 : decode cX9_isSo 31 = .ok (.istore 4, 2) := dk_54 4 (dk_at dksX9_isSo_1 7 rfl rfl)
theorem dX9_isSo_33 : decode cX9_isSo 33 = .ok (.iload_n 3, 1) := dk_29 (dk_at dksX9_isSo_1 9 rfl rfl)
theorem dX9_isSo_34 : decode cX9_isSo 34 = .ok (.iload 4, 2) := dk_21 4 (dk_at dksX9_isSo_1 10 rfl rfl)
theorem dX9_isSo_36 : decode cX9_isSo 36 = .ok (.if_icmp .ne 5, 3) := dk_160 0 5 (dk_at dksX9_isSo_1 12 rfl rfl)
theorem dX9_isSo_39 : decode cX9_isSo 39 = .ok (.iconst 1, 1) := dk_4 (dk_at dksX9_isSo_1 15 rfl rfl)
theorem dX9_isSo_40 : decode cX9_isSo 40 = .ok (.ireturn, 1) := dk_172 (dk_at dksX9_isSo_1 16 rfl rfl)
theorem dX9_isSo_41 : decode cX9_isSo 41 = .ok (.iconst 0, 1) := dk_3 (dk_at dksX9_isSo_1 17 rfl rfl)
theorem dX9_isSo_42 : decode cX9_isSo 42 = .ok (.istore 5, 2) := dk_54 5 (dk_at dksX9_isSo_1 18 rfl rfl)
theorem dX9_isSo_44 : decode cX9_isSo 44 = .ok (.sipush 150, 3) := dk_17 0 150 (dk_at dksX9_isSo_1 20 rfl rfl)
theorem dX9_isSo_47 : decode cX9_isSo 47 = .ok (.iload_n 1, 1) := dk_27 (dk_at dksX9_isSo_1 23 rfl rfl)
theorem dX9_isSo_48 : decode cX9_isSo 48 = .ok (.imul, 1) := dk_104 (dk_at dksX9_isSo_2 0 rfl rfl)
theorem dX9_isSo_49 : decode cX9_isSo 49 = .ok (.iload_n 3, 1) := dk_29 (dk_at dksX9_isSo_2 1 rfl rfl)
theorem dX9_isSo_50 : decode cX9_isSo 50 = .ok (.iadd, 1) := dk_96 (dk_at dksX9_isSo_2 2 rfl rfl)
theorem dX9_isSo_51 : decode cX9_isSo 51 = .ok (.istore 6, 2) := dk_54 6 (dk_at dksX9_isSo_2 3 rfl rfl)
theorem dX9_isSo_53 : decode cX9_isSo 53 = .ok (.iload 6, 2) := dk_21 6 (dk_at dksX9_isSo_2 5 rfl rfl)
theorem dX9_isSo_55 : decode cX9_isSo 55 = .ok (.sipush 150, 3) := dk_17 0 150 (dk_at dksX9_isSo_2 7 rfl rfl)
theorem dX9_isSo_58 : decode cX9_isSo 58 = .ok (.iload_n 1, 1) := dk_27 (dk_at dksX9_isSo_2 10 rfl rfl)
theorem dX9_isSo_59 : decode cX9_isSo 59 = .ok (.imul, 1) := dk_104 (dk_at dksX9_isSo_2 11 rfl rfl)
theorem dX9_isSo_60 : decode cX9_isSo 60 = .ok (.iload 4, 2) := dk_21 4 (dk_at dksX9_isSo_2 12 rfl rfl)
theorem dX9_isSo_62 : decode cX9_isSo 62 = .ok (.iadd, 1) := dk_96 (dk_at dksX9_isSo_2 14 rfl rfl)
theorem dX9_isSo_63 : decode cX9_isSo 63 = .ok (.if_icmp .ge 127, 3) := dk_162 0 127 (dk_at dksX9_isSo_2 15 rfl rfl)
theorem dX9_isSo_66 : decode cX9_isSo 66 = .ok (.aload_n 0, 1) := dk_42 (dk_at dksX9_isSo_2 18 rfl rfl)
theorem dX9_isSo_67 : decode cX9_isSo 67 = .ok (.getfield 53, 3) := dk_180 0 53 (dk_at dksX9_isSo_2 19 rfl rfl)
theorem dX9_isSo_70 : decode cX9_isSo 70 = .ok (.iload 6, 2) := dk_21 6 (dk_at dksX9_isSo_2 22 rfl rfl)
theorem dX9_isSo_72 : decode cX9_isSo 72 = .ok (.iaload, 1) := dk_46 (dk_at dksX9_isSo_3 0 rfl rfl)
theorem dX9_isSo_73 : decode cX9_isSo 73 = .ok (.istore 7, 2) := dk_54 7 (dk_at dksX9_isSo_3 1 rfl rfl)
theorem dX9_isSo_75 : decode cX9_isSo 75 = .ok (.iload 7, 2) := dk_21 7 (dk_at dksX9_isSo_3 3 rfl rfl)
theorem dX9_isSo_77 : decode cX9_isSo 77 = .ok (.iconst 1, 1) := dk_4 (dk_at dksX9_isSo_3 5 rfl rfl)
theorem dX9_isSo_78 : decode cX9_isSo 78 = .ok (.if_icmp .gt 43, 3) := dk_163 0 43 (dk_at dksX9_isSo_3 6 rfl rfl)
theorem dX9_isSo_81 : decode cX9_isSo 81 = .ok (.aload_n 0, 1) := dk_42 (dk_at dksX9_isSo_3 9 rfl rfl)
theorem dX9_isSo_82 : decode cX9_isSo 82 = .ok (.getfield 50, 3) := dk_180 0 50 (dk_at dksX9_isSo_3 10 rfl rfl)
theorem dX9_isSo_85 : decode cX9_isSo 85 = .ok (.iload 5, 2) := dk_21 5 (dk_at dksX9_isSo_3 13 rfl rfl)
theorem dX9_isSo_87 : decode cX9_isSo 87 = .ok (.iload 7, 2) := dk_21 7 (dk_at dksX9_isSo_3 15 rfl rfl)
theorem dX9_isSo_89 : decode cX9_isSo 89 = .ok (.ifCond .ne 13, 3) := dk_154 0 13 (dk_at dksX9_isSo_3 17 rfl rfl)
theorem dX9_isSo_92 : decode cX9_isSo 92 = .ok (.aload_n 0, 1) := dk_42 (dk_at dksX9_isSo_3 20 rfl rfl)
theorem dX9_isSo_93 : decode cX9_isSo 93 = .ok (.getfield 56, 3) := dk_180 0 56 (dk_at dksX9_isSo_3 21 rfl rfl)
theorem dX9_isSo_96 : decode cX9_isSo 96 = .ok (.iload 6, 2) := dk_21 6 (dk_at dksX9_isSo_4 0 rfl rfl)
theorem dX9_isSo_98 : decode cX9_isSo 98 = .ok (.iaload, 1) := dk_46 (dk_at dksX9_isSo_4 2 rfl rfl)
theorem dX9_isSo_99 : decode cX9_isSo 99 = .ok (.goto 15, 3) := dk_167 0 15 (dk_at dksX9_isSo_4 3 rfl rfl)
theorem dX9_isSo_102 : decode cX9_isSo 102 = .ok (.aload_n 0, 1) := dk_42 (dk_at dksX9_isSo_4 6 rfl rfl)
theorem dX9_isSo_103 : decode cX9_isSo 103 = .ok (.getfield 90, 3) := dk_180 0 90 (dk_at dksX9_isSo_4 7 rfl rfl)
theorem dX9_isSo_106 : decode cX9_isSo 106 = .ok (.aload_n 0, 1) := dk_42 (dk_at dksX9_isSo_4 10 rfl rfl)
theorem dX9_isSo_107 : decode cX9_isSo 107 = .ok (.getfield 56, 3) := dk_180 0 56 (dk_at dksX9_isSo_4 11 rfl rfl)
theorem dX9_isSo_110 : decode cX9_isSo 110 = .ok (.iload 6, 2) := dk_21 6 (dk_at dksX9_isSo_4 14 rfl rfl)
theorem dX9_isSo_112 : decode cX9_isSo 112 = .ok (.iaload, 1) := dk_46 (dk_at dksX9_isSo_4 16 rfl rfl)
theorem dX9_isSo_113 : decode cX9_isSo 113 = .ok (.iaload, 1) := dk_46 (dk_at dksX9_isSo_4 17 rfl rfl)
theorem dX9_isSo_114 : decode cX9_isSo 114 = .ok (.iastore, 1) := dk_79 (dk_at dksX9_isSo_4 18 rfl rfl)
theorem dX9_isSo_115 : decode cX9_isSo 115 = .ok (.iinc 5 1, 3) := dk_132 5 1 (dk_at dksX9_isSo_4 19 rfl rfl)
theorem dX9_isSo_118 : decode cX9_isSo 118 = .ok (.goto 66, 3) := dk_167 0 66 (dk_at dksX9_isSo_5 0 rfl rfl)
theorem dX9_isSo_121 : decode cX9_isSo 121 = .ok (.iload 7, 2) := dk_21 7 (dk_at dksX9_isSo_5 3 rfl rfl)
theorem dX9_isSo_123 : decode cX9_isSo 123 = .ok (.bipush 8, 2) := dk_16 8 (dk_at dksX9_isSo_5 5 rfl rfl)
theorem dX9_isSo_125 : decode cX9_isSo 125 = .ok (.if_icmp .ne 26, 3) := dk_160 0 26 (dk_at dksX9_isSo_5 7 rfl rfl)
theorem dX9_isSo_128 : decode cX9_isSo 128 = .ok (.aload_n 0, 1) := dk_42 (dk_at dksX9_isSo_5 10 rfl rfl)
theorem dX9_isSo_129 : decode cX9_isSo 129 = .ok (.getfield 50, 3) := dk_180 0 50 (dk_at dksX9_isSo_5 11 rfl rfl)
theorem dX9_isSo_132 : decode cX9_isSo 132 = .ok (.iload 5, 2) := dk_21 5 (dk_at dksX9_isSo_5 14 rfl rfl)
theorem dX9_isSo_134 : decode cX9_isSo 134 = .ok (.iconst 1, 1) := dk_4 (dk_at dksX9_isSo_5 16 rfl rfl)
theorem dX9_isSo_135 : decode cX9_isSo 135 = .ok (.isub, 1) := dk_100 (dk_at dksX9_isSo_5 17 rfl rfl)
theorem dX9_isSo_136 : decode cX9_isSo 136 = .ok (.iconst 1, 1) := dk_4 (dk_at dksX9_isSo_5 18 rfl rfl)
theorem dX9_isSo_137 : decode cX9_isSo 137 = .ok (.aload_n 0, 1) := dk_42 (dk_at dksX9_isSo_5 19 rfl rfl)
theorem dX9_isSo_138 : decode cX9_isSo 138 = .ok (.getfield 50, 3) := dk_180 0 50 (dk_at dksX9_isSo_5 20 rfl rfl)
theorem dX9_isSo_141 : decode cX9_isSo 141 = .ok (.iload 5, 2) := dk_21 5 (dk_at dksX9_isSo_6 0 rfl rfl)
theorem dX9_isSo_143 : decode cX9_isSo 143 = .ok (.iconst 1, 1) := dk_4 (dk_at dksX9_isSo_6 2 rfl rfl)
theorem dX9_isSo_144 : decode cX9_isSo 144 = .ok (.isub, 1) := dk_100 (dk_at dksX9_isSo_6 3 rfl rfl)
theorem dX9_isSo_145 : decode cX9_isSo 145 = .ok (.iaload, 1) := dk_46 (dk_at dksX9_isSo_6 4 rfl rfl)
theorem dX9_isSo_146 : decode cX9_isSo 146 = .ok (.isub, 1) := dk_100 (dk_at dksX9_isSo_6 5 rfl rfl)
theorem dX9_isSo_147 : decode cX9_isSo 147 = .ok (.iastore, 1) := dk_79 (dk_at dksX9_isSo_6 6 rfl rfl)
theorem dX9_isSo_148 : decode cX9_isSo 148 = .ok (.goto 36, 3) := dk_167 0 36 (dk_at dksX9_isSo_6 7 rfl rfl)
theorem dX9_isSo_151 : decode cX9_isSo 151 = .ok (.iinc 5 (-1), 3) := dk_132 5 255 (dk_at dksX9_isSo_6 10 rfl rfl)
theorem dX9_isSo_154 : decode cX9_isSo 154 = .ok (.aload_n 0, 1) := dk_42 (dk_at dksX9_isSo_6 13 rfl rfl)
theorem dX9_isSo_155 : decode cX9_isSo 155 = .ok (.getfield 50, 3) := dk_180 0 50 (dk_at dksX9_isSo_6 14 rfl rfl)
theorem dX9_isSo_158 : decode cX9_isSo 158 = .ok (.iload 5, 2) := dk_21 5 (dk_at dksX9_isSo_6 17 rfl rfl)
theorem dX9_isSo_160 : decode cX9_isSo 160 = .ok (.iconst 1, 1) := dk_4 (dk_at dksX9_isSo_6 19 rfl rfl)
theorem dX9_isSo_161 : decode cX9_isSo 161 = .ok (.isub, 1) := dk_100 (dk_at dksX9_isSo_6 20 rfl rfl)
theorem dX9_isSo_162 : decode cX9_isSo 162 = .ok (.iload 7, 2) := dk_21 7 (dk_at dksX9_isSo_6 21 rfl rfl)
theorem dX9_isSo_164 : decode cX9_isSo 164 = .ok (.aload_n 0, 1) := dk_42 (dk_at dksX9_isSo_6 23 rfl rfl)
theorem dX9_isSo_165 : decode cX9_isSo 165 = .ok (.getfield 50, 3) := dk_180 0 50 (dk_at dksX9_isSo_7 0 rfl rfl)
theorem dX9_isSo_168 : decode cX9_isSo 168 = .ok (.iload 5, 2) := dk_21 5 (dk_at dksX9_isSo_7 3 rfl rfl)
theorem dX9_isSo_170 : decode cX9_isSo 170 = .ok (.iconst 1, 1) := dk_4 (dk_at dksX9_isSo_7 5 rfl rfl)
theorem dX9_isSo_171 : decode cX9_isSo 171 = .ok (.isub, 1) := dk_100 (dk_at dksX9_isSo_7 6 rfl rfl)
theorem dX9_isSo_172 : decode cX9_isSo 172 = .ok (.iaload, 1) := dk_46 (dk_at dksX9_isSo_7 7 rfl rfl)
theorem dX9_isSo_173 : decode cX9_isSo 173 = .ok (.aload_n 0, 1) := dk_42 (dk_at dksX9_isSo_7 8 rfl rfl)
theorem dX9_isSo_174 : decode cX9_isSo 174 = .ok (.getfield 50, 3) := dk_180 0 50 (dk_at dksX9_isSo_7 9 rfl rfl)
theorem dX9_isSo_177 : decode cX9_isSo 177 = .ok (.iload 5, 2) := dk_21 5 (dk_at dksX9_isSo_7 12 rfl rfl)
theorem dX9_isSo_179 : decode cX9_isSo 179 = .ok (.iaload, 1) := dk_46 (dk_at dksX9_isSo_7 14 rfl rfl)
theorem dX9_isSo_180 : decode cX9_isSo 180 = .ok (.invokestatic 413, 3) := dk_184 1 157 (dk_at dksX9_isSo_7 15 rfl rfl)
theorem dX9_isSo_183 : decode cX9_isSo 183 = .ok (.iastore, 1) := dk_79 (dk_at dksX9_isSo_7 18 rfl rfl)
theorem dX9_isSo_184 : decode cX9_isSo 184 = .ok (.iinc 6 1, 3) := dk_132 6 1 (dk_at dksX9_isSo_7 19 rfl rfl)
theorem dX9_isSo_187 : decode cX9_isSo 187 = .ok (.goto (-134), 3) := dk_167 255 122 (dk_at dksX9_isSo_8 0 rfl rfl)
theorem dX9_isSo_190 : decode cX9_isSo 190 = .ok (.aload_n 0, 1) := dk_42 (dk_at dksX9_isSo_8 3 rfl rfl)
theorem dX9_isSo_191 : decode cX9_isSo 191 = .ok (.getfield 50, 3) := dk_180 0 50 (dk_at dksX9_isSo_8 4 rfl rfl)
theorem dX9_isSo_194 : decode cX9_isSo 194 = .ok (.iconst 0, 1) := dk_3 (dk_at dksX9_isSo_8 7 rfl rfl)
theorem dX9_isSo_195 : decode cX9_isSo 195 = .ok (.iaload, 1) := dk_46 (dk_at dksX9_isSo_8 8 rfl rfl)
theorem dX9_isSo_196 : decode cX9_isSo 196 = .ok (.iconst 1, 1) := dk_4 (dk_at dksX9_isSo_8 9 rfl rfl)
theorem dX9_isSo_197 : decode cX9_isSo 197 = .ok (.if_icmp .ne 7, 3) := dk_160 0 7 (dk_at dksX9_isSo_8 10 rfl rfl)
theorem dX9_isSo_200 : decode cX9_isSo 200 = .ok (.iconst 1, 1) := dk_4 (dk_at dksX9_isSo_8 13 rfl rfl)
theorem dX9_isSo_201 : decode cX9_isSo 201 = .ok (.goto 4, 3) := dk_167 0 4 (dk_at dksX9_isSo_8 14 rfl rfl)
theorem dX9_isSo_204 : decode cX9_isSo 204 = .ok (.iconst 0, 1) := dk_3 (dk_at dksX9_isSo_8 17 rfl rfl)
theorem dX9_isSo_205 : decode cX9_isSo 205 = .ok (.ireturn, 1) := dk_172 (dk_at dksX9_isSo_8 18 rfl rfl)
abbrev cX9_both : ByteArray := prog_28_method_63_code
def yX9_both : MethodName := ⟨RX9, "both", "(III)I"⟩
def dkwX9_both_5 : List UInt8 := [167, 0, 4, 3, 62, 29, 153, 0, 7, 4, 167, 0, 4, 3, 172]
abbrev dktX9_both_5 : List UInt8 := dkwX9_both_5 ++ []
def dkwX9_both_4 : List UInt8 := [27, 28, 96, 5, 160, 0, 7, 4, 167, 0, 18, 3, 167, 0, 14, 27, 28, 96, 158, 0, 7, 4]
abbrev dktX9_both_4 : List UInt8 := dkwX9_both_4 ++ dktX9_both_5
def dkwX9_both_3 : List UInt8 := [16, 7, 160, 0, 16, 27, 28, 160, 0, 7, 4, 167, 0, 39, 3, 167, 0, 35, 26, 16, 9, 160, 0, 18]
abbrev dktX9_both_3 : List UInt8 := dkwX9_both_3 ++ dktX9_both_4
def dkwX9_both_2 : List UInt8 := [167, 0, 73, 26, 16, 6, 160, 0, 16, 27, 28, 164, 0, 7, 4, 167, 0, 58, 3, 167, 0, 54, 26]
abbrev dktX9_both_2 : List UInt8 := dkwX9_both_2 ++ dktX9_both_3
def dkwX9_both_1 : List UInt8 := [167, 0, 6, 27, 28, 104, 172, 26, 8, 160, 0, 16, 27, 28, 162, 0, 7, 4, 167, 0, 77, 3]
abbrev dktX9_both_1 : List UInt8 := dkwX9_both_1 ++ dktX9_both_2
def dkwX9_both_0 : List UInt8 := [26, 7, 163, 0, 29, 26, 5, 160, 0, 9, 27, 28, 96, 167, 0, 17, 26, 6, 160, 0, 9, 27, 28, 100]
abbrev dktX9_both_0 : List UInt8 := dkwX9_both_0 ++ dktX9_both_1
theorem dksX9_both_0 : cX9_both.data.toList.drop 0 = dktX9_both_0 := by decide +kernel
theorem dksX9_both_1 : cX9_both.data.toList.drop 24 = dktX9_both_1 := dk_seg dksX9_both_0 24 rfl rfl
theorem dksX9_both_2 : cX9_both.data.toList.drop 46 = dktX9_both_2 := dk_seg dksX9_both_1 22 rfl rfl
theorem dksX9_both_3 : cX9_both.data.toList.drop 69 = dktX9_both_3 := dk_seg dksX9_both_2 23 rfl rfl
theorem dksX9_both_4 : cX9_both.data.toList.drop 93 = dktX9_both_4 := dk_seg dksX9_both_3 24 rfl rfl
theorem dksX9_both_5 : cX9_both.data.toList.drop 115 = dktX9_both_5 := dk_seg dksX9_both_4 22 rfl rfl
theorem dX9_both_0 : decode cX9_both 0 = .ok (.iload_n 0, 1) := dk_26 (dk_at dksX9_both_0 0 rfl rfl)
theorem dX9_both_1 : decode cX9_both 1 = .ok (.iconst 4, 1) := dk_7 (dk_at dksX9_both_0 1 rfl rfl)
theorem dX9_both_2 : decode cX9_both 2 = .ok (.if_icmp .gt 29, 3) := dk_163 0 29 (dk_at dksX9_both_0 2 rfl rfl)
theorem dX9_both_5 : decode cX9_both 5 = .ok (.iload_n 0, 1) := dk_26 (dk_at dksX9_both_0 5 rfl rfl)
theorem dX9_both_6 : decode cX9_both 6 = .ok (.iconst 2, 1) := dk_5 (dk_at dksX9_both_0 6 rfl rfl)
theorem dX9_both_7 : decode cX9_both 7 = .ok (.if_icmp .ne 9, 3) := dk_160 0 9 (dk_at dksX9_both_0 7 rfl rfl)
theorem dX9_both_10 : decode cX9_both 10 = .ok (.iload_n 1, 1) := dk_27 (dk_at dksX9_both_0 10 rfl rfl)
theorem dX9_both_11 : decode cX9_both 11 = .ok (.iload_n 2, 1) := dk_28 (dk_at dksX9_both_0 11 rfl rfl)
theorem dX9_both_12 : decode cX9_both 12 = .ok (.iadd, 1) := dk_96 (dk_at dksX9_both_0 12 rfl rfl)
theorem dX9_both_13 : decode cX9_both 13 = .ok (.goto 17, 3) := dk_167 0 17 (dk_at dksX9_both_0 13 rfl rfl)
theorem dX9_both_16 : decode cX9_both 16 = .ok (.iload_n 0, 1) := dk_26 (dk_at dksX9_both_0 16 rfl rfl)
theorem dX9_both_17 : decode cX9_both 17 = .ok (.iconst 3, 1) := dk_6 (dk_at dksX9_both_0 17 rfl rfl)
theorem dX9_both_18 : decode cX9_both 18 = .ok (.if_icmp .ne 9, 3) := dk_160 0 9 (dk_at dksX9_both_0 18 rfl rfl)
theorem dX9_both_21 : decode cX9_both 21 = .ok (.iload_n 1, 1) := dk_27 (dk_at dksX9_both_0 21 rfl rfl)
theorem dX9_both_22 : decode cX9_both 22 = .ok (.iload_n 2, 1) := dk_28 (dk_at dksX9_both_0 22 rfl rfl)
theorem dX9_both_23 : decode cX9_both 23 = .ok (.isub, 1) := dk_100 (dk_at dksX9_both_0 23 rfl rfl)
theorem dX9_both_24 : decode cX9_both 24 = .ok (.goto 6, 3) := dk_167 0 6 (dk_at dksX9_both_1 0 rfl rfl)
theorem dX9_both_27 : decode cX9_both 27 = .ok (.iload_n 1, 1) := dk_27 (dk_at dksX9_both_1 3 rfl rfl)
theorem dX9_both_28 : decode cX9_both 28 = .ok (.iload_n 2, 1) := dk_28 (dk_at dksX9_both_1 4 rfl rfl)
theorem dX9_both_29 : decode cX9_both 29 = .ok (.imul, 1) := dk_104 (dk_at dksX9_both_1 5 rfl rfl)
theorem dX9_both_30 : decode cX9_both 30 = .ok (.ireturn, 1) := dk_172 (dk_at dksX9_both_1 6 rfl rfl)
theorem dX9_both_31 : decode cX9_both 31 = .ok (.iload_n 0, 1) := dk_26 (dk_at dksX9_both_1 7 rfl rfl)
theorem dX9_both_32 : decode cX9_both 32 = .ok (.iconst 5, 1) := dk_8 (dk_at dksX9_both_1 8 rfl rfl)
theorem dX9_both_33 : decode cX9_both 33 = .ok (.if_icmp .ne 16, 3) := dk_160 0 16 (dk_at dksX9_both_1 9 rfl rfl)
theorem dX9_both_36 : decode cX9_both 36 = .ok (.iload_n 1, 1) := dk_27 (dk_at dksX9_both_1 12 rfl rfl)
theorem dX9_both_37 : decode cX9_both 37 = .ok (.iload_n 2, 1) := dk_28 (dk_at dksX9_both_1 13 rfl rfl)
theorem dX9_both_38 : decode cX9_both 38 = .ok (.if_icmp .ge 7, 3) := dk_162 0 7 (dk_at dksX9_both_1 14 rfl rfl)
theorem dX9_both_41 : decode cX9_both 41 = .ok (.iconst 1, 1) := dk_4 (dk_at dksX9_both_1 17 rfl rfl)
theorem dX9_both_42 : decode cX9_both 42 = .ok (.goto 77, 3) := dk_167 0 77 (dk_at dksX9_both_1 18 rfl rfl)
theorem dX9_both_45 : decode cX9_both 45 = .ok (.iconst 0, 1) := dk_3 (dk_at dksX9_both_1 21 rfl rfl)
theorem dX9_both_46 : decode cX9_both 46 = .ok (.goto 73, 3) := dk_167 0 73 (dk_at dksX9_both_2 0 rfl rfl)
theorem dX9_both_49 : decode cX9_both 49 = .ok (.iload_n 0, 1) := dk_26 (dk_at dksX9_both_2 3 rfl rfl)
theorem dX9_both_50 : decode cX9_both 50 = .ok (.bipush 6, 2) := dk_16 6 (dk_at dksX9_both_2 4 rfl rfl)
theorem dX9_both_52 : decode cX9_both 52 = .ok (.if_icmp .ne 16, 3) := dk_160 0 16 (dk_at dksX9_both_2 6 rfl rfl)
theorem dX9_both_55 : decode cX9_both 55 = .ok (.iload_n 1, 1) := dk_27 (dk_at dksX9_both_2 9 rfl rfl)
theorem dX9_both_56 : decode cX9_both 56 = .ok (.iload_n 2, 1) := dk_28 (dk_at dksX9_both_2 10 rfl rfl)
theorem dX9_both_57 : decode cX9_both 57 = .ok (.if_icmp .le 7, 3) := dk_164 0 7 (dk_at dksX9_both_2 11 rfl rfl)
theorem dX9_both_60 : decode cX9_both 60 = .ok (.iconst 1, 1) := dk_4 (dk_at dksX9_both_2 14 rfl rfl)
theorem dX9_both_61 : decode cX9_both 61 = .ok (.goto 58, 3) := dk_167 0 58 (dk_at dksX9_both_2 15 rfl rfl)
theorem dX9_both_64 : decode cX9_both 64 = .ok (.iconst 0, 1) := dk_3 (dk_at dksX9_both_2 18 rfl rfl)
theorem dX9_both_65 : decode cX9_both 65 = .ok (.goto 54, 3) := dk_167 0 54 (dk_at dksX9_both_2 19 rfl rfl)
theorem dX9_both_68 : decode cX9_both 68 = .ok (.iload_n 0, 1) := dk_26 (dk_at dksX9_both_2 22 rfl rfl)
theorem dX9_both_69 : decode cX9_both 69 = .ok (.bipush 7, 2) := dk_16 7 (dk_at dksX9_both_3 0 rfl rfl)
theorem dX9_both_71 : decode cX9_both 71 = .ok (.if_icmp .ne 16, 3) := dk_160 0 16 (dk_at dksX9_both_3 2 rfl rfl)
theorem dX9_both_74 : decode cX9_both 74 = .ok (.iload_n 1, 1) := dk_27 (dk_at dksX9_both_3 5 rfl rfl)
theorem dX9_both_75 : decode cX9_both 75 = .ok (.iload_n 2, 1) := dk_28 (dk_at dksX9_both_3 6 rfl rfl)
theorem dX9_both_76 : decode cX9_both 76 = .ok (.if_icmp .ne 7, 3) := dk_160 0 7 (dk_at dksX9_both_3 7 rfl rfl)
theorem dX9_both_79 : decode cX9_both 79 = .ok (.iconst 1, 1) := dk_4 (dk_at dksX9_both_3 10 rfl rfl)
theorem dX9_both_80 : decode cX9_both 80 = .ok (.goto 39, 3) := dk_167 0 39 (dk_at dksX9_both_3 11 rfl rfl)
theorem dX9_both_83 : decode cX9_both 83 = .ok (.iconst 0, 1) := dk_3 (dk_at dksX9_both_3 14 rfl rfl)
theorem dX9_both_84 : decode cX9_both 84 = .ok (.goto 35, 3) := dk_167 0 35 (dk_at dksX9_both_3 15 rfl rfl)
theorem dX9_both_87 : decode cX9_both 87 = .ok (.iload_n 0, 1) := dk_26 (dk_at dksX9_both_3 18 rfl rfl)
theorem dX9_both_88 : decode cX9_both 88 = .ok (.bipush 9, 2) := dk_16 9 (dk_at dksX9_both_3 19 rfl rfl)
theorem dX9_both_90 : decode cX9_both 90 = .ok (.if_icmp .ne 18, 3) := dk_160 0 18 (dk_at dksX9_both_3 21 rfl rfl)
theorem dX9_both_93 : decode cX9_both 93 = .ok (.iload_n 1, 1) := dk_27 (dk_at dksX9_both_4 0 rfl rfl)
theorem dX9_both_94 : decode cX9_both 94 = .ok (.iload_n 2, 1) := dk_28 (dk_at dksX9_both_4 1 rfl rfl)
theorem dX9_both_95 : decode cX9_both 95 = .ok (.iadd, 1) := dk_96 (dk_at dksX9_both_4 2 rfl rfl)
theorem dX9_both_96 : decode cX9_both 96 = .ok (.iconst 2, 1) := dk_5 (dk_at dksX9_both_4 3 rfl rfl)
theorem dX9_both_97 : decode cX9_both 97 = .ok (.if_icmp .ne 7, 3) := dk_160 0 7 (dk_at dksX9_both_4 4 rfl rfl)
theorem dX9_both_100 : decode cX9_both 100 = .ok (.iconst 1, 1) := dk_4 (dk_at dksX9_both_4 7 rfl rfl)
theorem dX9_both_101 : decode cX9_both 101 = .ok (.goto 18, 3) := dk_167 0 18 (dk_at dksX9_both_4 8 rfl rfl)
theorem dX9_both_104 : decode cX9_both 104 = .ok (.iconst 0, 1) := dk_3 (dk_at dksX9_both_4 11 rfl rfl)
theorem dX9_both_105 : decode cX9_both 105 = .ok (.goto 14, 3) := dk_167 0 14 (dk_at dksX9_both_4 12 rfl rfl)
theorem dX9_both_108 : decode cX9_both 108 = .ok (.iload_n 1, 1) := dk_27 (dk_at dksX9_both_4 15 rfl rfl)
theorem dX9_both_109 : decode cX9_both 109 = .ok (.iload_n 2, 1) := dk_28 (dk_at dksX9_both_4 16 rfl rfl)
theorem dX9_both_110 : decode cX9_both 110 = .ok (.iadd, 1) := dk_96 (dk_at dksX9_both_4 17 rfl rfl)
theorem dX9_both_111 : decode cX9_both 111 = .ok (.ifCond .le 7, 3) := dk_158 0 7 (dk_at dksX9_both_4 18 rfl rfl)
theorem dX9_both_114 : decode cX9_both 114 = .ok (.iconst 1, 1) := dk_4 (dk_at dksX9_both_4 21 rfl rfl)
theorem dX9_both_115 : decode cX9_both 115 = .ok (.goto 4, 3) := dk_167 0 4 (dk_at dksX9_both_5 0 rfl rfl)
theorem dX9_both_118 : decode cX9_both 118 = .ok (.iconst 0, 1) := dk_3 (dk_at dksX9_both_5 3 rfl rfl)
theorem dX9_both_119 : decode cX9_both 119 = .ok (.istore_n 3, 1) := dk_62 (dk_at dksX9_both_5 4 rfl rfl)
theorem dX9_both_120 : decode cX9_both 120 = .ok (.iload_n 3, 1) := dk_29 (dk_at dksX9_both_5 5 rfl rfl)
theorem dX9_both_121 : decode cX9_both 121 = .ok (.ifCond .eq 7, 3) := dk_153 0 7 (dk_at dksX9_both_5 6 rfl rfl)
theorem dX9_both_124 : decode cX9_both 124 = .ok (.iconst 1, 1) := dk_4 (dk_at dksX9_both_5 9 rfl rfl)
theorem dX9_both_125 : decode cX9_both 125 = .ok (.goto 4, 3) := dk_167 0 4 (dk_at dksX9_both_5 10 rfl rfl)
theorem dX9_both_128 : decode cX9_both 128 = .ok (.iconst 0, 1) := dk_3 (dk_at dksX9_both_5 13 rfl rfl)
theorem dX9_both_129 : decode cX9_both 129 = .ok (.ireturn, 1) := dk_172 (dk_at dksX9_both_5 14 rfl rfl)
abbrev cX9_does : ByteArray := prog_28_method_66_code
def yX9_does : MethodName := ⟨RX9, "does", "(IJI)V"⟩
def dkwX9_does_11 : List UInt8 := [180, 1, 129, 42, 180, 1, 127, 184, 1, 111, 32, 182, 1, 144, 177]
abbrev dktX9_does_11 : List UInt8 := dkwX9_does_11 ++ []
def dkwX9_does_10 : List UInt8 := [160, 0, 7, 4, 167, 0, 19, 27, 16, 6, 160, 0, 7, 3, 167, 0, 9, 4, 42, 180, 1, 131, 100, 42]
abbrev dktX9_does_10 : List UInt8 := dkwX9_does_10 ++ dktX9_does_11
def dkwX9_does_9 : List UInt8 := [180, 1, 127, 184, 1, 111, 32, 182, 1, 144, 167, 0, 52, 42, 42, 180, 1, 136, 42, 180, 1, 133, 27, 8]
abbrev dktX9_does_9 : List UInt8 := dkwX9_does_9 ++ dktX9_does_10
def dkwX9_does_8 : List UInt8 := [182, 1, 165, 167, 0, 82, 27, 7, 160, 0, 28, 42, 3, 3, 42, 180, 1, 131, 42, 180, 1, 129, 42]
abbrev dktX9_does_8 : List UInt8 := dkwX9_does_8 ++ dktX9_does_9
def dkwX9_does_7 : List UInt8 := [184, 1, 111, 32, 22, 5, 101, 182, 1, 144, 167, 0, 97, 27, 6, 160, 0, 13, 42, 32, 21, 4]
abbrev dktX9_does_7 : List UInt8 := dkwX9_does_7 ++ dktX9_does_8
def dkwX9_does_6 : List UInt8 := [182, 1, 144, 42, 42, 180, 1, 136, 42, 180, 1, 133, 42, 180, 1, 131, 42, 180, 1, 129, 42, 180, 1, 127]
abbrev dktX9_does_6 : List UInt8 := dkwX9_does_6 ++ dktX9_does_7
def dkwX9_does_5 : List UInt8 := [42, 180, 1, 136, 42, 180, 1, 133, 42, 180, 1, 131, 42, 180, 1, 129, 4, 184, 1, 111, 22, 5]
abbrev dktX9_does_5 : List UInt8 := dkwX9_does_5 ++ dktX9_does_6
def dkwX9_does_4 : List UInt8 := [180, 1, 133, 158, 0, 17, 32, 42, 180, 1, 86, 133, 105, 20, 1, 142, 109, 167, 0, 4, 9, 55, 5, 42]
abbrev dktX9_does_4 : List UInt8 := dkwX9_does_4 ++ dktX9_does_5
def dkwX9_does_3 : List UInt8 := [182, 1, 161, 167, 0, 196, 27, 5, 160, 0, 97, 42, 89, 180, 1, 121, 32, 97, 181, 1, 121, 42]
abbrev dktX9_does_3 : List UInt8 := dkwX9_does_3 ++ dktX9_does_4
def dkwX9_does_2 : List UInt8 := [42, 180, 1, 127, 184, 1, 111, 32, 182, 1, 144, 167, 0, 211, 27, 4, 160, 0, 13, 42, 32, 21, 4]
abbrev dktX9_does_2 : List UInt8 := dkwX9_does_2 ++ dktX9_does_3
def dkwX9_does_1 : List UInt8 := [162, 0, 12, 42, 180, 1, 133, 4, 96, 167, 0, 7, 42, 180, 1, 133, 42, 180, 1, 131, 42, 180, 1, 129]
abbrev dktX9_does_1 : List UInt8 := dkwX9_does_1 ++ dktX9_does_2
def dkwX9_does_0 : List UInt8 := [27, 154, 0, 61, 42, 42, 180, 1, 136, 42, 180, 1, 136, 42, 180, 1, 133, 96, 42, 180, 0, 26, 3, 46]
abbrev dktX9_does_0 : List UInt8 := dkwX9_does_0 ++ dktX9_does_1
theorem dksX9_does_0 : cX9_does.data.toList.drop 0 = dktX9_does_0 := by decide +kernel
theorem dksX9_does_1 : cX9_does.data.toList.drop 24 = dktX9_does_1 := dk_seg dksX9_does_0 24 rfl rfl
theorem dksX9_does_2 : cX9_does.data.toList.drop 48 = dktX9_does_2 := dk_seg dksX9_does_1 24 rfl rfl
theorem dksX9_does_3 : cX9_does.data.toList.drop 71 = dktX9_does_3 := dk_seg dksX9_does_2 23 rfl rfl
theorem dksX9_does_4 : cX9_does.data.toList.drop 93 = dktX9_does_4 := dk_seg dksX9_does_3 22 rfl rfl
theorem dksX9_does_5 : cX9_does.data.toList.drop 117 = dktX9_does_5 := dk_seg dksX9_does_4 24 rfl rfl
theorem dksX9_does_6 : cX9_does.data.toList.drop 139 = dktX9_does_6 := dk_seg dksX9_does_5 22 rfl rfl
theorem dksX9_does_7 : cX9_does.data.toList.drop 163 = dktX9_does_7 := dk_seg dksX9_does_6 24 rfl rfl
theorem dksX9_does_8 : cX9_does.data.toList.drop 185 = dktX9_does_8 := dk_seg dksX9_does_7 22 rfl rfl
theorem dksX9_does_9 : cX9_does.data.toList.drop 208 = dktX9_does_9 := dk_seg dksX9_does_8 23 rfl rfl
theorem dksX9_does_10 : cX9_does.data.toList.drop 232 = dktX9_does_10 := dk_seg dksX9_does_9 24 rfl rfl
theorem dksX9_does_11 : cX9_does.data.toList.drop 256 = dktX9_does_11 := dk_seg dksX9_does_10 24 rfl rfl
theorem dX9_does_0 : decode cX9_does 0 = .ok (.iload_n 1, 1) := dk_27 (dk_at dksX9_does_0 0 rfl rfl)
theorem dX9_does_1 : decode cX9_does 1 = .ok (.ifCond .ne 61, 3) := dk_154 0 61 (dk_at dksX9_does_0 1 rfl rfl)
theorem dX9_does_4 : decode cX9_does 4 = .ok (.aload_n 0, 1) := dk_42 (dk_at dksX9_does_0 4 rfl rfl)
theorem dX9_does_5 : decode cX9_does 5 = .ok (.aload_n 0, 1) := dk_42 (dk_at dksX9_does_0 5 rfl rfl)
theorem dX9_does_6 : decode cX9_does 6 = .ok (.getfield 392, 3) := dk_180 1 136 (dk_at dksX9_does_0 6 rfl rfl)
theorem dX9_does_9 : decode cX9_does 9 = .ok (.aload_n 0, 1) := dk_42 (dk_at dksX9_does_0 9 rfl rfl)
theorem dX9_does_10 : decode cX9_does 10 = .ok (.getfield 392, 3) := dk_180 1 136 (dk_at dksX9_does_0 10 rfl rfl)
theorem dX9_does_13 : decode cX9_does 13 = .ok (.aload_n 0, 1) := dk_42 (dk_at dksX9_does_0 13 rfl rfl)
theorem dX9_does_14 : decode cX9_does 14 = .ok (.getfield 389, 3) := dk_180 1 133 (dk_at dksX9_does_0 14 rfl rfl)
theorem dX9_does_17 : decode cX9_does 17 = .ok (.iadd, 1) := dk_96 (dk_at dksX9_does_0 17 rfl rfl)
theorem dX9_does_18 : decode cX9_does 18 = .ok (.aload_n 0, 1) := dk_42 (dk_at dksX9_does_0 18 rfl rfl)
theorem dX9_does_19 : decode cX9_does 19 = .ok (.getfield 26, 3) := dk_180 0 26 (dk_at dksX9_does_0 19 rfl rfl)
theorem dX9_does_22 : decode cX9_does 22 = .ok (.iconst 0, 1) := dk_3 (dk_at dksX9_does_0 22 rfl rfl)
theorem dX9_does_23 : decode cX9_does 23 = .ok (.iaload, 1) := dk_46 (dk_at dksX9_does_0 23 rfl rfl)
theorem dX9_does_24 : decode cX9_does 24 = .ok (.if_icmp .ge 12, 3) := dk_162 0 12 (dk_at dksX9_does_1 0 rfl rfl)
theorem dX9_does_27 : decode cX9_does 27 = .ok (.aload_n 0, 1) := dk_42 (dk_at dksX9_does_1 3 rfl rfl)
theorem dX9_does_28 : decode cX9_does 28 = .ok (.getfield 389, 3) := dk_180 1 133 (dk_at dksX9_does_1 4 rfl rfl)
theorem dX9_does_31 : decode cX9_does 31 = .ok (.iconst 1, 1) := dk_4 (dk_at dksX9_does_1 7 rfl rfl)
theorem dX9_does_32 : decode cX9_does 32 = .ok (.iadd, 1) := dk_96 (dk_at dksX9_does_1 8 rfl rfl)
theorem dX9_does_33 : decode cX9_does 33 = .ok (.goto 7, 3) := dk_167 0 7 (dk_at dksX9_does_1 9 rfl rfl)
theorem dX9_does_36 : decode cX9_does 36 = .ok (.aload_n 0, 1) := dk_42 (dk_at dksX9_does_1 12 rfl rfl)
theorem dX9_does_37 : decode cX9_does 37 = .ok (.getfield 389, 3) := dk_180 1 133 (dk_at dksX9_does_1 13 rfl rfl)
theorem dX9_does_40 : decode cX9_does 40 = .ok (.aload_n 0, 1) := dk_42 (dk_at dksX9_does_1 16 rfl rfl)
theorem dX9_does_41 : decode cX9_does 41 = .ok (.getfield 387, 3) := dk_180 1 131 (dk_at dksX9_does_1 17 rfl rfl)
theorem dX9_does_44 : decode cX9_does 44 = .ok (.aload_n 0, 1) := dk_42 (dk_at dksX9_does_1 20 rfl rfl)
theorem dX9_does_45 : decode cX9_does 45 = .ok (.getfield 385, 3) := dk_180 1 129 (dk_at dksX9_does_1 21 rfl rfl)
theorem dX9_does_48 : decode cX9_does 48 = .ok (.aload_n 0, 1) := dk_42 (dk_at dksX9_does_2 0 rfl rfl)
theorem dX9_does_49 : decode cX9_does 49 = .ok (.getfield 383, 3) := dk_180 1 127 (dk_at dksX9_does_2 1 rfl rfl)
theorem dX9_does_52 : decode cX9_does 52 = .ok (.invokestatic 367, 3) := dk_184 1 111 (dk_at dksX9_does_2 4 rfl rfl)
theorem dX9_does_55 : decode cX9_does 55 = .ok (.lload_n 2, 1) := dk_32 (dk_at dksX9_does_2 7 rfl rfl)
theorem dX9_does_56 : decode cX9_does 56 = .ok (.invokevirtual 400, 3) := dk_182 1 144 (dk_at dksX9_does_2 8 rfl rfl)
theorem dX9_does_59 : decode cX9_does 59 = .ok (.goto 211, 3) := dk_167 0 211 (dk_at dksX9_does_2 11 rfl rfl)
theorem dX9_does_62 : decode cX9_does 62 = .ok (.iload_n 1, 1) := dk_27 (dk_at dksX9_does_2 14 rfl rfl)
theorem dX9_does_63 : decode cX9_does 63 = .ok (.iconst 1, 1) := dk_4 (dk_at dksX9_does_2 15 rfl rfl)
theorem dX9_does_64 : decode cX9_does 64 = .ok (.if_icmp .ne 13, 3) := dk_160 0 13 (dk_at dksX9_does_2 16 rfl rfl)
theorem dX9_does_67 : decode cX9_does 67 = .ok (.aload_n 0, 1) := dk_42 (dk_at dksX9_does_2 19 rfl rfl)
theorem dX9_does_68 : decode cX9_does 68 = .ok (.lload_n 2, 1) := dk_32 (dk_at dksX9_does_2 20 rfl rfl)
theorem dX9_does_69 : decode cX9_does 69 = .ok (.iload 4, 2) := dk_21 4 (dk_at dksX9_does_2 21 rfl rfl)
theorem dX9_does_71 : decode cX9_does 71 = .ok (.invokevirtual 417, 3) := dk_182 1 161 (dk_at dksX9_does_3 0 rfl rfl)
theorem dX9_does_74 : decode cX9_does 74 = .ok (.goto 196, 3) := dk_167 0 196 (dk_at dksX9_does_3 3 rfl rfl)
theorem dX9_does_77 : decode cX9_does 77 = .ok (.iload_n 1, 1) := dk_27 (dk_at dksX9_does_3 6 rfl rfl)
theorem dX9_does_78 : decode cX9_does 78 = .ok (.iconst 2, 1) := dk_5 (dk_at dksX9_does_3 7 rfl rfl)
theorem dX9_does_79 : decode cX9_does 79 = .ok (.if_icmp .ne 97, 3) := dk_160 0 97 (dk_at dksX9_does_3 8 rfl rfl)
theorem dX9_does_82 : decode cX9_does 82 = .ok (.aload_n 0, 1) := dk_42 (dk_at dksX9_does_3 11 rfl rfl)
theorem dX9_does_83 : decode cX9_does 83 = .ok (.dup, 1) := dk_89 (dk_at dksX9_does_3 12 rfl rfl)
theorem dX9_does_84 : decode cX9_does 84 = .ok (.getfield 377, 3) := dk_180 1 121 (dk_at dksX9_does_3 13 rfl rfl)
theorem dX9_does_87 : decode cX9_does 87 = .ok (.lload_n 2, 1) := dk_32 (dk_at dksX9_does_3 16 rfl rfl)
theorem dX9_does_88 : decode cX9_does 88 = .ok (.ladd, 1) := dk_97 (dk_at dksX9_does_3 17 rfl rfl)
theorem dX9_does_89 : decode cX9_does 89 = .ok (.putfield 377, 3) := dk_181 1 121 (dk_at dksX9_does_3 18 rfl rfl)
theorem dX9_does_92 : decode cX9_does 92 = .ok (.aload_n 0, 1) := dk_42 (dk_at dksX9_does_3 21 rfl rfl)
theorem dX9_does_93 : decode cX9_does 93 = .ok (.getfield 389, 3) := dk_180 1 133 (dk_at dksX9_does_4 0 rfl rfl)
theorem dX9_does_96 : decode cX9_does 96 = .ok (.ifCond .le 17, 3) := dk_158 0 17 (dk_at dksX9_does_4 3 rfl rfl)
theorem dX9_does_99 : decode cX9_does 99 = .ok (.lload_n 2, 1) := dk_32 (dk_at dksX9_does_4 6 rfl rfl)
theorem dX9_does_100 : decode cX9_does 100 = .ok (.aload_n 0, 1) := dk_42 (dk_at dksX9_does_4 7 rfl rfl)
theorem dX9_does_101 : decode cX9_does 101 = .ok (.getfield 342, 3) := dk_180 1 86 (dk_at dksX9_does_4 8 rfl rfl)
theorem dX9_does_104 : decode cX9_does 104 = .ok (.i2l, 1) := dk_133 (dk_at dksX9_does_4 11 rfl rfl)
theorem dX9_does_105 : decode cX9_does 105 = .ok (.lmul, 1) := dk_105 (dk_at dksX9_does_4 12 rfl rfl)
theorem dX9_does_106 : decode cX9_does 106 = .ok (.ldc2_w 398, 3) := dk_20 1 142 (dk_at dksX9_does_4 13 rfl rfl)
theorem dX9_does_109 : decode cX9_does 109 = .ok (.ldiv, 1) := dk_109 (dk_at dksX9_does_4 16 rfl rfl)
theorem dX9_does_110 : decode cX9_does 110 = .ok (.goto 4, 3) := dk_167 0 4 (dk_at dksX9_does_4 17 rfl rfl)
theorem dX9_does_113 : decode cX9_does 113 = .ok (.lconst 0, 1) := dk_9 (dk_at dksX9_does_4 20 rfl rfl)
theorem dX9_does_114 : decode cX9_does 114 = .ok (.lstore 5, 2) := dk_55 5 (dk_at dksX9_does_4 21 rfl rfl)
theorem dX9_does_116 : decode cX9_does 116 = .ok (.aload_n 0, 1) := dk_42 (dk_at dksX9_does_4 23 rfl rfl)
theorem dX9_does_117 : decode cX9_does 117 = .ok (.aload_n 0, 1) := dk_42 (dk_at dksX9_does_5 0 rfl rfl)
theorem dX9_does_118 : decode cX9_does 118 = .ok (.getfield 392, 3) := dk_180 1 136 (dk_at dksX9_does_5 1 rfl rfl)
theorem dX9_does_121 : decode cX9_does 121 = .ok (.aload_n 0, 1) := dk_42 (dk_at dksX9_does_5 4 rfl rfl)
theorem dX9_does_122 : decode cX9_does 122 = .ok (.getfield 389, 3) := dk_180 1 133 (dk_at dksX9_does_5 5 rfl rfl)
theorem dX9_does_125 : decode cX9_does 125 = .ok (.aload_n 0, 1) := dk_42 (dk_at dksX9_does_5 8 rfl rfl)
theorem dX9_does_126 : decode cX9_does 126 = .ok (.getfield 387, 3) := dk_180 1 131 (dk_at dksX9_does_5 9 rfl rfl)
theorem dX9_does_129 : decode cX9_does 129 = .ok (.aload_n 0, 1) := dk_42 (dk_at dksX9_does_5 12 rfl rfl)
theorem dX9_does_130 : decode cX9_does 130 = .ok (.getfield 385, 3) := dk_180 1 129 (dk_at dksX9_does_5 13 rfl rfl)
theorem dX9_does_133 : decode cX9_does 133 = .ok (.iconst 1, 1) := dk_4 (dk_at dksX9_does_5 16 rfl rfl)
theorem dX9_does_134 : decode cX9_does 134 = .ok (.invokestatic 367, 3) := dk_184 1 111 (dk_at dksX9_does_5 17 rfl rfl)
theorem dX9_does_137 : decode cX9_does 137 = .ok (.lload 5, 2) := dk_22 5 (dk_at dksX9_does_5 20 rfl rfl)
theorem dX9_does_139 : decode cX9_does 139 = .ok (.invokevirtual 400, 3) := dk_182 1 144 (dk_at dksX9_does_6 0 rfl rfl)
theorem dX9_does_142 : decode cX9_does 142 = .ok (.aload_n 0, 1) := dk_42 (dk_at dksX9_does_6 3 rfl rfl)
theorem dX9_does_143 : decode cX9_does 143 = .ok (.aload_n 0, 1) := dk_42 (dk_at dksX9_does_6 4 rfl rfl)
theorem dX9_does_144 : decode cX9_does 144 = .ok (.getfield 392, 3) := dk_180 1 136 (dk_at dksX9_does_6 5 rfl rfl)
theorem dX9_does_147 : decode cX9_does 147 = .ok (.aload_n 0, 1) := dk_42 (dk_at dksX9_does_6 8 rfl rfl)
theorem dX9_does_148 : decode cX9_does 148 = .ok (.getfield 389, 3) := dk_180 1 133 (dk_at dksX9_does_6 9 rfl rfl)
theorem dX9_does_151 : decode cX9_does 151 = .ok (.aload_n 0, 1) := dk_42 (dk_at dksX9_does_6 12 rfl rfl)
theorem dX9_does_152 : decode cX9_does 152 = .ok (.getfield 387, 3) := dk_180 1 131 (dk_at dksX9_does_6 13 rfl rfl)
theorem dX9_does_155 : decode cX9_does 155 = .ok (.aload_n 0, 1) := dk_42 (dk_at dksX9_does_6 16 rfl rfl)
theorem dX9_does_156 : decode cX9_does 156 = .ok (.getfield 385, 3) := dk_180 1 129 (dk_at dksX9_does_6 17 rfl rfl)
theorem dX9_does_159 : decode cX9_does 159 = .ok (.aload_n 0, 1) := dk_42 (dk_at dksX9_does_6 20 rfl rfl)
theorem dX9_does_160 : decode cX9_does 160 = .ok (.getfield 383, 3) := dk_180 1 127 (dk_at dksX9_does_6 21 rfl rfl)
theorem dX9_does_163 : decode cX9_does 163 = .ok (.invokestatic 367, 3) := dk_184 1 111 (dk_at dksX9_does_7 0 rfl rfl)
theorem dX9_does_166 : decode cX9_does 166 = .ok (.lload_n 2, 1) := dk_32 (dk_at dksX9_does_7 3 rfl rfl)
theorem dX9_does_167 : decode cX9_does 167 = .ok (.lload 5, 2) := dk_22 5 (dk_at dksX9_does_7 4 rfl rfl)
theorem dX9_does_169 : decode cX9_does 169 = .ok (.lsub, 1) := dk_101 (dk_at dksX9_does_7 6 rfl rfl)
theorem dX9_does_170 : decode cX9_does 170 = .ok (.invokevirtual 400, 3) := dk_182 1 144 (dk_at dksX9_does_7 7 rfl rfl)
theorem dX9_does_173 : decode cX9_does 173 = .ok (.goto 97, 3) := dk_167 0 97 (dk_at dksX9_does_7 10 rfl rfl)
theorem dX9_does_176 : decode cX9_does 176 = .ok (.iload_n 1, 1) := dk_27 (dk_at dksX9_does_7 13 rfl rfl)
theorem dX9_does_177 : decode cX9_does 177 = .ok (.iconst 3, 1) := dk_6 (dk_at dksX9_does_7 14 rfl rfl)
theorem dX9_does_178 : decode cX9_does 178 = .ok (.if_icmp .ne 13, 3) := dk_160 0 13 (dk_at dksX9_does_7 15 rfl rfl)
theorem dX9_does_181 : decode cX9_does 181 = .ok (.aload_n 0, 1) := dk_42 (dk_at dksX9_does_7 18 rfl rfl)
theorem dX9_does_182 : decode cX9_does 182 = .ok (.lload_n 2, 1) := dk_32 (dk_at dksX9_does_7 19 rfl rfl)
theorem dX9_does_183 : decode cX9_does 183 = .ok (.iload 4, 2) := dk_21 4 (dk_at dksX9_does_7 20 rfl rfl)
theorem dX9_does_185 : decode cX9_does 185 = .ok (.invokevirtual 421, 3) := dk_182 1 165 (dk_at dksX9_does_8 0 rfl rfl)
theorem dX9_does_188 : decode cX9_does 188 = .ok (.goto 82, 3) := dk_167 0 82 (dk_at dksX9_does_8 3 rfl rfl)
theorem dX9_does_191 : decode cX9_does 191 = .ok (.iload_n 1, 1) := dk_27 (dk_at dksX9_does_8 6 rfl rfl)
theorem dX9_does_192 : decode cX9_does 192 = .ok (.iconst 4, 1) := dk_7 (dk_at dksX9_does_8 7 rfl rfl)
theorem dX9_does_193 : decode cX9_does 193 = .ok (.if_icmp .ne 28, 3) := dk_160 0 28 (dk_at dksX9_does_8 8 rfl rfl)
theorem dX9_does_196 : decode cX9_does 196 = .ok (.aload_n 0, 1) := dk_42 (dk_at dksX9_does_8 11 rfl rfl)
theorem dX9_does_197 : decode cX9_does 197 = .ok (.iconst 0, 1) := dk_3 (dk_at dksX9_does_8 12 rfl rfl)
theorem dX9_does_198 : decode cX9_does 198 = .ok (.iconst 0, 1) := dk_3 (dk_at dksX9_does_8 13 rfl rfl)
theorem dX9_does_199 : decode cX9_does 199 = .ok (.aload_n 0, 1) := dk_42 (dk_at dksX9_does_8 14 rfl rfl)
theorem dX9_does_200 : decode cX9_does 200 = .ok (.getfield 387, 3) := dk_180 1 131 (dk_at dksX9_does_8 15 rfl rfl)
theorem dX9_does_203 : decode cX9_does 203 = .ok (.aload_n 0, 1) := dk_42 (dk_at dksX9_does_8 18 rfl rfl)
theorem dX9_does_204 : decode cX9_does 204 = .ok (.getfield 385, 3) := dk_180 1 129 (dk_at dksX9_does_8 19 rfl rfl)
theorem dX9_does_207 : decode cX9_does 207 = .ok (.aload_n 0, 1) := dk_42 (dk_at dksX9_does_8 22 rfl rfl)
theorem dX9_does_208 : decode cX9_does 208 = .ok (.getfield 383, 3) := dk_180 1 127 (dk_at dksX9_does_9 0 rfl rfl)
theorem dX9_does_211 : decode cX9_does 211 = .ok (.invokestatic 367, 3) := dk_184 1 111 (dk_at dksX9_does_9 3 rfl rfl)
theorem dX9_does_214 : decode cX9_does 214 = .ok (.lload_n 2, 1) := dk_32 (dk_at dksX9_does_9 6 rfl rfl)
theorem dX9_does_215 : decode cX9_does 215 = .ok (.invokevirtual 400, 3) := dk_182 1 144 (dk_at dksX9_does_9 7 rfl rfl)
theorem dX9_does_218 : decode cX9_does 218 = .ok (.goto 52, 3) := dk_167 0 52 (dk_at dksX9_does_9 10 rfl rfl)
theorem dX9_does_221 : decode cX9_does 221 = .ok (.aload_n 0, 1) := dk_42 (dk_at dksX9_does_9 13 rfl rfl)
theorem dX9_does_222 : decode cX9_does 222 = .ok (.aload_n 0, 1) := dk_42 (dk_at dksX9_does_9 14 rfl rfl)
theorem dX9_does_223 : decode cX9_does 223 = .ok (.getfield 392, 3) := dk_180 1 136 (dk_at dksX9_does_9 15 rfl rfl)
theorem dX9_does_226 : decode cX9_does 226 = .ok (.aload_n 0, 1) := dk_42 (dk_at dksX9_does_9 18 rfl rfl)
theorem dX9_does_227 : decode cX9_does 227 = .ok (.getfield 389, 3) := dk_180 1 133 (dk_at dksX9_does_9 19 rfl rfl)
theorem dX9_does_230 : decode cX9_does 230 = .ok (.iload_n 1, 1) := dk_27 (dk_at dksX9_does_9 22 rfl rfl)
theorem dX9_does_231 : decode cX9_does 231 = .ok (.iconst 5, 1) := dk_8 (dk_at dksX9_does_9 23 rfl rfl)
theorem dX9_does_232 : decode cX9_does 232 = .ok (.if_icmp .ne 7, 3) := dk_160 0 7 (dk_at dksX9_does_10 0 rfl rfl)
theorem dX9_does_235 : decode cX9_does 235 = .ok (.iconst 1, 1) := dk_4 (dk_at dksX9_does_10 3 rfl rfl)
theorem dX9_does_236 : decode cX9_does 236 = .ok (.goto 19, 3) := dk_167 0 19 (dk_at dksX9_does_10 4 rfl rfl)
theorem dX9_does_239 : decode cX9_does 239 = .ok (.iload_n 1, 1) := dk_27 (dk_at dksX9_does_10 7 rfl rfl)
theorem dX9_does_240 : decode cX9_does 240 = .ok (.bipush 6, 2) := dk_16 6 (dk_at dksX9_does_10 8 rfl rfl)
theorem dX9_does_242 : decode cX9_does 242 = .ok (.if_icmp .ne 7, 3) := dk_160 0 7 (dk_at dksX9_does_10 10 rfl rfl)
theorem dX9_does_245 : decode cX9_does 245 = .ok (.iconst 0, 1) := dk_3 (dk_at dksX9_does_10 13 rfl rfl)
theorem dX9_does_246 : decode cX9_does 246 = .ok (.goto 9, 3) := dk_167 0 9 (dk_at dksX9_does_10 14 rfl rfl)
theorem dX9_does_249 : decode cX9_does 249 = .ok (.iconst 1, 1) := dk_4 (dk_at dksX9_does_10 17 rfl rfl)
theorem dX9_does_250 : decode cX9_does 250 = .ok (.aload_n 0, 1) := dk_42 (dk_at dksX9_does_10 18 rfl rfl)
theorem dX9_does_251 : decode cX9_does 251 = .ok (.getfield 387, 3) := dk_180 1 131 (dk_at dksX9_does_10 19 rfl rfl)
theorem dX9_does_254 : decode cX9_does 254 = .ok (.isub, 1) := dk_100 (dk_at dksX9_does_10 22 rfl rfl)
theorem dX9_does_255 : decode cX9_does 255 = .ok (.aload_n 0, 1) := dk_42 (dk_at dksX9_does_10 23 rfl rfl)
theorem dX9_does_256 : decode cX9_does 256 = .ok (.getfield 385, 3) := dk_180 1 129 (dk_at dksX9_does_11 0 rfl rfl)
theorem dX9_does_259 : decode cX9_does 259 = .ok (.aload_n 0, 1) := dk_42 (dk_at dksX9_does_11 3 rfl rfl)
theorem dX9_does_260 : decode cX9_does 260 = .ok (.getfield 383, 3) := dk_180 1 127 (dk_at dksX9_does_11 4 rfl rfl)
theorem dX9_does_263 : decode cX9_does 263 = .ok (.invokestatic 367, 3) := dk_184 1 111 (dk_at dksX9_does_11 7 rfl rfl)
theorem dX9_does_266 : decode cX9_does 266 = .ok (.lload_n 2, 1) := dk_32 (dk_at dksX9_does_11 10 rfl rfl)
theorem dX9_does_267 : decode cX9_does 267 = .ok (.invokevirtual 400, 3) := dk_182 1 144 (dk_at dksX9_does_11 11 rfl rfl)
theorem dX9_does_270 : decode cX9_does 270 = .ok (.return_, 1) := dk_177 (dk_at dksX9_does_11 14 rfl rfl)
abbrev cX9_takes : ByteArray := prog_28_method_67_code
def yX9_takes : MethodName := ⟨RX9, "takes", "(JI)V"⟩
def dkwX9_takes_5 : List UInt8 := [42, 180, 1, 129, 42, 180, 1, 127, 184, 1, 111, 31, 22, 4, 101, 182, 1, 144, 177]
abbrev dktX9_takes_5 : List UInt8 := dkwX9_takes_5 ++ []
def dkwX9_takes_4 : List UInt8 := [158, 0, 12, 42, 180, 1, 136, 4, 100, 167, 0, 7, 42, 180, 1, 136, 42, 180, 1, 133, 42, 180, 1, 131]
abbrev dktX9_takes_4 : List UInt8 := dkwX9_takes_4 ++ dktX9_takes_5
def dkwX9_takes_3 : List UInt8 := [180, 1, 131, 42, 180, 1, 129, 42, 180, 1, 127, 184, 1, 111, 22, 4, 182, 1, 144, 42, 42, 180, 1, 136]
abbrev dktX9_takes_3 : List UInt8 := dkwX9_takes_3 ++ dktX9_takes_4
def dkwX9_takes_2 : List UInt8 := [22, 4, 97, 80, 42, 180, 1, 133, 158, 0, 34, 42, 42, 180, 1, 136, 42, 180, 1, 133, 4, 100, 42]
abbrev dktX9_takes_2 : List UInt8 := dkwX9_takes_2 ++ dktX9_takes_3
def dkwX9_takes_1 : List UInt8 := [180, 1, 136, 42, 180, 1, 133, 96, 133, 109, 55, 4, 42, 180, 0, 84, 42, 180, 0, 35, 29, 46, 92, 47]
abbrev dktX9_takes_1 : List UInt8 := dkwX9_takes_1 ++ dktX9_takes_2
def dkwX9_takes_0 : List UInt8 := [42, 180, 1, 136, 42, 180, 1, 133, 96, 154, 0, 7, 9, 167, 0, 21, 31, 42, 180, 1, 133, 133, 105, 42]
abbrev dktX9_takes_0 : List UInt8 := dkwX9_takes_0 ++ dktX9_takes_1
theorem dksX9_takes_0 : cX9_takes.data.toList.drop 0 = dktX9_takes_0 := by decide +kernel
theorem dksX9_takes_1 : cX9_takes.data.toList.drop 24 = dktX9_takes_1 := dk_seg dksX9_takes_0 24 rfl rfl
theorem dksX9_takes_2 : cX9_takes.data.toList.drop 48 = dktX9_takes_2 := dk_seg dksX9_takes_1 24 rfl rfl
theorem dksX9_takes_3 : cX9_takes.data.toList.drop 71 = dktX9_takes_3 := dk_seg dksX9_takes_2 23 rfl rfl
theorem dksX9_takes_4 : cX9_takes.data.toList.drop 95 = dktX9_takes_4 := dk_seg dksX9_takes_3 24 rfl rfl
theorem dksX9_takes_5 : cX9_takes.data.toList.drop 119 = dktX9_takes_5 := dk_seg dksX9_takes_4 24 rfl rfl
theorem dX9_takes_0 : decode cX9_takes 0 = .ok (.aload_n 0, 1) := dk_42 (dk_at dksX9_takes_0 0 rfl rfl)
theorem dX9_takes_1 : decode cX9_takes 1 = .ok (.getfield 392, 3) := dk_180 1 136 (dk_at dksX9_takes_0 1 rfl rfl)
theorem dX9_takes_4 : decode cX9_takes 4 = .ok (.aload_n 0, 1) := dk_42 (dk_at dksX9_takes_0 4 rfl rfl)
theorem dX9_takes_5 : decode cX9_takes 5 = .ok (.getfield 389, 3) := dk_180 1 133 (dk_at dksX9_takes_0 5 rfl rfl)
theorem dX9_takes_8 : decode cX9_takes 8 = .ok (.iadd, 1) := dk_96 (dk_at dksX9_takes_0 8 rfl rfl)
theorem dX9_takes_9 : decode cX9_takes 9 = .ok (.ifCond .ne 7, 3) := dk_154 0 7 (dk_at dksX9_takes_0 9 rfl rfl)
theorem dX9_takes_12 : decode cX9_takes 12 = .ok (.lconst 0, 1) := dk_9 (dk_at dksX9_takes_0 12 rfl rfl)
theorem dX9_takes_13 : decode cX9_takes 13 = .ok (.goto 21, 3) := dk_167 0 21 (dk_at dksX9_takes_0 13 rfl rfl)
theorem dX9_takes_16 : decode cX9_takes 16 = .ok (.lload_n 1, 1) := dk_31 (dk_at dksX9_takes_0 16 rfl rfl)
theorem dX9_takes_17 : decode cX9_takes 17 = .ok (.aload_n 0, 1) := dk_42 (dk_at dksX9_takes_0 17 rfl rfl)
theorem dX9_takes_18 : decode cX9_takes 18 = .ok (.getfield 389, 3) := dk_180 1 133 (dk_at dksX9_takes_0 18 rfl rfl)
theorem dX9_takes_21 : decode cX9_takes 21 = .ok (.i2l, 1) := dk_133 (dk_at dksX9_takes_0 21 rfl rfl)
theorem dX9_takes_22 : decode cX9_takes 22 = .ok (.lmul, 1) := dk_105 (dk_at dksX9_takes_0 22 rfl rfl)
theorem dX9_takes_23 : decode cX9_takes 23 = .ok (.aload_n 0, 1) := dk_42 (dk_at dksX9_takes_0 23 rfl rfl)
theorem dX9_takes_24 : decode cX9_takes 24 = .ok (.getfield 392, 3) := dk_180 1 136 (dk_at dksX9_takes_1 0 rfl rfl)
theorem dX9_takes_27 : decode cX9_takes 27 = .ok (.aload_n 0, 1) := dk_42 (dk_at dksX9_takes_1 3 rfl rfl)
theorem dX9_takes_28 : decode cX9_takes 28 = .ok (.getfield 389, 3) := dk_180 1 133 (dk_at dksX9_takes_1 4 rfl rfl)
theorem dX9_takes_31 : decode cX9_takes 31 = .ok (.iadd, 1) := dk_96 (dk_at dksX9_takes_1 7 rfl rfl)
theorem dX9_takes_32 : decode cX9_takes 32 = .ok (.i2l, 1) := dk_133 (dk_at dksX9_takes_1 8 rfl rfl)
theorem dX9_takes_33 : decode cX9_takes 33 = .ok (.ldiv, 1) := dk_109 (dk_at dksX9_takes_1 9 rfl rfl)
theorem dX9_takes_34 : decode cX9_takes 34 = .ok (.lstore 4, 2) := dk_55 4 (dk_at dksX9_takes_1 10 rfl rfl)
theorem dX9_takes_36 : decode cX9_takes 36 = .ok (.aload_n 0, 1) := dk_42 (dk_at dksX9_takes_1 12 rfl rfl)
theorem dX9_takes_37 : decode cX9_takes 37 = .ok (.getfield 84, 3) := dk_180 0 84 (dk_at dksX9_takes_1 13 rfl rfl)
theorem dX9_takes_40 : decode cX9_takes 40 = .ok (.aload_n 0, 1) := dk_42 (dk_at dksX9_takes_1 16 rfl rfl)
theorem dX9_takes_41 : decode cX9_takes 41 = .ok (.getfield 35, 3) := dk_180 0 35 (dk_at dksX9_takes_1 17 rfl rfl)
theorem dX9_takes_44 : decode cX9_takes 44 = .ok (.iload_n 3, 1) := dk_29 (dk_at dksX9_takes_1 20 rfl rfl)
theorem dX9_takes_45 : decode cX9_takes 45 = .ok (.iaload, 1) := dk_46 (dk_at dksX9_takes_1 21 rfl rfl)
theorem dX9_takes_46 : decode cX9_takes 46 = .ok (.dup2, 1) := dk_92 (dk_at dksX9_takes_1 22 rfl rfl)
theorem dX9_takes_47 : decode cX9_takes 47 = .ok (.laload, 1) := dk_47 (dk_at dksX9_takes_1 23 rfl rfl)
theorem dX9_takes_48 : decode cX9_takes 48 = .ok (.lload 4, 2) := dk_22 4 (dk_at dksX9_takes_2 0 rfl rfl)
theorem dX9_takes_50 : decode cX9_takes 50 = .ok (.ladd, 1) := dk_97 (dk_at dksX9_takes_2 2 rfl rfl)
theorem dX9_takes_51 : decode cX9_takes 51 = .ok (.lastore, 1) := dk_80 (dk_at dksX9_takes_2 3 rfl rfl)
theorem dX9_takes_52 : decode cX9_takes 52 = .ok (.aload_n 0, 1) := dk_42 (dk_at dksX9_takes_2 4 rfl rfl)
theorem dX9_takes_53 : decode cX9_takes 53 = .ok (.getfield 389, 3) := dk_180 1 133 (dk_at dksX9_takes_2 5 rfl rfl)
theorem dX9_takes_56 : decode cX9_takes 56 = .ok (.ifCond .le 34, 3) := dk_158 0 34 (dk_at dksX9_takes_2 8 rfl rfl)
theorem dX9_takes_59 : decode cX9_takes 59 = .ok (.aload_n 0, 1) := dk_42 (dk_at dksX9_takes_2 11 rfl rfl)
theorem dX9_takes_60 : decode cX9_takes 60 = .ok (.aload_n 0, 1) := dk_42 (dk_at dksX9_takes_2 12 rfl rfl)
theorem dX9_takes_61 : decode cX9_takes 61 = .ok (.getfield 392, 3) := dk_180 1 136 (dk_at dksX9_takes_2 13 rfl rfl)
theorem dX9_takes_64 : decode cX9_takes 64 = .ok (.aload_n 0, 1) := dk_42 (dk_at dksX9_takes_2 16 rfl rfl)
theorem dX9_takes_65 : decode cX9_takes 65 = .ok (.getfield 389, 3) := dk_180 1 133 (dk_at dksX9_takes_2 17 rfl rfl)
theorem dX9_takes_68 : decode cX9_takes 68 = .ok (.iconst 1, 1) := dk_4 (dk_at dksX9_takes_2 20 rfl rfl)
theorem dX9_takes_69 : decode cX9_takes 69 = .ok (.isub, 1) := dk_100 (dk_at dksX9_takes_2 21 rfl rfl)
theorem dX9_takes_70 : decode cX9_takes 70 = .ok (.aload_n 0, 1) := dk_42 (dk_at dksX9_takes_2 22 rfl rfl)
theorem dX9_takes_71 : decode cX9_takes 71 = .ok (.getfield 387, 3) := dk_180 1 131 (dk_at dksX9_takes_3 0 rfl rfl)
theorem dX9_takes_74 : decode cX9_takes 74 = .ok (.aload_n 0, 1) := dk_42 (dk_at dksX9_takes_3 3 rfl rfl)
theorem dX9_takes_75 : decode cX9_takes 75 = .ok (.getfield 385, 3) := dk_180 1 129 (dk_at dksX9_takes_3 4 rfl rfl)
theorem dX9_takes_78 : decode cX9_takes 78 = .ok (.aload_n 0, 1) := dk_42 (dk_at dksX9_takes_3 7 rfl rfl)
theorem dX9_takes_79 : decode cX9_takes 79 = .ok (.getfield 383, 3) := dk_180 1 127 (dk_at dksX9_takes_3 8 rfl rfl)
theorem dX9_takes_82 : decode cX9_takes 82 = .ok (.invokestatic 367, 3) := dk_184 1 111 (dk_at dksX9_takes_3 11 rfl rfl)
theorem dX9_takes_85 : decode cX9_takes 85 = .ok (.lload 4, 2) := dk_22 4 (dk_at dksX9_takes_3 14 rfl rfl)
theorem dX9_takes_87 : decode cX9_takes 87 = .ok (.invokevirtual 400, 3) := dk_182 1 144 (dk_at dksX9_takes_3 16 rfl rfl)
theorem dX9_takes_90 : decode cX9_takes 90 = .ok (.aload_n 0, 1) := dk_42 (dk_at dksX9_takes_3 19 rfl rfl)
theorem dX9_takes_91 : decode cX9_takes 91 = .ok (.aload_n 0, 1) := dk_42 (dk_at dksX9_takes_3 20 rfl rfl)
theorem dX9_takes_92 : decode cX9_takes 92 = .ok (.getfield 392, 3) := dk_180 1 136 (dk_at dksX9_takes_3 21 rfl rfl)
theorem dX9_takes_95 : decode cX9_takes 95 = .ok (.ifCond .le 12, 3) := dk_158 0 12 (dk_at dksX9_takes_4 0 rfl rfl)
theorem dX9_takes_98 : decode cX9_takes 98 = .ok (.aload_n 0, 1) := dk_42 (dk_at dksX9_takes_4 3 rfl rfl)
theorem dX9_takes_99 : decode cX9_takes 99 = .ok (.getfield 392, 3) := dk_180 1 136 (dk_at dksX9_takes_4 4 rfl rfl)
theorem dX9_takes_102 : decode cX9_takes 102 = .ok (.iconst 1, 1) := dk_4 (dk_at dksX9_takes_4 7 rfl rfl)
theorem dX9_takes_103 : decode cX9_takes 103 = .ok (.isub, 1) := dk_100 (dk_at dksX9_takes_4 8 rfl rfl)
theorem dX9_takes_104 : decode cX9_takes 104 = .ok (.goto 7, 3) := dk_167 0 7 (dk_at dksX9_takes_4 9 rfl rfl)
theorem dX9_takes_107 : decode cX9_takes 107 = .ok (.aload_n 0, 1) := dk_42 (dk_at dksX9_takes_4 12 rfl rfl)
theorem dX9_takes_108 : decode cX9_takes 108 = .ok (.getfield 392, 3) := dk_180 1 136 (dk_at dksX9_takes_4 13 rfl rfl)
theorem dX9_takes_111 : decode cX9_takes 111 = .ok (.aload_n 0, 1) := dk_42 (dk_at dksX9_takes_4 16 rfl rfl)
theorem dX9_takes_112 : decode cX9_takes 112 = .ok (.getfield 389, 3) := dk_180 1 133 (dk_at dksX9_takes_4 17 rfl rfl)
theorem dX9_takes_115 : decode cX9_takes 115 = .ok (.aload_n 0, 1) := dk_42 (dk_at dksX9_takes_4 20 rfl rfl)
theorem dX9_takes_116 : decode cX9_takes 116 = .ok (.getfield 387, 3) := dk_180 1 131 (dk_at dksX9_takes_4 21 rfl rfl)
theorem dX9_takes_119 : decode cX9_takes 119 = .ok (.aload_n 0, 1) := dk_42 (dk_at dksX9_takes_5 0 rfl rfl)
theorem dX9_takes_120 : decode cX9_takes 120 = .ok (.getfield 385, 3) := dk_180 1 129 (dk_at dksX9_takes_5 1 rfl rfl)
theorem dX9_takes_123 : decode cX9_takes 123 = .ok (.aload_n 0, 1) := dk_42 (dk_at dksX9_takes_5 4 rfl rfl)
theorem dX9_takes_124 : decode cX9_takes 124 = .ok (.getfield 383, 3) := dk_180 1 127 (dk_at dksX9_takes_5 5 rfl rfl)
theorem dX9_takes_127 : decode cX9_takes 127 = .ok (.invokestatic 367, 3) := dk_184 1 111 (dk_at dksX9_takes_5 8 rfl rfl)
theorem dX9_takes_130 : decode cX9_takes 130 = .ok (.lload_n 1, 1) := dk_31 (dk_at dksX9_takes_5 11 rfl rfl)
theorem dX9_takes_131 : decode cX9_takes 131 = .ok (.lload 4, 2) := dk_22 4 (dk_at dksX9_takes_5 12 rfl rfl)
theorem dX9_takes_133 : decode cX9_takes 133 = .ok (.lsub, 1) := dk_101 (dk_at dksX9_takes_5 14 rfl rfl)
theorem dX9_takes_134 : decode cX9_takes 134 = .ok (.invokevirtual 400, 3) := dk_182 1 144 (dk_at dksX9_takes_5 15 rfl rfl)
theorem dX9_takes_137 : decode cX9_takes 137 = .ok (.return_, 1) := dk_177 (dk_at dksX9_takes_5 18 rfl rfl)
abbrev cX9_starts : ByteArray := prog_28_method_68_code
def yX9_starts : MethodName := ⟨RX9, "starts", "(JI)V"⟩
def dkwX9_starts_3 : List UInt8 := [180, 1, 131, 29, 4, 96, 42, 180, 1, 127, 184, 1, 111, 31, 182, 1, 144, 177]
abbrev dktX9_starts_3 : List UInt8 := dkwX9_starts_3 ++ []
def dkwX9_starts_2 : List UInt8 := [31, 42, 180, 1, 136, 133, 105, 97, 181, 1, 117, 42, 42, 180, 1, 136, 42, 180, 1, 133, 96, 3, 42]
abbrev dktX9_starts_2 : List UInt8 := dkwX9_starts_2 ++ dktX9_starts_3
def dkwX9_starts_1 : List UInt8 := [180, 1, 131, 42, 180, 1, 129, 42, 180, 1, 127, 184, 1, 111, 31, 182, 1, 144, 177, 42, 89, 180, 1, 117]
abbrev dktX9_starts_1 : List UInt8 := dkwX9_starts_1 ++ dktX9_starts_2
def dkwX9_starts_0 : List UInt8 := [42, 180, 1, 136, 42, 180, 1, 133, 96, 154, 0, 32, 42, 42, 180, 1, 136, 42, 180, 1, 133, 42]
abbrev dktX9_starts_0 : List UInt8 := dkwX9_starts_0 ++ dktX9_starts_1
theorem dksX9_starts_0 : cX9_starts.data.toList.drop 0 = dktX9_starts_0 := by decide +kernel
theorem dksX9_starts_1 : cX9_starts.data.toList.drop 22 = dktX9_starts_1 := dk_seg dksX9_starts_0 22 rfl rfl
theorem dksX9_starts_2 : cX9_starts.data.toList.drop 46 = dktX9_starts_2 := dk_seg dksX9_starts_1 24 rfl rfl
theorem dksX9_starts_3 : cX9_starts.data.toList.drop 69 = dktX9_starts_3 := dk_seg dksX9_starts_2 23 rfl rfl
theorem dX9_starts_0 : decode cX9_starts 0 = .ok (.aload_n 0, 1) := dk_42 (dk_at dksX9_starts_0 0 rfl rfl)
theorem dX9_starts_1 : decode cX9_starts 1 = .ok (.getfield 392, 3) := dk_180 1 136 (dk_at dksX9_starts_0 1 rfl rfl)
theorem dX9_starts_4 : decode cX9_starts 4 = .ok (.aload_n 0, 1) := dk_42 (dk_at dksX9_starts_0 4 rfl rfl)
theorem dX9_starts_5 : decode cX9_starts 5 = .ok (.getfield 389, 3) := dk_180 1 133 (dk_at dksX9_starts_0 5 rfl rfl)
theorem dX9_starts_8 : decode cX9_starts 8 = .ok (.iadd, 1) := dk_96 (dk_at dksX9_starts_0 8 rfl rfl)
theorem dX9_starts_9 : decode cX9_starts 9 = .ok (.ifCond .ne 32, 3) := dk_154 0 32 (dk_at dksX9_starts_0 9 rfl rfl)
theorem dX9_starts_12 : decode cX9_starts 12 = .ok (.aload_n 0, 1) := dk_42 (dk_at dksX9_starts_0 12 rfl rfl)
theorem dX9_starts_13 : decode cX9_starts 13 = .ok (.aload_n 0, 1) := dk_42 (dk_at dksX9_starts_0 13 rfl rfl)
theorem dX9_starts_14 : decode cX9_starts 14 = .ok (.getfield 392, 3) := dk_180 1 136 (dk_at dksX9_starts_0 14 rfl rfl)
theorem dX9_starts_17 : decode cX9_starts 17 = .ok (.aload_n 0, 1) := dk_42 (dk_at dksX9_starts_0 17 rfl rfl)
theorem dX9_starts_18 : decode cX9_starts 18 = .ok (.getfield 389, 3) := dk_180 1 133 (dk_at dksX9_starts_0 18 rfl rfl)
theorem dX9_starts_21 : decode cX9_starts 21 = .ok (.aload_n 0, 1) := dk_42 (dk_at dksX9_starts_0 21 rfl rfl)
theorem dX9_starts_22 : decode cX9_starts 22 = .ok (.getfield 387, 3) := dk_180 1 131 (dk_at dksX9_starts_1 0 rfl rfl)
theorem dX9_starts_25 : decode cX9_starts 25 = .ok (.aload_n 0, 1) := dk_42 (dk_at dksX9_starts_1 3 rfl rfl)
theorem dX9_starts_26 : decode cX9_starts 26 = .ok (.getfield 385, 3) := dk_180 1 129 (dk_at dksX9_starts_1 4 rfl rfl)
theorem dX9_starts_29 : decode cX9_starts 29 = .ok (.aload_n 0, 1) := dk_42 (dk_at dksX9_starts_1 7 rfl rfl)
theorem dX9_starts_30 : decode cX9_starts 30 = .ok (.getfield 383, 3) := dk_180 1 127 (dk_at dksX9_starts_1 8 rfl rfl)
theorem dX9_starts_33 : decode cX9_starts 33 = .ok (.invokestatic 367, 3) := dk_184 1 111 (dk_at dksX9_starts_1 11 rfl rfl)
theorem dX9_starts_36 : decode cX9_starts 36 = .ok (.lload_n 1, 1) := dk_31 (dk_at dksX9_starts_1 14 rfl rfl)
theorem dX9_starts_37 : decode cX9_starts 37 = .ok (.invokevirtual 400, 3) := dk_182 1 144 (dk_at dksX9_starts_1 15 rfl rfl)
theorem dX9_starts_40 : decode cX9_starts 40 = .ok (.return_, 1) := dk_177 (dk_at dksX9_starts_1 18 rfl rfl)
theorem dX9_starts_41 : decode cX9_starts 41 = .ok (.aload_n 0, 1) := dk_42 (dk_at dksX9_starts_1 19 rfl rfl)
theorem dX9_starts_42 : decode cX9_starts 42 = .ok (.dup, 1) := dk_89 (dk_at dksX9_starts_1 20 rfl rfl)
theorem dX9_starts_43 : decode cX9_starts 43 = .ok (.getfield 373, 3) := dk_180 1 117 (dk_at dksX9_starts_1 21 rfl rfl)
theorem dX9_starts_46 : decode cX9_starts 46 = .ok (.lload_n 1, 1) := dk_31 (dk_at dksX9_starts_2 0 rfl rfl)
theorem dX9_starts_47 : decode cX9_starts 47 = .ok (.aload_n 0, 1) := dk_42 (dk_at dksX9_starts_2 1 rfl rfl)
theorem dX9_starts_48 : decode cX9_starts 48 = .ok (.getfield 392, 3) := dk_180 1 136 (dk_at dksX9_starts_2 2 rfl rfl)
theorem dX9_starts_51 : decode cX9_starts 51 = .ok (.i2l, 1) := dk_133 (dk_at dksX9_starts_2 5 rfl rfl)
theorem dX9_starts_52 : decode cX9_starts 52 = .ok (.lmul, 1) := dk_105 (dk_at dksX9_starts_2 6 rfl rfl)
theorem dX9_starts_53 : decode cX9_starts 53 = .ok (.ladd, 1) := dk_97 (dk_at dksX9_starts_2 7 rfl rfl)
theorem dX9_starts_54 : decode cX9_starts 54 = .ok (.putfield 373, 3) := dk_181 1 117 (dk_at dksX9_starts_2 8 rfl rfl)
theorem dX9_starts_57 : decode cX9_starts 57 = .ok (.aload_n 0, 1) := dk_42 (dk_at dksX9_starts_2 11 rfl rfl)
theorem dX9_starts_58 : decode cX9_starts 58 = .ok (.aload_n 0, 1) := dk_42 (dk_at dksX9_starts_2 12 rfl rfl)
theorem dX9_starts_59 : decode cX9_starts 59 = .ok (.getfield 392, 3) := dk_180 1 136 (dk_at dksX9_starts_2 13 rfl rfl)
theorem dX9_starts_62 : decode cX9_starts 62 = .ok (.aload_n 0, 1) := dk_42 (dk_at dksX9_starts_2 16 rfl rfl)
theorem dX9_starts_63 : decode cX9_starts 63 = .ok (.getfield 389, 3) := dk_180 1 133 (dk_at dksX9_starts_2 17 rfl rfl)
theorem dX9_starts_66 : decode cX9_starts 66 = .ok (.iadd, 1) := dk_96 (dk_at dksX9_starts_2 20 rfl rfl)
theorem dX9_starts_67 : decode cX9_starts 67 = .ok (.iconst 0, 1) := dk_3 (dk_at dksX9_starts_2 21 rfl rfl)
theorem dX9_starts_68 : decode cX9_starts 68 = .ok (.aload_n 0, 1) := dk_42 (dk_at dksX9_starts_2 22 rfl rfl)
theorem dX9_starts_69 : decode cX9_starts 69 = .ok (.getfield 387, 3) := dk_180 1 131 (dk_at dksX9_starts_3 0 rfl rfl)
theorem dX9_starts_72 : decode cX9_starts 72 = .ok (.iload_n 3, 1) := dk_29 (dk_at dksX9_starts_3 3 rfl rfl)
theorem dX9_starts_73 : decode cX9_starts 73 = .ok (.iconst 1, 1) := dk_4 (dk_at dksX9_starts_3 4 rfl rfl)
theorem dX9_starts_74 : decode cX9_starts 74 = .ok (.iadd, 1) := dk_96 (dk_at dksX9_starts_3 5 rfl rfl)
theorem dX9_starts_75 : decode cX9_starts 75 = .ok (.aload_n 0, 1) := dk_42 (dk_at dksX9_starts_3 6 rfl rfl)
theorem dX9_starts_76 : decode cX9_starts 76 = .ok (.getfield 383, 3) := dk_180 1 127 (dk_at dksX9_starts_3 7 rfl rfl)
theorem dX9_starts_79 : decode cX9_starts 79 = .ok (.invokestatic 367, 3) := dk_184 1 111 (dk_at dksX9_starts_3 10 rfl rfl)
theorem dX9_starts_82 : decode cX9_starts 82 = .ok (.lload_n 1, 1) := dk_31 (dk_at dksX9_starts_3 13 rfl rfl)
theorem dX9_starts_83 : decode cX9_starts 83 = .ok (.invokevirtual 400, 3) := dk_182 1 144 (dk_at dksX9_starts_3 14 rfl rfl)
theorem dX9_starts_86 : decode cX9_starts 86 = .ok (.return_, 1) := dk_177 (dk_at dksX9_starts_3 17 rfl rfl)
abbrev cX9_ends : ByteArray := prog_28_method_70_code
def yX9_ends : MethodName := ⟨RX9, "ends", "(I)V"⟩
def dkwX9_ends_4 : List UInt8 := [132, 2, 1, 167, 255, 161, 42, 182, 1, 148, 177]
abbrev dktX9_ends_4 : List UInt8 := dkwX9_ends_4 ++ []
def dkwX9_ends_3 : List UInt8 := [180, 1, 133, 42, 180, 1, 131, 42, 180, 1, 129, 3, 184, 1, 111, 42, 180, 0, 77, 29, 47, 182, 1, 144]
abbrev dktX9_ends_3 : List UInt8 := dkwX9_ends_3 ++ dktX9_ends_4
def dkwX9_ends_2 : List UInt8 := [161, 0, 17, 42, 42, 180, 0, 77, 29, 47, 27, 182, 1, 165, 167, 0, 33, 42, 42, 180, 1, 136, 42]
abbrev dktX9_ends_2 : List UInt8 := dkwX9_ends_2 ++ dktX9_ends_3
def dkwX9_ends_1 : List UInt8 := [181, 1, 127, 42, 180, 1, 89, 158, 0, 33, 42, 180, 1, 136, 42, 180, 1, 133, 96, 42, 180, 1, 89]
abbrev dktX9_ends_1 : List UInt8 := dkwX9_ends_1 ++ dktX9_ends_2
def dkwX9_ends_0 : List UInt8 := [3, 61, 28, 42, 180, 1, 108, 162, 0, 93, 42, 180, 0, 71, 28, 46, 62, 42, 29, 182, 1, 139, 42, 3]
abbrev dktX9_ends_0 : List UInt8 := dkwX9_ends_0 ++ dktX9_ends_1
theorem dksX9_ends_0 : cX9_ends.data.toList.drop 0 = dktX9_ends_0 := by decide +kernel
theorem dksX9_ends_1 : cX9_ends.data.toList.drop 24 = dktX9_ends_1 := dk_seg dksX9_ends_0 24 rfl rfl
theorem dksX9_ends_2 : cX9_ends.data.toList.drop 47 = dktX9_ends_2 := dk_seg dksX9_ends_1 23 rfl rfl
theorem dksX9_ends_3 : cX9_ends.data.toList.drop 70 = dktX9_ends_3 := dk_seg dksX9_ends_2 23 rfl rfl
theorem dksX9_ends_4 : cX9_ends.data.toList.drop 94 = dktX9_ends_4 := dk_seg dksX9_ends_3 24 rfl rfl
theorem dX9_ends_0 : decode cX9_ends 0 = .ok (.iconst 0, 1) := dk_3 (dk_at dksX9_ends_0 0 rfl rfl)
theorem dX9_ends_1 : decode cX9_ends 1 = .ok (.istore_n 2, 1) := dk_61 (dk_at dksX9_ends_0 1 rfl rfl)
theorem dX9_ends_2 : decode cX9_ends 2 = .ok (.iload_n 2, 1) := dk_28 (dk_at dksX9_ends_0 2 rfl rfl)
theorem dX9_ends_3 : decode cX9_ends 3 = .ok (.aload_n 0, 1) := dk_42 (dk_at dksX9_ends_0 3 rfl rfl)
theorem dX9_ends_4 : decode cX9_ends 4 = .ok (.getfield 364, 3) := dk_180 1 108 (dk_at dksX9_ends_0 4 rfl rfl)
theorem dX9_ends_7 : decode cX9_ends 7 = .ok (.if_icmp .ge 93, 3) := dk_162 0 93 (dk_at dksX9_ends_0 7 rfl rfl)
theorem dX9_ends_10 : decode cX9_ends 10 = .ok (.aload_n 0, 1) := dk_42 (dk_at dksX9_ends_0 10 rfl rfl)
theorem dX9_ends_11 : decode cX9_ends 11 = .ok (.getfield 71, 3) := dk_180 0 71 (dk_at dksX9_ends_0 11 rfl rfl)
theorem dX9_ends_14 : decode cX9_ends 14 = .ok (.iload_n 2, 1) := dk_28 (dk_at dksX9_ends_0 14 rfl rfl)
theorem dX9_ends_15 : decode cX9_ends 15 = .ok (.iaload, 1) := dk_46 (dk_at dksX9_ends_0 15 rfl rfl)
theorem dX9_ends_16 : decode cX9_ends 16 = .ok (.istore_n 3, 1) := dk_62 (dk_at dksX9_ends_0 16 rfl rfl)
theorem dX9_ends_17 : decode cX9_ends 17 = .ok (.aload_n 0, 1) := dk_42 (dk_at dksX9_ends_0 17 rfl rfl)
theorem dX9_ends_18 : decode cX9_ends 18 = .ok (.iload_n 3, 1) := dk_29 (dk_at dksX9_ends_0 18 rfl rfl)
theorem dX9_ends_19 : decode cX9_ends 19 = .ok (.invokevirtual 395, 3) := dk_182 1 139 (dk_at dksX9_ends_0 19 rfl rfl)
theorem dX9_ends_22 : decode cX9_ends 22 = .ok (.aload_n 0, 1) := dk_42 (dk_at dksX9_ends_0 22 rfl rfl)
theorem dX9_ends_23 : decode cX9_ends 23 = .ok (.iconst 0, 1) := dk_3 (dk_at dksX9_ends_0 23 rfl rfl)
theorem dX9_ends_24 : decode cX9_ends 24 = .ok (.putfield 383, 3) := dk_181 1 127 (dk_at dksX9_ends_1 0 rfl rfl)
theorem dX9_ends_27 : decode cX9_ends 27 = .ok (.aload_n 0, 1) := dk_42 (dk_at dksX9_ends_1 3 rfl rfl)
theorem dX9_ends_28 : decode cX9_ends 28 = .ok (.getfield 345, 3) := dk_180 1 89 (dk_at dksX9_ends_1 4 rfl rfl)
theorem dX9_ends_31 : decode cX9_ends 31 = .ok (.ifCond .le 33, 3) := dk_158 0 33 (dk_at dksX9_ends_1 7 rfl rfl)
theorem dX9_ends_34 : decode cX9_ends 34 = .ok (.aload_n 0, 1) := dk_42 (dk_at dksX9_ends_1 10 rfl rfl)
theorem dX9_ends_35 : decode cX9_ends 35 = .ok (.getfield 392, 3) := dk_180 1 136 (dk_at dksX9_ends_1 11 rfl rfl)
theorem dX9_ends_38 : decode cX9_ends 38 = .ok (.aload_n 0, 1) := dk_42 (dk_at dksX9_ends_1 14 rfl rfl)
theorem dX9_ends_39 : decode cX9_ends 39 = .ok (.getfield 389, 3) := dk_180 1 133 (dk_at dksX9_ends_1 15 rfl rfl)
theorem dX9_ends_42 : decode cX9_ends 42 = .ok (.iadd, 1) := dk_96 (dk_at dksX9_ends_1 18 rfl rfl)
theorem dX9_ends_43 : decode cX9_ends 43 = .ok (.aload_n 0, 1) := dk_42 (dk_at dksX9_ends_1 19 rfl rfl)
theorem dX9_ends_44 : decode cX9_ends 44 = .ok (.getfield 345, 3) := dk_180 1 89 (dk_at dksX9_ends_1 20 rfl rfl)
theorem dX9_ends_47 : decode cX9_ends 47 = .ok (.if_icmp .lt 17, 3) := dk_161 0 17 (dk_at dksX9_ends_2 0 rfl rfl)
theorem dX9_ends_50 : decode cX9_ends 50 = .ok (.aload_n 0, 1) := dk_42 (dk_at dksX9_ends_2 3 rfl rfl)
theorem dX9_ends_51 : decode cX9_ends 51 = .ok (.aload_n 0, 1) := dk_42 (dk_at dksX9_ends_2 4 rfl rfl)
theorem dX9_ends_52 : decode cX9_ends 52 = .ok (.getfield 77, 3) := dk_180 0 77 (dk_at dksX9_ends_2 5 rfl rfl)
theorem dX9_ends_55 : decode cX9_ends 55 = .ok (.iload_n 3, 1) := dk_29 (dk_at dksX9_ends_2 8 rfl rfl)
theorem dX9_ends_56 : decode cX9_ends 56 = .ok (.laload, 1) := dk_47 (dk_at dksX9_ends_2 9 rfl rfl)
theorem dX9_ends_57 : decode cX9_ends 57 = .ok (.iload_n 1, 1) := dk_27 (dk_at dksX9_ends_2 10 rfl rfl)
theorem dX9_ends_58 : decode cX9_ends 58 = .ok (.invokevirtual 421, 3) := dk_182 1 165 (dk_at dksX9_ends_2 11 rfl rfl)
theorem dX9_ends_61 : decode cX9_ends 61 = .ok (.goto 33, 3) := dk_167 0 33 (dk_at dksX9_ends_2 14 rfl rfl)
theorem dX9_ends_64 : decode cX9_ends 64 = .ok (.aload_n 0, 1) := dk_42 (dk_at dksX9_ends_2 17 rfl rfl)
theorem dX9_ends_65 : decode cX9_ends 65 = .ok (.aload_n 0, 1) := dk_42 (dk_at dksX9_ends_2 18 rfl rfl)
theorem dX9_ends_66 : decode cX9_ends 66 = .ok (.getfield 392, 3) := dk_180 1 136 (dk_at dksX9_ends_2 19 rfl rfl)
theorem dX9_ends_69 : decode cX9_ends 69 = .ok (.aload_n 0, 1) := dk_42 (dk_at dksX9_ends_2 22 rfl rfl)
theorem dX9_ends_70 : decode cX9_ends 70 = .ok (.getfield 389, 3) := dk_180 1 133 (dk_at dksX9_ends_3 0 rfl rfl)
theorem dX9_ends_73 : decode cX9_ends 73 = .ok (.aload_n 0, 1) := dk_42 (dk_at dksX9_ends_3 3 rfl rfl)
theorem dX9_ends_74 : decode cX9_ends 74 = .ok (.getfield 387, 3) := dk_180 1 131 (dk_at dksX9_ends_3 4 rfl rfl)
theorem dX9_ends_77 : decode cX9_ends 77 = .ok (.aload_n 0, 1) := dk_42 (dk_at dksX9_ends_3 7 rfl rfl)
theorem dX9_ends_78 : decode cX9_ends 78 = .ok (.getfield 385, 3) := dk_180 1 129 (dk_at dksX9_ends_3 8 rfl rfl)
theorem dX9_ends_81 : decode cX9_ends 81 = .ok (.iconst 0, 1) := dk_3 (dk_at dksX9_ends_3 11 rfl rfl)
theorem dX9_ends_82 : decode cX9_ends 82 = .ok (.invokestatic 367, 3) := dk_184 1 111 (dk_at dksX9_ends_3 12 rfl rfl)
theorem dX9_ends_85 : decode cX9_ends 85 = .ok (.aload_n 0, 1) := dk_42 (dk_at dksX9_ends_3 15 rfl rfl)
theorem dX9_ends_86 : decode cX9_ends 86 = .ok (.getfield 77, 3) := dk_180 0 77 (dk_at dksX9_ends_3 16 rfl rfl)
theorem dX9_ends_89 : decode cX9_ends 89 = .ok (.iload_n 3, 1) := dk_29 (dk_at dksX9_ends_3 19 rfl rfl)
theorem dX9_ends_90 : decode cX9_ends 90 = .ok (.laload, 1) := dk_47 (dk_at dksX9_ends_3 20 rfl rfl)
theorem dX9_ends_91 : decode cX9_ends 91 = .ok (.invokevirtual 400, 3) := dk_182 1 144 (dk_at dksX9_ends_3 21 rfl rfl)
theorem dX9_ends_94 : decode cX9_ends 94 = .ok (.iinc 2 1, 3) := dk_132 2 1 (dk_at dksX9_ends_4 0 rfl rfl)
theorem dX9_ends_97 : decode cX9_ends 97 = .ok (.goto (-95), 3) := dk_167 255 161 (dk_at dksX9_ends_4 3 rfl rfl)
theorem dX9_ends_100 : decode cX9_ends 100 = .ok (.aload_n 0, 1) := dk_42 (dk_at dksX9_ends_4 6 rfl rfl)
theorem dX9_ends_101 : decode cX9_ends 101 = .ok (.invokevirtual 404, 3) := dk_182 1 148 (dk_at dksX9_ends_4 7 rfl rfl)
theorem dX9_ends_104 : decode cX9_ends 104 = .ok (.return_, 1) := dk_177 (dk_at dksX9_ends_4 10 rfl rfl)
abbrev cX9_likelyOf : ByteArray := prog_28_method_75_code
def yX9_likelyOf : MethodName := ⟨RX9, "likelyOf", "(II)J"⟩
def dkwX9_likelyOf_2 : List UInt8 := [167, 0, 4, 9, 97, 66, 132, 5, 1, 167, 255, 206, 33, 173]
abbrev dktX9_likelyOf_2 : List UInt8 := dkwX9_likelyOf_2 ++ []
def dkwX9_likelyOf_1 : List UInt8 := [21, 6, 182, 1, 139, 33, 42, 27, 28, 182, 1, 206, 153, 0, 13, 42, 180, 0, 77, 21, 6, 47]
abbrev dktX9_likelyOf_1 : List UInt8 := dkwX9_likelyOf_1 ++ dktX9_likelyOf_2
def dkwX9_likelyOf_0 : List UInt8 := [9, 66, 3, 54, 5, 21, 5, 42, 180, 1, 108, 162, 0, 47, 42, 180, 0, 71, 21, 5, 46, 54, 6, 42]
abbrev dktX9_likelyOf_0 : List UInt8 := dkwX9_likelyOf_0 ++ dktX9_likelyOf_1
theorem dksX9_likelyOf_0 : cX9_likelyOf.data.toList.drop 0 = dktX9_likelyOf_0 := by decide +kernel
theorem dksX9_likelyOf_1 : cX9_likelyOf.data.toList.drop 24 = dktX9_likelyOf_1 := dk_seg dksX9_likelyOf_0 24 rfl rfl
theorem dksX9_likelyOf_2 : cX9_likelyOf.data.toList.drop 46 = dktX9_likelyOf_2 := dk_seg dksX9_likelyOf_1 22 rfl rfl
theorem dX9_likelyOf_0 : decode cX9_likelyOf 0 = .ok (.lconst 0, 1) := dk_9 (dk_at dksX9_likelyOf_0 0 rfl rfl)
theorem dX9_likelyOf_1 : decode cX9_likelyOf 1 = .ok (.lstore_n 3, 1) := dk_66 (dk_at dksX9_likelyOf_0 1 rfl rfl)
theorem dX9_likelyOf_2 : decode cX9_likelyOf 2 = .ok (.iconst 0, 1) := dk_3 (dk_at dksX9_likelyOf_0 2 rfl rfl)
theorem dX9_likelyOf_3 : decode cX9_likelyOf 3 = .ok (.istore 5, 2) := dk_54 5 (dk_at dksX9_likelyOf_0 3 rfl rfl)
theorem dX9_likelyOf_5 : decode cX9_likelyOf 5 = .ok (.iload 5, 2) := dk_21 5 (dk_at dksX9_likelyOf_0 5 rfl rfl)
theorem dX9_likelyOf_7 : decode cX9_likelyOf 7 = .ok (.aload_n 0, 1) := dk_42 (dk_at dksX9_likelyOf_0 7 rfl rfl)
theorem dX9_likelyOf_8 : decode cX9_likelyOf 8 = .ok (.getfield 364, 3) := dk_180 1 108 (dk_at dksX9_likelyOf_0 8 rfl rfl)
theorem dX9_likelyOf_11 : decode cX9_likelyOf 11 = .ok (.if_icmp .ge 47, 3) := dk_162 0 47 (dk_at dksX9_likelyOf_0 11 rfl rfl)
theorem dX9_likelyOf_14 : decode cX9_likelyOf 14 = .ok (.aload_n 0, 1) := dk_42 (dk_at dksX9_likelyOf_0 14 rfl rfl)
theorem dX9_likelyOf_15 : decode cX9_likelyOf 15 = .ok (.getfield 71, 3) := dk_180 0 71 (dk_at dksX9_likelyOf_0 15 rfl rfl)
theorem dX9_likelyOf_18 : decode cX9_likelyOf 18 = .ok (.iload 5, 2) := dk_21 5 (dk_at dksX9_likelyOf_0 18 rfl rfl)
theorem dX9_likelyOf_20 : decode cX9_likelyOf 20 = .ok (.iaload, 1) := dk_46 (dk_at dksX9_likelyOf_0 20 rfl rfl)
theorem dX9_likelyOf_21 : decode cX9_likelyOf 21 = .ok (.istore 6, 2) := dk_54 6 (dk_at dksX9_likelyOf_0 21 rfl rfl)
theorem dX9_likelyOf_23 : decode cX9_likelyOf 23 = .ok (.aload_n 0, 1) := dk_42 (dk_at dksX9_likelyOf_0 23 rfl rfl)
theorem dX9_likelyOf_24 : decode cX9_likelyOf 24 = .ok (.iload 6, 2) := dk_21 6 (dk_at dksX9_likelyOf_1 0 rfl rfl)
theorem dX9_likelyOf_26 : decode cX9_likelyOf 26 = .ok (.invokevirtual 395, 3) := dk_182 1 139 (dk_at dksX9_likelyOf_1 2 rfl rfl)
theorem dX9_likelyOf_29 : decode cX9_likelyOf 29 = .ok (.lload_n 3, 1) := dk_33 (dk_at dksX9_likelyOf_1 5 rfl rfl)
theorem dX9_likelyOf_30 : decode cX9_likelyOf 30 = .ok (.aload_n 0, 1) := dk_42 (dk_at dksX9_likelyOf_1 6 rfl rfl)
theorem dX9_likelyOf_31 : decode cX9_likelyOf 31 = .ok (.iload_n 1, 1) := dk_27 (dk_at dksX9_likelyOf_1 7 rfl rfl)
theorem dX9_likelyOf_32 : decode cX9_likelyOf 32 = .ok (.iload_n 2, 1) := dk_28 (dk_at dksX9_likelyOf_1 8 rfl rfl)
theorem dX9_likelyOf_33 : decode cX9_likelyOf 33 = .ok (.invokevirtual 462, 3) := dk_182 1 206 (dk_at dksX9_likelyOf_1 9 rfl rfl)
theorem dX9_likelyOf_36 : decode cX9_likelyOf 36 = .ok (.ifCond .eq 13, 3) := dk_153 0 13 (dk_at dksX9_likelyOf_1 12 rfl rfl)
theorem dX9_likelyOf_39 : decode cX9_likelyOf 39 = .ok (.aload_n 0, 1) := dk_42 (dk_at dksX9_likelyOf_1 15 rfl rfl)
theorem dX9_likelyOf_40 : decode cX9_likelyOf 40 = .ok (.getfield 77, 3) := dk_180 0 77 (dk_at dksX9_likelyOf_1 16 rfl rfl)
theorem dX9_likelyOf_43 : decode cX9_likelyOf 43 = .ok (.iload 6, 2) := dk_21 6 (dk_at dksX9_likelyOf_1 19 rfl rfl)
theorem dX9_likelyOf_45 : decode cX9_likelyOf 45 = .ok (.laload, 1) := dk_47 (dk_at dksX9_likelyOf_1 21 rfl rfl)
theorem dX9_likelyOf_46 : decode cX9_likelyOf 46 = .ok (.goto 4, 3) := dk_167 0 4 (dk_at dksX9_likelyOf_2 0 rfl rfl)
theorem dX9_likelyOf_49 : decode cX9_likelyOf 49 = .ok (.lconst 0, 1) := dk_9 (dk_at dksX9_likelyOf_2 3 rfl rfl)
theorem dX9_likelyOf_50 : decode cX9_likelyOf 50 = .ok (.ladd, 1) := dk_97 (dk_at dksX9_likelyOf_2 4 rfl rfl)
theorem dX9_likelyOf_51 : decode cX9_likelyOf 51 = .ok (.lstore_n 3, 1) := dk_66 (dk_at dksX9_likelyOf_2 5 rfl rfl)
theorem dX9_likelyOf_52 : decode cX9_likelyOf 52 = .ok (.iinc 5 1, 3) := dk_132 5 1 (dk_at dksX9_likelyOf_2 6 rfl rfl)
theorem dX9_likelyOf_55 : decode cX9_likelyOf 55 = .ok (.goto (-50), 3) := dk_167 255 206 (dk_at dksX9_likelyOf_2 9 rfl rfl)
theorem dX9_likelyOf_58 : decode cX9_likelyOf 58 = .ok (.lload_n 3, 1) := dk_33 (dk_at dksX9_likelyOf_2 12 rfl rfl)
theorem dX9_likelyOf_59 : decode cX9_likelyOf 59 = .ok (.lreturn, 1) := dk_173 (dk_at dksX9_likelyOf_2 13 rfl rfl)
abbrev cX9_isOf : ByteArray := prog_28_method_74_code
def yX9_isOf : MethodName := ⟨RX9, "isOf", "(II)Z"⟩
def dkwX9_isOf_5 : List UInt8 := [180, 1, 133, 96, 42, 180, 0, 26, 3, 46, 160, 0, 7, 4, 167, 0, 4, 3, 172]
abbrev dktX9_isOf_5 : List UInt8 := dkwX9_isOf_5 ++ []
def dkwX9_isOf_4 : List UInt8 := [180, 1, 136, 42, 180, 1, 133, 96, 154, 0, 7, 4, 167, 0, 30, 3, 167, 0, 26, 42, 180, 1, 136, 42]
abbrev dktX9_isOf_4 : List UInt8 := dkwX9_isOf_4 ++ dktX9_isOf_5
def dkwX9_isOf_3 : List UInt8 := [160, 0, 17, 42, 180, 1, 131, 4, 160, 0, 7, 4, 167, 0, 4, 3, 172, 27, 7, 160, 0, 23, 42]
abbrev dktX9_isOf_3 : List UInt8 := dkwX9_isOf_3 ++ dktX9_isOf_4
def dkwX9_isOf_2 : List UInt8 := [160, 0, 7, 4, 167, 0, 4, 3, 172, 27, 5, 160, 0, 9, 42, 28, 182, 1, 151, 172, 27, 6]
abbrev dktX9_isOf_2 : List UInt8 := dkwX9_isOf_2 ++ dktX9_isOf_3
def dkwX9_isOf_1 : List UInt8 := [180, 1, 131, 4, 160, 0, 7, 4, 167, 0, 4, 3, 42, 180, 1, 133, 154, 0, 7, 4, 167, 0, 4, 3]
abbrev dktX9_isOf_1 : List UInt8 := dkwX9_isOf_1 ++ dktX9_isOf_2
def dkwX9_isOf_0 : List UInt8 := [27, 154, 0, 16, 42, 180, 1, 133, 154, 0, 7, 4, 167, 0, 4, 3, 172, 27, 4, 160, 0, 37, 42]
abbrev dktX9_isOf_0 : List UInt8 := dkwX9_isOf_0 ++ dktX9_isOf_1
theorem dksX9_isOf_0 : cX9_isOf.data.toList.drop 0 = dktX9_isOf_0 := by decide +kernel
theorem dksX9_isOf_1 : cX9_isOf.data.toList.drop 23 = dktX9_isOf_1 := dk_seg dksX9_isOf_0 23 rfl rfl
theorem dksX9_isOf_2 : cX9_isOf.data.toList.drop 47 = dktX9_isOf_2 := dk_seg dksX9_isOf_1 24 rfl rfl
theorem dksX9_isOf_3 : cX9_isOf.data.toList.drop 69 = dktX9_isOf_3 := dk_seg dksX9_isOf_2 22 rfl rfl
theorem dksX9_isOf_4 : cX9_isOf.data.toList.drop 92 = dktX9_isOf_4 := dk_seg dksX9_isOf_3 23 rfl rfl
theorem dksX9_isOf_5 : cX9_isOf.data.toList.drop 116 = dktX9_isOf_5 := dk_seg dksX9_isOf_4 24 rfl rfl
theorem dX9_isOf_0 : decode cX9_isOf 0 = .ok (.iload_n 1, 1) := dk_27 (dk_at dksX9_isOf_0 0 rfl rfl)
theorem dX9_isOf_1 : decode cX9_isOf 1 = .ok (.ifCond .ne 16, 3) := dk_154 0 16 (dk_at dksX9_isOf_0 1 rfl rfl)
theorem dX9_isOf_4 : decode cX9_isOf 4 = .ok (.aload_n 0, 1) := dk_42 (dk_at dksX9_isOf_0 4 rfl rfl)
theorem dX9_isOf_5 : decode cX9_isOf 5 = .ok (.getfield 389, 3) := dk_180 1 133 (dk_at dksX9_isOf_0 5 rfl rfl)
theorem dX9_isOf_8 : decode cX9_isOf 8 = .ok (.ifCond .ne 7, 3) := dk_154 0 7 (dk_at dksX9_isOf_0 8 rfl rfl)
theorem dX9_isOf_11 : decode cX9_isOf 11 = .ok (.iconst 1, 1) := dk_4 (dk_at dksX9_isOf_0 11 rfl rfl)
theorem dX9_isOf_12 : decode cX9_isOf 12 = .ok (.goto 4, 3) := dk_167 0 4 (dk_at dksX9_isOf_0 12 rfl rfl)
theorem dX9_isOf_15 : decode cX9_isOf 15 = .ok (.iconst 0, 1) := dk_3 (dk_at dksX9_isOf_0 15 rfl rfl)
theorem dX9_isOf_16 : decode cX9_isOf 16 = .ok (.ireturn, 1) := dk_172 (dk_at dksX9_isOf_0 16 rfl rfl)
theorem dX9_isOf_17 : decode cX9_isOf 17 = .ok (.iload_n 1, 1) := dk_27 (dk_at dksX9_isOf_0 17 rfl rfl)
theorem dX9_isOf_18 : decode cX9_isOf 18 = .ok (.iconst 1, 1) := dk_4 (dk_at dksX9_isOf_0 18 rfl rfl)
theorem dX9_isOf_19 : decode cX9_isOf 19 = .ok (.if_icmp .ne 37, 3) := dk_160 0 37 (dk_at dksX9_isOf_0 19 rfl rfl)
theorem dX9_isOf_22 : decode cX9_isOf 22 = .ok (.aload_n 0, 1) := dk_42 (dk_at dksX9_isOf_0 22 rfl rfl)
theorem dX9_isOf_23 : decode cX9_isOf 23 = .ok (.getfield 387, 3) := dk_180 1 131 (dk_at dksX9_isOf_1 0 rfl rfl)
theorem dX9_isOf_26 : decode cX9_isOf 26 = .ok (.iconst 1, 1) := dk_4 (dk_at dksX9_isOf_1 3 rfl rfl)
theorem dX9_isOf_27 : decode cX9_isOf 27 = .ok (.if_icmp .ne 7, 3) := dk_160 0 7 (dk_at dksX9_isOf_1 4 rfl rfl)
theorem dX9_isOf_30 : decode cX9_isOf 30 = .ok (.iconst 1, 1) := dk_4 (dk_at dksX9_isOf_1 7 rfl rfl)
theorem dX9_isOf_31 : decode cX9_isOf 31 = .ok (.goto 4, 3) := dk_167 0 4 (dk_at dksX9_isOf_1 8 rfl rfl)
theorem dX9_isOf_34 : decode cX9_isOf 34 = .ok (.iconst 0, 1) := dk_3 (dk_at dksX9_isOf_1 11 rfl rfl)
theorem dX9_isOf_35 : decode cX9_isOf 35 = .ok (.aload_n 0, 1) := dk_42 (dk_at dksX9_isOf_1 12 rfl rfl)
theorem dX9_isOf_36 : decode cX9_isOf 36 = .ok (.getfield 389, 3) := dk_180 1 133 (dk_at dksX9_isOf_1 13 rfl rfl)
theorem dX9_isOf_39 : decode cX9_isOf 39 = .ok (.ifCond .ne 7, 3) := dk_154 0 7 (dk_at dksX9_isOf_1 16 rfl rfl)
theorem dX9_isOf_42 : decode cX9_isOf 42 = .ok (.iconst 1, 1) := dk_4 (dk_at dksX9_isOf_1 19 rfl rfl)
theorem dX9_isOf_43 : decode cX9_isOf 43 = .ok (.goto 4, 3) := dk_167 0 4 (dk_at dksX9_isOf_1 20 rfl rfl)
theorem dX9_isOf_46 : decode cX9_isOf 46 = .ok (.iconst 0, 1) := dk_3 (dk_at dksX9_isOf_1 23 rfl rfl)
theorem dX9_isOf_47 : decode cX9_isOf 47 = .ok (.if_icmp .ne 7, 3) := dk_160 0 7 (dk_at dksX9_isOf_2 0 rfl rfl)
theorem dX9_isOf_50 : decode cX9_isOf 50 = .ok (.iconst 1, 1) := dk_4 (dk_at dksX9_isOf_2 3 rfl rfl)
theorem dX9_isOf_51 : decode cX9_isOf 51 = .ok (.goto 4, 3) := dk_167 0 4 (dk_at dksX9_isOf_2 4 rfl rfl)
theorem dX9_isOf_54 : decode cX9_isOf 54 = .ok (.iconst 0, 1) := dk_3 (dk_at dksX9_isOf_2 7 rfl rfl)
theorem dX9_isOf_55 : decode cX9_isOf 55 = .ok (.ireturn, 1) := dk_172 (dk_at dksX9_isOf_2 8 rfl rfl)
theorem dX9_isOf_56 : decode cX9_isOf 56 = .ok (.iload_n 1, 1) := dk_27 (dk_at dksX9_isOf_2 9 rfl rfl)
theorem dX9_isOf_57 : decode cX9_isOf 57 = .ok (.iconst 2, 1) := dk_5 (dk_at dksX9_isOf_2 10 rfl rfl)
theorem dX9_isOf_58 : decode cX9_isOf 58 = .ok (.if_icmp .ne 9, 3) := dk_160 0 9 (dk_at dksX9_isOf_2 11 rfl rfl)
theorem dX9_isOf_61 : decode cX9_isOf 61 = .ok (.aload_n 0, 1) := dk_42 (dk_at dksX9_isOf_2 14 rfl rfl)
theorem dX9_isOf_62 : decode cX9_isOf 62 = .ok (.iload_n 2, 1) := dk_28 (dk_at dksX9_isOf_2 15 rfl rfl)
theorem dX9_isOf_63 : decode cX9_isOf 63 = .ok (.invokevirtual 407, 3) := dk_182 1 151 (dk_at dksX9_isOf_2 16 rfl rfl)
theorem dX9_isOf_66 : decode cX9_isOf 66 = .ok (.ireturn, 1) := dk_172 (dk_at dksX9_isOf_2 19 rfl rfl)
theorem dX9_isOf_67 : decode cX9_isOf 67 = .ok (.iload_n 1, 1) := dk_27 (dk_at dksX9_isOf_2 20 rfl rfl)
theorem dX9_isOf_68 : decode cX9_isOf 68 = .ok (.iconst 3, 1) := dk_6 (dk_at dksX9_isOf_2 21 rfl rfl)
theorem dX9_isOf_69 : decode cX9_isOf 69 = .ok (.if_icmp .ne 17, 3) := dk_160 0 17 (dk_at dksX9_isOf_3 0 rfl rfl)
theorem dX9_isOf_72 : decode cX9_isOf 72 = .ok (.aload_n 0, 1) := dk_42 (dk_at dksX9_isOf_3 3 rfl rfl)
theorem dX9_isOf_73 : decode cX9_isOf 73 = .ok (.getfield 387, 3) := dk_180 1 131 (dk_at dksX9_isOf_3 4 rfl rfl)
theorem dX9_isOf_76 : decode cX9_isOf 76 = .ok (.iconst 1, 1) := dk_4 (dk_at dksX9_isOf_3 7 rfl rfl)
theorem dX9_isOf_77 : decode cX9_isOf 77 = .ok (.if_icmp .ne 7, 3) := dk_160 0 7 (dk_at dksX9_isOf_3 8 rfl rfl)
theorem dX9_isOf_80 : decode cX9_isOf 80 = .ok (.iconst 1, 1) := dk_4 (dk_at dksX9_isOf_3 11 rfl rfl)
theorem dX9_isOf_81 : decode cX9_isOf 81 = .ok (.goto 4, 3) := dk_167 0 4 (dk_at dksX9_isOf_3 12 rfl rfl)
theorem dX9_isOf_84 : decode cX9_isOf 84 = .ok (.iconst 0, 1) := dk_3 (dk_at dksX9_isOf_3 15 rfl rfl)
theorem dX9_isOf_85 : decode cX9_isOf 85 = .ok (.ireturn, 1) := dk_172 (dk_at dksX9_isOf_3 16 rfl rfl)
theorem dX9_isOf_86 : decode cX9_isOf 86 = .ok (.iload_n 1, 1) := dk_27 (dk_at dksX9_isOf_3 17 rfl rfl)
theorem dX9_isOf_87 : decode cX9_isOf 87 = .ok (.iconst 4, 1) := dk_7 (dk_at dksX9_isOf_3 18 rfl rfl)
theorem dX9_isOf_88 : decode cX9_isOf 88 = .ok (.if_icmp .ne 23, 3) := dk_160 0 23 (dk_at dksX9_isOf_3 19 rfl rfl)
theorem dX9_isOf_91 : decode cX9_isOf 91 = .ok (.aload_n 0, 1) := dk_42 (dk_at dksX9_isOf_3 22 rfl rfl)
theorem dX9_isOf_92 : decode cX9_isOf 92 = .ok (.getfield 392, 3) := dk_180 1 136 (dk_at dksX9_isOf_4 0 rfl rfl)
theorem dX9_isOf_95 : decode cX9_isOf 95 = .ok (.aload_n 0, 1) := dk_42 (dk_at dksX9_isOf_4 3 rfl rfl)
theorem dX9_isOf_96 : decode cX9_isOf 96 = .ok (.getfield 389, 3) := dk_180 1 133 (dk_at dksX9_isOf_4 4 rfl rfl)
theorem dX9_isOf_99 : decode cX9_isOf 99 = .ok (.iadd, 1) := dk_96 (dk_at dksX9_isOf_4 7 rfl rfl)
theorem dX9_isOf_100 : decode cX9_isOf 100 = .ok (.ifCond .ne 7, 3) := dk_154 0 7 (dk_at dksX9_isOf_4 8 rfl rfl)
theorem dX9_isOf_103 : decode cX9_isOf 103 = .ok (.iconst 1, 1) := dk_4 (dk_at dksX9_isOf_4 11 rfl rfl)
theorem dX9_isOf_104 : decode cX9_isOf 104 = .ok (.goto 30, 3) := dk_167 0 30 (dk_at dksX9_isOf_4 12 rfl rfl)
theorem dX9_isOf_107 : decode cX9_isOf 107 = .ok (.iconst 0, 1) := dk_3 (dk_at dksX9_isOf_4 15 rfl rfl)
theorem dX9_isOf_108 : decode cX9_isOf 108 = .ok (.goto 26, 3) := dk_167 0 26 (dk_at dksX9_isOf_4 16 rfl rfl)
theorem dX9_isOf_111 : decode cX9_isOf 111 = .ok (.aload_n 0, 1) := dk_42 (dk_at dksX9_isOf_4 19 rfl rfl)
theorem dX9_isOf_112 : decode cX9_isOf 112 = .ok (.getfield 392, 3) := dk_180 1 136 (dk_at dksX9_isOf_4 20 rfl rfl)
theorem dX9_isOf_115 : decode cX9_isOf 115 = .ok (.aload_n 0, 1) := dk_42 (dk_at dksX9_isOf_4 23 rfl rfl)
theorem dX9_isOf_116 : decode cX9_isOf 116 = .ok (.getfield 389, 3) := dk_180 1 133 (dk_at dksX9_isOf_5 0 rfl rfl)
theorem dX9_isOf_119 : decode cX9_isOf 119 = .ok (.iadd, 1) := dk_96 (dk_at dksX9_isOf_5 3 rfl rfl)
theorem dX9_isOf_120 : decode cX9_isOf 120 = .ok (.aload_n 0, 1) := dk_42 (dk_at dksX9_isOf_5 4 rfl rfl)
theorem dX9_isOf_121 : decode cX9_isOf 121 = .ok (.getfield 26, 3) := dk_180 0 26 (dk_at dksX9_isOf_5 5 rfl rfl)
theorem dX9_isOf_124 : decode cX9_isOf 124 = .ok (.iconst 0, 1) := dk_3 (dk_at dksX9_isOf_5 8 rfl rfl)
theorem dX9_isOf_125 : decode cX9_isOf 125 = .ok (.iaload, 1) := dk_46 (dk_at dksX9_isOf_5 9 rfl rfl)
theorem dX9_isOf_126 : decode cX9_isOf 126 = .ok (.if_icmp .ne 7, 3) := dk_160 0 7 (dk_at dksX9_isOf_5 10 rfl rfl)
theorem dX9_isOf_129 : decode cX9_isOf 129 = .ok (.iconst 1, 1) := dk_4 (dk_at dksX9_isOf_5 13 rfl rfl)
theorem dX9_isOf_130 : decode cX9_isOf 130 = .ok (.goto 4, 3) := dk_167 0 4 (dk_at dksX9_isOf_5 14 rfl rfl)
theorem dX9_isOf_133 : decode cX9_isOf 133 = .ok (.iconst 0, 1) := dk_3 (dk_at dksX9_isOf_5 17 rfl rfl)
theorem dX9_isOf_134 : decode cX9_isOf 134 = .ok (.ireturn, 1) := dk_172 (dk_at dksX9_isOf_5 18 rfl rfl)
abbrev cX9_likely : ByteArray := prog_28_method_79_code
def yX9_likely : MethodName := ⟨RX9, "likely", "(II)J"⟩
def dkwX9_likely_1 : List UInt8 := [182, 0, 213, 154, 0, 5, 9, 173, 42, 182, 1, 209, 42, 27, 182, 1, 203, 42, 28, 27, 182, 1, 199, 173]
abbrev dktX9_likely_1 : List UInt8 := dkwX9_likely_1 ++ []
def dkwX9_likely_0 : List UInt8 := [42, 3, 181, 0, 3, 42, 27, 4, 182, 1, 74, 153, 0, 18, 42, 28, 3, 8, 184, 1, 60, 5, 4]
abbrev dktX9_likely_0 : List UInt8 := dkwX9_likely_0 ++ dktX9_likely_1
theorem dksX9_likely_0 : cX9_likely.data.toList.drop 0 = dktX9_likely_0 := by decide +kernel
theorem dksX9_likely_1 : cX9_likely.data.toList.drop 23 = dktX9_likely_1 := dk_seg dksX9_likely_0 23 rfl rfl
theorem dX9_likely_0 : decode cX9_likely 0 = .ok (.aload_n 0, 1) := dk_42 (dk_at dksX9_likely_0 0 rfl rfl)
theorem dX9_likely_1 : decode cX9_likely 1 = .ok (.iconst 0, 1) := dk_3 (dk_at dksX9_likely_0 1 rfl rfl)
theorem dX9_likely_2 : decode cX9_likely 2 = .ok (.putfield 3, 3) := dk_181 0 3 (dk_at dksX9_likely_0 2 rfl rfl)
theorem dX9_likely_5 : decode cX9_likely 5 = .ok (.aload_n 0, 1) := dk_42 (dk_at dksX9_likely_0 5 rfl rfl)
theorem dX9_likely_6 : decode cX9_likely 6 = .ok (.iload_n 1, 1) := dk_27 (dk_at dksX9_likely_0 6 rfl rfl)
theorem dX9_likely_7 : decode cX9_likely 7 = .ok (.iconst 1, 1) := dk_4 (dk_at dksX9_likely_0 7 rfl rfl)
theorem dX9_likely_8 : decode cX9_likely 8 = .ok (.invokevirtual 330, 3) := dk_182 1 74 (dk_at dksX9_likely_0 8 rfl rfl)
theorem dX9_likely_11 : decode cX9_likely 11 = .ok (.ifCond .eq 18, 3) := dk_153 0 18 (dk_at dksX9_likely_0 11 rfl rfl)
theorem dX9_likely_14 : decode cX9_likely 14 = .ok (.aload_n 0, 1) := dk_42 (dk_at dksX9_likely_0 14 rfl rfl)
theorem dX9_likely_15 : decode cX9_likely 15 = .ok (.iload_n 2, 1) := dk_28 (dk_at dksX9_likely_0 15 rfl rfl)
theorem dX9_likely_16 : decode cX9_likely 16 = .ok (.iconst 0, 1) := dk_3 (dk_at dksX9_likely_0 16 rfl rfl)
theorem dX9_likely_17 : decode cX9_likely 17 = .ok (.iconst 5, 1) := dk_8 (dk_at dksX9_likely_0 17 rfl rfl)
theorem dX9_likely_18 : decode cX9_likely 18 = .ok (.invokestatic 316, 3) := dk_184 1 60 (dk_at dksX9_likely_0 18 rfl rfl)
theorem dX9_likely_21 : decode cX9_likely 21 = .ok (.iconst 2, 1) := dk_5 (dk_at dksX9_likely_0 21 rfl rfl)
theorem dX9_likely_22 : decode cX9_likely 22 = .ok (.iconst 1, 1) := dk_4 (dk_at dksX9_likely_0 22 rfl rfl)
theorem dX9_likely_23 : decode cX9_likely 23 = .ok (.invokevirtual 213, 3) := dk_182 0 213 (dk_at dksX9_likely_1 0 rfl rfl)
theorem dX9_likely_26 : decode cX9_likely 26 = .ok (.ifCond .ne 5, 3) := dk_154 0 5 (dk_at dksX9_likely_1 3 rfl rfl)
theorem dX9_likely_29 : decode cX9_likely 29 = .ok (.lconst 0, 1) := dk_9 (dk_at dksX9_likely_1 6 rfl rfl)
theorem dX9_likely_30 : decode cX9_likely 30 = .ok (.lreturn, 1) := dk_173 (dk_at dksX9_likely_1 7 rfl rfl)
theorem dX9_likely_31 : decode cX9_likely 31 = .ok (.aload_n 0, 1) := dk_42 (dk_at dksX9_likely_1 8 rfl rfl)
theorem dX9_likely_32 : decode cX9_likely 32 = .ok (.invokevirtual 465, 3) := dk_182 1 209 (dk_at dksX9_likely_1 9 rfl rfl)
theorem dX9_likely_35 : decode cX9_likely 35 = .ok (.aload_n 0, 1) := dk_42 (dk_at dksX9_likely_1 12 rfl rfl)
theorem dX9_likely_36 : decode cX9_likely 36 = .ok (.iload_n 1, 1) := dk_27 (dk_at dksX9_likely_1 13 rfl rfl)
theorem dX9_likely_37 : decode cX9_likely 37 = .ok (.invokevirtual 459, 3) := dk_182 1 203 (dk_at dksX9_likely_1 14 rfl rfl)
theorem dX9_likely_40 : decode cX9_likely 40 = .ok (.aload_n 0, 1) := dk_42 (dk_at dksX9_likely_1 17 rfl rfl)
theorem dX9_likely_41 : decode cX9_likely 41 = .ok (.iload_n 2, 1) := dk_28 (dk_at dksX9_likely_1 18 rfl rfl)
theorem dX9_likely_42 : decode cX9_likely 42 = .ok (.iload_n 1, 1) := dk_27 (dk_at dksX9_likely_1 19 rfl rfl)
theorem dX9_likely_43 : decode cX9_likely 43 = .ok (.invokevirtual 455, 3) := dk_182 1 199 (dk_at dksX9_likely_1 20 rfl rfl)
theorem dX9_likely_46 : decode cX9_likely 46 = .ok (.lreturn, 1) := dk_173 (dk_at dksX9_likely_1 23 rfl rfl)
abbrev cX9_state : ByteArray := prog_28_method_81_code
def yX9_state : MethodName := ⟨RX9, "state", "(IIII)J"⟩
def dkwX9_state_3 : List UInt8 := [28, 29, 21, 4, 182, 1, 212, 173]
abbrev dktX9_state_3 : List UInt8 := dkwX9_state_3 ++ []
def dkwX9_state_2 : List UInt8 := [167, 0, 4, 3, 5, 4, 182, 0, 213, 154, 0, 5, 9, 173, 42, 182, 1, 209, 42, 27, 182, 1, 203, 42]
abbrev dktX9_state_2 : List UInt8 := dkwX9_state_2 ++ dktX9_state_3
def dkwX9_state_1 : List UInt8 := [153, 0, 27, 29, 3, 16, 12, 184, 1, 60, 153, 0, 17, 21, 4, 3, 4, 184, 1, 60, 153, 0, 7, 4]
abbrev dktX9_state_1 : List UInt8 := dkwX9_state_1 ++ dktX9_state_2
def dkwX9_state_0 : List UInt8 := [42, 3, 181, 0, 3, 42, 27, 4, 182, 1, 74, 153, 0, 47, 42, 28, 3, 16, 12, 184, 1, 60]
abbrev dktX9_state_0 : List UInt8 := dkwX9_state_0 ++ dktX9_state_1
theorem dksX9_state_0 : cX9_state.data.toList.drop 0 = dktX9_state_0 := by decide +kernel
theorem dksX9_state_1 : cX9_state.data.toList.drop 22 = dktX9_state_1 := dk_seg dksX9_state_0 22 rfl rfl
theorem dksX9_state_2 : cX9_state.data.toList.drop 46 = dktX9_state_2 := dk_seg dksX9_state_1 24 rfl rfl
theorem dksX9_state_3 : cX9_state.data.toList.drop 70 = dktX9_state_3 := dk_seg dksX9_state_2 24 rfl rfl
theorem dX9_state_0 : decode cX9_state 0 = .ok (.aload_n 0, 1) := dk_42 (dk_at dksX9_state_0 0 rfl rfl)
theorem dX9_state_1 : decode cX9_state 1 = .ok (.iconst 0, 1) := dk_3 (dk_at dksX9_state_0 1 rfl rfl)
theorem dX9_state_2 : decode cX9_state 2 = .ok (.putfield 3, 3) := dk_181 0 3 (dk_at dksX9_state_0 2 rfl rfl)
theorem dX9_state_5 : decode cX9_state 5 = .ok (.aload_n 0, 1) := dk_42 (dk_at dksX9_state_0 5 rfl rfl)
theorem dX9_state_6 : decode cX9_state 6 = .ok (.iload_n 1, 1) := dk_27 (dk_at dksX9_state_0 6 rfl rfl)
theorem dX9_state_7 : decode cX9_state 7 = .ok (.iconst 1, 1) := dk_4 (dk_at dksX9_state_0 7 rfl rfl)
theorem dX9_state_8 : decode cX9_state 8 = .ok (.invokevirtual 330, 3) := dk_182 1 74 (dk_at dksX9_state_0 8 rfl rfl)
theorem dX9_state_11 : decode cX9_state 11 = .ok (.ifCond .eq 47, 3) := dk_153 0 47 (dk_at dksX9_state_0 11 rfl rfl)
theorem dX9_state_14 : decode cX9_state 14 = .ok (.aload_n 0, 1) := dk_42 (dk_at dksX9_state_0 14 rfl rfl)
theorem dX9_state_15 : decode cX9_state 15 = .ok (.iload_n 2, 1) := dk_28 (dk_at dksX9_state_0 15 rfl rfl)
theorem dX9_state_16 : decode cX9_state 16 = .ok (.iconst 0, 1) := dk_3 (dk_at dksX9_state_0 16 rfl rfl)
theorem dX9_state_17 : decode cX9_state 17 = .ok (.bipush 12, 2) := dk_16 12 (dk_at dksX9_state_0 17 rfl rfl)
theorem dX9_state_19 : decode cX9_state 19 = .ok (.invokestatic 316, 3) := dk_184 1 60 (dk_at dksX9_state_0 19 rfl rfl)
theorem dX9_state_22 : decode cX9_state 22 = .ok (.ifCond .eq 27, 3) := dk_153 0 27 (dk_at dksX9_state_1 0 rfl rfl)
theorem dX9_state_25 : decode cX9_state 25 = .ok (.iload_n 3, 1) := dk_29 (dk_at dksX9_state_1 3 rfl rfl)
theorem dX9_state_26 : decode cX9_state 26 = .ok (.iconst 0, 1) := dk_3 (dk_at dksX9_state_1 4 rfl rfl)
theorem dX9_state_27 : decode cX9_state 27 = .ok (.bipush 12, 2) := dk_16 12 (dk_at dksX9_state_1 5 rfl rfl)
theorem dX9_state_29 : decode cX9_state 29 = .ok (.invokestatic 316, 3) := dk_184 1 60 (dk_at dksX9_state_1 7 rfl rfl)
theorem dX9_state_32 : decode cX9_state 32 = .ok (.ifCond .eq 17, 3) := dk_153 0 17 (dk_at dksX9_state_1 10 rfl rfl)
theorem dX9_state_35 : decode cX9_state 35 = .ok (.iload 4, 2) := dk_21 4 (dk_at dksX9_state_1 13 rfl rfl)
theorem dX9_state_37 : decode cX9_state 37 = .ok (.iconst 0, 1) := dk_3 (dk_at dksX9_state_1 15 rfl rfl)
theorem dX9_state_38 : decode cX9_state 38 = .ok (.iconst 1, 1) := dk_4 (dk_at dksX9_state_1 16 rfl rfl)
theorem dX9_state_39 : decode cX9_state 39 = .ok (.invokestatic 316, 3) := dk_184 1 60 (dk_at dksX9_state_1 17 rfl rfl)
theorem dX9_state_42 : decode cX9_state 42 = .ok (.ifCond .eq 7, 3) := dk_153 0 7 (dk_at dksX9_state_1 20 rfl rfl)
theorem dX9_state_45 : decode cX9_state 45 = .ok (.iconst 1, 1) := dk_4 (dk_at dksX9_state_1 23 rfl rfl)
theorem dX9_state_46 : decode cX9_state 46 = .ok (.goto 4, 3) := dk_167 0 4 (dk_at dksX9_state_2 0 rfl rfl)
theorem dX9_state_49 : decode cX9_state 49 = .ok (.iconst 0, 1) := dk_3 (dk_at dksX9_state_2 3 rfl rfl)
theorem dX9_state_50 : decode cX9_state 50 = .ok (.iconst 2, 1) := dk_5 (dk_at dksX9_state_2 4 rfl rfl)
theorem dX9_state_51 : decode cX9_state 51 = .ok (.iconst 1, 1) := dk_4 (dk_at dksX9_state_2 5 rfl rfl)
theorem dX9_state_52 : decode cX9_state 52 = .ok (.invokevirtual 213, 3) := dk_182 0 213 (dk_at dksX9_state_2 6 rfl rfl)
theorem dX9_state_55 : decode cX9_state 55 = .ok (.ifCond .ne 5, 3) := dk_154 0 5 (dk_at dksX9_state_2 9 rfl rfl)
theorem dX9_state_58 : decode cX9_state 58 = .ok (.lconst 0, 1) := dk_9 (dk_at dksX9_state_2 12 rfl rfl)
theorem dX9_state_59 : decode cX9_state 59 = .ok (.lreturn, 1) := dk_173 (dk_at dksX9_state_2 13 rfl rfl)
theorem dX9_state_60 : decode cX9_state 60 = .ok (.aload_n 0, 1) := dk_42 (dk_at dksX9_state_2 14 rfl rfl)
theorem dX9_state_61 : decode cX9_state 61 = .ok (.invokevirtual 465, 3) := dk_182 1 209 (dk_at dksX9_state_2 15 rfl rfl)
theorem dX9_state_64 : decode cX9_state 64 = .ok (.aload_n 0, 1) := dk_42 (dk_at dksX9_state_2 18 rfl rfl)
theorem dX9_state_65 : decode cX9_state 65 = .ok (.iload_n 1, 1) := dk_27 (dk_at dksX9_state_2 19 rfl rfl)
theorem dX9_state_66 : decode cX9_state 66 = .ok (.invokevirtual 459, 3) := dk_182 1 203 (dk_at dksX9_state_2 20 rfl rfl)
theorem dX9_state_69 : decode cX9_state 69 = .ok (.aload_n 0, 1) := dk_42 (dk_at dksX9_state_2 23 rfl rfl)
theorem dX9_state_70 : decode cX9_state 70 = .ok (.iload_n 2, 1) := dk_28 (dk_at dksX9_state_3 0 rfl rfl)
theorem dX9_state_71 : decode cX9_state 71 = .ok (.iload_n 3, 1) := dk_29 (dk_at dksX9_state_3 1 rfl rfl)
theorem dX9_state_72 : decode cX9_state 72 = .ok (.iload 4, 2) := dk_21 4 (dk_at dksX9_state_3 2 rfl rfl)
theorem dX9_state_74 : decode cX9_state 74 = .ok (.invokevirtual 468, 3) := dk_182 1 212 (dk_at dksX9_state_3 4 rfl rfl)
theorem dX9_state_77 : decode cX9_state 77 = .ok (.lreturn, 1) := dk_173 (dk_at dksX9_state_3 7 rfl rfl)
abbrev cX9_partsOf : ByteArray := prog_28_method_80_code
def yX9_partsOf : MethodName := ⟨RX9, "partsOf", "(III)J"⟩
def dkwX9_partsOf_1 : List UInt8 := [3, 184, 1, 111, 47, 97, 55, 4, 132, 6, 1, 167, 255, 227, 22, 4, 173]
abbrev dktX9_partsOf_1 : List UInt8 := dkwX9_partsOf_1 ++ []
def dkwX9_partsOf_0 : List UInt8 := [9, 55, 4, 3, 54, 6, 21, 6, 16, 25, 162, 0, 28, 22, 4, 42, 180, 0, 77, 27, 28, 29, 21, 6]
abbrev dktX9_partsOf_0 : List UInt8 := dkwX9_partsOf_0 ++ dktX9_partsOf_1
theorem dksX9_partsOf_0 : cX9_partsOf.data.toList.drop 0 = dktX9_partsOf_0 := by decide +kernel
theorem dksX9_partsOf_1 : cX9_partsOf.data.toList.drop 24 = dktX9_partsOf_1 := dk_seg dksX9_partsOf_0 24 rfl rfl
theorem dX9_partsOf_0 : decode cX9_partsOf 0 = .ok (.lconst 0, 1) := dk_9 (dk_at dksX9_partsOf_0 0 rfl rfl)
theorem dX9_partsOf_1 : decode cX9_partsOf 1 = .ok (.lstore 4, 2) := dk_55 4 (dk_at dksX9_partsOf_0 1 rfl rfl)
theorem dX9_partsOf_3 : decode cX9_partsOf 3 = .ok (.iconst 0, 1) := dk_3 (dk_at dksX9_partsOf_0 3 rfl rfl)
theorem dX9_partsOf_4 : decode cX9_partsOf 4 = .ok (.istore 6, 2) := dk_54 6 (dk_at dksX9_partsOf_0 4 rfl rfl)
theorem dX9_partsOf_6 : decode cX9_partsOf 6 = .ok (.iload 6, 2) := dk_21 6 (dk_at dksX9_partsOf_0 6 rfl rfl)
theorem dX9_partsOf_8 : decode cX9_partsOf 8 = .ok (.bipush 25, 2) := dk_16 25 (dk_at dksX9_partsOf_0 8 rfl rfl)
theorem dX9_partsOf_10 : decode cX9_partsOf 10 = .ok (.if_icmp .ge 28, 3) := dk_162 0 28 (dk_at dksX9_partsOf_0 10 rfl rfl)
theorem dX9_partsOf_13 : decode cX9_partsOf 13 = .ok (.lload 4, 2) := dk_22 4 (dk_at dksX9_partsOf_0 13 rfl rfl)
theorem dX9_partsOf_15 : decode cX9_partsOf 15 = .ok (.aload_n 0, 1) := dk_42 (dk_at dksX9_partsOf_0 15 rfl rfl)
theorem dX9_partsOf_16 : decode cX9_partsOf 16 = .ok (.getfield 77, 3) := dk_180 0 77 (dk_at dksX9_partsOf_0 16 rfl rfl)
theorem dX9_partsOf_19 : decode cX9_partsOf 19 = .ok (.iload_n 1, 1) := dk_27 (dk_at dksX9_partsOf_0 19 rfl rfl)
theorem dX9_partsOf_20 : decode cX9_partsOf 20 = .ok (.iload_n 2, 1) := dk_28 (dk_at dksX9_partsOf_0 20 rfl rfl)
theorem dX9_partsOf_21 : decode cX9_partsOf 21 = .ok (.iload_n 3, 1) := dk_29 (dk_at dksX9_partsOf_0 21 rfl rfl)
theorem dX9_partsOf_22 : decode cX9_partsOf 22 = .ok (.iload 6, 2) := dk_21 6 (dk_at dksX9_partsOf_0 22 rfl rfl)
theorem dX9_partsOf_24 : decode cX9_partsOf 24 = .ok (.iconst 0, 1) := dk_3 (dk_at dksX9_partsOf_1 0 rfl rfl)
theorem dX9_partsOf_25 : decode cX9_partsOf 25 = .ok (.invokestatic 367, 3) := dk_184 1 111 (dk_at dksX9_partsOf_1 1 rfl rfl)
theorem dX9_partsOf_28 : decode cX9_partsOf 28 = .ok (.laload, 1) := dk_47 (dk_at dksX9_partsOf_1 4 rfl rfl)
theorem dX9_partsOf_29 : decode cX9_partsOf 29 = .ok (.ladd, 1) := dk_97 (dk_at dksX9_partsOf_1 5 rfl rfl)
theorem dX9_partsOf_30 : decode cX9_partsOf 30 = .ok (.lstore 4, 2) := dk_55 4 (dk_at dksX9_partsOf_1 6 rfl rfl)
theorem dX9_partsOf_32 : decode cX9_partsOf 32 = .ok (.iinc 6 1, 3) := dk_132 6 1 (dk_at dksX9_partsOf_1 8 rfl rfl)
theorem dX9_partsOf_35 : decode cX9_partsOf 35 = .ok (.goto (-29), 3) := dk_167 255 227 (dk_at dksX9_partsOf_1 11 rfl rfl)
theorem dX9_partsOf_38 : decode cX9_partsOf 38 = .ok (.lload 4, 2) := dk_22 4 (dk_at dksX9_partsOf_1 14 rfl rfl)
theorem dX9_partsOf_40 : decode cX9_partsOf 40 = .ok (.lreturn, 1) := dk_173 (dk_at dksX9_partsOf_1 16 rfl rfl)
abbrev cX9_likeliest : ByteArray := prog_28_method_82_code
def yX9_likeliest : MethodName := ⟨RX9, "likeliest", "(I)I"⟩
def dkwX9_likeliest_4 : List UInt8 := [21, 7, 96, 61, 132, 7, 1, 167, 255, 208, 132, 6, 1, 167, 255, 192, 132, 5, 1, 167, 255, 176, 28, 172]
abbrev dktX9_likeliest_4 : List UInt8 := dkwX9_likeliest_4 ++ []
def dkwX9_likeliest_3 : List UInt8 := [22, 8, 33, 148, 157, 0, 6, 167, 0, 20, 22, 8, 66, 16, 100, 21, 5, 104, 5, 21, 6, 104, 96]
abbrev dktX9_likeliest_3 : List UInt8 := dkwX9_likeliest_3 ++ dktX9_likeliest_4
def dkwX9_likeliest_2 : List UInt8 := [163, 0, 63, 3, 54, 7, 21, 7, 5, 162, 0, 48, 42, 21, 5, 21, 6, 21, 7, 182, 1, 212, 55, 8]
abbrev dktX9_likeliest_2 : List UInt8 := dkwX9_likeliest_2 ++ dktX9_likeliest_3
def dkwX9_likeliest_1 : List UInt8 := [182, 1, 203, 2, 61, 9, 66, 3, 54, 5, 21, 5, 16, 12, 163, 0, 79, 3, 54, 6, 21, 6, 16, 12]
abbrev dktX9_likeliest_1 : List UInt8 := dkwX9_likeliest_1 ++ dktX9_likeliest_2
def dkwX9_likeliest_0 : List UInt8 := [42, 3, 181, 0, 3, 42, 27, 4, 182, 1, 74, 154, 0, 5, 3, 172, 42, 182, 1, 209, 42, 27]
abbrev dktX9_likeliest_0 : List UInt8 := dkwX9_likeliest_0 ++ dktX9_likeliest_1
theorem dksX9_likeliest_0 : cX9_likeliest.data.toList.drop 0 = dktX9_likeliest_0 := by decide +kernel
theorem dksX9_likeliest_1 : cX9_likeliest.data.toList.drop 22 = dktX9_likeliest_1 := dk_seg dksX9_likeliest_0 22 rfl rfl
theorem dksX9_likeliest_2 : cX9_likeliest.data.toList.drop 46 = dktX9_likeliest_2 := dk_seg dksX9_likeliest_1 24 rfl rfl
theorem dksX9_likeliest_3 : cX9_likeliest.data.toList.drop 70 = dktX9_likeliest_3 := dk_seg dksX9_likeliest_2 24 rfl rfl
theorem dksX9_likeliest_4 : cX9_likeliest.data.toList.drop 93 = dktX9_likeliest_4 := dk_seg dksX9_likeliest_3 23 rfl rfl
theorem dX9_likeliest_0 : decode cX9_likeliest 0 = .ok (.aload_n 0, 1) := dk_42 (dk_at dksX9_likeliest_0 0 rfl rfl)
theorem dX9_likeliest_1 : decode cX9_likeliest 1 = .ok (.iconst 0, 1) := dk_3 (dk_at dksX9_likeliest_0 1 rfl rfl)
theorem dX9_likeliest_2 : decode cX9_likeliest 2 = .ok (.putfield 3, 3) := dk_181 0 3 (dk_at dksX9_likeliest_0 2 rfl rfl)
theorem dX9_likeliest_5 : decode cX9_likeliest 5 = .ok (.aload_n 0, 1) := dk_42 (dk_at dksX9_likeliest_0 5 rfl rfl)
theorem dX9_likeliest_6 : decode cX9_likeliest 6 = .ok (.iload_n 1, 1) := dk_27 (dk_at dksX9_likeliest_0 6 rfl rfl)
theorem dX9_likeliest_7 : decode cX9_likeliest 7 = .ok (.iconst 1, 1) := dk_4 (dk_at dksX9_likeliest_0 7 rfl rfl)
theorem dX9_likeliest_8 : decode cX9_likeliest 8 = .ok (.invokevirtual 330, 3) := dk_182 1 74 (dk_at dksX9_likeliest_0 8 rfl rfl)
theorem dX9_likeliest_11 : decode cX9_likeliest 11 = .ok (.ifCond .ne 5, 3) := dk_154 0 5 (dk_at dksX9_likeliest_0 11 rfl rfl)
theorem dX9_likeliest_14 : decode cX9_likeliest 14 = .ok (.iconst 0, 1) := dk_3 (dk_at dksX9_likeliest_0 14 rfl rfl)
theorem dX9_likeliest_15 : decode cX9_likeliest 15 = .ok (.ireturn, 1) := dk_172 (dk_at dksX9_likeliest_0 15 rfl rfl)
theorem dX9_likeliest_16 : decode cX9_likeliest 16 = .ok (.aload_n 0, 1) := dk_42 (dk_at dksX9_likeliest_0 16 rfl rfl)
theorem dX9_likeliest_17 : decode cX9_likeliest 17 = .ok (.invokevirtual 465, 3) := dk_182 1 209 (dk_at dksX9_likeliest_0 17 rfl rfl)
theorem dX9_likeliest_20 : decode cX9_likeliest 20 = .ok (.aload_n 0, 1) := dk_42 (dk_at dksX9_likeliest_0 20 rfl rfl)
theorem dX9_likeliest_21 : decode cX9_likeliest 21 = .ok (.iload_n 1, 1) := dk_27 (dk_at dksX9_likeliest_0 21 rfl rfl)
theorem dX9_likeliest_22 : decode cX9_likeliest 22 = .ok (.invokevirtual 459, 3) := dk_182 1 203 (dk_at dksX9_likeliest_1 0 rfl rfl)
theorem dX9_likeliest_25 : decode cX9_likeliest 25 = .ok (.iconst (-1), 1) := dk_2 (dk_at dksX9_likeliest_1 3 rfl rfl)
theorem dX9_likeliest_26 : decode cX9_likeliest 26 = .ok (.istore_n 2, 1) := dk_61 (dk_at dksX9_likeliest_1 4 rfl rfl)
theorem dX9_likeliest_27 : decode cX9_likeliest 27 = .ok (.lconst 0, 1) := dk_9 (dk_at dksX9_likeliest_1 5 rfl rfl)
theorem dX9_likeliest_28 : decode cX9_likeliest 28 = .ok (.lstore_n 3, 1) := dk_66 (dk_at dksX9_likeliest_1 6 rfl rfl)
theorem dX9_likeliest_29 : decode cX9_likeliest 29 = .ok (.iconst 0, 1) := dk_3 (dk_at dksX9_likeliest_1 7 rfl rfl)
theorem dX9_likeliest_30 : decode cX9_likeliest 30 = .ok (.istore 5, 2) := dk_54 5 (dk_at dksX9_likeliest_1 8 rfl rfl)
theorem dX9_likeliest_32 : decode cX9_likeliest 32 = .ok (.iload 5, 2) := dk_21 5 (dk_at dksX9_likeliest_1 10 rfl rfl)
theorem dX9_likeliest_34 : decode cX9_likeliest 34 = .ok (.bipush 12, 2) := dk_16 12 (dk_at dksX9_likeliest_1 12 rfl rfl)
theorem dX9_likeliest_36 : decode cX9_likeliest 36 = .ok (.if_icmp .gt 79, 3) := dk_163 0 79 (dk_at dksX9_likeliest_1 14 rfl rfl)
theorem dX9_likeliest_39 : decode cX9_likeliest 39 = .ok (.iconst 0, 1) := dk_3 (dk_at dksX9_likeliest_1 17 rfl rfl)
theorem dX9_likeliest_40 : decode cX9_likeliest 40 = .ok (.istore 6, 2) := dk_54 6 (dk_at dksX9_likeliest_1 18 rfl rfl)
theorem dX9_likeliest_42 : decode cX9_likeliest 42 = .ok (.iload 6, 2) := dk_21 6 (dk_at dksX9_likeliest_1 20 rfl rfl)
theorem dX9_likeliest_44 : decode cX9_likeliest 44 = .ok (.bipush 12, 2) := dk_16 12 (dk_at dksX9_likeliest_1 22 rfl rfl)
theorem dX9_likeliest_46 : decode cX9_likeliest 46 = .ok (.if_icmp .gt 63, 3) := dk_163 0 63 (dk_at dksX9_likeliest_2 0 rfl rfl)
theorem dX9_likeliest_49 : decode cX9_likeliest 49 = .ok (.iconst 0, 1) := dk_3 (dk_at dksX9_likeliest_2 3 rfl rfl)
theorem dX9_likeliest_50 : decode cX9_likeliest 50 = .ok (.istore 7, 2) := dk_54 7 (dk_at dksX9_likeliest_2 4 rfl rfl)
theorem dX9_likeliest_52 : decode cX9_likeliest 52 = .ok (.iload 7, 2) := dk_21 7 (dk_at dksX9_likeliest_2 6 rfl rfl)
theorem dX9_likeliest_54 : decode cX9_likeliest 54 = .ok (.iconst 2, 1) := dk_5 (dk_at dksX9_likeliest_2 8 rfl rfl)
theorem dX9_likeliest_55 : decode cX9_likeliest 55 = .ok (.if_icmp .ge 48, 3) := dk_162 0 48 (dk_at dksX9_likeliest_2 9 rfl rfl)
theorem dX9_likeliest_58 : decode cX9_likeliest 58 = .ok (.aload_n 0, 1) := dk_42 (dk_at dksX9_likeliest_2 12 rfl rfl)
theorem dX9_likeliest_59 : decode cX9_likeliest 59 = .ok (.iload 5, 2) := dk_21 5 (dk_at dksX9_likeliest_2 13 rfl rfl)
theorem dX9_likeliest_61 : decode cX9_likeliest 61 = .ok (.iload 6, 2) := dk_21 6 (dk_at dksX9_likeliest_2 15 rfl rfl)
theorem dX9_likeliest_63 : decode cX9_likeliest 63 = .ok (.iload 7, 2) := dk_21 7 (dk_at dksX9_likeliest_2 17 rfl rfl)
theorem dX9_likeliest_65 : decode cX9_likeliest 65 = .ok (.invokevirtual 468, 3) := dk_182 1 212 (dk_at dksX9_likeliest_2 19 rfl rfl)
theorem dX9_likeliest_68 : decode cX9_likeliest 68 = .ok (.lstore 8, 2) := dk_55 8 (dk_at dksX9_likeliest_2 22 rfl rfl)
theorem dX9_likeliest_70 : decode cX9_likeliest 70 = .ok (.lload 8, 2) := dk_22 8 (dk_at dksX9_likeliest_3 0 rfl rfl)
theorem dX9_likeliest_72 : decode cX9_likeliest 72 = .ok (.lload_n 3, 1) := dk_33 (dk_at dksX9_likeliest_3 2 rfl rfl)
theorem dX9_likeliest_73 : decode cX9_likeliest 73 = .ok (.lcmp, 1) := dk_148 (dk_at dksX9_likeliest_3 3 rfl rfl)
theorem dX9_likeliest_74 : decode cX9_likeliest 74 = .ok (.ifCond .gt 6, 3) := dk_157 0 6 (dk_at dksX9_likeliest_3 4 rfl rfl)
theorem dX9_likeliest_77 : decode cX9_likeliest 77 = .ok (.goto 20, 3) := dk_167 0 20 (dk_at dksX9_likeliest_3 7 rfl rfl)
theorem dX9_likeliest_80 : decode cX9_likeliest 80 = .ok (.lload 8, 2) := dk_22 8 (dk_at dksX9_likeliest_3 10 rfl rfl)
theorem dX9_likeliest_82 : decode cX9_likeliest 82 = .ok (.lstore_n 3, 1) := dk_66 (dk_at dksX9_likeliest_3 12 rfl rfl)
theorem dX9_likeliest_83 : decode cX9_likeliest 83 = .ok (.bipush 100, 2) := dk_16 100 (dk_at dksX9_likeliest_3 13 rfl rfl)
theorem dX9_likeliest_85 : decode cX9_likeliest 85 = .ok (.iload 5, 2) := dk_21 5 (dk_at dksX9_likeliest_3 15 rfl rfl)
theorem dX9_likeliest_87 : decode cX9_likeliest 87 = .ok (.imul, 1) := dk_104 (dk_at dksX9_likeliest_3 17 rfl rfl)
theorem dX9_likeliest_88 : decode cX9_likeliest 88 = .ok (.iconst 2, 1) := dk_5 (dk_at dksX9_likeliest_3 18 rfl rfl)
theorem dX9_likeliest_89 : decode cX9_likeliest 89 = .ok (.iload 6, 2) := dk_21 6 (dk_at dksX9_likeliest_3 19 rfl rfl)
theorem dX9_likeliest_91 : decode cX9_likeliest 91 = .ok (.imul, 1) := dk_104 (dk_at dksX9_likeliest_3 21 rfl rfl)
theorem dX9_likeliest_92 : decode cX9_likeliest 92 = .ok (.iadd, 1) := dk_96 (dk_at dksX9_likeliest_3 22 rfl rfl)
theorem dX9_likeliest_93 : decode cX9_likeliest 93 = .ok (.iload 7, 2) := dk_21 7 (dk_at dksX9_likeliest_4 0 rfl rfl)
theorem dX9_likeliest_95 : decode cX9_likeliest 95 = .ok (.iadd, 1) := dk_96 (dk_at dksX9_likeliest_4 2 rfl rfl)
theorem dX9_likeliest_96 : decode cX9_likeliest 96 = .ok (.istore_n 2, 1) := dk_61 (dk_at dksX9_likeliest_4 3 rfl rfl)
theorem dX9_likeliest_97 : decode cX9_likeliest 97 = .ok (.iinc 7 1, 3) := dk_132 7 1 (dk_at dksX9_likeliest_4 4 rfl rfl)
theorem dX9_likeliest_100 : decode cX9_likeliest 100 = .ok (.goto (-48), 3) := dk_167 255 208 (dk_at dksX9_likeliest_4 7 rfl rfl)
theorem dX9_likeliest_103 : decode cX9_likeliest 103 = .ok (.iinc 6 1, 3) := dk_132 6 1 (dk_at dksX9_likeliest_4 10 rfl rfl)
theorem dX9_likeliest_106 : decode cX9_likeliest 106 = .ok (.goto (-64), 3) := dk_167 255 192 (dk_at dksX9_likeliest_4 13 rfl rfl)
theorem dX9_likeliest_109 : decode cX9_likeliest 109 = .ok (.iinc 5 1, 3) := dk_132 5 1 (dk_at dksX9_likeliest_4 16 rfl rfl)
theorem dX9_likeliest_112 : decode cX9_likeliest 112 = .ok (.goto (-80), 3) := dk_167 255 176 (dk_at dksX9_likeliest_4 19 rfl rfl)
theorem dX9_likeliest_115 : decode cX9_likeliest 115 = .ok (.iload_n 2, 1) := dk_28 (dk_at dksX9_likeliest_4 22 rfl rfl)
theorem dX9_likeliest_116 : decode cX9_likeliest 116 = .ok (.ireturn, 1) := dk_172 (dk_at dksX9_likeliest_4 23 rfl rfl)
abbrev cX9_mean : ByteArray := prog_28_method_83_code
def yX9_mean : MethodName := ⟨RX9, "mean", "(III)J"⟩
def dkwX9_mean_5 : List UInt8 := [167, 255, 200, 22, 4, 20, 1, 115, 29, 184, 1, 216, 173]
abbrev dktX9_mean_5 : List UInt8 := dkwX9_mean_5 ++ []
def dkwX9_mean_4 : List UInt8 := [28, 154, 0, 10, 42, 180, 1, 136, 167, 0, 7, 42, 180, 1, 133, 133, 105, 97, 55, 4, 132, 6, 1]
abbrev dktX9_mean_4 : List UInt8 := dkwX9_mean_4 ++ dktX9_mean_5
def dkwX9_mean_3 : List UInt8 := [42, 180, 0, 71, 21, 6, 46, 54, 7, 42, 21, 7, 182, 1, 139, 22, 4, 42, 180, 0, 77, 21, 7, 47]
abbrev dktX9_mean_3 : List UInt8 := dkwX9_mean_3 ++ dktX9_mean_4
def dkwX9_mean_2 : List UInt8 := [42, 182, 1, 209, 42, 27, 182, 1, 203, 9, 55, 4, 3, 54, 6, 21, 6, 42, 180, 1, 108, 162, 0, 53]
abbrev dktX9_mean_2 : List UInt8 := dkwX9_mean_2 ++ dktX9_mean_3
def dkwX9_mean_1 : List UInt8 := [29, 3, 4, 184, 1, 60, 153, 0, 7, 4, 167, 0, 4, 3, 5, 4, 182, 0, 213, 154, 0, 5, 9, 173]
abbrev dktX9_mean_1 : List UInt8 := dkwX9_mean_1 ++ dktX9_mean_2
def dkwX9_mean_0 : List UInt8 := [42, 3, 181, 0, 3, 42, 27, 4, 182, 1, 74, 153, 0, 35, 42, 28, 3, 4, 184, 1, 60, 153, 0, 16]
abbrev dktX9_mean_0 : List UInt8 := dkwX9_mean_0 ++ dktX9_mean_1
theorem dksX9_mean_0 : cX9_mean.data.toList.drop 0 = dktX9_mean_0 := by decide +kernel
theorem dksX9_mean_1 : cX9_mean.data.toList.drop 24 = dktX9_mean_1 := dk_seg dksX9_mean_0 24 rfl rfl
theorem dksX9_mean_2 : cX9_mean.data.toList.drop 48 = dktX9_mean_2 := dk_seg dksX9_mean_1 24 rfl rfl
theorem dksX9_mean_3 : cX9_mean.data.toList.drop 72 = dktX9_mean_3 := dk_seg dksX9_mean_2 24 rfl rfl
theorem dksX9_mean_4 : cX9_mean.data.toList.drop 96 = dktX9_mean_4 := dk_seg dksX9_mean_3 24 rfl rfl
theorem dksX9_mean_5 : cX9_mean.data.toList.drop 119 = dktX9_mean_5 := dk_seg dksX9_mean_4 23 rfl rfl
theorem dX9_mean_0 : decode cX9_mean 0 = .ok (.aload_n 0, 1) := dk_42 (dk_at dksX9_mean_0 0 rfl rfl)
theorem dX9_mean_1 : decode cX9_mean 1 = .ok (.iconst 0, 1) := dk_3 (dk_at dksX9_mean_0 1 rfl rfl)
theorem dX9_mean_2 : decode cX9_mean 2 = .ok (.putfield 3, 3) := dk_181 0 3 (dk_at dksX9_mean_0 2 rfl rfl)
theorem dX9_mean_5 : decode cX9_mean 5 = .ok (.aload_n 0, 1) := dk_42 (dk_at dksX9_mean_0 5 rfl rfl)
theorem dX9_mean_6 : decode cX9_mean 6 = .ok (.iload_n 1, 1) := dk_27 (dk_at dksX9_mean_0 6 rfl rfl)
theorem dX9_mean_7 : decode cX9_mean 7 = .ok (.iconst 1, 1) := dk_4 (dk_at dksX9_mean_0 7 rfl rfl)
theorem dX9_mean_8 : decode cX9_mean 8 = .ok (.invokevirtual 330, 3) := dk_182 1 74 (dk_at dksX9_mean_0 8 rfl rfl)
theorem dX9_mean_11 : decode cX9_mean 11 = .ok (.ifCond .eq 35, 3) := dk_153 0 35 (dk_at dksX9_mean_0 11 rfl rfl)
theorem dX9_mean_14 : decode cX9_mean 14 = .ok (.aload_n 0, 1) := dk_42 (dk_at dksX9_mean_0 14 rfl rfl)
theorem dX9_mean_15 : decode cX9_mean 15 = .ok (.iload_n 2, 1) := dk_28 (dk_at dksX9_mean_0 15 rfl rfl)
theorem dX9_mean_16 : decode cX9_mean 16 = .ok (.iconst 0, 1) := dk_3 (dk_at dksX9_mean_0 16 rfl rfl)
theorem dX9_mean_17 : decode cX9_mean 17 = .ok (.iconst 1, 1) := dk_4 (dk_at dksX9_mean_0 17 rfl rfl)
theorem dX9_mean_18 : decode cX9_mean 18 = .ok (.invokestatic 316, 3) := dk_184 1 60 (dk_at dksX9_mean_0 18 rfl rfl)
theorem dX9_mean_21 : decode cX9_mean 21 = .ok (.ifCond .eq 16, 3) := dk_153 0 16 (dk_at dksX9_mean_0 21 rfl rfl)
theorem dX9_mean_24 : decode cX9_mean 24 = .ok (.iload_n 3, 1) := dk_29 (dk_at dksX9_mean_1 0 rfl rfl)
theorem dX9_mean_25 : decode cX9_mean 25 = .ok (.iconst 0, 1) := dk_3 (dk_at dksX9_mean_1 1 rfl rfl)
theorem dX9_mean_26 : decode cX9_mean 26 = .ok (.iconst 1, 1) := dk_4 (dk_at dksX9_mean_1 2 rfl rfl)
theorem dX9_mean_27 : decode cX9_mean 27 = .ok (.invokestatic 316, 3) := dk_184 1 60 (dk_at dksX9_mean_1 3 rfl rfl)
theorem dX9_mean_30 : decode cX9_mean 30 = .ok (.ifCond .eq 7, 3) := dk_153 0 7 (dk_at dksX9_mean_1 6 rfl rfl)
theorem dX9_mean_33 : decode cX9_mean 33 = .ok (.iconst 1, 1) := dk_4 (dk_at dksX9_mean_1 9 rfl rfl)
theorem dX9_mean_34 : decode cX9_mean 34 = .ok (.goto 4, 3) := dk_167 0 4 (dk_at dksX9_mean_1 10 rfl rfl)
theorem dX9_mean_37 : decode cX9_mean 37 = .ok (.iconst 0, 1) := dk_3 (dk_at dksX9_mean_1 13 rfl rfl)
theorem dX9_mean_38 : decode cX9_mean 38 = .ok (.iconst 2, 1) := dk_5 (dk_at dksX9_mean_1 14 rfl rfl)
theorem dX9_mean_39 : decode cX9_mean 39 = .ok (.iconst 1, 1) := dk_4 (dk_at dksX9_mean_1 15 rfl rfl)
theorem dX9_mean_40 : decode cX9_mean 40 = .ok (.invokevirtual 213, 3) := dk_182 0 213 (dk_at dksX9_mean_1 16 rfl rfl)
theorem dX9_mean_43 : decode cX9_mean 43 = .ok (.ifCond .ne 5, 3) := dk_154 0 5 (dk_at dksX9_mean_1 19 rfl rfl)
theorem dX9_mean_46 : decode cX9_mean 46 = .ok (.lconst 0, 1) := dk_9 (dk_at dksX9_mean_1 22 rfl rfl)
theorem dX9_mean_47 : decode cX9_mean 47 = .ok (.lreturn, 1) := dk_173 (dk_at dksX9_mean_1 23 rfl rfl)
theorem dX9_mean_48 : decode cX9_mean 48 = .ok (.aload_n 0, 1) := dk_42 (dk_at dksX9_mean_2 0 rfl rfl)
theorem dX9_mean_49 : decode cX9_mean 49 = .ok (.invokevirtual 465, 3) := dk_182 1 209 (dk_at dksX9_mean_2 1 rfl rfl)
theorem dX9_mean_52 : decode cX9_mean 52 = .ok (.aload_n 0, 1) := dk_42 (dk_at dksX9_mean_2 4 rfl rfl)
theorem dX9_mean_53 : decode cX9_mean 53 = .ok (.iload_n 1, 1) := dk_27 (dk_at dksX9_mean_2 5 rfl rfl)
theorem dX9_mean_54 : decode cX9_mean 54 = .ok (.invokevirtual 459, 3) := dk_182 1 203 (dk_at dksX9_mean_2 6 rfl rfl)
theorem dX9_mean_57 : decode cX9_mean 57 = .ok (.lconst 0, 1) := dk_9 (dk_at dksX9_mean_2 9 rfl rfl)
theorem dX9_mean_58 : decode cX9_mean 58 = .ok (.lstore 4, 2) := dk_55 4 (dk_at dksX9_mean_2 10 rfl rfl)
theorem dX9_mean_60 : decode cX9_mean 60 = .ok (.iconst 0, 1) := dk_3 (dk_at dksX9_mean_2 12 rfl rfl)
theorem dX9_mean_61 : decode cX9_mean 61 = .ok (.istore 6, 2) := dk_54 6 (dk_at dksX9_mean_2 13 rfl rfl)
theorem dX9_mean_63 : decode cX9_mean 63 = .ok (.iload 6, 2) := dk_21 6 (dk_at dksX9_mean_2 15 rfl rfl)
theorem dX9_mean_65 : decode cX9_mean 65 = .ok (.aload_n 0, 1) := dk_42 (dk_at dksX9_mean_2 17 rfl rfl)
theorem dX9_mean_66 : decode cX9_mean 66 = .ok (.getfield 364, 3) := dk_180 1 108 (dk_at dksX9_mean_2 18 rfl rfl)
theorem dX9_mean_69 : decode cX9_mean 69 = .ok (.if_icmp .ge 53, 3) := dk_162 0 53 (dk_at dksX9_mean_2 21 rfl rfl)
theorem dX9_mean_72 : decode cX9_mean 72 = .ok (.aload_n 0, 1) := dk_42 (dk_at dksX9_mean_3 0 rfl rfl)
theorem dX9_mean_73 : decode cX9_mean 73 = .ok (.getfield 71, 3) := dk_180 0 71 (dk_at dksX9_mean_3 1 rfl rfl)
theorem dX9_mean_76 : decode cX9_mean 76 = .ok (.iload 6, 2) := dk_21 6 (dk_at dksX9_mean_3 4 rfl rfl)
theorem dX9_mean_78 : decode cX9_mean 78 = .ok (.iaload, 1) := dk_46 (dk_at dksX9_mean_3 6 rfl rfl)
theorem dX9_mean_79 : decode cX9_mean 79 = .ok (.istore 7, 2) := dk_54 7 (dk_at dksX9_mean_3 7 rfl rfl)
theorem dX9_mean_81 : decode cX9_mean 81 = .ok (.aload_n 0, 1) := dk_42 (dk_at dksX9_mean_3 9 rfl rfl)
theorem dX9_mean_82 : decode cX9_mean 82 = .ok (.iload 7, 2) := dk_21 7 (dk_at dksX9_mean_3 10 rfl rfl)
theorem dX9_mean_84 : decode cX9_mean 84 = .ok (.invokevirtual 395, 3) := dk_182 1 139 (dk_at dksX9_mean_3 12 rfl rfl)
theorem dX9_mean_87 : decode cX9_mean 87 = .ok (.lload 4, 2) := dk_22 4 (dk_at dksX9_mean_3 15 rfl rfl)
theorem dX9_mean_89 : decode cX9_mean 89 = .ok (.aload_n 0, 1) := dk_42 (dk_at dksX9_mean_3 17 rfl rfl)
theorem dX9_mean_90 : decode cX9_mean 90 = .ok (.getfield 77, 3) := dk_180 0 77 (dk_at dksX9_mean_3 18 rfl rfl)
theorem dX9_mean_93 : decode cX9_mean 93 = .ok (.iload 7, 2) := dk_21 7 (dk_at dksX9_mean_3 21 rfl rfl)
theorem dX9_mean_95 : decode cX9_mean 95 = .ok (.laload, 1) := dk_47 (dk_at dksX9_mean_3 23 rfl rfl)
theorem dX9_mean_96 : decode cX9_mean 96 = .ok (.iload_n 2, 1) := dk_28 (dk_at dksX9_mean_4 0 rfl rfl)
theorem dX9_mean_97 : decode cX9_mean 97 = .ok (.ifCond .ne 10, 3) := dk_154 0 10 (dk_at dksX9_mean_4 1 rfl rfl)
theorem dX9_mean_100 : decode cX9_mean 100 = .ok (.aload_n 0, 1) := dk_42 (dk_at dksX9_mean_4 4 rfl rfl)
theorem dX9_mean_101 : decode cX9_mean 101 = .ok (.getfield 392, 3) := dk_180 1 136 (dk_at dksX9_mean_4 5 rfl rfl)
theorem dX9_mean_104 : decode cX9_mean 104 = .ok (.goto 7, 3) := dk_167 0 7 (dk_at dksX9_mean_4 8 rfl rfl)
theorem dX9_mean_107 : decode cX9_mean 107 = .ok (.aload_n 0, 1) := dk_42 (dk_at dksX9_mean_4 11 rfl rfl)
theorem dX9_mean_108 : decode cX9_mean 108 = .ok (.getfield 389, 3) := dk_180 1 133 (dk_at dksX9_mean_4 12 rfl rfl)
theorem dX9_mean_111 : decode cX9_mean 111 = .ok (.i2l, 1) := dk_133 (dk_at dksX9_mean_4 15 rfl rfl)
theorem dX9_mean_112 : decode cX9_mean 112 = .ok (.lmul, 1) := dk_105 (dk_at dksX9_mean_4 16 rfl rfl)
theorem dX9_mean_113 : decode cX9_mean 113 = .ok (.ladd, 1) := dk_97 (dk_at dksX9_mean_4 17 rfl rfl)
theorem dX9_mean_114 : decode cX9_mean 114 = .ok (.lstore 4, 2) := dk_55 4 (dk_at dksX9_mean_4 18 rfl rfl)
theorem dX9_mean_116 : decode cX9_mean 116 = .ok (.iinc 6 1, 3) := dk_132 6 1 (dk_at dksX9_mean_4 20 rfl rfl)
theorem dX9_mean_119 : decode cX9_mean 119 = .ok (.goto (-56), 3) := dk_167 255 200 (dk_at dksX9_mean_5 0 rfl rfl)
theorem dX9_mean_122 : decode cX9_mean 122 = .ok (.lload 4, 2) := dk_22 4 (dk_at dksX9_mean_5 3 rfl rfl)
theorem dX9_mean_124 : decode cX9_mean 124 = .ok (.ldc2_w 371, 3) := dk_20 1 115 (dk_at dksX9_mean_5 5 rfl rfl)
theorem dX9_mean_127 : decode cX9_mean 127 = .ok (.iload_n 3, 1) := dk_29 (dk_at dksX9_mean_5 8 rfl rfl)
theorem dX9_mean_128 : decode cX9_mean 128 = .ok (.invokestatic 472, 3) := dk_184 1 216 (dk_at dksX9_mean_5 9 rfl rfl)
theorem dX9_mean_131 : decode cX9_mean 131 = .ok (.lreturn, 1) := dk_173 (dk_at dksX9_mean_5 12 rfl rfl)
abbrev cX9_least : ByteArray := prog_28_method_77_code
def yX9_least : MethodName := ⟨RX9, "least", "(JJI)J"⟩
def dkwX9_least_1 : List UInt8 := [22, 9, 55, 7, 167, 255, 234, 21, 4, 154, 0, 7, 30, 167, 0, 4, 32, 22, 5, 109, 173]
abbrev dktX9_least_1 : List UInt8 := dkwX9_least_1 ++ []
def dkwX9_least_0 : List UInt8 := [30, 55, 5, 32, 55, 7, 22, 7, 9, 148, 153, 0, 21, 22, 5, 22, 7, 113, 55, 9, 22, 7, 55, 5]
abbrev dktX9_least_0 : List UInt8 := dkwX9_least_0 ++ dktX9_least_1
theorem dksX9_least_0 : cX9_least.data.toList.drop 0 = dktX9_least_0 := by decide +kernel
theorem dksX9_least_1 : cX9_least.data.toList.drop 24 = dktX9_least_1 := dk_seg dksX9_least_0 24 rfl rfl
theorem dX9_least_0 : decode cX9_least 0 = .ok (.lload_n 0, 1) := dk_30 (dk_at dksX9_least_0 0 rfl rfl)
theorem dX9_least_1 : decode cX9_least 1 = .ok (.lstore 5, 2) := dk_55 5 (dk_at dksX9_least_0 1 rfl rfl)
theorem dX9_least_3 : decode cX9_least 3 = .ok (.lload_n 2, 1) := dk_32 (dk_at dksX9_least_0 3 rfl rfl)
theorem dX9_least_4 : decode cX9_least 4 = .ok (.lstore 7, 2) := dk_55 7 (dk_at dksX9_least_0 4 rfl rfl)
theorem dX9_least_6 : decode cX9_least 6 = .ok (.lload 7, 2) := dk_22 7 (dk_at dksX9_least_0 6 rfl rfl)
theorem dX9_least_8 : decode cX9_least 8 = .ok (.lconst 0, 1) := dk_9 (dk_at dksX9_least_0 8 rfl rfl)
theorem dX9_least_9 : decode cX9_least 9 = .ok (.lcmp, 1) := dk_148 (dk_at dksX9_least_0 9 rfl rfl)
theorem dX9_least_10 : decode cX9_least 10 = .ok (.ifCond .eq 21, 3) := dk_153 0 21 (dk_at dksX9_least_0 10 rfl rfl)
theorem dX9_least_13 : decode cX9_least 13 = .ok (.lload 5, 2) := dk_22 5 (dk_at dksX9_least_0 13 rfl rfl)
theorem dX9_least_15 : decode cX9_least 15 = .ok (.lload 7, 2) := dk_22 7 (dk_at dksX9_least_0 15 rfl rfl)
theorem dX9_least_17 : decode cX9_least 17 = .ok (.lrem, 1) := dk_113 (dk_at dksX9_least_0 17 rfl rfl)
theorem dX9_least_18 : decode cX9_least 18 = .ok (.lstore 9, 2) := dk_55 9 (dk_at dksX9_least_0 18 rfl rfl)
theorem dX9_least_20 : decode cX9_least 20 = .ok (.lload 7, 2) := dk_22 7 (dk_at dksX9_least_0 20 rfl rfl)
theorem dX9_least_22 : decode cX9_least 22 = .ok (.lstore 5, 2) := dk_55 5 (dk_at dksX9_least_0 22 rfl rfl)
theorem dX9_least_24 : decode cX9_least 24 = .ok (.lload 9, 2) := dk_22 9 (dk_at dksX9_least_1 0 rfl rfl)
theorem dX9_least_26 : decode cX9_least 26 = .ok (.lstore 7, 2) := dk_55 7 (dk_at dksX9_least_1 2 rfl rfl)
theorem dX9_least_28 : decode cX9_least 28 = .ok (.goto (-22), 3) := dk_167 255 234 (dk_at dksX9_least_1 4 rfl rfl)
theorem dX9_least_31 : decode cX9_least 31 = .ok (.iload 4, 2) := dk_21 4 (dk_at dksX9_least_1 7 rfl rfl)
theorem dX9_least_33 : decode cX9_least 33 = .ok (.ifCond .ne 7, 3) := dk_154 0 7 (dk_at dksX9_least_1 9 rfl rfl)
theorem dX9_least_36 : decode cX9_least 36 = .ok (.lload_n 0, 1) := dk_30 (dk_at dksX9_least_1 12 rfl rfl)
theorem dX9_least_37 : decode cX9_least 37 = .ok (.goto 4, 3) := dk_167 0 4 (dk_at dksX9_least_1 13 rfl rfl)
theorem dX9_least_40 : decode cX9_least 40 = .ok (.lload_n 2, 1) := dk_32 (dk_at dksX9_least_1 16 rfl rfl)
theorem dX9_least_41 : decode cX9_least 41 = .ok (.lload 5, 2) := dk_22 5 (dk_at dksX9_least_1 17 rfl rfl)
theorem dX9_least_43 : decode cX9_least 43 = .ok (.ldiv, 1) := dk_109 (dk_at dksX9_least_1 19 rfl rfl)
theorem dX9_least_44 : decode cX9_least 44 = .ok (.lreturn, 1) := dk_173 (dk_at dksX9_least_1 20 rfl rfl)
abbrev cX9_often : ByteArray := prog_28_method_85_code
def yX9_often : MethodName := ⟨RX9, "often", "(I)J"⟩
def dkwX9_often_3 : List UInt8 := [105, 27, 184, 1, 216, 173]
abbrev dktX9_often_3 : List UInt8 := dkwX9_often_3 ++ []
def dkwX9_often_2 : List UInt8 := [42, 180, 0, 87, 21, 4, 47, 97, 65, 132, 4, 1, 167, 255, 234, 32, 20, 1, 115, 42, 180, 0, 164, 133]
abbrev dktX9_often_2 : List UInt8 := dkwX9_often_2 ++ dktX9_often_3
def dkwX9_often_1 : List UInt8 := [173, 42, 182, 1, 209, 42, 182, 1, 223, 9, 65, 3, 54, 4, 21, 4, 42, 180, 0, 164, 162, 0, 19, 32]
abbrev dktX9_often_1 : List UInt8 := dkwX9_often_1 ++ dktX9_often_2
def dkwX9_often_0 : List UInt8 := [42, 3, 181, 0, 3, 42, 27, 182, 1, 220, 154, 0, 5, 9, 173, 42, 180, 0, 164, 154, 0, 6, 27, 133]
abbrev dktX9_often_0 : List UInt8 := dkwX9_often_0 ++ dktX9_often_1
theorem dksX9_often_0 : cX9_often.data.toList.drop 0 = dktX9_often_0 := by decide +kernel
theorem dksX9_often_1 : cX9_often.data.toList.drop 24 = dktX9_often_1 := dk_seg dksX9_often_0 24 rfl rfl
theorem dksX9_often_2 : cX9_often.data.toList.drop 48 = dktX9_often_2 := dk_seg dksX9_often_1 24 rfl rfl
theorem dksX9_often_3 : cX9_often.data.toList.drop 72 = dktX9_often_3 := dk_seg dksX9_often_2 24 rfl rfl
theorem dX9_often_0 : decode cX9_often 0 = .ok (.aload_n 0, 1) := dk_42 (dk_at dksX9_often_0 0 rfl rfl)
theorem dX9_often_1 : decode cX9_often 1 = .ok (.iconst 0, 1) := dk_3 (dk_at dksX9_often_0 1 rfl rfl)
theorem dX9_often_2 : decode cX9_often 2 = .ok (.putfield 3, 3) := dk_181 0 3 (dk_at dksX9_often_0 2 rfl rfl)
theorem dX9_often_5 : decode cX9_often 5 = .ok (.aload_n 0, 1) := dk_42 (dk_at dksX9_often_0 5 rfl rfl)
theorem dX9_often_6 : decode cX9_often 6 = .ok (.iload_n 1, 1) := dk_27 (dk_at dksX9_often_0 6 rfl rfl)
theorem dX9_often_7 : decode cX9_often 7 = .ok (.invokevirtual 476, 3) := dk_182 1 220 (dk_at dksX9_often_0 7 rfl rfl)
theorem dX9_often_10 : decode cX9_often 10 = .ok (.ifCond .ne 5, 3) := dk_154 0 5 (dk_at dksX9_often_0 10 rfl rfl)
theorem dX9_often_13 : decode cX9_often 13 = .ok (.lconst 0, 1) := dk_9 (dk_at dksX9_often_0 13 rfl rfl)
theorem dX9_often_14 : decode cX9_often 14 = .ok (.lreturn, 1) := dk_173 (dk_at dksX9_often_0 14 rfl rfl)
theorem dX9_often_15 : decode cX9_often 15 = .ok (.aload_n 0, 1) := dk_42 (dk_at dksX9_often_0 15 rfl rfl)
theorem dX9_often_16 : decode cX9_often 16 = .ok (.getfield 164, 3) := dk_180 0 164 (dk_at dksX9_often_0 16 rfl rfl)
theorem dX9_often_19 : decode cX9_often 19 = .ok (.ifCond .ne 6, 3) := dk_154 0 6 (dk_at dksX9_often_0 19 rfl rfl)
theorem dX9_often_22 : decode cX9_often 22 = .ok (.iload_n 1, 1) := dk_27 (dk_at dksX9_often_0 22 rfl rfl)
theorem dX9_often_23 : decode cX9_often 23 = .ok (.i2l, 1) := dk_133 (dk_at dksX9_often_0 23 rfl rfl)
theorem dX9_often_24 : decode cX9_often 24 = .ok (.lreturn, 1) := dk_173 (dk_at dksX9_often_1 0 rfl rfl)
theorem dX9_often_25 : decode cX9_often 25 = .ok (.aload_n 0, 1) := dk_42 (dk_at dksX9_often_1 1 rfl rfl)
theorem dX9_often_26 : decode cX9_often 26 = .ok (.invokevirtual 465, 3) := dk_182 1 209 (dk_at dksX9_often_1 2 rfl rfl)
theorem dX9_often_29 : decode cX9_often 29 = .ok (.aload_n 0, 1) := dk_42 (dk_at dksX9_often_1 5 rfl rfl)
theorem dX9_often_30 : decode cX9_often 30 = .ok (.invokevirtual 479, 3) := dk_182 1 223 (dk_at dksX9_often_1 6 rfl rfl)
theorem dX9_often_33 : decode cX9_often 33 = .ok (.lconst 0, 1) := dk_9 (dk_at dksX9_often_1 9 rfl rfl)
theorem dX9_often_34 : decode cX9_often 34 = .ok (.lstore_n 2, 1) := dk_65 (dk_at dksX9_often_1 10 rfl rfl)
theorem dX9_often_35 : decode cX9_often 35 = .ok (.iconst 0, 1) := dk_3 (dk_at dksX9_often_1 11 rfl rfl)
theorem dX9_often_36 : decode cX9_often 36 = .ok (.istore 4, 2) := dk_54 4 (dk_at dksX9_often_1 12 rfl rfl)
theorem dX9_often_38 : decode cX9_often 38 = .ok (.iload 4, 2) := dk_21 4 (dk_at dksX9_often_1 14 rfl rfl)
theorem dX9_often_40 : decode cX9_often 40 = .ok (.aload_n 0, 1) := dk_42 (dk_at dksX9_often_1 16 rfl rfl)
theorem dX9_often_41 : decode cX9_often 41 = .ok (.getfield 164, 3) := dk_180 0 164 (dk_at dksX9_often_1 17 rfl rfl)
theorem dX9_often_44 : decode cX9_often 44 = .ok (.if_icmp .ge 19, 3) := dk_162 0 19 (dk_at dksX9_often_1 20 rfl rfl)
theorem dX9_often_47 : decode cX9_often 47 = .ok (.lload_n 2, 1) := dk_32 (dk_at dksX9_often_1 23 rfl rfl)
theorem dX9_often_48 : decode cX9_often 48 = .ok (.aload_n 0, 1) := dk_42 (dk_at dksX9_often_2 0 rfl rfl)
theorem dX9_often_49 : decode cX9_often 49 = .ok (.getfield 87, 3) := dk_180 0 87 (dk_at dksX9_often_2 1 rfl rfl)
theorem dX9_often_52 : decode cX9_often 52 = .ok (.iload 4, 2) := dk_21 4 (dk_at dksX9_often_2 4 rfl rfl)
theorem dX9_often_54 : decode cX9_often 54 = .ok (.laload, 1) := dk_47 (dk_at dksX9_often_2 6 rfl rfl)
theorem dX9_often_55 : decode cX9_often 55 = .ok (.ladd, 1) := dk_97 (dk_at dksX9_often_2 7 rfl rfl)
theorem dX9_often_56 : decode cX9_often 56 = .ok (.lstore_n 2, 1) := dk_65 (dk_at dksX9_often_2 8 rfl rfl)
theorem dX9_often_57 : decode cX9_often 57 = .ok (.iinc 4 1, 3) := dk_132 4 1 (dk_at dksX9_often_2 9 rfl rfl)
theorem dX9_often_60 : decode cX9_often 60 = .ok (.goto (-22), 3) := dk_167 255 234 (dk_at dksX9_often_2 12 rfl rfl)
theorem dX9_often_63 : decode cX9_often 63 = .ok (.lload_n 2, 1) := dk_32 (dk_at dksX9_often_2 15 rfl rfl)
theorem dX9_often_64 : decode cX9_often 64 = .ok (.ldc2_w 371, 3) := dk_20 1 115 (dk_at dksX9_often_2 16 rfl rfl)
theorem dX9_often_67 : decode cX9_often 67 = .ok (.aload_n 0, 1) := dk_42 (dk_at dksX9_often_2 19 rfl rfl)
theorem dX9_often_68 : decode cX9_often 68 = .ok (.getfield 164, 3) := dk_180 0 164 (dk_at dksX9_often_2 20 rfl rfl)
theorem dX9_often_71 : decode cX9_often 71 = .ok (.i2l, 1) := dk_133 (dk_at dksX9_often_2 23 rfl rfl)
theorem dX9_often_72 : decode cX9_often 72 = .ok (.lmul, 1) := dk_105 (dk_at dksX9_often_3 0 rfl rfl)
theorem dX9_often_73 : decode cX9_often 73 = .ok (.iload_n 1, 1) := dk_27 (dk_at dksX9_often_3 1 rfl rfl)
theorem dX9_often_74 : decode cX9_often 74 = .ok (.invokestatic 472, 3) := dk_184 1 216 (dk_at dksX9_often_3 2 rfl rfl)
theorem dX9_often_77 : decode cX9_often 77 = .ok (.lreturn, 1) := dk_173 (dk_at dksX9_often_3 5 rfl rfl)
abbrev cX9_isPart : ByteArray := prog_28_method_84_code
def yX9_isPart : MethodName := ⟨RX9, "isPart", "(I)Z"⟩
def dkwX9_isPart_0 : List UInt8 := [42, 27, 3, 4, 184, 1, 60, 4, 4, 182, 0, 213, 172]
abbrev dktX9_isPart_0 : List UInt8 := dkwX9_isPart_0 ++ []
theorem dksX9_isPart_0 : cX9_isPart.data.toList.drop 0 = dktX9_isPart_0 := by decide +kernel
theorem dX9_isPart_0 : decode cX9_isPart 0 = .ok (.aload_n 0, 1) := dk_42 (dk_at dksX9_isPart_0 0 rfl rfl)
theorem dX9_isPart_1 : decode cX9_isPart 1 = .ok (.iload_n 1, 1) := dk_27 (dk_at dksX9_isPart_0 1 rfl rfl)
theorem dX9_isPart_2 : decode cX9_isPart 2 = .ok (.iconst 0, 1) := dk_3 (dk_at dksX9_isPart_0 2 rfl rfl)
theorem dX9_isPart_3 : decode cX9_isPart 3 = .ok (.iconst 1, 1) := dk_4 (dk_at dksX9_isPart_0 3 rfl rfl)
theorem dX9_isPart_4 : decode cX9_isPart 4 = .ok (.invokestatic 316, 3) := dk_184 1 60 (dk_at dksX9_isPart_0 4 rfl rfl)
theorem dX9_isPart_7 : decode cX9_isPart 7 = .ok (.iconst 1, 1) := dk_4 (dk_at dksX9_isPart_0 7 rfl rfl)
theorem dX9_isPart_8 : decode cX9_isPart 8 = .ok (.iconst 1, 1) := dk_4 (dk_at dksX9_isPart_0 8 rfl rfl)
theorem dX9_isPart_9 : decode cX9_isPart 9 = .ok (.invokevirtual 213, 3) := dk_182 0 213 (dk_at dksX9_isPart_0 9 rfl rfl)
theorem dX9_isPart_12 : decode cX9_isPart 12 = .ok (.ireturn, 1) := dk_172 (dk_at dksX9_isPart_0 12 rfl rfl)
abbrev cX9_goesAll : ByteArray := prog_28_method_73_code
def yX9_goesAll : MethodName := ⟨RX9, "goesAll", "()V"⟩
def dkwX9_goesAll_0 : List UInt8 := [42, 42, 180, 0, 164, 4, 100, 182, 1, 203, 177]
abbrev dktX9_goesAll_0 : List UInt8 := dkwX9_goesAll_0 ++ []
theorem dksX9_goesAll_0 : cX9_goesAll.data.toList.drop 0 = dktX9_goesAll_0 := by decide +kernel
theorem dX9_goesAll_0 : decode cX9_goesAll 0 = .ok (.aload_n 0, 1) := dk_42 (dk_at dksX9_goesAll_0 0 rfl rfl)
theorem dX9_goesAll_1 : decode cX9_goesAll 1 = .ok (.aload_n 0, 1) := dk_42 (dk_at dksX9_goesAll_0 1 rfl rfl)
theorem dX9_goesAll_2 : decode cX9_goesAll 2 = .ok (.getfield 164, 3) := dk_180 0 164 (dk_at dksX9_goesAll_0 2 rfl rfl)
theorem dX9_goesAll_5 : decode cX9_goesAll 5 = .ok (.iconst 1, 1) := dk_4 (dk_at dksX9_goesAll_0 5 rfl rfl)
theorem dX9_goesAll_6 : decode cX9_goesAll 6 = .ok (.isub, 1) := dk_100 (dk_at dksX9_goesAll_0 6 rfl rfl)
theorem dX9_goesAll_7 : decode cX9_goesAll 7 = .ok (.invokevirtual 459, 3) := dk_182 1 203 (dk_at dksX9_goesAll_0 7 rfl rfl)
theorem dX9_goesAll_10 : decode cX9_goesAll 10 = .ok (.return_, 1) := dk_177 (dk_at dksX9_goesAll_0 10 rfl rfl)
abbrev cX9_since : ByteArray := prog_28_method_86_code
def yX9_since : MethodName := ⟨RX9, "since", "()I"⟩
def dkwX9_since_2 : List UInt8 := [167, 255, 226, 2, 172]
abbrev dktX9_since_2 : List UInt8 := dkwX9_since_2 ++ []
def dkwX9_since_1 : List UInt8 := [20, 1, 226, 42, 180, 0, 87, 27, 47, 105, 20, 1, 115, 148, 156, 0, 5, 27, 172, 132, 1, 1]
abbrev dktX9_since_1 : List UInt8 := dkwX9_since_1 ++ dktX9_since_2
def dkwX9_since_0 : List UInt8 := [42, 3, 181, 0, 3, 42, 182, 1, 209, 42, 182, 1, 223, 3, 60, 27, 42, 180, 0, 164, 162, 0, 28]
abbrev dktX9_since_0 : List UInt8 := dkwX9_since_0 ++ dktX9_since_1
theorem dksX9_since_0 : cX9_since.data.toList.drop 0 = dktX9_since_0 := by decide +kernel
theorem dksX9_since_1 : cX9_since.data.toList.drop 23 = dktX9_since_1 := dk_seg dksX9_since_0 23 rfl rfl
theorem dksX9_since_2 : cX9_since.data.toList.drop 45 = dktX9_since_2 := dk_seg dksX9_since_1 22 rfl rfl
theorem dX9_since_0 : decode cX9_since 0 = .ok (.aload_n 0, 1) := dk_42 (dk_at dksX9_since_0 0 rfl rfl)
theorem dX9_since_1 : decode cX9_since 1 = .ok (.iconst 0, 1) := dk_3 (dk_at dksX9_since_0 1 rfl rfl)
theorem dX9_since_2 : decode cX9_since 2 = .ok (.putfield 3, 3) := dk_181 0 3 (dk_at dksX9_since_0 2 rfl rfl)
theorem dX9_since_5 : decode cX9_since 5 = .ok (.aload_n 0, 1) := dk_42 (dk_at dksX9_since_0 5 rfl rfl)
theorem dX9_since_6 : decode cX9_since 6 = .ok (.invokevirtual 465, 3) := dk_182 1 209 (dk_at dksX9_since_0 6 rfl rfl)
theorem dX9_since_9 : decode cX9_since 9 = .ok (.aload_n 0, 1) := dk_42 (dk_at dksX9_since_0 9 rfl rfl)
theorem dX9_since_10 : decode cX9_since 10 = .ok (.invokevirtual 479, 3) := dk_182 1 223 (dk_at dksX9_since_0 10 rfl rfl)
theorem dX9_since_13 : decode cX9_since 13 = .ok (.iconst 0, 1) := dk_3 (dk_at dksX9_since_0 13 rfl rfl)
theorem dX9_since_14 : decode cX9_since 14 = .ok (.istore_n 1, 1) := dk_60 (dk_at dksX9_since_0 14 rfl rfl)
theorem dX9_since_15 : decode cX9_since 15 = .ok (.iload_n 1, 1) := dk_27 (dk_at dksX9_since_0 15 rfl rfl)
theorem dX9_since_16 : decode cX9_since 16 = .ok (.aload_n 0, 1) := dk_42 (dk_at dksX9_since_0 16 rfl rfl)
theorem dX9_since_17 : decode cX9_since 17 = .ok (.getfield 164, 3) := dk_180 0 164 (dk_at dksX9_since_0 17 rfl rfl)
theorem dX9_since_20 : decode cX9_since 20 = .ok (.if_icmp .ge 28, 3) := dk_162 0 28 (dk_at dksX9_since_0 20 rfl rfl)
theorem dX9_since_23 : decode cX9_since 23 = .ok (.ldc2_w 482, 3) := dk_20 1 226 (dk_at dksX9_since_1 0 rfl rfl)
theorem dX9_since_26 : decode cX9_since 26 = .ok (.aload_n 0, 1) := dk_42 (dk_at dksX9_since_1 3 rfl rfl)
theorem dX9_since_27 : decode cX9_since 27 = .ok (.getfield 87, 3) := dk_180 0 87 (dk_at dksX9_since_1 4 rfl rfl)
theorem dX9_since_30 : decode cX9_since 30 = .ok (.iload_n 1, 1) := dk_27 (dk_at dksX9_since_1 7 rfl rfl)
theorem dX9_since_31 : decode cX9_since 31 = .ok (.laload, 1) := dk_47 (dk_at dksX9_since_1 8 rfl rfl)
theorem dX9_since_32 : decode cX9_since 32 = .ok (.lmul, 1) := dk_105 (dk_at dksX9_since_1 9 rfl rfl)
theorem dX9_since_33 : decode cX9_since 33 = .ok (.ldc2_w 371, 3) := dk_20 1 115 (dk_at dksX9_since_1 10 rfl rfl)
theorem dX9_since_36 : decode cX9_since 36 = .ok (.lcmp, 1) := dk_148 (dk_at dksX9_since_1 13 rfl rfl)
theorem dX9_since_37 : decode cX9_since 37 = .ok (.ifCond .ge 5, 3) := dk_156 0 5 (dk_at dksX9_since_1 14 rfl rfl)
theorem dX9_since_40 : decode cX9_since 40 = .ok (.iload_n 1, 1) := dk_27 (dk_at dksX9_since_1 17 rfl rfl)
theorem dX9_since_41 : decode cX9_since 41 = .ok (.ireturn, 1) := dk_172 (dk_at dksX9_since_1 18 rfl rfl)
theorem dX9_since_42 : decode cX9_since 42 = .ok (.iinc 1 1, 3) := dk_132 1 1 (dk_at dksX9_since_1 19 rfl rfl)
theorem dX9_since_45 : decode cX9_since 45 = .ok (.goto (-30), 3) := dk_167 255 226 (dk_at dksX9_since_2 0 rfl rfl)
theorem dX9_since_48 : decode cX9_since 48 = .ok (.iconst (-1), 1) := dk_2 (dk_at dksX9_since_2 3 rfl rfl)
theorem dX9_since_49 : decode cX9_since 49 = .ok (.ireturn, 1) := dk_172 (dk_at dksX9_since_2 4 rfl rfl)
abbrev cX9_drunk : ByteArray := prog_28_method_87_code
def yX9_drunk : MethodName := ⟨RX9, "drunk", "(II)J"⟩
def dkwX9_drunk_2 : List UInt8 := [20, 1, 115, 28, 184, 1, 216, 173]
abbrev dktX9_drunk_2 : List UInt8 := dkwX9_drunk_2 ++ []
def dkwX9_drunk_1 : List UInt8 := [182, 0, 213, 154, 0, 5, 9, 173, 42, 182, 1, 209, 42, 182, 1, 223, 42, 180, 0, 84, 27, 47]
abbrev dktX9_drunk_1 : List UInt8 := dkwX9_drunk_1 ++ dktX9_drunk_2
def dkwX9_drunk_0 : List UInt8 := [42, 3, 181, 0, 3, 42, 27, 4, 182, 1, 64, 153, 0, 18, 42, 28, 3, 4, 184, 1, 60, 5, 4]
abbrev dktX9_drunk_0 : List UInt8 := dkwX9_drunk_0 ++ dktX9_drunk_1
theorem dksX9_drunk_0 : cX9_drunk.data.toList.drop 0 = dktX9_drunk_0 := by decide +kernel
theorem dksX9_drunk_1 : cX9_drunk.data.toList.drop 23 = dktX9_drunk_1 := dk_seg dksX9_drunk_0 23 rfl rfl
theorem dksX9_drunk_2 : cX9_drunk.data.toList.drop 45 = dktX9_drunk_2 := dk_seg dksX9_drunk_1 22 rfl rfl
theorem dX9_drunk_0 : decode cX9_drunk 0 = .ok (.aload_n 0, 1) := dk_42 (dk_at dksX9_drunk_0 0 rfl rfl)
theorem dX9_drunk_1 : decode cX9_drunk 1 = .ok (.iconst 0, 1) := dk_3 (dk_at dksX9_drunk_0 1 rfl rfl)
theorem dX9_drunk_2 : decode cX9_drunk 2 = .ok (.putfield 3, 3) := dk_181 0 3 (dk_at dksX9_drunk_0 2 rfl rfl)
theorem dX9_drunk_5 : decode cX9_drunk 5 = .ok (.aload_n 0, 1) := dk_42 (dk_at dksX9_drunk_0 5 rfl rfl)
theorem dX9_drunk_6 : decode cX9_drunk 6 = .ok (.iload_n 1, 1) := dk_27 (dk_at dksX9_drunk_0 6 rfl rfl)
theorem dX9_drunk_7 : decode cX9_drunk 7 = .ok (.iconst 1, 1) := dk_4 (dk_at dksX9_drunk_0 7 rfl rfl)
theorem dX9_drunk_8 : decode cX9_drunk 8 = .ok (.invokevirtual 320, 3) := dk_182 1 64 (dk_at dksX9_drunk_0 8 rfl rfl)
theorem dX9_drunk_11 : decode cX9_drunk 11 = .ok (.ifCond .eq 18, 3) := dk_153 0 18 (dk_at dksX9_drunk_0 11 rfl rfl)
theorem dX9_drunk_14 : decode cX9_drunk 14 = .ok (.aload_n 0, 1) := dk_42 (dk_at dksX9_drunk_0 14 rfl rfl)
theorem dX9_drunk_15 : decode cX9_drunk 15 = .ok (.iload_n 2, 1) := dk_28 (dk_at dksX9_drunk_0 15 rfl rfl)
theorem dX9_drunk_16 : decode cX9_drunk 16 = .ok (.iconst 0, 1) := dk_3 (dk_at dksX9_drunk_0 16 rfl rfl)
theorem dX9_drunk_17 : decode cX9_drunk 17 = .ok (.iconst 1, 1) := dk_4 (dk_at dksX9_drunk_0 17 rfl rfl)
theorem dX9_drunk_18 : decode cX9_drunk 18 = .ok (.invokestatic 316, 3) := dk_184 1 60 (dk_at dksX9_drunk_0 18 rfl rfl)
theorem dX9_drunk_21 : decode cX9_drunk 21 = .ok (.iconst 2, 1) := dk_5 (dk_at dksX9_drunk_0 21 rfl rfl)
theorem dX9_drunk_22 : decode cX9_drunk 22 = .ok (.iconst 1, 1) := dk_4 (dk_at dksX9_drunk_0 22 rfl rfl)
theorem dX9_drunk_23 : decode cX9_drunk 23 = .ok (.invokevirtual 213, 3) := dk_182 0 213 (dk_at dksX9_drunk_1 0 rfl rfl)
theorem dX9_drunk_26 : decode cX9_drunk 26 = .ok (.ifCond .ne 5, 3) := dk_154 0 5 (dk_at dksX9_drunk_1 3 rfl rfl)
theorem dX9_drunk_29 : decode cX9_drunk 29 = .ok (.lconst 0, 1) := dk_9 (dk_at dksX9_drunk_1 6 rfl rfl)
theorem dX9_drunk_30 : decode cX9_drunk 30 = .ok (.lreturn, 1) := dk_173 (dk_at dksX9_drunk_1 7 rfl rfl)
theorem dX9_drunk_31 : decode cX9_drunk 31 = .ok (.aload_n 0, 1) := dk_42 (dk_at dksX9_drunk_1 8 rfl rfl)
theorem dX9_drunk_32 : decode cX9_drunk 32 = .ok (.invokevirtual 465, 3) := dk_182 1 209 (dk_at dksX9_drunk_1 9 rfl rfl)
theorem dX9_drunk_35 : decode cX9_drunk 35 = .ok (.aload_n 0, 1) := dk_42 (dk_at dksX9_drunk_1 12 rfl rfl)
theorem dX9_drunk_36 : decode cX9_drunk 36 = .ok (.invokevirtual 479, 3) := dk_182 1 223 (dk_at dksX9_drunk_1 13 rfl rfl)
theorem dX9_drunk_39 : decode cX9_drunk 39 = .ok (.aload_n 0, 1) := dk_42 (dk_at dksX9_drunk_1 16 rfl rfl)
theorem dX9_drunk_40 : decode cX9_drunk 40 = .ok (.getfield 84, 3) := dk_180 0 84 (dk_at dksX9_drunk_1 17 rfl rfl)
theorem dX9_drunk_43 : decode cX9_drunk 43 = .ok (.iload_n 1, 1) := dk_27 (dk_at dksX9_drunk_1 20 rfl rfl)
theorem dX9_drunk_44 : decode cX9_drunk 44 = .ok (.laload, 1) := dk_47 (dk_at dksX9_drunk_1 21 rfl rfl)
theorem dX9_drunk_45 : decode cX9_drunk 45 = .ok (.ldc2_w 371, 3) := dk_20 1 115 (dk_at dksX9_drunk_2 0 rfl rfl)
theorem dX9_drunk_48 : decode cX9_drunk 48 = .ok (.iload_n 2, 1) := dk_28 (dk_at dksX9_drunk_2 3 rfl rfl)
theorem dX9_drunk_49 : decode cX9_drunk 49 = .ok (.invokestatic 472, 3) := dk_184 1 216 (dk_at dksX9_drunk_2 4 rfl rfl)
theorem dX9_drunk_52 : decode cX9_drunk 52 = .ok (.lreturn, 1) := dk_173 (dk_at dksX9_drunk_2 7 rfl rfl)
abbrev cX9_done : ByteArray := prog_28_method_88_code
def yX9_done : MethodName := ⟨RX9, "done", "(II)J"⟩
def dkwX9_done_2 : List UInt8 := [154, 0, 10, 42, 180, 1, 117, 167, 0, 7, 42, 180, 1, 121, 20, 1, 115, 28, 184, 1, 216, 173]
abbrev dktX9_done_2 : List UInt8 := dkwX9_done_2 ++ []
def dkwX9_done_1 : List UInt8 := [4, 167, 0, 4, 3, 4, 4, 182, 0, 213, 154, 0, 5, 9, 173, 42, 182, 1, 209, 42, 182, 1, 223, 27]
abbrev dktX9_done_1 : List UInt8 := dkwX9_done_1 ++ dktX9_done_2
def dkwX9_done_0 : List UInt8 := [42, 3, 181, 0, 3, 42, 27, 3, 4, 184, 1, 60, 153, 0, 16, 28, 3, 4, 184, 1, 60, 153, 0, 7]
abbrev dktX9_done_0 : List UInt8 := dkwX9_done_0 ++ dktX9_done_1
theorem dksX9_done_0 : cX9_done.data.toList.drop 0 = dktX9_done_0 := by decide +kernel
theorem dksX9_done_1 : cX9_done.data.toList.drop 24 = dktX9_done_1 := dk_seg dksX9_done_0 24 rfl rfl
theorem dksX9_done_2 : cX9_done.data.toList.drop 48 = dktX9_done_2 := dk_seg dksX9_done_1 24 rfl rfl
theorem dX9_done_0 : decode cX9_done 0 = .ok (.aload_n 0, 1) := dk_42 (dk_at dksX9_done_0 0 rfl rfl)
theorem dX9_done_1 : decode cX9_done 1 = .ok (.iconst 0, 1) := dk_3 (dk_at dksX9_done_0 1 rfl rfl)
theorem dX9_done_2 : decode cX9_done 2 = .ok (.putfield 3, 3) := dk_181 0 3 (dk_at dksX9_done_0 2 rfl rfl)
theorem dX9_done_5 : decode cX9_done 5 = .ok (.aload_n 0, 1) := dk_42 (dk_at dksX9_done_0 5 rfl rfl)
theorem dX9_done_6 : decode cX9_done 6 = .ok (.iload_n 1, 1) := dk_27 (dk_at dksX9_done_0 6 rfl rfl)
theorem dX9_done_7 : decode cX9_done 7 = .ok (.iconst 0, 1) := dk_3 (dk_at dksX9_done_0 7 rfl rfl)
theorem dX9_done_8 : decode cX9_done 8 = .ok (.iconst 1, 1) := dk_4 (dk_at dksX9_done_0 8 rfl rfl)
theorem dX9_done_9 : decode cX9_done 9 = .ok (.invokestatic 316, 3) := dk_184 1 60 (dk_at dksX9_done_0 9 rfl rfl)
theorem dX9_done_12 : decode cX9_done 12 = .ok (.ifCond .eq 16, 3) := dk_153 0 16 (dk_at dksX9_done_0 12 rfl rfl)
theorem dX9_done_15 : decode cX9_done 15 = .ok (.iload_n 2, 1) := dk_28 (dk_at dksX9_done_0 15 rfl rfl)
theorem dX9_done_16 : decode cX9_done 16 = .ok (.iconst 0, 1) := dk_3 (dk_at dksX9_done_0 16 rfl rfl)
theorem dX9_done_17 : decode cX9_done 17 = .ok (.iconst 1, 1) := dk_4 (dk_at dksX9_done_0 17 rfl rfl)
theorem dX9_done_18 : decode cX9_done 18 = .ok (.invokestatic 316, 3) := dk_184 1 60 (dk_at dksX9_done_0 18 rfl rfl)
theorem dX9_done_21 : decode cX9_done 21 = .ok (.ifCond .eq 7, 3) := dk_153 0 7 (dk_at dksX9_done_0 21 rfl rfl)
theorem dX9_done_24 : decode cX9_done 24 = .ok (.iconst 1, 1) := dk_4 (dk_at dksX9_done_1 0 rfl rfl)
theorem dX9_done_25 : decode cX9_done 25 = .ok (.goto 4, 3) := dk_167 0 4 (dk_at dksX9_done_1 1 rfl rfl)
theorem dX9_done_28 : decode cX9_done 28 = .ok (.iconst 0, 1) := dk_3 (dk_at dksX9_done_1 4 rfl rfl)
theorem dX9_done_29 : decode cX9_done 29 = .ok (.iconst 1, 1) := dk_4 (dk_at dksX9_done_1 5 rfl rfl)
theorem dX9_done_30 : decode cX9_done 30 = .ok (.iconst 1, 1) := dk_4 (dk_at dksX9_done_1 6 rfl rfl)
theorem dX9_done_31 : decode cX9_done 31 = .ok (.invokevirtual 213, 3) := dk_182 0 213 (dk_at dksX9_done_1 7 rfl rfl)
theorem dX9_done_34 : decode cX9_done 34 = .ok (.ifCond .ne 5, 3) := dk_154 0 5 (dk_at dksX9_done_1 10 rfl rfl)
theorem dX9_done_37 : decode cX9_done 37 = .ok (.lconst 0, 1) := dk_9 (dk_at dksX9_done_1 13 rfl rfl)
theorem dX9_done_38 : decode cX9_done 38 = .ok (.lreturn, 1) := dk_173 (dk_at dksX9_done_1 14 rfl rfl)
theorem dX9_done_39 : decode cX9_done 39 = .ok (.aload_n 0, 1) := dk_42 (dk_at dksX9_done_1 15 rfl rfl)
theorem dX9_done_40 : decode cX9_done 40 = .ok (.invokevirtual 465, 3) := dk_182 1 209 (dk_at dksX9_done_1 16 rfl rfl)
theorem dX9_done_43 : decode cX9_done 43 = .ok (.aload_n 0, 1) := dk_42 (dk_at dksX9_done_1 19 rfl rfl)
theorem dX9_done_44 : decode cX9_done 44 = .ok (.invokevirtual 479, 3) := dk_182 1 223 (dk_at dksX9_done_1 20 rfl rfl)
theorem dX9_done_47 : decode cX9_done 47 = .ok (.iload_n 1, 1) := dk_27 (dk_at dksX9_done_1 23 rfl rfl)
theorem dX9_done_48 : decode cX9_done 48 = .ok (.ifCond .ne 10, 3) := dk_154 0 10 (dk_at dksX9_done_2 0 rfl rfl)
theorem dX9_done_51 : decode cX9_done 51 = .ok (.aload_n 0, 1) := dk_42 (dk_at dksX9_done_2 3 rfl rfl)
theorem dX9_done_52 : decode cX9_done 52 = .ok (.getfield 373, 3) := dk_180 1 117 (dk_at dksX9_done_2 4 rfl rfl)
theorem dX9_done_55 : decode cX9_done 55 = .ok (.goto 7, 3) := dk_167 0 7 (dk_at dksX9_done_2 7 rfl rfl)
theorem dX9_done_58 : decode cX9_done 58 = .ok (.aload_n 0, 1) := dk_42 (dk_at dksX9_done_2 10 rfl rfl)
theorem dX9_done_59 : decode cX9_done 59 = .ok (.getfield 377, 3) := dk_180 1 121 (dk_at dksX9_done_2 11 rfl rfl)
theorem dX9_done_62 : decode cX9_done 62 = .ok (.ldc2_w 371, 3) := dk_20 1 115 (dk_at dksX9_done_2 14 rfl rfl)
theorem dX9_done_65 : decode cX9_done 65 = .ok (.iload_n 2, 1) := dk_28 (dk_at dksX9_done_2 17 rfl rfl)
theorem dX9_done_66 : decode cX9_done 66 = .ok (.invokestatic 472, 3) := dk_184 1 216 (dk_at dksX9_done_2 18 rfl rfl)
theorem dX9_done_69 : decode cX9_done 69 = .ok (.lreturn, 1) := dk_173 (dk_at dksX9_done_2 21 rfl rfl)
abbrev cX9_cost : ByteArray := prog_28_method_90_code
def yX9_cost : MethodName := ⟨RX9, "cost", "(I)J"⟩
def dkwX9_cost_1 : List UInt8 := [20, 1, 115, 27, 184, 1, 216, 173]
abbrev dktX9_cost_1 : List UInt8 := dkwX9_cost_1 ++ []
def dkwX9_cost_0 : List UInt8 := [42, 3, 181, 0, 3, 42, 27, 182, 1, 220, 154, 0, 5, 9, 173, 42, 182, 1, 209, 42, 182, 1, 228]
abbrev dktX9_cost_0 : List UInt8 := dkwX9_cost_0 ++ dktX9_cost_1
theorem dksX9_cost_0 : cX9_cost.data.toList.drop 0 = dktX9_cost_0 := by decide +kernel
theorem dksX9_cost_1 : cX9_cost.data.toList.drop 23 = dktX9_cost_1 := dk_seg dksX9_cost_0 23 rfl rfl
theorem dX9_cost_0 : decode cX9_cost 0 = .ok (.aload_n 0, 1) := dk_42 (dk_at dksX9_cost_0 0 rfl rfl)
theorem dX9_cost_1 : decode cX9_cost 1 = .ok (.iconst 0, 1) := dk_3 (dk_at dksX9_cost_0 1 rfl rfl)
theorem dX9_cost_2 : decode cX9_cost 2 = .ok (.putfield 3, 3) := dk_181 0 3 (dk_at dksX9_cost_0 2 rfl rfl)
theorem dX9_cost_5 : decode cX9_cost 5 = .ok (.aload_n 0, 1) := dk_42 (dk_at dksX9_cost_0 5 rfl rfl)
theorem dX9_cost_6 : decode cX9_cost 6 = .ok (.iload_n 1, 1) := dk_27 (dk_at dksX9_cost_0 6 rfl rfl)
theorem dX9_cost_7 : decode cX9_cost 7 = .ok (.invokevirtual 476, 3) := dk_182 1 220 (dk_at dksX9_cost_0 7 rfl rfl)
theorem dX9_cost_10 : decode cX9_cost 10 = .ok (.ifCond .ne 5, 3) := dk_154 0 5 (dk_at dksX9_cost_0 10 rfl rfl)
theorem dX9_cost_13 : decode cX9_cost 13 = .ok (.lconst 0, 1) := dk_9 (dk_at dksX9_cost_0 13 rfl rfl)
theorem dX9_cost_14 : decode cX9_cost 14 = .ok (.lreturn, 1) := dk_173 (dk_at dksX9_cost_0 14 rfl rfl)
theorem dX9_cost_15 : decode cX9_cost 15 = .ok (.aload_n 0, 1) := dk_42 (dk_at dksX9_cost_0 15 rfl rfl)
theorem dX9_cost_16 : decode cX9_cost 16 = .ok (.invokevirtual 465, 3) := dk_182 1 209 (dk_at dksX9_cost_0 16 rfl rfl)
theorem dX9_cost_19 : decode cX9_cost 19 = .ok (.aload_n 0, 1) := dk_42 (dk_at dksX9_cost_0 19 rfl rfl)
theorem dX9_cost_20 : decode cX9_cost 20 = .ok (.invokevirtual 484, 3) := dk_182 1 228 (dk_at dksX9_cost_0 20 rfl rfl)
theorem dX9_cost_23 : decode cX9_cost 23 = .ok (.ldc2_w 371, 3) := dk_20 1 115 (dk_at dksX9_cost_1 0 rfl rfl)
theorem dX9_cost_26 : decode cX9_cost 26 = .ok (.iload_n 1, 1) := dk_27 (dk_at dksX9_cost_1 3 rfl rfl)
theorem dX9_cost_27 : decode cX9_cost 27 = .ok (.invokestatic 472, 3) := dk_184 1 216 (dk_at dksX9_cost_1 4 rfl rfl)
theorem dX9_cost_30 : decode cX9_cost 30 = .ok (.lreturn, 1) := dk_173 (dk_at dksX9_cost_1 7 rfl rfl)
abbrev cX9_costNow : ByteArray := prog_28_method_89_code
def yX9_costNow : MethodName := ⟨RX9, "costNow", "()J"⟩
def dkwX9_costNow_2 : List UInt8 := [42, 180, 1, 117, 105, 97, 42, 180, 0, 26, 16, 9, 46, 133, 42, 180, 1, 121, 105, 97, 173]
abbrev dktX9_costNow_2 : List UInt8 := dkwX9_costNow_2 ++ []
def dkwX9_costNow_1 : List UInt8 := [132, 3, 1, 167, 255, 238, 42, 180, 0, 26, 16, 7, 46, 133, 31, 105, 42, 180, 0, 26, 16, 8, 46, 133]
abbrev dktX9_costNow_1 : List UInt8 := dkwX9_costNow_1 ++ dktX9_costNow_2
def dkwX9_costNow_0 : List UInt8 := [42, 182, 1, 223, 9, 64, 3, 62, 29, 16, 6, 162, 0, 18, 31, 42, 180, 0, 84, 29, 47, 97, 64]
abbrev dktX9_costNow_0 : List UInt8 := dkwX9_costNow_0 ++ dktX9_costNow_1
theorem dksX9_costNow_0 : cX9_costNow.data.toList.drop 0 = dktX9_costNow_0 := by decide +kernel
theorem dksX9_costNow_1 : cX9_costNow.data.toList.drop 23 = dktX9_costNow_1 := dk_seg dksX9_costNow_0 23 rfl rfl
theorem dksX9_costNow_2 : cX9_costNow.data.toList.drop 47 = dktX9_costNow_2 := dk_seg dksX9_costNow_1 24 rfl rfl
theorem dX9_costNow_0 : decode cX9_costNow 0 = .ok (.aload_n 0, 1) := dk_42 (dk_at dksX9_costNow_0 0 rfl rfl)
theorem dX9_costNow_1 : decode cX9_costNow 1 = .ok (.invokevirtual 479, 3) := dk_182 1 223 (dk_at dksX9_costNow_0 1 rfl rfl)
theorem dX9_costNow_4 : decode cX9_costNow 4 = .ok (.lconst 0, 1) := dk_9 (dk_at dksX9_costNow_0 4 rfl rfl)
theorem dX9_costNow_5 : decode cX9_costNow 5 = .ok (.lstore_n 1, 1) := dk_64 (dk_at dksX9_costNow_0 5 rfl rfl)
theorem dX9_costNow_6 : decode cX9_costNow 6 = .ok (.iconst 0, 1) := dk_3 (dk_at dksX9_costNow_0 6 rfl rfl)
theorem dX9_costNow_7 : decode cX9_costNow 7 = .ok (.istore_n 3, 1) := dk_62 (dk_at dksX9_costNow_0 7 rfl rfl)
theorem dX9_costNow_8 : decode cX9_costNow 8 = .ok (.iload_n 3, 1) := dk_29 (dk_at dksX9_costNow_0 8 rfl rfl)
theorem dX9_costNow_9 : decode cX9_costNow 9 = .ok (.bipush 6, 2) := dk_16 6 (dk_at dksX9_costNow_0 9 rfl rfl)
theorem dX9_costNow_11 : decode cX9_costNow 11 = .ok (.if_icmp .ge 18, 3) := dk_162 0 18 (dk_at dksX9_costNow_0 11 rfl rfl)
theorem dX9_costNow_14 : decode cX9_costNow 14 = .ok (.lload_n 1, 1) := dk_31 (dk_at dksX9_costNow_0 14 rfl rfl)
theorem dX9_costNow_15 : decode cX9_costNow 15 = .ok (.aload_n 0, 1) := dk_42 (dk_at dksX9_costNow_0 15 rfl rfl)
theorem dX9_costNow_16 : decode cX9_costNow 16 = .ok (.getfield 84, 3) := dk_180 0 84 (dk_at dksX9_costNow_0 16 rfl rfl)
theorem dX9_costNow_19 : decode cX9_costNow 19 = .ok (.iload_n 3, 1) := dk_29 (dk_at dksX9_costNow_0 19 rfl rfl)
theorem dX9_costNow_20 : decode cX9_costNow 20 = .ok (.laload, 1) := dk_47 (dk_at dksX9_costNow_0 20 rfl rfl)
theorem dX9_costNow_21 : decode cX9_costNow 21 = .ok (.ladd, 1) := dk_97 (dk_at dksX9_costNow_0 21 rfl rfl)
theorem dX9_costNow_22 : decode cX9_costNow 22 = .ok (.lstore_n 1, 1) := dk_64 (dk_at dksX9_costNow_0 22 rfl rfl)
theorem dX9_costNow_23 : decode cX9_costNow 23 = .ok (.iinc 3 1, 3) := dk_132 3 1 (dk_at dksX9_costNow_1 0 rfl rfl)
theorem dX9_costNow_26 : decode cX9_costNow 26 = .ok (.goto (-18), 3) := dk_167 255 238 (dk_at dksX9_costNow_1 3 rfl rfl)
theorem dX9_costNow_29 : decode cX9_costNow 29 = .ok (.aload_n 0, 1) := dk_42 (dk_at dksX9_costNow_1 6 rfl rfl)
theorem dX9_costNow_30 : decode cX9_costNow 30 = .ok (.getfield 26, 3) := dk_180 0 26 (dk_at dksX9_costNow_1 7 rfl rfl)
theorem dX9_costNow_33 : decode cX9_costNow 33 = .ok (.bipush 7, 2) := dk_16 7 (dk_at dksX9_costNow_1 10 rfl rfl)
theorem dX9_costNow_35 : decode cX9_costNow 35 = .ok (.iaload, 1) := dk_46 (dk_at dksX9_costNow_1 12 rfl rfl)
theorem dX9_costNow_36 : decode cX9_costNow 36 = .ok (.i2l, 1) := dk_133 (dk_at dksX9_costNow_1 13 rfl rfl)
theorem dX9_costNow_37 : decode cX9_costNow 37 = .ok (.lload_n 1, 1) := dk_31 (dk_at dksX9_costNow_1 14 rfl rfl)
theorem dX9_costNow_38 : decode cX9_costNow 38 = .ok (.lmul, 1) := dk_105 (dk_at dksX9_costNow_1 15 rfl rfl)
theorem dX9_costNow_39 : decode cX9_costNow 39 = .ok (.aload_n 0, 1) := dk_42 (dk_at dksX9_costNow_1 16 rfl rfl)
theorem dX9_costNow_40 : decode cX9_costNow 40 = .ok (.getfield 26, 3) := dk_180 0 26 (dk_at dksX9_costNow_1 17 rfl rfl)
theorem dX9_costNow_43 : decode cX9_costNow 43 = .ok (.bipush 8, 2) := dk_16 8 (dk_at dksX9_costNow_1 20 rfl rfl)
theorem dX9_costNow_45 : decode cX9_costNow 45 = .ok (.iaload, 1) := dk_46 (dk_at dksX9_costNow_1 22 rfl rfl)
theorem dX9_costNow_46 : decode cX9_costNow 46 = .ok (.i2l, 1) := dk_133 (dk_at dksX9_costNow_1 23 rfl rfl)
theorem dX9_costNow_47 : decode cX9_costNow 47 = .ok (.aload_n 0, 1) := dk_42 (dk_at dksX9_costNow_2 0 rfl rfl)
theorem dX9_costNow_48 : decode cX9_costNow 48 = .ok (.getfield 373, 3) := dk_180 1 117 (dk_at dksX9_costNow_2 1 rfl rfl)
theorem dX9_costNow_51 : decode cX9_costNow 51 = .ok (.lmul, 1) := dk_105 (dk_at dksX9_costNow_2 4 rfl rfl)
theorem dX9_costNow_52 : decode cX9_costNow 52 = .ok (.ladd, 1) := dk_97 (dk_at dksX9_costNow_2 5 rfl rfl)
theorem dX9_costNow_53 : decode cX9_costNow 53 = .ok (.aload_n 0, 1) := dk_42 (dk_at dksX9_costNow_2 6 rfl rfl)
theorem dX9_costNow_54 : decode cX9_costNow 54 = .ok (.getfield 26, 3) := dk_180 0 26 (dk_at dksX9_costNow_2 7 rfl rfl)
theorem dX9_costNow_57 : decode cX9_costNow 57 = .ok (.bipush 9, 2) := dk_16 9 (dk_at dksX9_costNow_2 10 rfl rfl)
theorem dX9_costNow_59 : decode cX9_costNow 59 = .ok (.iaload, 1) := dk_46 (dk_at dksX9_costNow_2 12 rfl rfl)
theorem dX9_costNow_60 : decode cX9_costNow 60 = .ok (.i2l, 1) := dk_133 (dk_at dksX9_costNow_2 13 rfl rfl)
theorem dX9_costNow_61 : decode cX9_costNow 61 = .ok (.aload_n 0, 1) := dk_42 (dk_at dksX9_costNow_2 14 rfl rfl)
theorem dX9_costNow_62 : decode cX9_costNow 62 = .ok (.getfield 377, 3) := dk_180 1 121 (dk_at dksX9_costNow_2 15 rfl rfl)
theorem dX9_costNow_65 : decode cX9_costNow 65 = .ok (.lmul, 1) := dk_105 (dk_at dksX9_costNow_2 18 rfl rfl)
theorem dX9_costNow_66 : decode cX9_costNow 66 = .ok (.ladd, 1) := dk_97 (dk_at dksX9_costNow_2 19 rfl rfl)
theorem dX9_costNow_67 : decode cX9_costNow 67 = .ok (.lreturn, 1) := dk_173 (dk_at dksX9_costNow_2 20 rfl rfl)
abbrev cX9_fits : ByteArray := prog_28_method_91_code
def yX9_fits : MethodName := ⟨RX9, "fits", "(I)J"⟩
def dkwX9_fits_1 : List UInt8 := [42, 182, 1, 223, 42, 182, 1, 232, 20, 1, 115, 27, 184, 1, 216, 173]
abbrev dktX9_fits_1 : List UInt8 := dkwX9_fits_1 ++ []
def dkwX9_fits_0 : List UInt8 := [42, 3, 181, 0, 3, 42, 27, 182, 1, 220, 154, 0, 5, 9, 173, 42, 182, 1, 209, 42, 4, 181, 1, 105]
abbrev dktX9_fits_0 : List UInt8 := dkwX9_fits_0 ++ dktX9_fits_1
theorem dksX9_fits_0 : cX9_fits.data.toList.drop 0 = dktX9_fits_0 := by decide +kernel
theorem dksX9_fits_1 : cX9_fits.data.toList.drop 24 = dktX9_fits_1 := dk_seg dksX9_fits_0 24 rfl rfl
theorem dX9_fits_0 : decode cX9_fits 0 = .ok (.aload_n 0, 1) := dk_42 (dk_at dksX9_fits_0 0 rfl rfl)
theorem dX9_fits_1 : decode cX9_fits 1 = .ok (.iconst 0, 1) := dk_3 (dk_at dksX9_fits_0 1 rfl rfl)
theorem dX9_fits_2 : decode cX9_fits 2 = .ok (.putfield 3, 3) := dk_181 0 3 (dk_at dksX9_fits_0 2 rfl rfl)
theorem dX9_fits_5 : decode cX9_fits 5 = .ok (.aload_n 0, 1) := dk_42 (dk_at dksX9_fits_0 5 rfl rfl)
theorem dX9_fits_6 : decode cX9_fits 6 = .ok (.iload_n 1, 1) := dk_27 (dk_at dksX9_fits_0 6 rfl rfl)
theorem dX9_fits_7 : decode cX9_fits 7 = .ok (.invokevirtual 476, 3) := dk_182 1 220 (dk_at dksX9_fits_0 7 rfl rfl)
theorem dX9_fits_10 : decode cX9_fits 10 = .ok (.ifCond .ne 5, 3) := dk_154 0 5 (dk_at dksX9_fits_0 10 rfl rfl)
theorem dX9_fits_13 : decode cX9_fits 13 = .ok (.lconst 0, 1) := dk_9 (dk_at dksX9_fits_0 13 rfl rfl)
theorem dX9_fits_14 : decode cX9_fits 14 = .ok (.lreturn, 1) := dk_173 (dk_at dksX9_fits_0 14 rfl rfl)
theorem dX9_fits_15 : decode cX9_fits 15 = .ok (.aload_n 0, 1) := dk_42 (dk_at dksX9_fits_0 15 rfl rfl)
theorem dX9_fits_16 : decode cX9_fits 16 = .ok (.invokevirtual 465, 3) := dk_182 1 209 (dk_at dksX9_fits_0 16 rfl rfl)
theorem dX9_fits_19 : decode cX9_fits 19 = .ok (.aload_n 0, 1) := dk_42 (dk_at dksX9_fits_0 19 rfl rfl)
theorem dX9_fits_20 : decode cX9_fits 20 = .ok (.iconst 1, 1) := dk_4 (dk_at dksX9_fits_0 20 rfl rfl)
theorem dX9_fits_21 : decode cX9_fits 21 = .ok (.putfield 361, 3) := dk_181 1 105 (dk_at dksX9_fits_0 21 rfl rfl)
theorem dX9_fits_24 : decode cX9_fits 24 = .ok (.aload_n 0, 1) := dk_42 (dk_at dksX9_fits_1 0 rfl rfl)
theorem dX9_fits_25 : decode cX9_fits 25 = .ok (.invokevirtual 479, 3) := dk_182 1 223 (dk_at dksX9_fits_1 1 rfl rfl)
theorem dX9_fits_28 : decode cX9_fits 28 = .ok (.aload_n 0, 1) := dk_42 (dk_at dksX9_fits_1 4 rfl rfl)
theorem dX9_fits_29 : decode cX9_fits 29 = .ok (.invokevirtual 488, 3) := dk_182 1 232 (dk_at dksX9_fits_1 5 rfl rfl)
theorem dX9_fits_32 : decode cX9_fits 32 = .ok (.ldc2_w 371, 3) := dk_20 1 115 (dk_at dksX9_fits_1 8 rfl rfl)
theorem dX9_fits_35 : decode cX9_fits 35 = .ok (.iload_n 1, 1) := dk_27 (dk_at dksX9_fits_1 11 rfl rfl)
theorem dX9_fits_36 : decode cX9_fits 36 = .ok (.invokestatic 472, 3) := dk_184 1 216 (dk_at dksX9_fits_1 12 rfl rfl)
theorem dX9_fits_39 : decode cX9_fits 39 = .ok (.lreturn, 1) := dk_173 (dk_at dksX9_fits_1 15 rfl rfl)
abbrev cX9_all : ByteArray := prog_28_method_76_code
def yX9_all : MethodName := ⟨RX9, "all", "()J"⟩
def dkwX9_all_1 : List UInt8 := [97, 64, 132, 3, 1, 167, 255, 231, 31, 173]
abbrev dktX9_all_1 : List UInt8 := dkwX9_all_1 ++ []
def dkwX9_all_0 : List UInt8 := [9, 64, 3, 62, 29, 42, 180, 1, 108, 162, 0, 23, 31, 42, 180, 0, 77, 42, 180, 0, 71, 29, 46, 47]
abbrev dktX9_all_0 : List UInt8 := dkwX9_all_0 ++ dktX9_all_1
theorem dksX9_all_0 : cX9_all.data.toList.drop 0 = dktX9_all_0 := by decide +kernel
theorem dksX9_all_1 : cX9_all.data.toList.drop 24 = dktX9_all_1 := dk_seg dksX9_all_0 24 rfl rfl
theorem dX9_all_0 : decode cX9_all 0 = .ok (.lconst 0, 1) := dk_9 (dk_at dksX9_all_0 0 rfl rfl)
theorem dX9_all_1 : decode cX9_all 1 = .ok (.lstore_n 1, 1) := dk_64 (dk_at dksX9_all_0 1 rfl rfl)
theorem dX9_all_2 : decode cX9_all 2 = .ok (.iconst 0, 1) := dk_3 (dk_at dksX9_all_0 2 rfl rfl)
theorem dX9_all_3 : decode cX9_all 3 = .ok (.istore_n 3, 1) := dk_62 (dk_at dksX9_all_0 3 rfl rfl)
theorem dX9_all_4 : decode cX9_all 4 = .ok (.iload_n 3, 1) := dk_29 (dk_at dksX9_all_0 4 rfl rfl)
theorem dX9_all_5 : decode cX9_all 5 = .ok (.aload_n 0, 1) := dk_42 (dk_at dksX9_all_0 5 rfl rfl)
theorem dX9_all_6 : decode cX9_all 6 = .ok (.getfield 364, 3) := dk_180 1 108 (dk_at dksX9_all_0 6 rfl rfl)
theorem dX9_all_9 : decode cX9_all 9 = .ok (.if_icmp .ge 23, 3) := dk_162 0 23 (dk_at dksX9_all_0 9 rfl rfl)
theorem dX9_all_12 : decode cX9_all 12 = .ok (.lload_n 1, 1) := dk_31 (dk_at dksX9_all_0 12 rfl rfl)
theorem dX9_all_13 : decode cX9_all 13 = .ok (.aload_n 0, 1) := dk_42 (dk_at dksX9_all_0 13 rfl rfl)
theorem dX9_all_14 : decode cX9_all 14 = .ok (.getfield 77, 3) := dk_180 0 77 (dk_at dksX9_all_0 14 rfl rfl)
theorem dX9_all_17 : decode cX9_all 17 = .ok (.aload_n 0, 1) := dk_42 (dk_at dksX9_all_0 17 rfl rfl)
theorem dX9_all_18 : decode cX9_all 18 = .ok (.getfield 71, 3) := dk_180 0 71 (dk_at dksX9_all_0 18 rfl rfl)
theorem dX9_all_21 : decode cX9_all 21 = .ok (.iload_n 3, 1) := dk_29 (dk_at dksX9_all_0 21 rfl rfl)
theorem dX9_all_22 : decode cX9_all 22 = .ok (.iaload, 1) := dk_46 (dk_at dksX9_all_0 22 rfl rfl)
theorem dX9_all_23 : decode cX9_all 23 = .ok (.laload, 1) := dk_47 (dk_at dksX9_all_0 23 rfl rfl)
theorem dX9_all_24 : decode cX9_all 24 = .ok (.ladd, 1) := dk_97 (dk_at dksX9_all_1 0 rfl rfl)
theorem dX9_all_25 : decode cX9_all 25 = .ok (.lstore_n 1, 1) := dk_64 (dk_at dksX9_all_1 1 rfl rfl)
theorem dX9_all_26 : decode cX9_all 26 = .ok (.iinc 3 1, 3) := dk_132 3 1 (dk_at dksX9_all_1 2 rfl rfl)
theorem dX9_all_29 : decode cX9_all 29 = .ok (.goto (-25), 3) := dk_167 255 231 (dk_at dksX9_all_1 5 rfl rfl)
theorem dX9_all_32 : decode cX9_all 32 = .ok (.lload_n 1, 1) := dk_31 (dk_at dksX9_all_1 8 rfl rfl)
theorem dX9_all_33 : decode cX9_all 33 = .ok (.lreturn, 1) := dk_173 (dk_at dksX9_all_1 9 rfl rfl)
abbrev cX9_given : ByteArray := prog_28_method_94_code
def yX9_given : MethodName := ⟨RX9, "given", "(III)J"⟩
def dkwX9_given_2 : List UInt8 := [42, 27, 182, 1, 235, 42, 42, 28, 27, 182, 1, 199, 29, 182, 1, 238, 173]
abbrev dktX9_given_2 : List UInt8 := dkwX9_given_2 ++ []
def dkwX9_given_1 : List UInt8 := [29, 3, 4, 184, 1, 60, 153, 0, 7, 4, 167, 0, 4, 3, 5, 4, 182, 0, 213, 154, 0, 5, 9, 173]
abbrev dktX9_given_1 : List UInt8 := dkwX9_given_1 ++ dktX9_given_2
def dkwX9_given_0 : List UInt8 := [42, 3, 181, 0, 3, 42, 27, 4, 182, 1, 74, 153, 0, 35, 42, 28, 3, 8, 184, 1, 60, 153, 0, 16]
abbrev dktX9_given_0 : List UInt8 := dkwX9_given_0 ++ dktX9_given_1
theorem dksX9_given_0 : cX9_given.data.toList.drop 0 = dktX9_given_0 := by decide +kernel
theorem dksX9_given_1 : cX9_given.data.toList.drop 24 = dktX9_given_1 := dk_seg dksX9_given_0 24 rfl rfl
theorem dksX9_given_2 : cX9_given.data.toList.drop 48 = dktX9_given_2 := dk_seg dksX9_given_1 24 rfl rfl
theorem dX9_given_0 : decode cX9_given 0 = .ok (.aload_n 0, 1) := dk_42 (dk_at dksX9_given_0 0 rfl rfl)
theorem dX9_given_1 : decode cX9_given 1 = .ok (.iconst 0, 1) := dk_3 (dk_at dksX9_given_0 1 rfl rfl)
theorem dX9_given_2 : decode cX9_given 2 = .ok (.putfield 3, 3) := dk_181 0 3 (dk_at dksX9_given_0 2 rfl rfl)
theorem dX9_given_5 : decode cX9_given 5 = .ok (.aload_n 0, 1) := dk_42 (dk_at dksX9_given_0 5 rfl rfl)
theorem dX9_given_6 : decode cX9_given 6 = .ok (.iload_n 1, 1) := dk_27 (dk_at dksX9_given_0 6 rfl rfl)
theorem dX9_given_7 : decode cX9_given 7 = .ok (.iconst 1, 1) := dk_4 (dk_at dksX9_given_0 7 rfl rfl)
theorem dX9_given_8 : decode cX9_given 8 = .ok (.invokevirtual 330, 3) := dk_182 1 74 (dk_at dksX9_given_0 8 rfl rfl)
theorem dX9_given_11 : decode cX9_given 11 = .ok (.ifCond .eq 35, 3) := dk_153 0 35 (dk_at dksX9_given_0 11 rfl rfl)
theorem dX9_given_14 : decode cX9_given 14 = .ok (.aload_n 0, 1) := dk_42 (dk_at dksX9_given_0 14 rfl rfl)
theorem dX9_given_15 : decode cX9_given 15 = .ok (.iload_n 2, 1) := dk_28 (dk_at dksX9_given_0 15 rfl rfl)
theorem dX9_given_16 : decode cX9_given 16 = .ok (.iconst 0, 1) := dk_3 (dk_at dksX9_given_0 16 rfl rfl)
theorem dX9_given_17 : decode cX9_given 17 = .ok (.iconst 5, 1) := dk_8 (dk_at dksX9_given_0 17 rfl rfl)
theorem dX9_given_18 : decode cX9_given 18 = .ok (.invokestatic 316, 3) := dk_184 1 60 (dk_at dksX9_given_0 18 rfl rfl)
theorem dX9_given_21 : decode cX9_given 21 = .ok (.ifCond .eq 16, 3) := dk_153 0 16 (dk_at dksX9_given_0 21 rfl rfl)
theorem dX9_given_24 : decode cX9_given 24 = .ok (.iload_n 3, 1) := dk_29 (dk_at dksX9_given_1 0 rfl rfl)
theorem dX9_given_25 : decode cX9_given 25 = .ok (.iconst 0, 1) := dk_3 (dk_at dksX9_given_1 1 rfl rfl)
theorem dX9_given_26 : decode cX9_given 26 = .ok (.iconst 1, 1) := dk_4 (dk_at dksX9_given_1 2 rfl rfl)
theorem dX9_given_27 : decode cX9_given 27 = .ok (.invokestatic 316, 3) := dk_184 1 60 (dk_at dksX9_given_1 3 rfl rfl)
theorem dX9_given_30 : decode cX9_given 30 = .ok (.ifCond .eq 7, 3) := dk_153 0 7 (dk_at dksX9_given_1 6 rfl rfl)
theorem dX9_given_33 : decode cX9_given 33 = .ok (.iconst 1, 1) := dk_4 (dk_at dksX9_given_1 9 rfl rfl)
theorem dX9_given_34 : decode cX9_given 34 = .ok (.goto 4, 3) := dk_167 0 4 (dk_at dksX9_given_1 10 rfl rfl)
theorem dX9_given_37 : decode cX9_given 37 = .ok (.iconst 0, 1) := dk_3 (dk_at dksX9_given_1 13 rfl rfl)
theorem dX9_given_38 : decode cX9_given 38 = .ok (.iconst 2, 1) := dk_5 (dk_at dksX9_given_1 14 rfl rfl)
theorem dX9_given_39 : decode cX9_given 39 = .ok (.iconst 1, 1) := dk_4 (dk_at dksX9_given_1 15 rfl rfl)
theorem dX9_given_40 : decode cX9_given 40 = .ok (.invokevirtual 213, 3) := dk_182 0 213 (dk_at dksX9_given_1 16 rfl rfl)
theorem dX9_given_43 : decode cX9_given 43 = .ok (.ifCond .ne 5, 3) := dk_154 0 5 (dk_at dksX9_given_1 19 rfl rfl)
theorem dX9_given_46 : decode cX9_given 46 = .ok (.lconst 0, 1) := dk_9 (dk_at dksX9_given_1 22 rfl rfl)
theorem dX9_given_47 : decode cX9_given 47 = .ok (.lreturn, 1) := dk_173 (dk_at dksX9_given_1 23 rfl rfl)
theorem dX9_given_48 : decode cX9_given 48 = .ok (.aload_n 0, 1) := dk_42 (dk_at dksX9_given_2 0 rfl rfl)
theorem dX9_given_49 : decode cX9_given 49 = .ok (.iload_n 1, 1) := dk_27 (dk_at dksX9_given_2 1 rfl rfl)
theorem dX9_given_50 : decode cX9_given 50 = .ok (.invokevirtual 491, 3) := dk_182 1 235 (dk_at dksX9_given_2 2 rfl rfl)
theorem dX9_given_53 : decode cX9_given 53 = .ok (.aload_n 0, 1) := dk_42 (dk_at dksX9_given_2 5 rfl rfl)
theorem dX9_given_54 : decode cX9_given 54 = .ok (.aload_n 0, 1) := dk_42 (dk_at dksX9_given_2 6 rfl rfl)
theorem dX9_given_55 : decode cX9_given 55 = .ok (.iload_n 2, 1) := dk_28 (dk_at dksX9_given_2 7 rfl rfl)
theorem dX9_given_56 : decode cX9_given 56 = .ok (.iload_n 1, 1) := dk_27 (dk_at dksX9_given_2 8 rfl rfl)
theorem dX9_given_57 : decode cX9_given 57 = .ok (.invokevirtual 455, 3) := dk_182 1 199 (dk_at dksX9_given_2 9 rfl rfl)
theorem dX9_given_60 : decode cX9_given 60 = .ok (.iload_n 3, 1) := dk_29 (dk_at dksX9_given_2 12 rfl rfl)
theorem dX9_given_61 : decode cX9_given 61 = .ok (.invokevirtual 494, 3) := dk_182 1 238 (dk_at dksX9_given_2 13 rfl rfl)
theorem dX9_given_64 : decode cX9_given 64 = .ok (.lreturn, 1) := dk_173 (dk_at dksX9_given_2 16 rfl rfl)
abbrev cX9_goesGiven : ByteArray := prog_28_method_92_code
def yX9_goesGiven : MethodName := ⟨RX9, "goesGiven", "(I)V"⟩
def dkwX9_goesGiven_0 : List UInt8 := [42, 182, 1, 209, 42, 4, 181, 1, 105, 42, 27, 4, 100, 182, 1, 203, 42, 27, 182, 1, 187, 177]
abbrev dktX9_goesGiven_0 : List UInt8 := dkwX9_goesGiven_0 ++ []
theorem dksX9_goesGiven_0 : cX9_goesGiven.data.toList.drop 0 = dktX9_goesGiven_0 := by decide +kernel
theorem dX9_goesGiven_0 : decode cX9_goesGiven 0 = .ok (.aload_n 0, 1) := dk_42 (dk_at dksX9_goesGiven_0 0 rfl rfl)
theorem dX9_goesGiven_1 : decode cX9_goesGiven 1 = .ok (.invokevirtual 465, 3) := dk_182 1 209 (dk_at dksX9_goesGiven_0 1 rfl rfl)
theorem dX9_goesGiven_4 : decode cX9_goesGiven 4 = .ok (.aload_n 0, 1) := dk_42 (dk_at dksX9_goesGiven_0 4 rfl rfl)
theorem dX9_goesGiven_5 : decode cX9_goesGiven 5 = .ok (.iconst 1, 1) := dk_4 (dk_at dksX9_goesGiven_0 5 rfl rfl)
theorem dX9_goesGiven_6 : decode cX9_goesGiven 6 = .ok (.putfield 361, 3) := dk_181 1 105 (dk_at dksX9_goesGiven_0 6 rfl rfl)
theorem dX9_goesGiven_9 : decode cX9_goesGiven 9 = .ok (.aload_n 0, 1) := dk_42 (dk_at dksX9_goesGiven_0 9 rfl rfl)
theorem dX9_goesGiven_10 : decode cX9_goesGiven 10 = .ok (.iload_n 1, 1) := dk_27 (dk_at dksX9_goesGiven_0 10 rfl rfl)
theorem dX9_goesGiven_11 : decode cX9_goesGiven 11 = .ok (.iconst 1, 1) := dk_4 (dk_at dksX9_goesGiven_0 11 rfl rfl)
theorem dX9_goesGiven_12 : decode cX9_goesGiven 12 = .ok (.isub, 1) := dk_100 (dk_at dksX9_goesGiven_0 12 rfl rfl)
theorem dX9_goesGiven_13 : decode cX9_goesGiven 13 = .ok (.invokevirtual 459, 3) := dk_182 1 203 (dk_at dksX9_goesGiven_0 13 rfl rfl)
theorem dX9_goesGiven_16 : decode cX9_goesGiven 16 = .ok (.aload_n 0, 1) := dk_42 (dk_at dksX9_goesGiven_0 16 rfl rfl)
theorem dX9_goesGiven_17 : decode cX9_goesGiven 17 = .ok (.iload_n 1, 1) := dk_27 (dk_at dksX9_goesGiven_0 17 rfl rfl)
theorem dX9_goesGiven_18 : decode cX9_goesGiven 18 = .ok (.invokevirtual 443, 3) := dk_182 1 187 (dk_at dksX9_goesGiven_0 18 rfl rfl)
theorem dX9_goesGiven_21 : decode cX9_goesGiven 21 = .ok (.return_, 1) := dk_177 (dk_at dksX9_goesGiven_0 21 rfl rfl)
abbrev cX9_share : ByteArray := prog_28_method_93_code
def yX9_share : MethodName := ⟨RX9, "share", "(JI)J"⟩
def dkwX9_share_1 : List UInt8 := [184, 1, 216, 173]
abbrev dktX9_share_1 : List UInt8 := dkwX9_share_1 ++ []
def dkwX9_share_0 : List UInt8 := [42, 182, 1, 232, 55, 4, 22, 4, 9, 148, 154, 0, 8, 29, 133, 167, 0, 10, 31, 22, 4, 29]
abbrev dktX9_share_0 : List UInt8 := dkwX9_share_0 ++ dktX9_share_1
theorem dksX9_share_0 : cX9_share.data.toList.drop 0 = dktX9_share_0 := by decide +kernel
theorem dksX9_share_1 : cX9_share.data.toList.drop 22 = dktX9_share_1 := dk_seg dksX9_share_0 22 rfl rfl
theorem dX9_share_0 : decode cX9_share 0 = .ok (.aload_n 0, 1) := dk_42 (dk_at dksX9_share_0 0 rfl rfl)
theorem dX9_share_1 : decode cX9_share 1 = .ok (.invokevirtual 488, 3) := dk_182 1 232 (dk_at dksX9_share_0 1 rfl rfl)
theorem dX9_share_4 : decode cX9_share 4 = .ok (.lstore 4, 2) := dk_55 4 (dk_at dksX9_share_0 4 rfl rfl)
theorem dX9_share_6 : decode cX9_share 6 = .ok (.lload 4, 2) := dk_22 4 (dk_at dksX9_share_0 6 rfl rfl)
theorem dX9_share_8 : decode cX9_share 8 = .ok (.lconst 0, 1) := dk_9 (dk_at dksX9_share_0 8 rfl rfl)
theorem dX9_share_9 : decode cX9_share 9 = .ok (.lcmp, 1) := dk_148 (dk_at dksX9_share_0 9 rfl rfl)
theorem dX9_share_10 : decode cX9_share 10 = .ok (.ifCond .ne 8, 3) := dk_154 0 8 (dk_at dksX9_share_0 10 rfl rfl)
theorem dX9_share_13 : decode cX9_share 13 = .ok (.iload_n 3, 1) := dk_29 (dk_at dksX9_share_0 13 rfl rfl)
theorem dX9_share_14 : decode cX9_share 14 = .ok (.i2l, 1) := dk_133 (dk_at dksX9_share_0 14 rfl rfl)
theorem dX9_share_15 : decode cX9_share 15 = .ok (.goto 10, 3) := dk_167 0 10 (dk_at dksX9_share_0 15 rfl rfl)
theorem dX9_share_18 : decode cX9_share 18 = .ok (.lload_n 1, 1) := dk_31 (dk_at dksX9_share_0 18 rfl rfl)
theorem dX9_share_19 : decode cX9_share 19 = .ok (.lload 4, 2) := dk_22 4 (dk_at dksX9_share_0 19 rfl rfl)
theorem dX9_share_21 : decode cX9_share 21 = .ok (.iload_n 3, 1) := dk_29 (dk_at dksX9_share_0 21 rfl rfl)
theorem dX9_share_22 : decode cX9_share 22 = .ok (.invokestatic 472, 3) := dk_184 1 216 (dk_at dksX9_share_1 0 rfl rfl)
theorem dX9_share_25 : decode cX9_share 25 = .ok (.lreturn, 1) := dk_173 (dk_at dksX9_share_1 3 rfl rfl)
abbrev cX9_best : ByteArray := prog_28_method_97_code
def yX9_best : MethodName := ⟨RX9, "best", "(I)I"⟩
def dkwX9_best_2 : List UInt8 := [42, 28, 182, 1, 246, 148, 156, 0, 5, 29, 61, 132, 3, 1, 167, 255, 232, 28, 172]
abbrev dktX9_best_2 : List UInt8 := dkwX9_best_2 ++ []
def dkwX9_best_1 : List UInt8 := [182, 1, 232, 9, 148, 154, 0, 5, 2, 172, 3, 61, 4, 62, 29, 7, 162, 0, 25, 42, 29, 182, 1, 246]
abbrev dktX9_best_1 : List UInt8 := dkwX9_best_1 ++ dktX9_best_2
def dkwX9_best_0 : List UInt8 := [42, 3, 181, 0, 3, 42, 27, 4, 182, 1, 74, 154, 0, 5, 3, 172, 42, 27, 182, 1, 235, 42]
abbrev dktX9_best_0 : List UInt8 := dkwX9_best_0 ++ dktX9_best_1
theorem dksX9_best_0 : cX9_best.data.toList.drop 0 = dktX9_best_0 := by decide +kernel
theorem dksX9_best_1 : cX9_best.data.toList.drop 22 = dktX9_best_1 := dk_seg dksX9_best_0 22 rfl rfl
theorem dksX9_best_2 : cX9_best.data.toList.drop 46 = dktX9_best_2 := dk_seg dksX9_best_1 24 rfl rfl
theorem dX9_best_0 : decode cX9_best 0 = .ok (.aload_n 0, 1) := dk_42 (dk_at dksX9_best_0 0 rfl rfl)
theorem dX9_best_1 : decode cX9_best 1 = .ok (.iconst 0, 1) := dk_3 (dk_at dksX9_best_0 1 rfl rfl)
theorem dX9_best_2 : decode cX9_best 2 = .ok (.putfield 3, 3) := dk_181 0 3 (dk_at dksX9_best_0 2 rfl rfl)
theorem dX9_best_5 : decode cX9_best 5 = .ok (.aload_n 0, 1) := dk_42 (dk_at dksX9_best_0 5 rfl rfl)
theorem dX9_best_6 : decode cX9_best 6 = .ok (.iload_n 1, 1) := dk_27 (dk_at dksX9_best_0 6 rfl rfl)
theorem dX9_best_7 : decode cX9_best 7 = .ok (.iconst 1, 1) := dk_4 (dk_at dksX9_best_0 7 rfl rfl)
theorem dX9_best_8 : decode cX9_best 8 = .ok (.invokevirtual 330, 3) := dk_182 1 74 (dk_at dksX9_best_0 8 rfl rfl)
theorem dX9_best_11 : decode cX9_best 11 = .ok (.ifCond .ne 5, 3) := dk_154 0 5 (dk_at dksX9_best_0 11 rfl rfl)
theorem dX9_best_14 : decode cX9_best 14 = .ok (.iconst 0, 1) := dk_3 (dk_at dksX9_best_0 14 rfl rfl)
theorem dX9_best_15 : decode cX9_best 15 = .ok (.ireturn, 1) := dk_172 (dk_at dksX9_best_0 15 rfl rfl)
theorem dX9_best_16 : decode cX9_best 16 = .ok (.aload_n 0, 1) := dk_42 (dk_at dksX9_best_0 16 rfl rfl)
theorem dX9_best_17 : decode cX9_best 17 = .ok (.iload_n 1, 1) := dk_27 (dk_at dksX9_best_0 17 rfl rfl)
theorem dX9_best_18 : decode cX9_best 18 = .ok (.invokevirtual 491, 3) := dk_182 1 235 (dk_at dksX9_best_0 18 rfl rfl)
theorem dX9_best_21 : decode cX9_best 21 = .ok (.aload_n 0, 1) := dk_42 (dk_at dksX9_best_0 21 rfl rfl)
theorem dX9_best_22 : decode cX9_best 22 = .ok (.invokevirtual 488, 3) := dk_182 1 232 (dk_at dksX9_best_1 0 rfl rfl)
theorem dX9_best_25 : decode cX9_best 25 = .ok (.lconst 0, 1) := dk_9 (dk_at dksX9_best_1 3 rfl rfl)
theorem dX9_best_26 : decode cX9_best 26 = .ok (.lcmp, 1) := dk_148 (dk_at dksX9_best_1 4 rfl rfl)
theorem dX9_best_27 : decode cX9_best 27 = .ok (.ifCond .ne 5, 3) := dk_154 0 5 (dk_at dksX9_best_1 5 rfl rfl)
theorem dX9_best_30 : decode cX9_best 30 = .ok (.iconst (-1), 1) := dk_2 (dk_at dksX9_best_1 8 rfl rfl)
theorem dX9_best_31 : decode cX9_best 31 = .ok (.ireturn, 1) := dk_172 (dk_at dksX9_best_1 9 rfl rfl)
theorem dX9_best_32 : decode cX9_best 32 = .ok (.iconst 0, 1) := dk_3 (dk_at dksX9_best_1 10 rfl rfl)
theorem dX9_best_33 : decode cX9_best 33 = .ok (.istore_n 2, 1) := dk_61 (dk_at dksX9_best_1 11 rfl rfl)
theorem dX9_best_34 : decode cX9_best 34 = .ok (.iconst 1, 1) := dk_4 (dk_at dksX9_best_1 12 rfl rfl)
theorem dX9_best_35 : decode cX9_best 35 = .ok (.istore_n 3, 1) := dk_62 (dk_at dksX9_best_1 13 rfl rfl)
theorem dX9_best_36 : decode cX9_best 36 = .ok (.iload_n 3, 1) := dk_29 (dk_at dksX9_best_1 14 rfl rfl)
theorem dX9_best_37 : decode cX9_best 37 = .ok (.iconst 4, 1) := dk_7 (dk_at dksX9_best_1 15 rfl rfl)
theorem dX9_best_38 : decode cX9_best 38 = .ok (.if_icmp .ge 25, 3) := dk_162 0 25 (dk_at dksX9_best_1 16 rfl rfl)
theorem dX9_best_41 : decode cX9_best 41 = .ok (.aload_n 0, 1) := dk_42 (dk_at dksX9_best_1 19 rfl rfl)
theorem dX9_best_42 : decode cX9_best 42 = .ok (.iload_n 3, 1) := dk_29 (dk_at dksX9_best_1 20 rfl rfl)
theorem dX9_best_43 : decode cX9_best 43 = .ok (.invokevirtual 502, 3) := dk_182 1 246 (dk_at dksX9_best_1 21 rfl rfl)
theorem dX9_best_46 : decode cX9_best 46 = .ok (.aload_n 0, 1) := dk_42 (dk_at dksX9_best_2 0 rfl rfl)
theorem dX9_best_47 : decode cX9_best 47 = .ok (.iload_n 2, 1) := dk_28 (dk_at dksX9_best_2 1 rfl rfl)
theorem dX9_best_48 : decode cX9_best 48 = .ok (.invokevirtual 502, 3) := dk_182 1 246 (dk_at dksX9_best_2 2 rfl rfl)
theorem dX9_best_51 : decode cX9_best 51 = .ok (.lcmp, 1) := dk_148 (dk_at dksX9_best_2 5 rfl rfl)
theorem dX9_best_52 : decode cX9_best 52 = .ok (.ifCond .ge 5, 3) := dk_156 0 5 (dk_at dksX9_best_2 6 rfl rfl)
theorem dX9_best_55 : decode cX9_best 55 = .ok (.iload_n 3, 1) := dk_29 (dk_at dksX9_best_2 9 rfl rfl)
theorem dX9_best_56 : decode cX9_best 56 = .ok (.istore_n 2, 1) := dk_61 (dk_at dksX9_best_2 10 rfl rfl)
theorem dX9_best_57 : decode cX9_best 57 = .ok (.iinc 3 1, 3) := dk_132 3 1 (dk_at dksX9_best_2 11 rfl rfl)
theorem dX9_best_60 : decode cX9_best 60 = .ok (.goto (-24), 3) := dk_167 255 232 (dk_at dksX9_best_2 14 rfl rfl)
theorem dX9_best_63 : decode cX9_best 63 = .ok (.iload_n 2, 1) := dk_28 (dk_at dksX9_best_2 17 rfl rfl)
theorem dX9_best_64 : decode cX9_best 64 = .ok (.ireturn, 1) := dk_172 (dk_at dksX9_best_2 18 rfl rfl)
abbrev cX9_worthOf : ByteArray := prog_28_method_96_code
def yX9_worthOf : MethodName := ⟨RX9, "worthOf", "(I)J"⟩
def dkwX9_worthOf_12 : List UInt8 := [22, 10, 97, 173]
abbrev dktX9_worthOf_12 : List UInt8 := dkwX9_worthOf_12 ++ []
def dkwX9_worthOf_11 : List UInt8 := [156, 0, 8, 22, 4, 167, 0, 5, 22, 6, 97, 22, 8, 22, 10, 148, 156, 0, 8, 22, 8, 167, 0, 5]
abbrev dktX9_worthOf_11 : List UInt8 := dkwX9_worthOf_11 ++ dktX9_worthOf_12
def dkwX9_worthOf_10 : List UInt8 := [42, 22, 14, 22, 16, 101, 182, 1, 242, 97, 55, 10, 132, 12, 1, 167, 255, 22, 32, 22, 4, 22, 6, 148]
abbrev dktX9_worthOf_10 : List UInt8 := dkwX9_worthOf_10 ++ dktX9_worthOf_11
def dkwX9_worthOf_9 : List UInt8 := [97, 55, 6, 22, 8, 42, 180, 0, 26, 16, 10, 46, 133, 22, 14, 22, 16, 101, 105, 97, 55, 8, 22, 10]
abbrev dktX9_worthOf_9 : List UInt8 := dkwX9_worthOf_9 ++ dktX9_worthOf_10
def dkwX9_worthOf_8 : List UInt8 := [22, 4, 42, 180, 0, 26, 16, 10, 46, 133, 22, 16, 105, 97, 55, 4, 22, 6, 42, 22, 16, 182, 1, 242]
abbrev dktX9_worthOf_8 : List UInt8 := dkwX9_worthOf_8 ++ dktX9_worthOf_9
def dkwX9_worthOf_7 : List UInt8 := [20, 1, 142, 109, 167, 0, 4, 9, 55, 16, 32, 42, 180, 0, 26, 16, 9, 46, 133, 22, 14, 105, 97, 65]
abbrev dktX9_worthOf_7 : List UInt8 := dkwX9_worthOf_7 ++ dktX9_worthOf_8
def dkwX9_worthOf_6 : List UInt8 := [159, 0, 6, 167, 0, 105, 42, 180, 1, 133, 158, 0, 21, 22, 14, 42, 180, 0, 26, 16, 6, 46, 133, 105]
abbrev dktX9_worthOf_6 : List UInt8 := dkwX9_worthOf_6 ++ dktX9_worthOf_7
def dkwX9_worthOf_5 : List UInt8 := [154, 0, 13, 42, 180, 0, 26, 16, 10, 46, 167, 0, 4, 3, 96, 133, 22, 14, 105, 97, 65, 27, 5]
abbrev dktX9_worthOf_5 : List UInt8 := dkwX9_worthOf_5 ++ dktX9_worthOf_6
def dkwX9_worthOf_4 : List UInt8 := [46, 42, 180, 1, 136, 104, 42, 180, 0, 26, 16, 11, 46, 96, 42, 180, 1, 136, 42, 180, 1, 133, 96]
abbrev dktX9_worthOf_4 : List UInt8 := dkwX9_worthOf_4 ++ dktX9_worthOf_5
def dkwX9_worthOf_3 : List UInt8 := [180, 0, 26, 16, 10, 46, 133, 22, 14, 105, 97, 65, 27, 6, 160, 0, 54, 32, 42, 180, 0, 26, 16, 8]
abbrev dktX9_worthOf_3 : List UInt8 := dkwX9_worthOf_3 ++ dktX9_worthOf_4
def dkwX9_worthOf_2 : List UInt8 := [182, 1, 139, 27, 154, 0, 12, 32, 42, 22, 14, 182, 1, 242, 97, 65, 27, 4, 160, 0, 17, 32, 42]
abbrev dktX9_worthOf_2 : List UInt8 := dkwX9_worthOf_2 ++ dktX9_worthOf_3
def dkwX9_worthOf_1 : List UInt8 := [162, 0, 231, 42, 180, 0, 71, 21, 12, 46, 54, 13, 42, 180, 0, 77, 21, 13, 47, 55, 14, 42, 21, 13]
abbrev dktX9_worthOf_1 : List UInt8 := dkwX9_worthOf_1 ++ dktX9_worthOf_2
def dkwX9_worthOf_0 : List UInt8 := [9, 65, 9, 55, 4, 9, 55, 6, 9, 55, 8, 9, 55, 10, 3, 54, 12, 21, 12, 42, 180, 1, 108]
abbrev dktX9_worthOf_0 : List UInt8 := dkwX9_worthOf_0 ++ dktX9_worthOf_1
theorem dksX9_worthOf_0 : cX9_worthOf.data.toList.drop 0 = dktX9_worthOf_0 := by decide +kernel
theorem dksX9_worthOf_1 : cX9_worthOf.data.toList.drop 23 = dktX9_worthOf_1 := dk_seg dksX9_worthOf_0 23 rfl rfl
theorem dksX9_worthOf_2 : cX9_worthOf.data.toList.drop 47 = dktX9_worthOf_2 := dk_seg dksX9_worthOf_1 24 rfl rfl
theorem dksX9_worthOf_3 : cX9_worthOf.data.toList.drop 70 = dktX9_worthOf_3 := dk_seg dksX9_worthOf_2 23 rfl rfl
theorem dksX9_worthOf_4 : cX9_worthOf.data.toList.drop 94 = dktX9_worthOf_4 := dk_seg dksX9_worthOf_3 24 rfl rfl
theorem dksX9_worthOf_5 : cX9_worthOf.data.toList.drop 117 = dktX9_worthOf_5 := dk_seg dksX9_worthOf_4 23 rfl rfl
theorem dksX9_worthOf_6 : cX9_worthOf.data.toList.drop 140 = dktX9_worthOf_6 := dk_seg dksX9_worthOf_5 23 rfl rfl
theorem dksX9_worthOf_7 : cX9_worthOf.data.toList.drop 164 = dktX9_worthOf_7 := dk_seg dksX9_worthOf_6 24 rfl rfl
theorem dksX9_worthOf_8 : cX9_worthOf.data.toList.drop 188 = dktX9_worthOf_8 := dk_seg dksX9_worthOf_7 24 rfl rfl
theorem dksX9_worthOf_9 : cX9_worthOf.data.toList.drop 212 = dktX9_worthOf_9 := dk_seg dksX9_worthOf_8 24 rfl rfl
theorem dksX9_worthOf_10 : cX9_worthOf.data.toList.drop 236 = dktX9_worthOf_10 := dk_seg dksX9_worthOf_9 24 rfl rfl
theorem dksX9_worthOf_11 : cX9_worthOf.data.toList.drop 260 = dktX9_worthOf_11 := dk_seg dksX9_worthOf_10 24 rfl rfl
theorem dksX9_worthOf_12 : cX9_worthOf.data.toList.drop 284 = dktX9_worthOf_12 := dk_seg dksX9_worthOf_11 24 rfl rfl
theorem dX9_worthOf_0 : decode cX9_worthOf 0 = .ok (.lconst 0, 1) := dk_9 (dk_at dksX9_worthOf_0 0 rfl rfl)
theorem dX9_worthOf_1 : decode cX9_worthOf 1 = .ok (.lstore_n 2, 1) := dk_65 (dk_at dksX9_worthOf_0 1 rfl rfl)
theorem dX9_worthOf_2 : decode cX9_worthOf 2 = .ok (.lconst 0, 1) := dk_9 (dk_at dksX9_worthOf_0 2 rfl rfl)
theorem dX9_worthOf_3 : decode cX9_worthOf 3 = .ok (.lstore 4, 2) := dk_55 4 (dk_at dksX9_worthOf_0 3 rfl rfl)
theorem dX9_worthOf_5 : decode cX9_worthOf 5 = .ok (.lconst 0, 1) := dk_9 (dk_at dksX9_worthOf_0 5 rfl rfl)
theorem dX9_worthOf_6 : decode cX9_worthOf 6 = .ok (.lstore 6, 2) := dk_55 6 (dk_at dksX9_worthOf_0 6 rfl rfl)
theorem dX9_worthOf_8 : decode cX9_worthOf 8 = .ok (.lconst 0, 1) := dk_9 (dk_at dksX9_worthOf_0 8 rfl rfl)
theorem dX9_worthOf_9 : decode cX9_worthOf 9 = .ok (.lstore 8, 2) := dk_55 8 (dk_at dksX9_worthOf_0 9 rfl rfl)
theorem dX9_worthOf_11 : decode cX9_worthOf 11 = .ok (.lconst 0, 1) := dk_9 (dk_at dksX9_worthOf_0 11 rfl rfl)
theorem dX9_worthOf_12 : decode cX9_worthOf 12 = .ok (.lstore 10, 2) := dk_55 10 (dk_at dksX9_worthOf_0 12 rfl rfl)
theorem dX9_worthOf_14 : decode cX9_worthOf 14 = .ok (.iconst 0, 1) := dk_3 (dk_at dksX9_worthOf_0 14 rfl rfl)
theorem dX9_worthOf_15 : decode cX9_worthOf 15 = .ok (.istore 12, 2) := dk_54 12 (dk_at dksX9_worthOf_0 15 rfl rfl)
theorem dX9_worthOf_17 : decode cX9_worthOf 17 = .ok (.iload 12, 2) := dk_21 12 (dk_at dksX9_worthOf_0 17 rfl rfl)
theorem dX9_worthOf_19 : decode cX9_worthOf 19 = .ok (.aload_n 0, 1) := dk_42 (dk_at dksX9_worthOf_0 19 rfl rfl)
theorem dX9_worthOf_20 : decode cX9_worthOf 20 = .ok (.getfield 364, 3) := dk_180 1 108 (dk_at dksX9_worthOf_0 20 rfl rfl)
theorem dX9_worthOf_23 : decode cX9_worthOf 23 = .ok (.if_icmp .ge 231, 3) := dk_162 0 231 (dk_at dksX9_worthOf_1 0 rfl rfl)
theorem dX9_worthOf_26 : decode cX9_worthOf 26 = .ok (.aload_n 0, 1) := dk_42 (dk_at dksX9_worthOf_1 3 rfl rfl)
theorem dX9_worthOf_27 : decode cX9_worthOf 27 = .ok (.getfield 71, 3) := dk_180 0 71 (dk_at dksX9_worthOf_1 4 rfl rfl)
theorem dX9_worthOf_30 : decode cX9_worthOf 30 = .ok (.iload 12, 2) := dk_21 12 (dk_at dksX9_worthOf_1 7 rfl rfl)
theorem dX9_worthOf_32 : decode cX9_worthOf 32 = .ok (.iaload, 1) := dk_46 (dk_at dksX9_worthOf_1 9 rfl rfl)
theorem dX9_worthOf_33 : decode cX9_worthOf 33 = .ok (.istore 13, 2) := dk_54 13 (dk_at dksX9_worthOf_1 10 rfl rfl)
theorem dX9_worthOf_35 : decode cX9_worthOf 35 = .ok (.aload_n 0, 1) := dk_42 (dk_at dksX9_worthOf_1 12 rfl rfl)
theorem dX9_worthOf_36 : decode cX9_worthOf 36 = .ok (.getfield 77, 3) := dk_180 0 77 (dk_at dksX9_worthOf_1 13 rfl rfl)
theorem dX9_worthOf_39 : decode cX9_worthOf 39 = .ok (.iload 13, 2) := dk_21 13 (dk_at dksX9_worthOf_1 16 rfl rfl)
theorem dX9_worthOf_41 : decode cX9_worthOf 41 = .ok (.laload, 1) := dk_47 (dk_at dksX9_worthOf_1 18 rfl rfl)
theorem dX9_worthOf_42 : decode cX9_worthOf 42 = .ok (.lstore 14, 2) := dk_55 14 (dk_at dksX9_worthOf_1 19 rfl rfl)
theorem dX9_worthOf_44 : decode cX9_worthOf 44 = .ok (.aload_n 0, 1) := dk_42 (dk_at dksX9_worthOf_1 21 rfl rfl)
theorem dX9_worthOf_45 : decode cX9_worthOf 45 = .ok (.iload 13, 2) := dk_21 13 (dk_at dksX9_worthOf_1 22 rfl rfl)
theorem dX9_worthOf_47 : decode cX9_worthOf 47 = .ok (.invokevirtual 395, 3) := dk_182 1 139 (dk_at dksX9_worthOf_2 0 rfl rfl)
theorem dX9_worthOf_50 : decode cX9_worthOf 50 = .ok (.iload_n 1, 1) := dk_27 (dk_at dksX9_worthOf_2 3 rfl rfl)
theorem dX9_worthOf_51 : decode cX9_worthOf 51 = .ok (.ifCond .ne 12, 3) := dk_154 0 12 (dk_at dksX9_worthOf_2 4 rfl rfl)
theorem dX9_worthOf_54 : decode cX9_worthOf 54 = .ok (.lload_n 2, 1) := dk_32 (dk_at dksX9_worthOf_2 7 rfl rfl)
theorem dX9_worthOf_55 : decode cX9_worthOf 55 = .ok (.aload_n 0, 1) := dk_42 (dk_at dksX9_worthOf_2 8 rfl rfl)
theorem dX9_worthOf_56 : decode cX9_worthOf 56 = .ok (.lload 14, 2) := dk_22 14 (dk_at dksX9_worthOf_2 9 rfl rfl)
theorem dX9_worthOf_58 : decode cX9_worthOf 58 = .ok (.invokevirtual 498, 3) := dk_182 1 242 (dk_at dksX9_worthOf_2 11 rfl rfl)
theorem dX9_worthOf_61 : decode cX9_worthOf 61 = .ok (.ladd, 1) := dk_97 (dk_at dksX9_worthOf_2 14 rfl rfl)
theorem dX9_worthOf_62 : decode cX9_worthOf 62 = .ok (.lstore_n 2, 1) := dk_65 (dk_at dksX9_worthOf_2 15 rfl rfl)
theorem dX9_worthOf_63 : decode cX9_worthOf 63 = .ok (.iload_n 1, 1) := dk_27 (dk_at dksX9_worthOf_2 16 rfl rfl)
theorem dX9_worthOf_64 : decode cX9_worthOf 64 = .ok (.iconst 1, 1) := dk_4 (dk_at dksX9_worthOf_2 17 rfl rfl)
theorem dX9_worthOf_65 : decode cX9_worthOf 65 = .ok (.if_icmp .ne 17, 3) := dk_160 0 17 (dk_at dksX9_worthOf_2 18 rfl rfl)
theorem dX9_worthOf_68 : decode cX9_worthOf 68 = .ok (.lload_n 2, 1) := dk_32 (dk_at dksX9_worthOf_2 21 rfl rfl)
theorem dX9_worthOf_69 : decode cX9_worthOf 69 = .ok (.aload_n 0, 1) := dk_42 (dk_at dksX9_worthOf_2 22 rfl rfl)
theorem dX9_worthOf_70 : decode cX9_worthOf 70 = .ok (.getfield 26, 3) := dk_180 0 26 (dk_at dksX9_worthOf_3 0 rfl rfl)
theorem dX9_worthOf_73 : decode cX9_worthOf 73 = .ok (.bipush 10, 2) := dk_16 10 (dk_at dksX9_worthOf_3 3 rfl rfl)
theorem dX9_worthOf_75 : decode cX9_worthOf 75 = .ok (.iaload, 1) := dk_46 (dk_at dksX9_worthOf_3 5 rfl rfl)
theorem dX9_worthOf_76 : decode cX9_worthOf 76 = .ok (.i2l, 1) := dk_133 (dk_at dksX9_worthOf_3 6 rfl rfl)
theorem dX9_worthOf_77 : decode cX9_worthOf 77 = .ok (.lload 14, 2) := dk_22 14 (dk_at dksX9_worthOf_3 7 rfl rfl)
theorem dX9_worthOf_79 : decode cX9_worthOf 79 = .ok (.lmul, 1) := dk_105 (dk_at dksX9_worthOf_3 9 rfl rfl)
theorem dX9_worthOf_80 : decode cX9_worthOf 80 = .ok (.ladd, 1) := dk_97 (dk_at dksX9_worthOf_3 10 rfl rfl)
theorem dX9_worthOf_81 : decode cX9_worthOf 81 = .ok (.lstore_n 2, 1) := dk_65 (dk_at dksX9_worthOf_3 11 rfl rfl)
theorem dX9_worthOf_82 : decode cX9_worthOf 82 = .ok (.iload_n 1, 1) := dk_27 (dk_at dksX9_worthOf_3 12 rfl rfl)
theorem dX9_worthOf_83 : decode cX9_worthOf 83 = .ok (.iconst 3, 1) := dk_6 (dk_at dksX9_worthOf_3 13 rfl rfl)
theorem dX9_worthOf_84 : decode cX9_worthOf 84 = .ok (.if_icmp .ne 54, 3) := dk_160 0 54 (dk_at dksX9_worthOf_3 14 rfl rfl)
theorem dX9_worthOf_87 : decode cX9_worthOf 87 = .ok (.lload_n 2, 1) := dk_32 (dk_at dksX9_worthOf_3 17 rfl rfl)
theorem dX9_worthOf_88 : decode cX9_worthOf 88 = .ok (.aload_n 0, 1) := dk_42 (dk_at dksX9_worthOf_3 18 rfl rfl)
theorem dX9_worthOf_89 : decode cX9_worthOf 89 = .ok (.getfield 26, 3) := dk_180 0 26 (dk_at dksX9_worthOf_3 19 rfl rfl)
theorem dX9_worthOf_92 : decode cX9_worthOf 92 = .ok (.bipush 8, 2) := dk_16 8 (dk_at dksX9_worthOf_3 22 rfl rfl)
theorem dX9_worthOf_94 : decode cX9_worthOf 94 = .ok (.iaload, 1) := dk_46 (dk_at dksX9_worthOf_4 0 rfl rfl)
theorem dX9_worthOf_95 : decode cX9_worthOf 95 = .ok (.aload_n 0, 1) := dk_42 (dk_at dksX9_worthOf_4 1 rfl rfl)
theorem dX9_worthOf_96 : decode cX9_worthOf 96 = .ok (.getfield 392, 3) := dk_180 1 136 (dk_at dksX9_worthOf_4 2 rfl rfl)
theorem dX9_worthOf_99 : decode cX9_worthOf 99 = .ok (.imul, 1) := dk_104 (dk_at dksX9_worthOf_4 5 rfl rfl)
theorem dX9_worthOf_100 : decode cX9_worthOf 100 = .ok (.aload_n 0, 1) := dk_42 (dk_at dksX9_worthOf_4 6 rfl rfl)
theorem dX9_worthOf_101 : decode cX9_worthOf 101 = .ok (.getfield 26, 3) := dk_180 0 26 (dk_at dksX9_worthOf_4 7 rfl rfl)
theorem dX9_worthOf_104 : decode cX9_worthOf 104 = .ok (.bipush 11, 2) := dk_16 11 (dk_at dksX9_worthOf_4 10 rfl rfl)
theorem dX9_worthOf_106 : decode cX9_worthOf 106 = .ok (.iaload, 1) := dk_46 (dk_at dksX9_worthOf_4 12 rfl rfl)
theorem dX9_worthOf_107 : decode cX9_worthOf 107 = .ok (.iadd, 1) := dk_96 (dk_at dksX9_worthOf_4 13 rfl rfl)
theorem dX9_worthOf_108 : decode cX9_worthOf 108 = .ok (.aload_n 0, 1) := dk_42 (dk_at dksX9_worthOf_4 14 rfl rfl)
theorem dX9_worthOf_109 : decode cX9_worthOf 109 = .ok (.getfield 392, 3) := dk_180 1 136 (dk_at dksX9_worthOf_4 15 rfl rfl)
theorem dX9_worthOf_112 : decode cX9_worthOf 112 = .ok (.aload_n 0, 1) := dk_42 (dk_at dksX9_worthOf_4 18 rfl rfl)
theorem dX9_worthOf_113 : decode cX9_worthOf 113 = .ok (.getfield 389, 3) := dk_180 1 133 (dk_at dksX9_worthOf_4 19 rfl rfl)
theorem dX9_worthOf_116 : decode cX9_worthOf 116 = .ok (.iadd, 1) := dk_96 (dk_at dksX9_worthOf_4 22 rfl rfl)
theorem dX9_worthOf_117 : decode cX9_worthOf 117 = .ok (.ifCond .ne 13, 3) := dk_154 0 13 (dk_at dksX9_worthOf_5 0 rfl rfl)
theorem dX9_worthOf_120 : decode cX9_worthOf 120 = .ok (.aload_n 0, 1) := dk_42 (dk_at dksX9_worthOf_5 3 rfl rfl)
theorem dX9_worthOf_121 : decode cX9_worthOf 121 = .ok (.getfield 26, 3) := dk_180 0 26 (dk_at dksX9_worthOf_5 4 rfl rfl)
theorem dX9_worthOf_124 : decode cX9_worthOf 124 = .ok (.bipush 10, 2) := dk_16 10 (dk_at dksX9_worthOf_5 7 rfl rfl)
theorem dX9_worthOf_126 : decode cX9_worthOf 126 = .ok (.iaload, 1) := dk_46 (dk_at dksX9_worthOf_5 9 rfl rfl)
theorem dX9_worthOf_127 : decode cX9_worthOf 127 = .ok (.goto 4, 3) := dk_167 0 4 (dk_at dksX9_worthOf_5 10 rfl rfl)
theorem dX9_worthOf_130 : decode cX9_worthOf 130 = .ok (.iconst 0, 1) := dk_3 (dk_at dksX9_worthOf_5 13 rfl rfl)
theorem dX9_worthOf_131 : decode cX9_worthOf 131 = .ok (.iadd, 1) := dk_96 (dk_at dksX9_worthOf_5 14 rfl rfl)
theorem dX9_worthOf_132 : decode cX9_worthOf 132 = .ok (.i2l, 1) := dk_133 (dk_at dksX9_worthOf_5 15 rfl rfl)
theorem dX9_worthOf_133 : decode cX9_worthOf 133 = .ok (.lload 14, 2) := dk_22 14 (dk_at dksX9_worthOf_5 16 rfl rfl)
theorem dX9_worthOf_135 : decode cX9_worthOf 135 = .ok (.lmul, 1) := dk_105 (dk_at dksX9_worthOf_5 18 rfl rfl)
theorem dX9_worthOf_136 : decode cX9_worthOf 136 = .ok (.ladd, 1) := dk_97 (dk_at dksX9_worthOf_5 19 rfl rfl)
theorem dX9_worthOf_137 : decode cX9_worthOf 137 = .ok (.lstore_n 2, 1) := dk_65 (dk_at dksX9_worthOf_5 20 rfl rfl)
theorem dX9_worthOf_138 : decode cX9_worthOf 138 = .ok (.iload_n 1, 1) := dk_27 (dk_at dksX9_worthOf_5 21 rfl rfl)
theorem dX9_worthOf_139 : decode cX9_worthOf 139 = .ok (.iconst 2, 1) := dk_5 (dk_at dksX9_worthOf_5 22 rfl rfl)
theorem dX9_worthOf_140 : decode cX9_worthOf 140 = .ok (.if_icmp .eq 6, 3) := dk_159 0 6 (dk_at dksX9_worthOf_6 0 rfl rfl)
theorem dX9_worthOf_143 : decode cX9_worthOf 143 = .ok (.goto 105, 3) := dk_167 0 105 (dk_at dksX9_worthOf_6 3 rfl rfl)
theorem dX9_worthOf_146 : decode cX9_worthOf 146 = .ok (.aload_n 0, 1) := dk_42 (dk_at dksX9_worthOf_6 6 rfl rfl)
theorem dX9_worthOf_147 : decode cX9_worthOf 147 = .ok (.getfield 389, 3) := dk_180 1 133 (dk_at dksX9_worthOf_6 7 rfl rfl)
theorem dX9_worthOf_150 : decode cX9_worthOf 150 = .ok (.ifCond .le 21, 3) := dk_158 0 21 (dk_at dksX9_worthOf_6 10 rfl rfl)
theorem dX9_worthOf_153 : decode cX9_worthOf 153 = .ok (.lload 14, 2) := dk_22 14 (dk_at dksX9_worthOf_6 13 rfl rfl)
theorem dX9_worthOf_155 : decode cX9_worthOf 155 = .ok (.aload_n 0, 1) := dk_42 (dk_at dksX9_worthOf_6 15 rfl rfl)
theorem dX9_worthOf_156 : decode cX9_worthOf 156 = .ok (.getfield 26, 3) := dk_180 0 26 (dk_at dksX9_worthOf_6 16 rfl rfl)
theorem dX9_worthOf_159 : decode cX9_worthOf 159 = .ok (.bipush 6, 2) := dk_16 6 (dk_at dksX9_worthOf_6 19 rfl rfl)
theorem dX9_worthOf_161 : decode cX9_worthOf 161 = .ok (.iaload, 1) := dk_46 (dk_at dksX9_worthOf_6 21 rfl rfl)
theorem dX9_worthOf_162 : decode cX9_worthOf 162 = .ok (.i2l, 1) := dk_133 (dk_at dksX9_worthOf_6 22 rfl rfl)
theorem dX9_worthOf_163 : decode cX9_worthOf 163 = .ok (.lmul, 1) := dk_105 (dk_at dksX9_worthOf_6 23 rfl rfl)
theorem dX9_worthOf_164 : decode cX9_worthOf 164 = .ok (.ldc2_w 398, 3) := dk_20 1 142 (dk_at dksX9_worthOf_7 0 rfl rfl)
theorem dX9_worthOf_167 : decode cX9_worthOf 167 = .ok (.ldiv, 1) := dk_109 (dk_at dksX9_worthOf_7 3 rfl rfl)
theorem dX9_worthOf_168 : decode cX9_worthOf 168 = .ok (.goto 4, 3) := dk_167 0 4 (dk_at dksX9_worthOf_7 4 rfl rfl)
theorem dX9_worthOf_171 : decode cX9_worthOf 171 = .ok (.lconst 0, 1) := dk_9 (dk_at dksX9_worthOf_7 7 rfl rfl)
theorem dX9_worthOf_172 : decode cX9_worthOf 172 = .ok (.lstore 16, 2) := dk_55 16 (dk_at dksX9_worthOf_7 8 rfl rfl)
theorem dX9_worthOf_174 : decode cX9_worthOf 174 = .ok (.lload_n 2, 1) := dk_32 (dk_at dksX9_worthOf_7 10 rfl rfl)
theorem dX9_worthOf_175 : decode cX9_worthOf 175 = .ok (.aload_n 0, 1) := dk_42 (dk_at dksX9_worthOf_7 11 rfl rfl)
theorem dX9_worthOf_176 : decode cX9_worthOf 176 = .ok (.getfield 26, 3) := dk_180 0 26 (dk_at dksX9_worthOf_7 12 rfl rfl)
theorem dX9_worthOf_179 : decode cX9_worthOf 179 = .ok (.bipush 9, 2) := dk_16 9 (dk_at dksX9_worthOf_7 15 rfl rfl)
theorem dX9_worthOf_181 : decode cX9_worthOf 181 = .ok (.iaload, 1) := dk_46 (dk_at dksX9_worthOf_7 17 rfl rfl)
theorem dX9_worthOf_182 : decode cX9_worthOf 182 = .ok (.i2l, 1) := dk_133 (dk_at dksX9_worthOf_7 18 rfl rfl)
theorem dX9_worthOf_183 : decode cX9_worthOf 183 = .ok (.lload 14, 2) := dk_22 14 (dk_at dksX9_worthOf_7 19 rfl rfl)
theorem dX9_worthOf_185 : decode cX9_worthOf 185 = .ok (.lmul, 1) := dk_105 (dk_at dksX9_worthOf_7 21 rfl rfl)
theorem dX9_worthOf_186 : decode cX9_worthOf 186 = .ok (.ladd, 1) := dk_97 (dk_at dksX9_worthOf_7 22 rfl rfl)
theorem dX9_worthOf_187 : decode cX9_worthOf 187 = .ok (.lstore_n 2, 1) := dk_65 (dk_at dksX9_worthOf_7 23 rfl rfl)
theorem dX9_worthOf_188 : decode cX9_worthOf 188 = .ok (.lload 4, 2) := dk_22 4 (dk_at dksX9_worthOf_8 0 rfl rfl)
theorem dX9_worthOf_190 : decode cX9_worthOf 190 = .ok (.aload_n 0, 1) := dk_42 (dk_at dksX9_worthOf_8 2 rfl rfl)
theorem dX9_worthOf_191 : decode cX9_worthOf 191 = .ok (.getfield 26, 3) := dk_180 0 26 (dk_at dksX9_worthOf_8 3 rfl rfl)
theorem dX9_worthOf_194 : decode cX9_worthOf 194 = .ok (.bipush 10, 2) := dk_16 10 (dk_at dksX9_worthOf_8 6 rfl rfl)
theorem dX9_worthOf_196 : decode cX9_worthOf 196 = .ok (.iaload, 1) := dk_46 (dk_at dksX9_worthOf_8 8 rfl rfl)
theorem dX9_worthOf_197 : decode cX9_worthOf 197 = .ok (.i2l, 1) := dk_133 (dk_at dksX9_worthOf_8 9 rfl rfl)
theorem dX9_worthOf_198 : decode cX9_worthOf 198 = .ok (.lload 16, 2) := dk_22 16 (dk_at dksX9_worthOf_8 10 rfl rfl)
theorem dX9_worthOf_200 : decode cX9_worthOf 200 = .ok (.lmul, 1) := dk_105 (dk_at dksX9_worthOf_8 12 rfl rfl)
theorem dX9_worthOf_201 : decode cX9_worthOf 201 = .ok (.ladd, 1) := dk_97 (dk_at dksX9_worthOf_8 13 rfl rfl)
theorem dX9_worthOf_202 : decode cX9_worthOf 202 = .ok (.lstore 4, 2) := dk_55 4 (dk_at dksX9_worthOf_8 14 rfl rfl)
theorem dX9_worthOf_204 : decode cX9_worthOf 204 = .ok (.lload 6, 2) := dk_22 6 (dk_at dksX9_worthOf_8 16 rfl rfl)
theorem dX9_worthOf_206 : decode cX9_worthOf 206 = .ok (.aload_n 0, 1) := dk_42 (dk_at dksX9_worthOf_8 18 rfl rfl)
theorem dX9_worthOf_207 : decode cX9_worthOf 207 = .ok (.lload 16, 2) := dk_22 16 (dk_at dksX9_worthOf_8 19 rfl rfl)
theorem dX9_worthOf_209 : decode cX9_worthOf 209 = .ok (.invokevirtual 498, 3) := dk_182 1 242 (dk_at dksX9_worthOf_8 21 rfl rfl)
theorem dX9_worthOf_212 : decode cX9_worthOf 212 = .ok (.ladd, 1) := dk_97 (dk_at dksX9_worthOf_9 0 rfl rfl)
theorem dX9_worthOf_213 : decode cX9_worthOf 213 = .ok (.lstore 6, 2) := dk_55 6 (dk_at dksX9_worthOf_9 1 rfl rfl)
theorem dX9_worthOf_215 : decode cX9_worthOf 215 = .ok (.lload 8, 2) := dk_22 8 (dk_at dksX9_worthOf_9 3 rfl rfl)
theorem dX9_worthOf_217 : decode cX9_worthOf 217 = .ok (.aload_n 0, 1) := dk_42 (dk_at dksX9_worthOf_9 5 rfl rfl)
theorem dX9_worthOf_218 : decode cX9_worthOf 218 = .ok (.getfield 26, 3) := dk_180 0 26 (dk_at dksX9_worthOf_9 6 rfl rfl)
theorem dX9_worthOf_221 : decode cX9_worthOf 221 = .ok (.bipush 10, 2) := dk_16 10 (dk_at dksX9_worthOf_9 9 rfl rfl)
theorem dX9_worthOf_223 : decode cX9_worthOf 223 = .ok (.iaload, 1) := dk_46 (dk_at dksX9_worthOf_9 11 rfl rfl)
theorem dX9_worthOf_224 : decode cX9_worthOf 224 = .ok (.i2l, 1) := dk_133 (dk_at dksX9_worthOf_9 12 rfl rfl)
theorem dX9_worthOf_225 : decode cX9_worthOf 225 = .ok (.lload 14, 2) := dk_22 14 (dk_at dksX9_worthOf_9 13 rfl rfl)
theorem dX9_worthOf_227 : decode cX9_worthOf 227 = .ok (.lload 16, 2) := dk_22 16 (dk_at dksX9_worthOf_9 15 rfl rfl)
theorem dX9_worthOf_229 : decode cX9_worthOf 229 = .ok (.lsub, 1) := dk_101 (dk_at dksX9_worthOf_9 17 rfl rfl)
theorem dX9_worthOf_230 : decode cX9_worthOf 230 = .ok (.lmul, 1) := dk_105 (dk_at dksX9_worthOf_9 18 rfl rfl)
theorem dX9_worthOf_231 : decode cX9_worthOf 231 = .ok (.ladd, 1) := dk_97 (dk_at dksX9_worthOf_9 19 rfl rfl)
theorem dX9_worthOf_232 : decode cX9_worthOf 232 = .ok (.lstore 8, 2) := dk_55 8 (dk_at dksX9_worthOf_9 20 rfl rfl)
theorem dX9_worthOf_234 : decode cX9_worthOf 234 = .ok (.lload 10, 2) := dk_22 10 (dk_at dksX9_worthOf_9 22 rfl rfl)
theorem dX9_worthOf_236 : decode cX9_worthOf 236 = .ok (.aload_n 0, 1) := dk_42 (dk_at dksX9_worthOf_10 0 rfl rfl)
theorem dX9_worthOf_237 : decode cX9_worthOf 237 = .ok (.lload 14, 2) := dk_22 14 (dk_at dksX9_worthOf_10 1 rfl rfl)
theorem dX9_worthOf_239 : decode cX9_worthOf 239 = .ok (.lload 16, 2) := dk_22 16 (dk_at dksX9_worthOf_10 3 rfl rfl)
theorem dX9_worthOf_241 : decode cX9_worthOf 241 = .ok (.lsub, 1) := dk_101 (dk_at dksX9_worthOf_10 5 rfl rfl)
theorem dX9_worthOf_242 : decode cX9_worthOf 242 = .ok (.invokevirtual 498, 3) := dk_182 1 242 (dk_at dksX9_worthOf_10 6 rfl rfl)
theorem dX9_worthOf_245 : decode cX9_worthOf 245 = .ok (.ladd, 1) := dk_97 (dk_at dksX9_worthOf_10 9 rfl rfl)
theorem dX9_worthOf_246 : decode cX9_worthOf 246 = .ok (.lstore 10, 2) := dk_55 10 (dk_at dksX9_worthOf_10 10 rfl rfl)
theorem dX9_worthOf_248 : decode cX9_worthOf 248 = .ok (.iinc 12 1, 3) := dk_132 12 1 (dk_at dksX9_worthOf_10 12 rfl rfl)
theorem dX9_worthOf_251 : decode cX9_worthOf 251 = .ok (.goto (-234), 3) := dk_167 255 22 (dk_at dksX9_worthOf_10 15 rfl rfl)
theorem dX9_worthOf_254 : decode cX9_worthOf 254 = .ok (.lload_n 2, 1) := dk_32 (dk_at dksX9_worthOf_10 18 rfl rfl)
theorem dX9_worthOf_255 : decode cX9_worthOf 255 = .ok (.lload 4, 2) := dk_22 4 (dk_at dksX9_worthOf_10 19 rfl rfl)
theorem dX9_worthOf_257 : decode cX9_worthOf 257 = .ok (.lload 6, 2) := dk_22 6 (dk_at dksX9_worthOf_10 21 rfl rfl)
theorem dX9_worthOf_259 : decode cX9_worthOf 259 = .ok (.lcmp, 1) := dk_148 (dk_at dksX9_worthOf_10 23 rfl rfl)
theorem dX9_worthOf_260 : decode cX9_worthOf 260 = .ok (.ifCond .ge 8, 3) := dk_156 0 8 (dk_at dksX9_worthOf_11 0 rfl rfl)
theorem dX9_worthOf_263 : decode cX9_worthOf 263 = .ok (.lload 4, 2) := dk_22 4 (dk_at dksX9_worthOf_11 3 rfl rfl)
theorem dX9_worthOf_265 : decode cX9_worthOf 265 = .ok (.goto 5, 3) := dk_167 0 5 (dk_at dksX9_worthOf_11 5 rfl rfl)
theorem dX9_worthOf_268 : decode cX9_worthOf 268 = .ok (.lload 6, 2) := dk_22 6 (dk_at dksX9_worthOf_11 8 rfl rfl)
theorem dX9_worthOf_270 : decode cX9_worthOf 270 = .ok (.ladd, 1) := dk_97 (dk_at dksX9_worthOf_11 10 rfl rfl)
theorem dX9_worthOf_271 : decode cX9_worthOf 271 = .ok (.lload 8, 2) := dk_22 8 (dk_at dksX9_worthOf_11 11 rfl rfl)
theorem dX9_worthOf_273 : decode cX9_worthOf 273 = .ok (.lload 10, 2) := dk_22 10 (dk_at dksX9_worthOf_11 13 rfl rfl)
theorem dX9_worthOf_275 : decode cX9_worthOf 275 = .ok (.lcmp, 1) := dk_148 (dk_at dksX9_worthOf_11 15 rfl rfl)
theorem dX9_worthOf_276 : decode cX9_worthOf 276 = .ok (.ifCond .ge 8, 3) := dk_156 0 8 (dk_at dksX9_worthOf_11 16 rfl rfl)
theorem dX9_worthOf_279 : decode cX9_worthOf 279 = .ok (.lload 8, 2) := dk_22 8 (dk_at dksX9_worthOf_11 19 rfl rfl)
theorem dX9_worthOf_281 : decode cX9_worthOf 281 = .ok (.goto 5, 3) := dk_167 0 5 (dk_at dksX9_worthOf_11 21 rfl rfl)
theorem dX9_worthOf_284 : decode cX9_worthOf 284 = .ok (.lload 10, 2) := dk_22 10 (dk_at dksX9_worthOf_12 0 rfl rfl)
theorem dX9_worthOf_286 : decode cX9_worthOf 286 = .ok (.ladd, 1) := dk_97 (dk_at dksX9_worthOf_12 2 rfl rfl)
theorem dX9_worthOf_287 : decode cX9_worthOf 287 = .ok (.lreturn, 1) := dk_173 (dk_at dksX9_worthOf_12 3 rfl rfl)
abbrev cX9_takeCost : ByteArray := prog_28_method_95_code
def yX9_takeCost : MethodName := ⟨RX9, "takeCost", "(J)J"⟩
def dkwX9_takeCost_2 : List UInt8 := [180, 1, 133, 96, 133, 109, 105, 173]
abbrev dktX9_takeCost_2 : List UInt8 := dkwX9_takeCost_2 ++ []
def dkwX9_takeCost_1 : List UInt8 := [167, 0, 30, 42, 180, 0, 26, 16, 7, 46, 133, 31, 42, 180, 1, 133, 133, 105, 42, 180, 1, 136, 42]
abbrev dktX9_takeCost_1 : List UInt8 := dkwX9_takeCost_1 ++ dktX9_takeCost_2
def dkwX9_takeCost_0 : List UInt8 := [42, 180, 1, 136, 42, 180, 1, 133, 96, 154, 0, 16, 42, 180, 0, 26, 16, 10, 46, 133, 31, 105]
abbrev dktX9_takeCost_0 : List UInt8 := dkwX9_takeCost_0 ++ dktX9_takeCost_1
theorem dksX9_takeCost_0 : cX9_takeCost.data.toList.drop 0 = dktX9_takeCost_0 := by decide +kernel
theorem dksX9_takeCost_1 : cX9_takeCost.data.toList.drop 22 = dktX9_takeCost_1 := dk_seg dksX9_takeCost_0 22 rfl rfl
theorem dksX9_takeCost_2 : cX9_takeCost.data.toList.drop 45 = dktX9_takeCost_2 := dk_seg dksX9_takeCost_1 23 rfl rfl
theorem dX9_takeCost_0 : decode cX9_takeCost 0 = .ok (.aload_n 0, 1) := dk_42 (dk_at dksX9_takeCost_0 0 rfl rfl)
theorem dX9_takeCost_1 : decode cX9_takeCost 1 = .ok (.getfield 392, 3) := dk_180 1 136 (dk_at dksX9_takeCost_0 1 rfl rfl)
theorem dX9_takeCost_4 : decode cX9_takeCost 4 = .ok (.aload_n 0, 1) := dk_42 (dk_at dksX9_takeCost_0 4 rfl rfl)
theorem dX9_takeCost_5 : decode cX9_takeCost 5 = .ok (.getfield 389, 3) := dk_180 1 133 (dk_at dksX9_takeCost_0 5 rfl rfl)
theorem dX9_takeCost_8 : decode cX9_takeCost 8 = .ok (.iadd, 1) := dk_96 (dk_at dksX9_takeCost_0 8 rfl rfl)
theorem dX9_takeCost_9 : decode cX9_takeCost 9 = .ok (.ifCond .ne 16, 3) := dk_154 0 16 (dk_at dksX9_takeCost_0 9 rfl rfl)
theorem dX9_takeCost_12 : decode cX9_takeCost 12 = .ok (.aload_n 0, 1) := dk_42 (dk_at dksX9_takeCost_0 12 rfl rfl)
theorem dX9_takeCost_13 : decode cX9_takeCost 13 = .ok (.getfield 26, 3) := dk_180 0 26 (dk_at dksX9_takeCost_0 13 rfl rfl)
theorem dX9_takeCost_16 : decode cX9_takeCost 16 = .ok (.bipush 10, 2) := dk_16 10 (dk_at dksX9_takeCost_0 16 rfl rfl)
theorem dX9_takeCost_18 : decode cX9_takeCost 18 = .ok (.iaload, 1) := dk_46 (dk_at dksX9_takeCost_0 18 rfl rfl)
theorem dX9_takeCost_19 : decode cX9_takeCost 19 = .ok (.i2l, 1) := dk_133 (dk_at dksX9_takeCost_0 19 rfl rfl)
theorem dX9_takeCost_20 : decode cX9_takeCost 20 = .ok (.lload_n 1, 1) := dk_31 (dk_at dksX9_takeCost_0 20 rfl rfl)
theorem dX9_takeCost_21 : decode cX9_takeCost 21 = .ok (.lmul, 1) := dk_105 (dk_at dksX9_takeCost_0 21 rfl rfl)
theorem dX9_takeCost_22 : decode cX9_takeCost 22 = .ok (.goto 30, 3) := dk_167 0 30 (dk_at dksX9_takeCost_1 0 rfl rfl)
theorem dX9_takeCost_25 : decode cX9_takeCost 25 = .ok (.aload_n 0, 1) := dk_42 (dk_at dksX9_takeCost_1 3 rfl rfl)
theorem dX9_takeCost_26 : decode cX9_takeCost 26 = .ok (.getfield 26, 3) := dk_180 0 26 (dk_at dksX9_takeCost_1 4 rfl rfl)
theorem dX9_takeCost_29 : decode cX9_takeCost 29 = .ok (.bipush 7, 2) := dk_16 7 (dk_at dksX9_takeCost_1 7 rfl rfl)
theorem dX9_takeCost_31 : decode cX9_takeCost 31 = .ok (.iaload, 1) := dk_46 (dk_at dksX9_takeCost_1 9 rfl rfl)
theorem dX9_takeCost_32 : decode cX9_takeCost 32 = .ok (.i2l, 1) := dk_133 (dk_at dksX9_takeCost_1 10 rfl rfl)
theorem dX9_takeCost_33 : decode cX9_takeCost 33 = .ok (.lload_n 1, 1) := dk_31 (dk_at dksX9_takeCost_1 11 rfl rfl)
theorem dX9_takeCost_34 : decode cX9_takeCost 34 = .ok (.aload_n 0, 1) := dk_42 (dk_at dksX9_takeCost_1 12 rfl rfl)
theorem dX9_takeCost_35 : decode cX9_takeCost 35 = .ok (.getfield 389, 3) := dk_180 1 133 (dk_at dksX9_takeCost_1 13 rfl rfl)
theorem dX9_takeCost_38 : decode cX9_takeCost 38 = .ok (.i2l, 1) := dk_133 (dk_at dksX9_takeCost_1 16 rfl rfl)
theorem dX9_takeCost_39 : decode cX9_takeCost 39 = .ok (.lmul, 1) := dk_105 (dk_at dksX9_takeCost_1 17 rfl rfl)
theorem dX9_takeCost_40 : decode cX9_takeCost 40 = .ok (.aload_n 0, 1) := dk_42 (dk_at dksX9_takeCost_1 18 rfl rfl)
theorem dX9_takeCost_41 : decode cX9_takeCost 41 = .ok (.getfield 392, 3) := dk_180 1 136 (dk_at dksX9_takeCost_1 19 rfl rfl)
theorem dX9_takeCost_44 : decode cX9_takeCost 44 = .ok (.aload_n 0, 1) := dk_42 (dk_at dksX9_takeCost_1 22 rfl rfl)
theorem dX9_takeCost_45 : decode cX9_takeCost 45 = .ok (.getfield 389, 3) := dk_180 1 133 (dk_at dksX9_takeCost_2 0 rfl rfl)
theorem dX9_takeCost_48 : decode cX9_takeCost 48 = .ok (.iadd, 1) := dk_96 (dk_at dksX9_takeCost_2 3 rfl rfl)
theorem dX9_takeCost_49 : decode cX9_takeCost 49 = .ok (.i2l, 1) := dk_133 (dk_at dksX9_takeCost_2 4 rfl rfl)
theorem dX9_takeCost_50 : decode cX9_takeCost 50 = .ok (.ldiv, 1) := dk_109 (dk_at dksX9_takeCost_2 5 rfl rfl)
theorem dX9_takeCost_51 : decode cX9_takeCost 51 = .ok (.lmul, 1) := dk_105 (dk_at dksX9_takeCost_2 6 rfl rfl)
theorem dX9_takeCost_52 : decode cX9_takeCost 52 = .ok (.lreturn, 1) := dk_173 (dk_at dksX9_takeCost_2 7 rfl rfl)
abbrev cX9_worth : ByteArray := prog_28_method_98_code
def yX9_worth : MethodName := ⟨RX9, "worth", "(III)J"⟩
def dkwX9_worth_2 : List UInt8 := [42, 27, 182, 1, 235, 42, 42, 28, 182, 1, 246, 29, 182, 1, 238, 173]
abbrev dktX9_worth_2 : List UInt8 := dkwX9_worth_2 ++ []
def dkwX9_worth_1 : List UInt8 := [29, 3, 4, 184, 1, 60, 153, 0, 7, 4, 167, 0, 4, 3, 5, 4, 182, 0, 213, 154, 0, 5, 9, 173]
abbrev dktX9_worth_1 : List UInt8 := dkwX9_worth_1 ++ dktX9_worth_2
def dkwX9_worth_0 : List UInt8 := [42, 3, 181, 0, 3, 42, 27, 4, 182, 1, 74, 153, 0, 35, 42, 28, 3, 6, 184, 1, 60, 153, 0, 16]
abbrev dktX9_worth_0 : List UInt8 := dkwX9_worth_0 ++ dktX9_worth_1
theorem dksX9_worth_0 : cX9_worth.data.toList.drop 0 = dktX9_worth_0 := by decide +kernel
theorem dksX9_worth_1 : cX9_worth.data.toList.drop 24 = dktX9_worth_1 := dk_seg dksX9_worth_0 24 rfl rfl
theorem dksX9_worth_2 : cX9_worth.data.toList.drop 48 = dktX9_worth_2 := dk_seg dksX9_worth_1 24 rfl rfl
theorem dX9_worth_0 : decode cX9_worth 0 = .ok (.aload_n 0, 1) := dk_42 (dk_at dksX9_worth_0 0 rfl rfl)
theorem dX9_worth_1 : decode cX9_worth 1 = .ok (.iconst 0, 1) := dk_3 (dk_at dksX9_worth_0 1 rfl rfl)
theorem dX9_worth_2 : decode cX9_worth 2 = .ok (.putfield 3, 3) := dk_181 0 3 (dk_at dksX9_worth_0 2 rfl rfl)
theorem dX9_worth_5 : decode cX9_worth 5 = .ok (.aload_n 0, 1) := dk_42 (dk_at dksX9_worth_0 5 rfl rfl)
theorem dX9_worth_6 : decode cX9_worth 6 = .ok (.iload_n 1, 1) := dk_27 (dk_at dksX9_worth_0 6 rfl rfl)
theorem dX9_worth_7 : decode cX9_worth 7 = .ok (.iconst 1, 1) := dk_4 (dk_at dksX9_worth_0 7 rfl rfl)
theorem dX9_worth_8 : decode cX9_worth 8 = .ok (.invokevirtual 330, 3) := dk_182 1 74 (dk_at dksX9_worth_0 8 rfl rfl)
theorem dX9_worth_11 : decode cX9_worth 11 = .ok (.ifCond .eq 35, 3) := dk_153 0 35 (dk_at dksX9_worth_0 11 rfl rfl)
theorem dX9_worth_14 : decode cX9_worth 14 = .ok (.aload_n 0, 1) := dk_42 (dk_at dksX9_worth_0 14 rfl rfl)
theorem dX9_worth_15 : decode cX9_worth 15 = .ok (.iload_n 2, 1) := dk_28 (dk_at dksX9_worth_0 15 rfl rfl)
theorem dX9_worth_16 : decode cX9_worth 16 = .ok (.iconst 0, 1) := dk_3 (dk_at dksX9_worth_0 16 rfl rfl)
theorem dX9_worth_17 : decode cX9_worth 17 = .ok (.iconst 3, 1) := dk_6 (dk_at dksX9_worth_0 17 rfl rfl)
theorem dX9_worth_18 : decode cX9_worth 18 = .ok (.invokestatic 316, 3) := dk_184 1 60 (dk_at dksX9_worth_0 18 rfl rfl)
theorem dX9_worth_21 : decode cX9_worth 21 = .ok (.ifCond .eq 16, 3) := dk_153 0 16 (dk_at dksX9_worth_0 21 rfl rfl)
theorem dX9_worth_24 : decode cX9_worth 24 = .ok (.iload_n 3, 1) := dk_29 (dk_at dksX9_worth_1 0 rfl rfl)
theorem dX9_worth_25 : decode cX9_worth 25 = .ok (.iconst 0, 1) := dk_3 (dk_at dksX9_worth_1 1 rfl rfl)
theorem dX9_worth_26 : decode cX9_worth 26 = .ok (.iconst 1, 1) := dk_4 (dk_at dksX9_worth_1 2 rfl rfl)
theorem dX9_worth_27 : decode cX9_worth 27 = .ok (.invokestatic 316, 3) := dk_184 1 60 (dk_at dksX9_worth_1 3 rfl rfl)
theorem dX9_worth_30 : decode cX9_worth 30 = .ok (.ifCond .eq 7, 3) := dk_153 0 7 (dk_at dksX9_worth_1 6 rfl rfl)
theorem dX9_worth_33 : decode cX9_worth 33 = .ok (.iconst 1, 1) := dk_4 (dk_at dksX9_worth_1 9 rfl rfl)
theorem dX9_worth_34 : decode cX9_worth 34 = .ok (.goto 4, 3) := dk_167 0 4 (dk_at dksX9_worth_1 10 rfl rfl)
theorem dX9_worth_37 : decode cX9_worth 37 = .ok (.iconst 0, 1) := dk_3 (dk_at dksX9_worth_1 13 rfl rfl)
theorem dX9_worth_38 : decode cX9_worth 38 = .ok (.iconst 2, 1) := dk_5 (dk_at dksX9_worth_1 14 rfl rfl)
theorem dX9_worth_39 : decode cX9_worth 39 = .ok (.iconst 1, 1) := dk_4 (dk_at dksX9_worth_1 15 rfl rfl)
theorem dX9_worth_40 : decode cX9_worth 40 = .ok (.invokevirtual 213, 3) := dk_182 0 213 (dk_at dksX9_worth_1 16 rfl rfl)
theorem dX9_worth_43 : decode cX9_worth 43 = .ok (.ifCond .ne 5, 3) := dk_154 0 5 (dk_at dksX9_worth_1 19 rfl rfl)
theorem dX9_worth_46 : decode cX9_worth 46 = .ok (.lconst 0, 1) := dk_9 (dk_at dksX9_worth_1 22 rfl rfl)
theorem dX9_worth_47 : decode cX9_worth 47 = .ok (.lreturn, 1) := dk_173 (dk_at dksX9_worth_1 23 rfl rfl)
theorem dX9_worth_48 : decode cX9_worth 48 = .ok (.aload_n 0, 1) := dk_42 (dk_at dksX9_worth_2 0 rfl rfl)
theorem dX9_worth_49 : decode cX9_worth 49 = .ok (.iload_n 1, 1) := dk_27 (dk_at dksX9_worth_2 1 rfl rfl)
theorem dX9_worth_50 : decode cX9_worth 50 = .ok (.invokevirtual 491, 3) := dk_182 1 235 (dk_at dksX9_worth_2 2 rfl rfl)
theorem dX9_worth_53 : decode cX9_worth 53 = .ok (.aload_n 0, 1) := dk_42 (dk_at dksX9_worth_2 5 rfl rfl)
theorem dX9_worth_54 : decode cX9_worth 54 = .ok (.aload_n 0, 1) := dk_42 (dk_at dksX9_worth_2 6 rfl rfl)
theorem dX9_worth_55 : decode cX9_worth 55 = .ok (.iload_n 2, 1) := dk_28 (dk_at dksX9_worth_2 7 rfl rfl)
theorem dX9_worth_56 : decode cX9_worth 56 = .ok (.invokevirtual 502, 3) := dk_182 1 246 (dk_at dksX9_worth_2 8 rfl rfl)
theorem dX9_worth_59 : decode cX9_worth 59 = .ok (.iload_n 3, 1) := dk_29 (dk_at dksX9_worth_2 11 rfl rfl)
theorem dX9_worth_60 : decode cX9_worth 60 = .ok (.invokevirtual 494, 3) := dk_182 1 238 (dk_at dksX9_worth_2 12 rfl rfl)
theorem dX9_worth_63 : decode cX9_worth 63 = .ok (.lreturn, 1) := dk_173 (dk_at dksX9_worth_2 15 rfl rfl)
abbrev cX9_gain : ByteArray := prog_28_method_99_code
def yX9_gain : MethodName := ⟨RX9, "gain", "(II)J"⟩
def dkwX9_gain_3 : List UInt8 := [22, 7, 9, 148, 158, 0, 8, 22, 7, 167, 0, 4, 9, 28, 182, 1, 238, 173]
abbrev dktX9_gain_3 : List UInt8 := dkwX9_gain_3 ++ []
def dkwX9_gain_2 : List UInt8 := [55, 5, 33, 22, 5, 148, 156, 0, 7, 33, 167, 0, 5, 22, 5, 42, 5, 182, 1, 246, 101, 55, 7, 42]
abbrev dktX9_gain_2 : List UInt8 := dkwX9_gain_2 ++ dktX9_gain_3
def dkwX9_gain_1 : List UInt8 := [182, 0, 213, 154, 0, 5, 9, 173, 42, 27, 182, 1, 235, 42, 3, 182, 1, 246, 66, 42, 4, 182, 1, 246]
abbrev dktX9_gain_1 : List UInt8 := dkwX9_gain_1 ++ dktX9_gain_2
def dkwX9_gain_0 : List UInt8 := [42, 3, 181, 0, 3, 42, 27, 4, 182, 1, 74, 153, 0, 18, 42, 28, 3, 4, 184, 1, 60, 5, 4]
abbrev dktX9_gain_0 : List UInt8 := dkwX9_gain_0 ++ dktX9_gain_1
theorem dksX9_gain_0 : cX9_gain.data.toList.drop 0 = dktX9_gain_0 := by decide +kernel
theorem dksX9_gain_1 : cX9_gain.data.toList.drop 23 = dktX9_gain_1 := dk_seg dksX9_gain_0 23 rfl rfl
theorem dksX9_gain_2 : cX9_gain.data.toList.drop 47 = dktX9_gain_2 := dk_seg dksX9_gain_1 24 rfl rfl
theorem dksX9_gain_3 : cX9_gain.data.toList.drop 71 = dktX9_gain_3 := dk_seg dksX9_gain_2 24 rfl rfl
theorem dX9_gain_0 : decode cX9_gain 0 = .ok (.aload_n 0, 1) := dk_42 (dk_at dksX9_gain_0 0 rfl rfl)
theorem dX9_gain_1 : decode cX9_gain 1 = .ok (.iconst 0, 1) := dk_3 (dk_at dksX9_gain_0 1 rfl rfl)
theorem dX9_gain_2 : decode cX9_gain 2 = .ok (.putfield 3, 3) := dk_181 0 3 (dk_at dksX9_gain_0 2 rfl rfl)
theorem dX9_gain_5 : decode cX9_gain 5 = .ok (.aload_n 0, 1) := dk_42 (dk_at dksX9_gain_0 5 rfl rfl)
theorem dX9_gain_6 : decode cX9_gain 6 = .ok (.iload_n 1, 1) := dk_27 (dk_at dksX9_gain_0 6 rfl rfl)
theorem dX9_gain_7 : decode cX9_gain 7 = .ok (.iconst 1, 1) := dk_4 (dk_at dksX9_gain_0 7 rfl rfl)
theorem dX9_gain_8 : decode cX9_gain 8 = .ok (.invokevirtual 330, 3) := dk_182 1 74 (dk_at dksX9_gain_0 8 rfl rfl)
theorem dX9_gain_11 : decode cX9_gain 11 = .ok (.ifCond .eq 18, 3) := dk_153 0 18 (dk_at dksX9_gain_0 11 rfl rfl)
theorem dX9_gain_14 : decode cX9_gain 14 = .ok (.aload_n 0, 1) := dk_42 (dk_at dksX9_gain_0 14 rfl rfl)
theorem dX9_gain_15 : decode cX9_gain 15 = .ok (.iload_n 2, 1) := dk_28 (dk_at dksX9_gain_0 15 rfl rfl)
theorem dX9_gain_16 : decode cX9_gain 16 = .ok (.iconst 0, 1) := dk_3 (dk_at dksX9_gain_0 16 rfl rfl)
theorem dX9_gain_17 : decode cX9_gain 17 = .ok (.iconst 1, 1) := dk_4 (dk_at dksX9_gain_0 17 rfl rfl)
theorem dX9_gain_18 : decode cX9_gain 18 = .ok (.invokestatic 316, 3) := dk_184 1 60 (dk_at dksX9_gain_0 18 rfl rfl)
theorem dX9_gain_21 : decode cX9_gain 21 = .ok (.iconst 2, 1) := dk_5 (dk_at dksX9_gain_0 21 rfl rfl)
theorem dX9_gain_22 : decode cX9_gain 22 = .ok (.iconst 1, 1) := dk_4 (dk_at dksX9_gain_0 22 rfl rfl)
theorem dX9_gain_23 : decode cX9_gain 23 = .ok (.invokevirtual 213, 3) := dk_182 0 213 (dk_at dksX9_gain_1 0 rfl rfl)
theorem dX9_gain_26 : decode cX9_gain 26 = .ok (.ifCond .ne 5, 3) := dk_154 0 5 (dk_at dksX9_gain_1 3 rfl rfl)
theorem dX9_gain_29 : decode cX9_gain 29 = .ok (.lconst 0, 1) := dk_9 (dk_at dksX9_gain_1 6 rfl rfl)
theorem dX9_gain_30 : decode cX9_gain 30 = .ok (.lreturn, 1) := dk_173 (dk_at dksX9_gain_1 7 rfl rfl)
theorem dX9_gain_31 : decode cX9_gain 31 = .ok (.aload_n 0, 1) := dk_42 (dk_at dksX9_gain_1 8 rfl rfl)
theorem dX9_gain_32 : decode cX9_gain 32 = .ok (.iload_n 1, 1) := dk_27 (dk_at dksX9_gain_1 9 rfl rfl)
theorem dX9_gain_33 : decode cX9_gain 33 = .ok (.invokevirtual 491, 3) := dk_182 1 235 (dk_at dksX9_gain_1 10 rfl rfl)
theorem dX9_gain_36 : decode cX9_gain 36 = .ok (.aload_n 0, 1) := dk_42 (dk_at dksX9_gain_1 13 rfl rfl)
theorem dX9_gain_37 : decode cX9_gain 37 = .ok (.iconst 0, 1) := dk_3 (dk_at dksX9_gain_1 14 rfl rfl)
theorem dX9_gain_38 : decode cX9_gain 38 = .ok (.invokevirtual 502, 3) := dk_182 1 246 (dk_at dksX9_gain_1 15 rfl rfl)
theorem dX9_gain_41 : decode cX9_gain 41 = .ok (.lstore_n 3, 1) := dk_66 (dk_at dksX9_gain_1 18 rfl rfl)
theorem dX9_gain_42 : decode cX9_gain 42 = .ok (.aload_n 0, 1) := dk_42 (dk_at dksX9_gain_1 19 rfl rfl)
theorem dX9_gain_43 : decode cX9_gain 43 = .ok (.iconst 1, 1) := dk_4 (dk_at dksX9_gain_1 20 rfl rfl)
theorem dX9_gain_44 : decode cX9_gain 44 = .ok (.invokevirtual 502, 3) := dk_182 1 246 (dk_at dksX9_gain_1 21 rfl rfl)
theorem dX9_gain_47 : decode cX9_gain 47 = .ok (.lstore 5, 2) := dk_55 5 (dk_at dksX9_gain_2 0 rfl rfl)
theorem dX9_gain_49 : decode cX9_gain 49 = .ok (.lload_n 3, 1) := dk_33 (dk_at dksX9_gain_2 2 rfl rfl)
theorem dX9_gain_50 : decode cX9_gain 50 = .ok (.lload 5, 2) := dk_22 5 (dk_at dksX9_gain_2 3 rfl rfl)
theorem dX9_gain_52 : decode cX9_gain 52 = .ok (.lcmp, 1) := dk_148 (dk_at dksX9_gain_2 5 rfl rfl)
theorem dX9_gain_53 : decode cX9_gain 53 = .ok (.ifCond .ge 7, 3) := dk_156 0 7 (dk_at dksX9_gain_2 6 rfl rfl)
theorem dX9_gain_56 : decode cX9_gain 56 = .ok (.lload_n 3, 1) := dk_33 (dk_at dksX9_gain_2 9 rfl rfl)
theorem dX9_gain_57 : decode cX9_gain 57 = .ok (.goto 5, 3) := dk_167 0 5 (dk_at dksX9_gain_2 10 rfl rfl)
theorem dX9_gain_60 : decode cX9_gain 60 = .ok (.lload 5, 2) := dk_22 5 (dk_at dksX9_gain_2 13 rfl rfl)
theorem dX9_gain_62 : decode cX9_gain 62 = .ok (.aload_n 0, 1) := dk_42 (dk_at dksX9_gain_2 15 rfl rfl)
theorem dX9_gain_63 : decode cX9_gain 63 = .ok (.iconst 2, 1) := dk_5 (dk_at dksX9_gain_2 16 rfl rfl)
theorem dX9_gain_64 : decode cX9_gain 64 = .ok (.invokevirtual 502, 3) := dk_182 1 246 (dk_at dksX9_gain_2 17 rfl rfl)
theorem dX9_gain_67 : decode cX9_gain 67 = .ok (.lsub, 1) := dk_101 (dk_at dksX9_gain_2 20 rfl rfl)
theorem dX9_gain_68 : decode cX9_gain 68 = .ok (.lstore 7, 2) := dk_55 7 (dk_at dksX9_gain_2 21 rfl rfl)
theorem dX9_gain_70 : decode cX9_gain 70 = .ok (.aload_n 0, 1) := dk_42 (dk_at dksX9_gain_2 23 rfl rfl)
theorem dX9_gain_71 : decode cX9_gain 71 = .ok (.lload 7, 2) := dk_22 7 (dk_at dksX9_gain_3 0 rfl rfl)
theorem dX9_gain_73 : decode cX9_gain 73 = .ok (.lconst 0, 1) := dk_9 (dk_at dksX9_gain_3 2 rfl rfl)
theorem dX9_gain_74 : decode cX9_gain 74 = .ok (.lcmp, 1) := dk_148 (dk_at dksX9_gain_3 3 rfl rfl)
theorem dX9_gain_75 : decode cX9_gain 75 = .ok (.ifCond .le 8, 3) := dk_158 0 8 (dk_at dksX9_gain_3 4 rfl rfl)
theorem dX9_gain_78 : decode cX9_gain 78 = .ok (.lload 7, 2) := dk_22 7 (dk_at dksX9_gain_3 7 rfl rfl)
theorem dX9_gain_80 : decode cX9_gain 80 = .ok (.goto 4, 3) := dk_167 0 4 (dk_at dksX9_gain_3 9 rfl rfl)
theorem dX9_gain_83 : decode cX9_gain 83 = .ok (.lconst 0, 1) := dk_9 (dk_at dksX9_gain_3 12 rfl rfl)
theorem dX9_gain_84 : decode cX9_gain 84 = .ok (.iload_n 2, 1) := dk_28 (dk_at dksX9_gain_3 13 rfl rfl)
theorem dX9_gain_85 : decode cX9_gain 85 = .ok (.invokevirtual 494, 3) := dk_182 1 238 (dk_at dksX9_gain_3 14 rfl rfl)
theorem dX9_gain_88 : decode cX9_gain 88 = .ok (.lreturn, 1) := dk_173 (dk_at dksX9_gain_3 17 rfl rfl)
abbrev cX9_without : ByteArray := prog_28_method_101_code
def yX9_without : MethodName := ⟨RX9, "without", "(II)J"⟩
def dkwX9_without_2 : List UInt8 := [182, 1, 250, 167, 0, 11, 42, 182, 1, 228, 20, 1, 115, 109, 173]
abbrev dktX9_without_2 : List UInt8 := dkwX9_without_2 ++ []
def dkwX9_without_1 : List UInt8 := [182, 0, 213, 154, 0, 5, 9, 173, 42, 182, 1, 209, 42, 27, 181, 1, 92, 28, 154, 0, 10, 42]
abbrev dktX9_without_1 : List UInt8 := dkwX9_without_1 ++ dktX9_without_2
def dkwX9_without_0 : List UInt8 := [42, 3, 181, 0, 3, 42, 27, 4, 182, 1, 64, 153, 0, 18, 42, 28, 3, 4, 184, 1, 60, 5, 4]
abbrev dktX9_without_0 : List UInt8 := dkwX9_without_0 ++ dktX9_without_1
theorem dksX9_without_0 : cX9_without.data.toList.drop 0 = dktX9_without_0 := by decide +kernel
theorem dksX9_without_1 : cX9_without.data.toList.drop 23 = dktX9_without_1 := dk_seg dksX9_without_0 23 rfl rfl
theorem dksX9_without_2 : cX9_without.data.toList.drop 45 = dktX9_without_2 := dk_seg dksX9_without_1 22 rfl rfl
theorem dX9_without_0 : decode cX9_without 0 = .ok (.aload_n 0, 1) := dk_42 (dk_at dksX9_without_0 0 rfl rfl)
theorem dX9_without_1 : decode cX9_without 1 = .ok (.iconst 0, 1) := dk_3 (dk_at dksX9_without_0 1 rfl rfl)
theorem dX9_without_2 : decode cX9_without 2 = .ok (.putfield 3, 3) := dk_181 0 3 (dk_at dksX9_without_0 2 rfl rfl)
theorem dX9_without_5 : decode cX9_without 5 = .ok (.aload_n 0, 1) := dk_42 (dk_at dksX9_without_0 5 rfl rfl)
theorem dX9_without_6 : decode cX9_without 6 = .ok (.iload_n 1, 1) := dk_27 (dk_at dksX9_without_0 6 rfl rfl)
theorem dX9_without_7 : decode cX9_without 7 = .ok (.iconst 1, 1) := dk_4 (dk_at dksX9_without_0 7 rfl rfl)
theorem dX9_without_8 : decode cX9_without 8 = .ok (.invokevirtual 320, 3) := dk_182 1 64 (dk_at dksX9_without_0 8 rfl rfl)
theorem dX9_without_11 : decode cX9_without 11 = .ok (.ifCond .eq 18, 3) := dk_153 0 18 (dk_at dksX9_without_0 11 rfl rfl)
theorem dX9_without_14 : decode cX9_without 14 = .ok (.aload_n 0, 1) := dk_42 (dk_at dksX9_without_0 14 rfl rfl)
theorem dX9_without_15 : decode cX9_without 15 = .ok (.iload_n 2, 1) := dk_28 (dk_at dksX9_without_0 15 rfl rfl)
theorem dX9_without_16 : decode cX9_without 16 = .ok (.iconst 0, 1) := dk_3 (dk_at dksX9_without_0 16 rfl rfl)
theorem dX9_without_17 : decode cX9_without 17 = .ok (.iconst 1, 1) := dk_4 (dk_at dksX9_without_0 17 rfl rfl)
theorem dX9_without_18 : decode cX9_without 18 = .ok (.invokestatic 316, 3) := dk_184 1 60 (dk_at dksX9_without_0 18 rfl rfl)
theorem dX9_without_21 : decode cX9_without 21 = .ok (.iconst 2, 1) := dk_5 (dk_at dksX9_without_0 21 rfl rfl)
theorem dX9_without_22 : decode cX9_without 22 = .ok (.iconst 1, 1) := dk_4 (dk_at dksX9_without_0 22 rfl rfl)
theorem dX9_without_23 : decode cX9_without 23 = .ok (.invokevirtual 213, 3) := dk_182 0 213 (dk_at dksX9_without_1 0 rfl rfl)
theorem dX9_without_26 : decode cX9_without 26 = .ok (.ifCond .ne 5, 3) := dk_154 0 5 (dk_at dksX9_without_1 3 rfl rfl)
theorem dX9_without_29 : decode cX9_without 29 = .ok (.lconst 0, 1) := dk_9 (dk_at dksX9_without_1 6 rfl rfl)
theorem dX9_without_30 : decode cX9_without 30 = .ok (.lreturn, 1) := dk_173 (dk_at dksX9_without_1 7 rfl rfl)
theorem dX9_without_31 : decode cX9_without 31 = .ok (.aload_n 0, 1) := dk_42 (dk_at dksX9_without_1 8 rfl rfl)
theorem dX9_without_32 : decode cX9_without 32 = .ok (.invokevirtual 465, 3) := dk_182 1 209 (dk_at dksX9_without_1 9 rfl rfl)
theorem dX9_without_35 : decode cX9_without 35 = .ok (.aload_n 0, 1) := dk_42 (dk_at dksX9_without_1 12 rfl rfl)
theorem dX9_without_36 : decode cX9_without 36 = .ok (.iload_n 1, 1) := dk_27 (dk_at dksX9_without_1 13 rfl rfl)
theorem dX9_without_37 : decode cX9_without 37 = .ok (.putfield 348, 3) := dk_181 1 92 (dk_at dksX9_without_1 14 rfl rfl)
theorem dX9_without_40 : decode cX9_without 40 = .ok (.iload_n 2, 1) := dk_28 (dk_at dksX9_without_1 17 rfl rfl)
theorem dX9_without_41 : decode cX9_without 41 = .ok (.ifCond .ne 10, 3) := dk_154 0 10 (dk_at dksX9_without_1 18 rfl rfl)
theorem dX9_without_44 : decode cX9_without 44 = .ok (.aload_n 0, 1) := dk_42 (dk_at dksX9_without_1 21 rfl rfl)
theorem dX9_without_45 : decode cX9_without 45 = .ok (.invokevirtual 506, 3) := dk_182 1 250 (dk_at dksX9_without_2 0 rfl rfl)
theorem dX9_without_48 : decode cX9_without 48 = .ok (.goto 11, 3) := dk_167 0 11 (dk_at dksX9_without_2 3 rfl rfl)
theorem dX9_without_51 : decode cX9_without 51 = .ok (.aload_n 0, 1) := dk_42 (dk_at dksX9_without_2 6 rfl rfl)
theorem dX9_without_52 : decode cX9_without 52 = .ok (.invokevirtual 484, 3) := dk_182 1 228 (dk_at dksX9_without_2 7 rfl rfl)
theorem dX9_without_55 : decode cX9_without 55 = .ok (.ldc2_w 371, 3) := dk_20 1 115 (dk_at dksX9_without_2 10 rfl rfl)
theorem dX9_without_58 : decode cX9_without 58 = .ok (.ldiv, 1) := dk_109 (dk_at dksX9_without_2 13 rfl rfl)
theorem dX9_without_59 : decode cX9_without 59 = .ok (.lreturn, 1) := dk_173 (dk_at dksX9_without_2 14 rfl rfl)
abbrev cX9_trueNow : ByteArray := prog_28_method_100_code
def yX9_trueNow : MethodName := ⟨RX9, "trueNow", "()J"⟩
def dkwX9_trueNow_0 : List UInt8 := [42, 182, 1, 223, 42, 4, 3, 182, 1, 199, 173]
abbrev dktX9_trueNow_0 : List UInt8 := dkwX9_trueNow_0 ++ []
theorem dksX9_trueNow_0 : cX9_trueNow.data.toList.drop 0 = dktX9_trueNow_0 := by decide +kernel
theorem dX9_trueNow_0 : decode cX9_trueNow 0 = .ok (.aload_n 0, 1) := dk_42 (dk_at dksX9_trueNow_0 0 rfl rfl)
theorem dX9_trueNow_1 : decode cX9_trueNow 1 = .ok (.invokevirtual 479, 3) := dk_182 1 223 (dk_at dksX9_trueNow_0 1 rfl rfl)
theorem dX9_trueNow_4 : decode cX9_trueNow 4 = .ok (.aload_n 0, 1) := dk_42 (dk_at dksX9_trueNow_0 4 rfl rfl)
theorem dX9_trueNow_5 : decode cX9_trueNow 5 = .ok (.iconst 1, 1) := dk_4 (dk_at dksX9_trueNow_0 5 rfl rfl)
theorem dX9_trueNow_6 : decode cX9_trueNow 6 = .ok (.iconst 0, 1) := dk_3 (dk_at dksX9_trueNow_0 6 rfl rfl)
theorem dX9_trueNow_7 : decode cX9_trueNow 7 = .ok (.invokevirtual 455, 3) := dk_182 1 199 (dk_at dksX9_trueNow_0 7 rfl rfl)
theorem dX9_trueNow_10 : decode cX9_trueNow 10 = .ok (.lreturn, 1) := dk_173 (dk_at dksX9_trueNow_0 10 rfl rfl)
abbrev cX9_keeper : ByteArray := prog_28_method_103_code
def yX9_keeper : MethodName := ⟨RX9, "keeper", "()I"⟩
def dkwX9_keeper_0 : List UInt8 := [42, 3, 181, 0, 3, 42, 4, 182, 1, 253, 172]
abbrev dktX9_keeper_0 : List UInt8 := dkwX9_keeper_0 ++ []
theorem dksX9_keeper_0 : cX9_keeper.data.toList.drop 0 = dktX9_keeper_0 := by decide +kernel
theorem dX9_keeper_0 : decode cX9_keeper 0 = .ok (.aload_n 0, 1) := dk_42 (dk_at dksX9_keeper_0 0 rfl rfl)
theorem dX9_keeper_1 : decode cX9_keeper 1 = .ok (.iconst 0, 1) := dk_3 (dk_at dksX9_keeper_0 1 rfl rfl)
theorem dX9_keeper_2 : decode cX9_keeper 2 = .ok (.putfield 3, 3) := dk_181 0 3 (dk_at dksX9_keeper_0 2 rfl rfl)
theorem dX9_keeper_5 : decode cX9_keeper 5 = .ok (.aload_n 0, 1) := dk_42 (dk_at dksX9_keeper_0 5 rfl rfl)
theorem dX9_keeper_6 : decode cX9_keeper 6 = .ok (.iconst 1, 1) := dk_4 (dk_at dksX9_keeper_0 6 rfl rfl)
theorem dX9_keeper_7 : decode cX9_keeper 7 = .ok (.invokevirtual 509, 3) := dk_182 1 253 (dk_at dksX9_keeper_0 7 rfl rfl)
theorem dX9_keeper_10 : decode cX9_keeper 10 = .ok (.ireturn, 1) := dk_172 (dk_at dksX9_keeper_0 10 rfl rfl)
abbrev cX9_leastWithout : ByteArray := prog_28_method_102_code
def yX9_leastWithout : MethodName := ⟨RX9, "leastWithout", "(Z)I"⟩
def dkwX9_leastWithout_3 : List UInt8 := [167, 255, 200, 28, 172]
abbrev dktX9_leastWithout_3 : List UInt8 := dkwX9_leastWithout_3 ++ []
def dkwX9_leastWithout_2 : List UInt8 := [159, 0, 13, 22, 6, 33, 148, 155, 0, 6, 167, 0, 9, 21, 5, 61, 22, 6, 66, 132, 5, 1]
abbrev dktX9_leastWithout_2 : List UInt8 := dkwX9_leastWithout_2 ++ dktX9_leastWithout_3
def dkwX9_leastWithout_1 : List UInt8 := [181, 1, 92, 27, 153, 0, 10, 42, 182, 1, 250, 167, 0, 7, 42, 182, 1, 228, 55, 6, 28, 2]
abbrev dktX9_leastWithout_1 : List UInt8 := dkwX9_leastWithout_1 ++ dktX9_leastWithout_2
def dkwX9_leastWithout_0 : List UInt8 := [42, 182, 1, 209, 2, 61, 9, 66, 3, 54, 5, 21, 5, 42, 180, 0, 161, 162, 0, 53, 42, 21, 5]
abbrev dktX9_leastWithout_0 : List UInt8 := dkwX9_leastWithout_0 ++ dktX9_leastWithout_1
theorem dksX9_leastWithout_0 : cX9_leastWithout.data.toList.drop 0 = dktX9_leastWithout_0 := by decide +kernel
theorem dksX9_leastWithout_1 : cX9_leastWithout.data.toList.drop 23 = dktX9_leastWithout_1 := dk_seg dksX9_leastWithout_0 23 rfl rfl
theorem dksX9_leastWithout_2 : cX9_leastWithout.data.toList.drop 45 = dktX9_leastWithout_2 := dk_seg dksX9_leastWithout_1 22 rfl rfl
theorem dksX9_leastWithout_3 : cX9_leastWithout.data.toList.drop 67 = dktX9_leastWithout_3 := dk_seg dksX9_leastWithout_2 22 rfl rfl
theorem dX9_leastWithout_0 : decode cX9_leastWithout 0 = .ok (.aload_n 0, 1) := dk_42 (dk_at dksX9_leastWithout_0 0 rfl rfl)
theorem dX9_leastWithout_1 : decode cX9_leastWithout 1 = .ok (.invokevirtual 465, 3) := dk_182 1 209 (dk_at dksX9_leastWithout_0 1 rfl rfl)
theorem dX9_leastWithout_4 : decode cX9_leastWithout 4 = .ok (.iconst (-1), 1) := dk_2 (dk_at dksX9_leastWithout_0 4 rfl rfl)
theorem dX9_leastWithout_5 : decode cX9_leastWithout 5 = .ok (.istore_n 2, 1) := dk_61 (dk_at dksX9_leastWithout_0 5 rfl rfl)
theorem dX9_leastWithout_6 : decode cX9_leastWithout 6 = .ok (.lconst 0, 1) := dk_9 (dk_at dksX9_leastWithout_0 6 rfl rfl)
theorem dX9_leastWithout_7 : decode cX9_leastWithout 7 = .ok (.lstore_n 3, 1) := dk_66 (dk_at dksX9_leastWithout_0 7 rfl rfl)
theorem dX9_leastWithout_8 : decode cX9_leastWithout 8 = .ok (.iconst 0, 1) := dk_3 (dk_at dksX9_leastWithout_0 8 rfl rfl)
theorem dX9_leastWithout_9 : decode cX9_leastWithout 9 = .ok (.istore 5, 2) := dk_54 5 (dk_at dksX9_leastWithout_0 9 rfl rfl)
theorem dX9_leastWithout_11 : decode cX9_leastWithout 11 = .ok (.iload 5, 2) := dk_21 5 (dk_at dksX9_leastWithout_0 11 rfl rfl)
theorem dX9_leastWithout_13 : decode cX9_leastWithout 13 = .ok (.aload_n 0, 1) := dk_42 (dk_at dksX9_leastWithout_0 13 rfl rfl)
theorem dX9_leastWithout_14 : decode cX9_leastWithout 14 = .ok (.getfield 161, 3) := dk_180 0 161 (dk_at dksX9_leastWithout_0 14 rfl rfl)
theorem dX9_leastWithout_17 : decode cX9_leastWithout 17 = .ok (.if_icmp .ge 53, 3) := dk_162 0 53 (dk_at dksX9_leastWithout_0 17 rfl rfl)
theorem dX9_leastWithout_20 : decode cX9_leastWithout 20 = .ok (.aload_n 0, 1) := dk_42 (dk_at dksX9_leastWithout_0 20 rfl rfl)
theorem dX9_leastWithout_21 : decode cX9_leastWithout 21 = .ok (.iload 5, 2) := dk_21 5 (dk_at dksX9_leastWithout_0 21 rfl rfl)
theorem dX9_leastWithout_23 : decode cX9_leastWithout 23 = .ok (.putfield 348, 3) := dk_181 1 92 (dk_at dksX9_leastWithout_1 0 rfl rfl)
theorem dX9_leastWithout_26 : decode cX9_leastWithout 26 = .ok (.iload_n 1, 1) := dk_27 (dk_at dksX9_leastWithout_1 3 rfl rfl)
theorem dX9_leastWithout_27 : decode cX9_leastWithout 27 = .ok (.ifCond .eq 10, 3) := dk_153 0 10 (dk_at dksX9_leastWithout_1 4 rfl rfl)
theorem dX9_leastWithout_30 : decode cX9_leastWithout 30 = .ok (.aload_n 0, 1) := dk_42 (dk_at dksX9_leastWithout_1 7 rfl rfl)
theorem dX9_leastWithout_31 : decode cX9_leastWithout 31 = .ok (.invokevirtual 506, 3) := dk_182 1 250 (dk_at dksX9_leastWithout_1 8 rfl rfl)
theorem dX9_leastWithout_34 : decode cX9_leastWithout 34 = .ok (.goto 7, 3) := dk_167 0 7 (dk_at dksX9_leastWithout_1 11 rfl rfl)
theorem dX9_leastWithout_37 : decode cX9_leastWithout 37 = .ok (.aload_n 0, 1) := dk_42 (dk_at dksX9_leastWithout_1 14 rfl rfl)
theorem dX9_leastWithout_38 : decode cX9_leastWithout 38 = .ok (.invokevirtual 484, 3) := dk_182 1 228 (dk_at dksX9_leastWithout_1 15 rfl rfl)
theorem dX9_leastWithout_41 : decode cX9_leastWithout 41 = .ok (.lstore 6, 2) := dk_55 6 (dk_at dksX9_leastWithout_1 18 rfl rfl)
theorem dX9_leastWithout_43 : decode cX9_leastWithout 43 = .ok (.iload_n 2, 1) := dk_28 (dk_at dksX9_leastWithout_1 20 rfl rfl)
theorem dX9_leastWithout_44 : decode cX9_leastWithout 44 = .ok (.iconst (-1), 1) := dk_2 (dk_at dksX9_leastWithout_1 21 rfl rfl)
theorem dX9_leastWithout_45 : decode cX9_leastWithout 45 = .ok (.if_icmp .eq 13, 3) := dk_159 0 13 (dk_at dksX9_leastWithout_2 0 rfl rfl)
theorem dX9_leastWithout_48 : decode cX9_leastWithout 48 = .ok (.lload 6, 2) := dk_22 6 (dk_at dksX9_leastWithout_2 3 rfl rfl)
theorem dX9_leastWithout_50 : decode cX9_leastWithout 50 = .ok (.lload_n 3, 1) := dk_33 (dk_at dksX9_leastWithout_2 5 rfl rfl)
theorem dX9_leastWithout_51 : decode cX9_leastWithout 51 = .ok (.lcmp, 1) := dk_148 (dk_at dksX9_leastWithout_2 6 rfl rfl)
theorem dX9_leastWithout_52 : decode cX9_leastWithout 52 = .ok (.ifCond .lt 6, 3) := dk_155 0 6 (dk_at dksX9_leastWithout_2 7 rfl rfl)
theorem dX9_leastWithout_55 : decode cX9_leastWithout 55 = .ok (.goto 9, 3) := dk_167 0 9 (dk_at dksX9_leastWithout_2 10 rfl rfl)
theorem dX9_leastWithout_58 : decode cX9_leastWithout 58 = .ok (.iload 5, 2) := dk_21 5 (dk_at dksX9_leastWithout_2 13 rfl rfl)
theorem dX9_leastWithout_60 : decode cX9_leastWithout 60 = .ok (.istore_n 2, 1) := dk_61 (dk_at dksX9_leastWithout_2 15 rfl rfl)
theorem dX9_leastWithout_61 : decode cX9_leastWithout 61 = .ok (.lload 6, 2) := dk_22 6 (dk_at dksX9_leastWithout_2 16 rfl rfl)
theorem dX9_leastWithout_63 : decode cX9_leastWithout 63 = .ok (.lstore_n 3, 1) := dk_66 (dk_at dksX9_leastWithout_2 18 rfl rfl)
theorem dX9_leastWithout_64 : decode cX9_leastWithout 64 = .ok (.iinc 5 1, 3) := dk_132 5 1 (dk_at dksX9_leastWithout_2 19 rfl rfl)
theorem dX9_leastWithout_67 : decode cX9_leastWithout 67 = .ok (.goto (-56), 3) := dk_167 255 200 (dk_at dksX9_leastWithout_3 0 rfl rfl)
theorem dX9_leastWithout_70 : decode cX9_leastWithout 70 = .ok (.iload_n 2, 1) := dk_28 (dk_at dksX9_leastWithout_3 3 rfl rfl)
theorem dX9_leastWithout_71 : decode cX9_leastWithout 71 = .ok (.ireturn, 1) := dk_172 (dk_at dksX9_leastWithout_3 4 rfl rfl)
abbrev cX9_spoiler : ByteArray := prog_28_method_104_code
def yX9_spoiler : MethodName := ⟨RX9, "spoiler", "()I"⟩
def dkwX9_spoiler_0 : List UInt8 := [42, 3, 181, 0, 3, 42, 3, 182, 1, 253, 172]
abbrev dktX9_spoiler_0 : List UInt8 := dkwX9_spoiler_0 ++ []
theorem dksX9_spoiler_0 : cX9_spoiler.data.toList.drop 0 = dktX9_spoiler_0 := by decide +kernel
theorem dX9_spoiler_0 : decode cX9_spoiler 0 = .ok (.aload_n 0, 1) := dk_42 (dk_at dksX9_spoiler_0 0 rfl rfl)
theorem dX9_spoiler_1 : decode cX9_spoiler 1 = .ok (.iconst 0, 1) := dk_3 (dk_at dksX9_spoiler_0 1 rfl rfl)
theorem dX9_spoiler_2 : decode cX9_spoiler 2 = .ok (.putfield 3, 3) := dk_181 0 3 (dk_at dksX9_spoiler_0 2 rfl rfl)
theorem dX9_spoiler_5 : decode cX9_spoiler 5 = .ok (.aload_n 0, 1) := dk_42 (dk_at dksX9_spoiler_0 5 rfl rfl)
theorem dX9_spoiler_6 : decode cX9_spoiler 6 = .ok (.iconst 0, 1) := dk_3 (dk_at dksX9_spoiler_0 6 rfl rfl)
theorem dX9_spoiler_7 : decode cX9_spoiler 7 = .ok (.invokevirtual 509, 3) := dk_182 1 253 (dk_at dksX9_spoiler_0 7 rfl rfl)
theorem dX9_spoiler_10 : decode cX9_spoiler 10 = .ok (.ireturn, 1) := dk_172 (dk_at dksX9_spoiler_0 10 rfl rfl)
abbrev cX9_falling : ByteArray := prog_28_method_105_code
def yX9_falling : MethodName := ⟨RX9, "falling", "(I)J"⟩
def dkwX9_falling_1 : List UInt8 := [182, 1, 209, 42, 27, 181, 1, 83, 42, 182, 1, 250, 173]
abbrev dktX9_falling_1 : List UInt8 := dkwX9_falling_1 ++ []
def dkwX9_falling_0 : List UInt8 := [42, 3, 181, 0, 3, 42, 27, 3, 16, 16, 184, 1, 60, 4, 4, 182, 0, 213, 154, 0, 5, 9, 173, 42]
abbrev dktX9_falling_0 : List UInt8 := dkwX9_falling_0 ++ dktX9_falling_1
theorem dksX9_falling_0 : cX9_falling.data.toList.drop 0 = dktX9_falling_0 := by decide +kernel
theorem dksX9_falling_1 : cX9_falling.data.toList.drop 24 = dktX9_falling_1 := dk_seg dksX9_falling_0 24 rfl rfl
theorem dX9_falling_0 : decode cX9_falling 0 = .ok (.aload_n 0, 1) := dk_42 (dk_at dksX9_falling_0 0 rfl rfl)
theorem dX9_falling_1 : decode cX9_falling 1 = .ok (.iconst 0, 1) := dk_3 (dk_at dksX9_falling_0 1 rfl rfl)
theorem dX9_falling_2 : decode cX9_falling 2 = .ok (.putfield 3, 3) := dk_181 0 3 (dk_at dksX9_falling_0 2 rfl rfl)
theorem dX9_falling_5 : decode cX9_falling 5 = .ok (.aload_n 0, 1) := dk_42 (dk_at dksX9_falling_0 5 rfl rfl)
theorem dX9_falling_6 : decode cX9_falling 6 = .ok (.iload_n 1, 1) := dk_27 (dk_at dksX9_falling_0 6 rfl rfl)
theorem dX9_falling_7 : decode cX9_falling 7 = .ok (.iconst 0, 1) := dk_3 (dk_at dksX9_falling_0 7 rfl rfl)
theorem dX9_falling_8 : decode cX9_falling 8 = .ok (.bipush 16, 2) := dk_16 16 (dk_at dksX9_falling_0 8 rfl rfl)
theorem dX9_falling_10 : decode cX9_falling 10 = .ok (.invokestatic 316, 3) := dk_184 1 60 (dk_at dksX9_falling_0 10 rfl rfl)
theorem dX9_falling_13 : decode cX9_falling 13 = .ok (.iconst 1, 1) := dk_4 (dk_at dksX9_falling_0 13 rfl rfl)
theorem dX9_falling_14 : decode cX9_falling 14 = .ok (.iconst 1, 1) := dk_4 (dk_at dksX9_falling_0 14 rfl rfl)
theorem dX9_falling_15 : decode cX9_falling 15 = .ok (.invokevirtual 213, 3) := dk_182 0 213 (dk_at dksX9_falling_0 15 rfl rfl)
theorem dX9_falling_18 : decode cX9_falling 18 = .ok (.ifCond .ne 5, 3) := dk_154 0 5 (dk_at dksX9_falling_0 18 rfl rfl)
theorem dX9_falling_21 : decode cX9_falling 21 = .ok (.lconst 0, 1) := dk_9 (dk_at dksX9_falling_0 21 rfl rfl)
theorem dX9_falling_22 : decode cX9_falling 22 = .ok (.lreturn, 1) := dk_173 (dk_at dksX9_falling_0 22 rfl rfl)
theorem dX9_falling_23 : decode cX9_falling 23 = .ok (.aload_n 0, 1) := dk_42 (dk_at dksX9_falling_0 23 rfl rfl)
theorem dX9_falling_24 : decode cX9_falling 24 = .ok (.invokevirtual 465, 3) := dk_182 1 209 (dk_at dksX9_falling_1 0 rfl rfl)
theorem dX9_falling_27 : decode cX9_falling 27 = .ok (.aload_n 0, 1) := dk_42 (dk_at dksX9_falling_1 3 rfl rfl)
theorem dX9_falling_28 : decode cX9_falling 28 = .ok (.iload_n 1, 1) := dk_27 (dk_at dksX9_falling_1 4 rfl rfl)
theorem dX9_falling_29 : decode cX9_falling 29 = .ok (.putfield 339, 3) := dk_181 1 83 (dk_at dksX9_falling_1 5 rfl rfl)
theorem dX9_falling_32 : decode cX9_falling 32 = .ok (.aload_n 0, 1) := dk_42 (dk_at dksX9_falling_1 8 rfl rfl)
theorem dX9_falling_33 : decode cX9_falling 33 = .ok (.invokevirtual 506, 3) := dk_182 1 250 (dk_at dksX9_falling_1 9 rfl rfl)
theorem dX9_falling_36 : decode cX9_falling 36 = .ok (.lreturn, 1) := dk_173 (dk_at dksX9_falling_1 12 rfl rfl)
abbrev cX9_seeing : ByteArray := prog_28_method_106_code
def yX9_seeing : MethodName := ⟨RX9, "seeing", "(II)J"⟩
def dkwX9_seeing_2 : List UInt8 := [181, 1, 86, 42, 182, 1, 228, 20, 1, 115, 28, 184, 1, 216, 173]
abbrev dktX9_seeing_2 : List UInt8 := dkwX9_seeing_2 ++ []
def dkwX9_seeing_1 : List UInt8 := [153, 0, 7, 4, 167, 0, 4, 3, 4, 4, 182, 0, 213, 154, 0, 5, 9, 173, 42, 182, 1, 209, 42, 27]
abbrev dktX9_seeing_1 : List UInt8 := dkwX9_seeing_1 ++ dktX9_seeing_2
def dkwX9_seeing_0 : List UInt8 := [42, 3, 181, 0, 3, 42, 27, 3, 16, 16, 184, 1, 60, 153, 0, 16, 28, 3, 4, 184, 1, 60]
abbrev dktX9_seeing_0 : List UInt8 := dkwX9_seeing_0 ++ dktX9_seeing_1
theorem dksX9_seeing_0 : cX9_seeing.data.toList.drop 0 = dktX9_seeing_0 := by decide +kernel
theorem dksX9_seeing_1 : cX9_seeing.data.toList.drop 22 = dktX9_seeing_1 := dk_seg dksX9_seeing_0 22 rfl rfl
theorem dksX9_seeing_2 : cX9_seeing.data.toList.drop 46 = dktX9_seeing_2 := dk_seg dksX9_seeing_1 24 rfl rfl
theorem dX9_seeing_0 : decode cX9_seeing 0 = .ok (.aload_n 0, 1) := dk_42 (dk_at dksX9_seeing_0 0 rfl rfl)
theorem dX9_seeing_1 : decode cX9_seeing 1 = .ok (.iconst 0, 1) := dk_3 (dk_at dksX9_seeing_0 1 rfl rfl)
theorem dX9_seeing_2 : decode cX9_seeing 2 = .ok (.putfield 3, 3) := dk_181 0 3 (dk_at dksX9_seeing_0 2 rfl rfl)
theorem dX9_seeing_5 : decode cX9_seeing 5 = .ok (.aload_n 0, 1) := dk_42 (dk_at dksX9_seeing_0 5 rfl rfl)
theorem dX9_seeing_6 : decode cX9_seeing 6 = .ok (.iload_n 1, 1) := dk_27 (dk_at dksX9_seeing_0 6 rfl rfl)
theorem dX9_seeing_7 : decode cX9_seeing 7 = .ok (.iconst 0, 1) := dk_3 (dk_at dksX9_seeing_0 7 rfl rfl)
theorem dX9_seeing_8 : decode cX9_seeing 8 = .ok (.bipush 16, 2) := dk_16 16 (dk_at dksX9_seeing_0 8 rfl rfl)
theorem dX9_seeing_10 : decode cX9_seeing 10 = .ok (.invokestatic 316, 3) := dk_184 1 60 (dk_at dksX9_seeing_0 10 rfl rfl)
theorem dX9_seeing_13 : decode cX9_seeing 13 = .ok (.ifCond .eq 16, 3) := dk_153 0 16 (dk_at dksX9_seeing_0 13 rfl rfl)
theorem dX9_seeing_16 : decode cX9_seeing 16 = .ok (.iload_n 2, 1) := dk_28 (dk_at dksX9_seeing_0 16 rfl rfl)
theorem dX9_seeing_17 : decode cX9_seeing 17 = .ok (.iconst 0, 1) := dk_3 (dk_at dksX9_seeing_0 17 rfl rfl)
theorem dX9_seeing_18 : decode cX9_seeing 18 = .ok (.iconst 1, 1) := dk_4 (dk_at dksX9_seeing_0 18 rfl rfl)
theorem dX9_seeing_19 : decode cX9_seeing 19 = .ok (.invokestatic 316, 3) := dk_184 1 60 (dk_at dksX9_seeing_0 19 rfl rfl)
theorem dX9_seeing_22 : decode cX9_seeing 22 = .ok (.ifCond .eq 7, 3) := dk_153 0 7 (dk_at dksX9_seeing_1 0 rfl rfl)
theorem dX9_seeing_25 : decode cX9_seeing 25 = .ok (.iconst 1, 1) := dk_4 (dk_at dksX9_seeing_1 3 rfl rfl)
theorem dX9_seeing_26 : decode cX9_seeing 26 = .ok (.goto 4, 3) := dk_167 0 4 (dk_at dksX9_seeing_1 4 rfl rfl)
theorem dX9_seeing_29 : decode cX9_seeing 29 = .ok (.iconst 0, 1) := dk_3 (dk_at dksX9_seeing_1 7 rfl rfl)
theorem dX9_seeing_30 : decode cX9_seeing 30 = .ok (.iconst 1, 1) := dk_4 (dk_at dksX9_seeing_1 8 rfl rfl)
theorem dX9_seeing_31 : decode cX9_seeing 31 = .ok (.iconst 1, 1) := dk_4 (dk_at dksX9_seeing_1 9 rfl rfl)
theorem dX9_seeing_32 : decode cX9_seeing 32 = .ok (.invokevirtual 213, 3) := dk_182 0 213 (dk_at dksX9_seeing_1 10 rfl rfl)
theorem dX9_seeing_35 : decode cX9_seeing 35 = .ok (.ifCond .ne 5, 3) := dk_154 0 5 (dk_at dksX9_seeing_1 13 rfl rfl)
theorem dX9_seeing_38 : decode cX9_seeing 38 = .ok (.lconst 0, 1) := dk_9 (dk_at dksX9_seeing_1 16 rfl rfl)
theorem dX9_seeing_39 : decode cX9_seeing 39 = .ok (.lreturn, 1) := dk_173 (dk_at dksX9_seeing_1 17 rfl rfl)
theorem dX9_seeing_40 : decode cX9_seeing 40 = .ok (.aload_n 0, 1) := dk_42 (dk_at dksX9_seeing_1 18 rfl rfl)
theorem dX9_seeing_41 : decode cX9_seeing 41 = .ok (.invokevirtual 465, 3) := dk_182 1 209 (dk_at dksX9_seeing_1 19 rfl rfl)
theorem dX9_seeing_44 : decode cX9_seeing 44 = .ok (.aload_n 0, 1) := dk_42 (dk_at dksX9_seeing_1 22 rfl rfl)
theorem dX9_seeing_45 : decode cX9_seeing 45 = .ok (.iload_n 1, 1) := dk_27 (dk_at dksX9_seeing_1 23 rfl rfl)
theorem dX9_seeing_46 : decode cX9_seeing 46 = .ok (.putfield 342, 3) := dk_181 1 86 (dk_at dksX9_seeing_2 0 rfl rfl)
theorem dX9_seeing_49 : decode cX9_seeing 49 = .ok (.aload_n 0, 1) := dk_42 (dk_at dksX9_seeing_2 3 rfl rfl)
theorem dX9_seeing_50 : decode cX9_seeing 50 = .ok (.invokevirtual 484, 3) := dk_182 1 228 (dk_at dksX9_seeing_2 4 rfl rfl)
theorem dX9_seeing_53 : decode cX9_seeing 53 = .ok (.ldc2_w 371, 3) := dk_20 1 115 (dk_at dksX9_seeing_2 7 rfl rfl)
theorem dX9_seeing_56 : decode cX9_seeing 56 = .ok (.iload_n 2, 1) := dk_28 (dk_at dksX9_seeing_2 10 rfl rfl)
theorem dX9_seeing_57 : decode cX9_seeing 57 = .ok (.invokestatic 472, 3) := dk_184 1 216 (dk_at dksX9_seeing_2 11 rfl rfl)
theorem dX9_seeing_60 : decode cX9_seeing 60 = .ok (.lreturn, 1) := dk_173 (dk_at dksX9_seeing_2 14 rfl rfl)
abbrev cX9_filled : ByteArray := prog_28_method_107_code
def yX9_filled : MethodName := ⟨RX9, "filled", "(II)J"⟩
def dkwX9_filled_2 : List UInt8 := [181, 1, 89, 42, 182, 1, 228, 20, 1, 115, 28, 184, 1, 216, 173]
abbrev dktX9_filled_2 : List UInt8 := dkwX9_filled_2 ++ []
def dkwX9_filled_1 : List UInt8 := [153, 0, 7, 4, 167, 0, 4, 3, 4, 4, 182, 0, 213, 154, 0, 5, 9, 173, 42, 182, 1, 209, 42, 27]
abbrev dktX9_filled_1 : List UInt8 := dkwX9_filled_1 ++ dktX9_filled_2
def dkwX9_filled_0 : List UInt8 := [42, 3, 181, 0, 3, 42, 27, 4, 16, 12, 184, 1, 60, 153, 0, 16, 28, 3, 4, 184, 1, 60]
abbrev dktX9_filled_0 : List UInt8 := dkwX9_filled_0 ++ dktX9_filled_1
theorem dksX9_filled_0 : cX9_filled.data.toList.drop 0 = dktX9_filled_0 := by decide +kernel
theorem dksX9_filled_1 : cX9_filled.data.toList.drop 22 = dktX9_filled_1 := dk_seg dksX9_filled_0 22 rfl rfl
theorem dksX9_filled_2 : cX9_filled.data.toList.drop 46 = dktX9_filled_2 := dk_seg dksX9_filled_1 24 rfl rfl
theorem dX9_filled_0 : decode cX9_filled 0 = .ok (.aload_n 0, 1) := dk_42 (dk_at dksX9_filled_0 0 rfl rfl)
theorem dX9_filled_1 : decode cX9_filled 1 = .ok (.iconst 0, 1) := dk_3 (dk_at dksX9_filled_0 1 rfl rfl)
theorem dX9_filled_2 : decode cX9_filled 2 = .ok (.putfield 3, 3) := dk_181 0 3 (dk_at dksX9_filled_0 2 rfl rfl)
theorem dX9_filled_5 : decode cX9_filled 5 = .ok (.aload_n 0, 1) := dk_42 (dk_at dksX9_filled_0 5 rfl rfl)
theorem dX9_filled_6 : decode cX9_filled 6 = .ok (.iload_n 1, 1) := dk_27 (dk_at dksX9_filled_0 6 rfl rfl)
theorem dX9_filled_7 : decode cX9_filled 7 = .ok (.iconst 1, 1) := dk_4 (dk_at dksX9_filled_0 7 rfl rfl)
theorem dX9_filled_8 : decode cX9_filled 8 = .ok (.bipush 12, 2) := dk_16 12 (dk_at dksX9_filled_0 8 rfl rfl)
theorem dX9_filled_10 : decode cX9_filled 10 = .ok (.invokestatic 316, 3) := dk_184 1 60 (dk_at dksX9_filled_0 10 rfl rfl)
theorem dX9_filled_13 : decode cX9_filled 13 = .ok (.ifCond .eq 16, 3) := dk_153 0 16 (dk_at dksX9_filled_0 13 rfl rfl)
theorem dX9_filled_16 : decode cX9_filled 16 = .ok (.iload_n 2, 1) := dk_28 (dk_at dksX9_filled_0 16 rfl rfl)
theorem dX9_filled_17 : decode cX9_filled 17 = .ok (.iconst 0, 1) := dk_3 (dk_at dksX9_filled_0 17 rfl rfl)
theorem dX9_filled_18 : decode cX9_filled 18 = .ok (.iconst 1, 1) := dk_4 (dk_at dksX9_filled_0 18 rfl rfl)
theorem dX9_filled_19 : decode cX9_filled 19 = .ok (.invokestatic 316, 3) := dk_184 1 60 (dk_at dksX9_filled_0 19 rfl rfl)
theorem dX9_filled_22 : decode cX9_filled 22 = .ok (.ifCond .eq 7, 3) := dk_153 0 7 (dk_at dksX9_filled_1 0 rfl rfl)
theorem dX9_filled_25 : decode cX9_filled 25 = .ok (.iconst 1, 1) := dk_4 (dk_at dksX9_filled_1 3 rfl rfl)
theorem dX9_filled_26 : decode cX9_filled 26 = .ok (.goto 4, 3) := dk_167 0 4 (dk_at dksX9_filled_1 4 rfl rfl)
theorem dX9_filled_29 : decode cX9_filled 29 = .ok (.iconst 0, 1) := dk_3 (dk_at dksX9_filled_1 7 rfl rfl)
theorem dX9_filled_30 : decode cX9_filled 30 = .ok (.iconst 1, 1) := dk_4 (dk_at dksX9_filled_1 8 rfl rfl)
theorem dX9_filled_31 : decode cX9_filled 31 = .ok (.iconst 1, 1) := dk_4 (dk_at dksX9_filled_1 9 rfl rfl)
theorem dX9_filled_32 : decode cX9_filled 32 = .ok (.invokevirtual 213, 3) := dk_182 0 213 (dk_at dksX9_filled_1 10 rfl rfl)
theorem dX9_filled_35 : decode cX9_filled 35 = .ok (.ifCond .ne 5, 3) := dk_154 0 5 (dk_at dksX9_filled_1 13 rfl rfl)
theorem dX9_filled_38 : decode cX9_filled 38 = .ok (.lconst 0, 1) := dk_9 (dk_at dksX9_filled_1 16 rfl rfl)
theorem dX9_filled_39 : decode cX9_filled 39 = .ok (.lreturn, 1) := dk_173 (dk_at dksX9_filled_1 17 rfl rfl)
theorem dX9_filled_40 : decode cX9_filled 40 = .ok (.aload_n 0, 1) := dk_42 (dk_at dksX9_filled_1 18 rfl rfl)
theorem dX9_filled_41 : decode cX9_filled 41 = .ok (.invokevirtual 465, 3) := dk_182 1 209 (dk_at dksX9_filled_1 19 rfl rfl)
theorem dX9_filled_44 : decode cX9_filled 44 = .ok (.aload_n 0, 1) := dk_42 (dk_at dksX9_filled_1 22 rfl rfl)
theorem dX9_filled_45 : decode cX9_filled 45 = .ok (.iload_n 1, 1) := dk_27 (dk_at dksX9_filled_1 23 rfl rfl)
theorem dX9_filled_46 : decode cX9_filled 46 = .ok (.putfield 345, 3) := dk_181 1 89 (dk_at dksX9_filled_2 0 rfl rfl)
theorem dX9_filled_49 : decode cX9_filled 49 = .ok (.aload_n 0, 1) := dk_42 (dk_at dksX9_filled_2 3 rfl rfl)
theorem dX9_filled_50 : decode cX9_filled 50 = .ok (.invokevirtual 484, 3) := dk_182 1 228 (dk_at dksX9_filled_2 4 rfl rfl)
theorem dX9_filled_53 : decode cX9_filled 53 = .ok (.ldc2_w 371, 3) := dk_20 1 115 (dk_at dksX9_filled_2 7 rfl rfl)
theorem dX9_filled_56 : decode cX9_filled 56 = .ok (.iload_n 2, 1) := dk_28 (dk_at dksX9_filled_2 10 rfl rfl)
theorem dX9_filled_57 : decode cX9_filled 57 = .ok (.invokestatic 472, 3) := dk_184 1 216 (dk_at dksX9_filled_2 11 rfl rfl)
theorem dX9_filled_60 : decode cX9_filled 60 = .ok (.lreturn, 1) := dk_173 (dk_at dksX9_filled_2 14 rfl rfl)
abbrev cX9_fill : ByteArray := prog_28_method_108_code
def yX9_fill : MethodName := ⟨RX9, "fill", "()I"⟩
def dkwX9_fill_2 : List UInt8 := [155, 0, 6, 167, 0, 9, 21, 4, 60, 22, 5, 65, 132, 4, 1, 167, 255, 209, 27, 172]
abbrev dktX9_fill_2 : List UInt8 := dkwX9_fill_2 ++ []
def dkwX9_fill_1 : List UInt8 := [163, 0, 42, 42, 21, 4, 181, 1, 89, 42, 182, 1, 228, 55, 5, 27, 2, 159, 0, 13, 22, 5, 32, 148]
abbrev dktX9_fill_1 : List UInt8 := dkwX9_fill_1 ++ dktX9_fill_2
def dkwX9_fill_0 : List UInt8 := [42, 3, 181, 0, 3, 42, 182, 1, 209, 2, 60, 9, 65, 4, 54, 4, 21, 4, 42, 180, 0, 26, 3, 46]
abbrev dktX9_fill_0 : List UInt8 := dkwX9_fill_0 ++ dktX9_fill_1
theorem dksX9_fill_0 : cX9_fill.data.toList.drop 0 = dktX9_fill_0 := by decide +kernel
theorem dksX9_fill_1 : cX9_fill.data.toList.drop 24 = dktX9_fill_1 := dk_seg dksX9_fill_0 24 rfl rfl
theorem dksX9_fill_2 : cX9_fill.data.toList.drop 48 = dktX9_fill_2 := dk_seg dksX9_fill_1 24 rfl rfl
theorem dX9_fill_0 : decode cX9_fill 0 = .ok (.aload_n 0, 1) := dk_42 (dk_at dksX9_fill_0 0 rfl rfl)
theorem dX9_fill_1 : decode cX9_fill 1 = .ok (.iconst 0, 1) := dk_3 (dk_at dksX9_fill_0 1 rfl rfl)
theorem dX9_fill_2 : decode cX9_fill 2 = .ok (.putfield 3, 3) := dk_181 0 3 (dk_at dksX9_fill_0 2 rfl rfl)
theorem dX9_fill_5 : decode cX9_fill 5 = .ok (.aload_n 0, 1) := dk_42 (dk_at dksX9_fill_0 5 rfl rfl)
theorem dX9_fill_6 : decode cX9_fill 6 = .ok (.invokevirtual 465, 3) := dk_182 1 209 (dk_at dksX9_fill_0 6 rfl rfl)
theorem dX9_fill_9 : decode cX9_fill 9 = .ok (.iconst (-1), 1) := dk_2 (dk_at dksX9_fill_0 9 rfl rfl)
theorem dX9_fill_10 : decode cX9_fill 10 = .ok (.istore_n 1, 1) := dk_60 (dk_at dksX9_fill_0 10 rfl rfl)
theorem dX9_fill_11 : decode cX9_fill 11 = .ok (.lconst 0, 1) := dk_9 (dk_at dksX9_fill_0 11 rfl rfl)
theorem dX9_fill_12 : decode cX9_fill 12 = .ok (.lstore_n 2, 1) := dk_65 (dk_at dksX9_fill_0 12 rfl rfl)
theorem dX9_fill_13 : decode cX9_fill 13 = .ok (.iconst 1, 1) := dk_4 (dk_at dksX9_fill_0 13 rfl rfl)
theorem dX9_fill_14 : decode cX9_fill 14 = .ok (.istore 4, 2) := dk_54 4 (dk_at dksX9_fill_0 14 rfl rfl)
theorem dX9_fill_16 : decode cX9_fill 16 = .ok (.iload 4, 2) := dk_21 4 (dk_at dksX9_fill_0 16 rfl rfl)
theorem dX9_fill_18 : decode cX9_fill 18 = .ok (.aload_n 0, 1) := dk_42 (dk_at dksX9_fill_0 18 rfl rfl)
theorem dX9_fill_19 : decode cX9_fill 19 = .ok (.getfield 26, 3) := dk_180 0 26 (dk_at dksX9_fill_0 19 rfl rfl)
theorem dX9_fill_22 : decode cX9_fill 22 = .ok (.iconst 0, 1) := dk_3 (dk_at dksX9_fill_0 22 rfl rfl)
theorem dX9_fill_23 : decode cX9_fill 23 = .ok (.iaload, 1) := dk_46 (dk_at dksX9_fill_0 23 rfl rfl)
theorem dX9_fill_24 : decode cX9_fill 24 = .ok (.if_icmp .gt 42, 3) := dk_163 0 42 (dk_at dksX9_fill_1 0 rfl rfl)
theorem dX9_fill_27 : decode cX9_fill 27 = .ok (.aload_n 0, 1) := dk_42 (dk_at dksX9_fill_1 3 rfl rfl)
theorem dX9_fill_28 : decode cX9_fill 28 = .ok (.iload 4, 2) := dk_21 4 (dk_at dksX9_fill_1 4 rfl rfl)
theorem dX9_fill_30 : decode cX9_fill 30 = .ok (.putfield 345, 3) := dk_181 1 89 (dk_at dksX9_fill_1 6 rfl rfl)
theorem dX9_fill_33 : decode cX9_fill 33 = .ok (.aload_n 0, 1) := dk_42 (dk_at dksX9_fill_1 9 rfl rfl)
theorem dX9_fill_34 : decode cX9_fill 34 = .ok (.invokevirtual 484, 3) := dk_182 1 228 (dk_at dksX9_fill_1 10 rfl rfl)
theorem dX9_fill_37 : decode cX9_fill 37 = .ok (.lstore 5, 2) := dk_55 5 (dk_at dksX9_fill_1 13 rfl rfl)
theorem dX9_fill_39 : decode cX9_fill 39 = .ok (.iload_n 1, 1) := dk_27 (dk_at dksX9_fill_1 15 rfl rfl)
theorem dX9_fill_40 : decode cX9_fill 40 = .ok (.iconst (-1), 1) := dk_2 (dk_at dksX9_fill_1 16 rfl rfl)
theorem dX9_fill_41 : decode cX9_fill 41 = .ok (.if_icmp .eq 13, 3) := dk_159 0 13 (dk_at dksX9_fill_1 17 rfl rfl)
theorem dX9_fill_44 : decode cX9_fill 44 = .ok (.lload 5, 2) := dk_22 5 (dk_at dksX9_fill_1 20 rfl rfl)
theorem dX9_fill_46 : decode cX9_fill 46 = .ok (.lload_n 2, 1) := dk_32 (dk_at dksX9_fill_1 22 rfl rfl)
theorem dX9_fill_47 : decode cX9_fill 47 = .ok (.lcmp, 1) := dk_148 (dk_at dksX9_fill_1 23 rfl rfl)
theorem dX9_fill_48 : decode cX9_fill 48 = .ok (.ifCond .lt 6, 3) := dk_155 0 6 (dk_at dksX9_fill_2 0 rfl rfl)
theorem dX9_fill_51 : decode cX9_fill 51 = .ok (.goto 9, 3) := dk_167 0 9 (dk_at dksX9_fill_2 3 rfl rfl)
theorem dX9_fill_54 : decode cX9_fill 54 = .ok (.iload 4, 2) := dk_21 4 (dk_at dksX9_fill_2 6 rfl rfl)
theorem dX9_fill_56 : decode cX9_fill 56 = .ok (.istore_n 1, 1) := dk_60 (dk_at dksX9_fill_2 8 rfl rfl)
theorem dX9_fill_57 : decode cX9_fill 57 = .ok (.lload 5, 2) := dk_22 5 (dk_at dksX9_fill_2 9 rfl rfl)
theorem dX9_fill_59 : decode cX9_fill 59 = .ok (.lstore_n 2, 1) := dk_65 (dk_at dksX9_fill_2 11 rfl rfl)
theorem dX9_fill_60 : decode cX9_fill 60 = .ok (.iinc 4 1, 3) := dk_132 4 1 (dk_at dksX9_fill_2 12 rfl rfl)
theorem dX9_fill_63 : decode cX9_fill 63 = .ok (.goto (-47), 3) := dk_167 255 209 (dk_at dksX9_fill_2 15 rfl rfl)
theorem dX9_fill_66 : decode cX9_fill 66 = .ok (.iload_n 1, 1) := dk_27 (dk_at dksX9_fill_2 18 rfl rfl)
theorem dX9_fill_67 : decode cX9_fill 67 = .ok (.ireturn, 1) := dk_172 (dk_at dksX9_fill_2 19 rfl rfl)
abbrev cX9_ruled : ByteArray := prog_28_method_109_code
def yX9_ruled : MethodName := ⟨RX9, "ruled", "(I)J"⟩
def dkwX9_ruled_2 : List UInt8 := [20, 1, 115, 109, 173]
abbrev dktX9_ruled_2 : List UInt8 := dkwX9_ruled_2 ++ []
def dkwX9_ruled_1 : List UInt8 := [182, 1, 209, 42, 4, 181, 1, 101, 27, 154, 0, 10, 42, 182, 1, 250, 167, 0, 11, 42, 182, 1, 228]
abbrev dktX9_ruled_1 : List UInt8 := dkwX9_ruled_1 ++ dktX9_ruled_2
def dkwX9_ruled_0 : List UInt8 := [42, 3, 181, 0, 3, 42, 27, 3, 4, 184, 1, 60, 4, 4, 182, 0, 213, 154, 0, 5, 9, 173, 42]
abbrev dktX9_ruled_0 : List UInt8 := dkwX9_ruled_0 ++ dktX9_ruled_1
theorem dksX9_ruled_0 : cX9_ruled.data.toList.drop 0 = dktX9_ruled_0 := by decide +kernel
theorem dksX9_ruled_1 : cX9_ruled.data.toList.drop 23 = dktX9_ruled_1 := dk_seg dksX9_ruled_0 23 rfl rfl
theorem dksX9_ruled_2 : cX9_ruled.data.toList.drop 46 = dktX9_ruled_2 := dk_seg dksX9_ruled_1 23 rfl rfl
theorem dX9_ruled_0 : decode cX9_ruled 0 = .ok (.aload_n 0, 1) := dk_42 (dk_at dksX9_ruled_0 0 rfl rfl)
theorem dX9_ruled_1 : decode cX9_ruled 1 = .ok (.iconst 0, 1) := dk_3 (dk_at dksX9_ruled_0 1 rfl rfl)
theorem dX9_ruled_2 : decode cX9_ruled 2 = .ok (.putfield 3, 3) := dk_181 0 3 (dk_at dksX9_ruled_0 2 rfl rfl)
theorem dX9_ruled_5 : decode cX9_ruled 5 = .ok (.aload_n 0, 1) := dk_42 (dk_at dksX9_ruled_0 5 rfl rfl)
theorem dX9_ruled_6 : decode cX9_ruled 6 = .ok (.iload_n 1, 1) := dk_27 (dk_at dksX9_ruled_0 6 rfl rfl)
theorem dX9_ruled_7 : decode cX9_ruled 7 = .ok (.iconst 0, 1) := dk_3 (dk_at dksX9_ruled_0 7 rfl rfl)
theorem dX9_ruled_8 : decode cX9_ruled 8 = .ok (.iconst 1, 1) := dk_4 (dk_at dksX9_ruled_0 8 rfl rfl)
theorem dX9_ruled_9 : decode cX9_ruled 9 = .ok (.invokestatic 316, 3) := dk_184 1 60 (dk_at dksX9_ruled_0 9 rfl rfl)
theorem dX9_ruled_12 : decode cX9_ruled 12 = .ok (.iconst 1, 1) := dk_4 (dk_at dksX9_ruled_0 12 rfl rfl)
theorem dX9_ruled_13 : decode cX9_ruled 13 = .ok (.iconst 1, 1) := dk_4 (dk_at dksX9_ruled_0 13 rfl rfl)
theorem dX9_ruled_14 : decode cX9_ruled 14 = .ok (.invokevirtual 213, 3) := dk_182 0 213 (dk_at dksX9_ruled_0 14 rfl rfl)
theorem dX9_ruled_17 : decode cX9_ruled 17 = .ok (.ifCond .ne 5, 3) := dk_154 0 5 (dk_at dksX9_ruled_0 17 rfl rfl)
theorem dX9_ruled_20 : decode cX9_ruled 20 = .ok (.lconst 0, 1) := dk_9 (dk_at dksX9_ruled_0 20 rfl rfl)
theorem dX9_ruled_21 : decode cX9_ruled 21 = .ok (.lreturn, 1) := dk_173 (dk_at dksX9_ruled_0 21 rfl rfl)
theorem dX9_ruled_22 : decode cX9_ruled 22 = .ok (.aload_n 0, 1) := dk_42 (dk_at dksX9_ruled_0 22 rfl rfl)
theorem dX9_ruled_23 : decode cX9_ruled 23 = .ok (.invokevirtual 465, 3) := dk_182 1 209 (dk_at dksX9_ruled_1 0 rfl rfl)
theorem dX9_ruled_26 : decode cX9_ruled 26 = .ok (.aload_n 0, 1) := dk_42 (dk_at dksX9_ruled_1 3 rfl rfl)
theorem dX9_ruled_27 : decode cX9_ruled 27 = .ok (.iconst 1, 1) := dk_4 (dk_at dksX9_ruled_1 4 rfl rfl)
theorem dX9_ruled_28 : decode cX9_ruled 28 = .ok (.putfield 357, 3) := dk_181 1 101 (dk_at dksX9_ruled_1 5 rfl rfl)
theorem dX9_ruled_31 : decode cX9_ruled 31 = .ok (.iload_n 1, 1) := dk_27 (dk_at dksX9_ruled_1 8 rfl rfl)
theorem dX9_ruled_32 : decode cX9_ruled 32 = .ok (.ifCond .ne 10, 3) := dk_154 0 10 (dk_at dksX9_ruled_1 9 rfl rfl)
theorem dX9_ruled_35 : decode cX9_ruled 35 = .ok (.aload_n 0, 1) := dk_42 (dk_at dksX9_ruled_1 12 rfl rfl)
theorem dX9_ruled_36 : decode cX9_ruled 36 = .ok (.invokevirtual 506, 3) := dk_182 1 250 (dk_at dksX9_ruled_1 13 rfl rfl)
theorem dX9_ruled_39 : decode cX9_ruled 39 = .ok (.goto 11, 3) := dk_167 0 11 (dk_at dksX9_ruled_1 16 rfl rfl)
theorem dX9_ruled_42 : decode cX9_ruled 42 = .ok (.aload_n 0, 1) := dk_42 (dk_at dksX9_ruled_1 19 rfl rfl)
theorem dX9_ruled_43 : decode cX9_ruled 43 = .ok (.invokevirtual 484, 3) := dk_182 1 228 (dk_at dksX9_ruled_1 20 rfl rfl)
theorem dX9_ruled_46 : decode cX9_ruled 46 = .ok (.ldc2_w 371, 3) := dk_20 1 115 (dk_at dksX9_ruled_2 0 rfl rfl)
theorem dX9_ruled_49 : decode cX9_ruled 49 = .ok (.ldiv, 1) := dk_109 (dk_at dksX9_ruled_2 3 rfl rfl)
theorem dX9_ruled_50 : decode cX9_ruled 50 = .ok (.lreturn, 1) := dk_173 (dk_at dksX9_ruled_2 4 rfl rfl)
abbrev cX9_swapped : ByteArray := prog_28_method_110_code
def yX9_swapped : MethodName := ⟨RX9, "swapped", "(III)J"⟩
def dkwX9_swapped_3 : List UInt8 := [20, 1, 115, 29, 184, 1, 216, 173]
abbrev dktX9_swapped_3 : List UInt8 := dkwX9_swapped_3 ++ []
def dkwX9_swapped_2 : List UInt8 := [154, 0, 5, 9, 173, 42, 182, 1, 209, 42, 27, 181, 1, 95, 42, 28, 181, 1, 98, 42, 182, 1, 228]
abbrev dktX9_swapped_2 : List UInt8 := dkwX9_swapped_2 ++ dktX9_swapped_3
def dkwX9_swapped_1 : List UInt8 := [27, 28, 159, 0, 16, 29, 3, 4, 184, 1, 60, 153, 0, 7, 4, 167, 0, 4, 3, 5, 4, 182, 0, 213]
abbrev dktX9_swapped_1 : List UInt8 := dkwX9_swapped_1 ++ dktX9_swapped_2
def dkwX9_swapped_0 : List UInt8 := [42, 3, 181, 0, 3, 42, 27, 4, 182, 1, 64, 153, 0, 40, 42, 28, 4, 182, 1, 64, 153, 0, 31, 42]
abbrev dktX9_swapped_0 : List UInt8 := dkwX9_swapped_0 ++ dktX9_swapped_1
theorem dksX9_swapped_0 : cX9_swapped.data.toList.drop 0 = dktX9_swapped_0 := by decide +kernel
theorem dksX9_swapped_1 : cX9_swapped.data.toList.drop 24 = dktX9_swapped_1 := dk_seg dksX9_swapped_0 24 rfl rfl
theorem dksX9_swapped_2 : cX9_swapped.data.toList.drop 48 = dktX9_swapped_2 := dk_seg dksX9_swapped_1 24 rfl rfl
theorem dksX9_swapped_3 : cX9_swapped.data.toList.drop 71 = dktX9_swapped_3 := dk_seg dksX9_swapped_2 23 rfl rfl
theorem dX9_swapped_0 : decode cX9_swapped 0 = .ok (.aload_n 0, 1) := dk_42 (dk_at dksX9_swapped_0 0 rfl rfl)
theorem dX9_swapped_1 : decode cX9_swapped 1 = .ok (.iconst 0, 1) := dk_3 (dk_at dksX9_swapped_0 1 rfl rfl)
theorem dX9_swapped_2 : decode cX9_swapped 2 = .ok (.putfield 3, 3) := dk_181 0 3 (dk_at dksX9_swapped_0 2 rfl rfl)
theorem dX9_swapped_5 : decode cX9_swapped 5 = .ok (.aload_n 0, 1) := dk_42 (dk_at dksX9_swapped_0 5 rfl rfl)
theorem dX9_swapped_6 : decode cX9_swapped 6 = .ok (.iload_n 1, 1) := dk_27 (dk_at dksX9_swapped_0 6 rfl rfl)
theorem dX9_swapped_7 : decode cX9_swapped 7 = .ok (.iconst 1, 1) := dk_4 (dk_at dksX9_swapped_0 7 rfl rfl)
theorem dX9_swapped_8 : decode cX9_swapped 8 = .ok (.invokevirtual 320, 3) := dk_182 1 64 (dk_at dksX9_swapped_0 8 rfl rfl)
theorem dX9_swapped_11 : decode cX9_swapped 11 = .ok (.ifCond .eq 40, 3) := dk_153 0 40 (dk_at dksX9_swapped_0 11 rfl rfl)
theorem dX9_swapped_14 : decode cX9_swapped 14 = .ok (.aload_n 0, 1) := dk_42 (dk_at dksX9_swapped_0 14 rfl rfl)
theorem dX9_swapped_15 : decode cX9_swapped 15 = .ok (.iload_n 2, 1) := dk_28 (dk_at dksX9_swapped_0 15 rfl rfl)
theorem dX9_swapped_16 : decode cX9_swapped 16 = .ok (.iconst 1, 1) := dk_4 (dk_at dksX9_swapped_0 16 rfl rfl)
theorem dX9_swapped_17 : decode cX9_swapped 17 = .ok (.invokevirtual 320, 3) := dk_182 1 64 (dk_at dksX9_swapped_0 17 rfl rfl)
theorem dX9_swapped_20 : decode cX9_swapped 20 = .ok (.ifCond .eq 31, 3) := dk_153 0 31 (dk_at dksX9_swapped_0 20 rfl rfl)
theorem dX9_swapped_23 : decode cX9_swapped 23 = .ok (.aload_n 0, 1) := dk_42 (dk_at dksX9_swapped_0 23 rfl rfl)
theorem dX9_swapped_24 : decode cX9_swapped 24 = .ok (.iload_n 1, 1) := dk_27 (dk_at dksX9_swapped_1 0 rfl rfl)
theorem dX9_swapped_25 : decode cX9_swapped 25 = .ok (.iload_n 2, 1) := dk_28 (dk_at dksX9_swapped_1 1 rfl rfl)
theorem dX9_swapped_26 : decode cX9_swapped 26 = .ok (.if_icmp .eq 16, 3) := dk_159 0 16 (dk_at dksX9_swapped_1 2 rfl rfl)
theorem dX9_swapped_29 : decode cX9_swapped 29 = .ok (.iload_n 3, 1) := dk_29 (dk_at dksX9_swapped_1 5 rfl rfl)
theorem dX9_swapped_30 : decode cX9_swapped 30 = .ok (.iconst 0, 1) := dk_3 (dk_at dksX9_swapped_1 6 rfl rfl)
theorem dX9_swapped_31 : decode cX9_swapped 31 = .ok (.iconst 1, 1) := dk_4 (dk_at dksX9_swapped_1 7 rfl rfl)
theorem dX9_swapped_32 : decode cX9_swapped 32 = .ok (.invokestatic 316, 3) := dk_184 1 60 (dk_at dksX9_swapped_1 8 rfl rfl)
theorem dX9_swapped_35 : decode cX9_swapped 35 = .ok (.ifCond .eq 7, 3) := dk_153 0 7 (dk_at dksX9_swapped_1 11 rfl rfl)
theorem dX9_swapped_38 : decode cX9_swapped 38 = .ok (.iconst 1, 1) := dk_4 (dk_at dksX9_swapped_1 14 rfl rfl)
theorem dX9_swapped_39 : decode cX9_swapped 39 = .ok (.goto 4, 3) := dk_167 0 4 (dk_at dksX9_swapped_1 15 rfl rfl)
theorem dX9_swapped_42 : decode cX9_swapped 42 = .ok (.iconst 0, 1) := dk_3 (dk_at dksX9_swapped_1 18 rfl rfl)
theorem dX9_swapped_43 : decode cX9_swapped 43 = .ok (.iconst 2, 1) := dk_5 (dk_at dksX9_swapped_1 19 rfl rfl)
theorem dX9_swapped_44 : decode cX9_swapped 44 = .ok (.iconst 1, 1) := dk_4 (dk_at dksX9_swapped_1 20 rfl rfl)
theorem dX9_swapped_45 : decode cX9_swapped 45 = .ok (.invokevirtual 213, 3) := dk_182 0 213 (dk_at dksX9_swapped_1 21 rfl rfl)
theorem dX9_swapped_48 : decode cX9_swapped 48 = .ok (.ifCond .ne 5, 3) := dk_154 0 5 (dk_at dksX9_swapped_2 0 rfl rfl)
theorem dX9_swapped_51 : decode cX9_swapped 51 = .ok (.lconst 0, 1) := dk_9 (dk_at dksX9_swapped_2 3 rfl rfl)
theorem dX9_swapped_52 : decode cX9_swapped 52 = .ok (.lreturn, 1) := dk_173 (dk_at dksX9_swapped_2 4 rfl rfl)
theorem dX9_swapped_53 : decode cX9_swapped 53 = .ok (.aload_n 0, 1) := dk_42 (dk_at dksX9_swapped_2 5 rfl rfl)
theorem dX9_swapped_54 : decode cX9_swapped 54 = .ok (.invokevirtual 465, 3) := dk_182 1 209 (dk_at dksX9_swapped_2 6 rfl rfl)
theorem dX9_swapped_57 : decode cX9_swapped 57 = .ok (.aload_n 0, 1) := dk_42 (dk_at dksX9_swapped_2 9 rfl rfl)
theorem dX9_swapped_58 : decode cX9_swapped 58 = .ok (.iload_n 1, 1) := dk_27 (dk_at dksX9_swapped_2 10 rfl rfl)
theorem dX9_swapped_59 : decode cX9_swapped 59 = .ok (.putfield 351, 3) := dk_181 1 95 (dk_at dksX9_swapped_2 11 rfl rfl)
theorem dX9_swapped_62 : decode cX9_swapped 62 = .ok (.aload_n 0, 1) := dk_42 (dk_at dksX9_swapped_2 14 rfl rfl)
theorem dX9_swapped_63 : decode cX9_swapped 63 = .ok (.iload_n 2, 1) := dk_28 (dk_at dksX9_swapped_2 15 rfl rfl)
theorem dX9_swapped_64 : decode cX9_swapped 64 = .ok (.putfield 354, 3) := dk_181 1 98 (dk_at dksX9_swapped_2 16 rfl rfl)
theorem dX9_swapped_67 : decode cX9_swapped 67 = .ok (.aload_n 0, 1) := dk_42 (dk_at dksX9_swapped_2 19 rfl rfl)
theorem dX9_swapped_68 : decode cX9_swapped 68 = .ok (.invokevirtual 484, 3) := dk_182 1 228 (dk_at dksX9_swapped_2 20 rfl rfl)
theorem dX9_swapped_71 : decode cX9_swapped 71 = .ok (.ldc2_w 371, 3) := dk_20 1 115 (dk_at dksX9_swapped_3 0 rfl rfl)
theorem dX9_swapped_74 : decode cX9_swapped 74 = .ok (.iload_n 3, 1) := dk_29 (dk_at dksX9_swapped_3 3 rfl rfl)
theorem dX9_swapped_75 : decode cX9_swapped 75 = .ok (.invokestatic 472, 3) := dk_184 1 216 (dk_at dksX9_swapped_3 4 rfl rfl)
theorem dX9_swapped_78 : decode cX9_swapped 78 = .ok (.lreturn, 1) := dk_173 (dk_at dksX9_swapped_3 7 rfl rfl)
abbrev cX9_swap : ByteArray := prog_28_method_111_code
def yX9_swap : MethodName := ⟨RX9, "swap", "()I"⟩
def dkwX9_swap_4 : List UInt8 := [167, 255, 183, 27, 172]
abbrev dktX9_swap_4 : List UInt8 := dkwX9_swap_4 ++ []
def dkwX9_swap_3 : List UInt8 := [167, 0, 15, 16, 10, 21, 4, 104, 21, 5, 96, 60, 22, 6, 65, 132, 5, 1, 167, 255, 204, 132, 4, 1]
abbrev dktX9_swap_3 : List UInt8 := dkwX9_swap_3 ++ dktX9_swap_4
def dkwX9_swap_2 : List UInt8 := [181, 1, 95, 42, 21, 5, 181, 1, 98, 42, 182, 1, 228, 55, 6, 22, 6, 32, 148, 155, 0, 6]
abbrev dktX9_swap_2 : List UInt8 := dkwX9_swap_2 ++ dktX9_swap_3
def dkwX9_swap_1 : List UInt8 := [180, 0, 161, 162, 0, 70, 21, 4, 4, 96, 54, 5, 21, 5, 42, 180, 0, 161, 162, 0, 49, 42, 21, 4]
abbrev dktX9_swap_1 : List UInt8 := dkwX9_swap_1 ++ dktX9_swap_2
def dkwX9_swap_0 : List UInt8 := [42, 3, 181, 0, 3, 42, 182, 1, 209, 2, 60, 42, 182, 1, 228, 65, 3, 54, 4, 21, 4, 42]
abbrev dktX9_swap_0 : List UInt8 := dkwX9_swap_0 ++ dktX9_swap_1
theorem dksX9_swap_0 : cX9_swap.data.toList.drop 0 = dktX9_swap_0 := by decide +kernel
theorem dksX9_swap_1 : cX9_swap.data.toList.drop 22 = dktX9_swap_1 := dk_seg dksX9_swap_0 22 rfl rfl
theorem dksX9_swap_2 : cX9_swap.data.toList.drop 46 = dktX9_swap_2 := dk_seg dksX9_swap_1 24 rfl rfl
theorem dksX9_swap_3 : cX9_swap.data.toList.drop 68 = dktX9_swap_3 := dk_seg dksX9_swap_2 22 rfl rfl
theorem dksX9_swap_4 : cX9_swap.data.toList.drop 92 = dktX9_swap_4 := dk_seg dksX9_swap_3 24 rfl rfl
theorem dX9_swap_0 : decode cX9_swap 0 = .ok (.aload_n 0, 1) := dk_42 (dk_at dksX9_swap_0 0 rfl rfl)
theorem dX9_swap_1 : decode cX9_swap 1 = .ok (.iconst 0, 1) := dk_3 (dk_at dksX9_swap_0 1 rfl rfl)
theorem dX9_swap_2 : decode cX9_swap 2 = .ok (.putfield 3, 3) := dk_181 0 3 (dk_at dksX9_swap_0 2 rfl rfl)
theorem dX9_swap_5 : decode cX9_swap 5 = .ok (.aload_n 0, 1) := dk_42 (dk_at dksX9_swap_0 5 rfl rfl)
theorem dX9_swap_6 : decode cX9_swap 6 = .ok (.invokevirtual 465, 3) := dk_182 1 209 (dk_at dksX9_swap_0 6 rfl rfl)
theorem dX9_swap_9 : decode cX9_swap 9 = .ok (.iconst (-1), 1) := dk_2 (dk_at dksX9_swap_0 9 rfl rfl)
theorem dX9_swap_10 : decode cX9_swap 10 = .ok (.istore_n 1, 1) := dk_60 (dk_at dksX9_swap_0 10 rfl rfl)
theorem dX9_swap_11 : decode cX9_swap 11 = .ok (.aload_n 0, 1) := dk_42 (dk_at dksX9_swap_0 11 rfl rfl)
theorem dX9_swap_12 : decode cX9_swap 12 = .ok (.invokevirtual 484, 3) := dk_182 1 228 (dk_at dksX9_swap_0 12 rfl rfl)
theorem dX9_swap_15 : decode cX9_swap 15 = .ok (.lstore_n 2, 1) := dk_65 (dk_at dksX9_swap_0 15 rfl rfl)
theorem dX9_swap_16 : decode cX9_swap 16 = .ok (.iconst 0, 1) := dk_3 (dk_at dksX9_swap_0 16 rfl rfl)
theorem dX9_swap_17 : decode cX9_swap 17 = .ok (.istore 4, 2) := dk_54 4 (dk_at dksX9_swap_0 17 rfl rfl)
theorem dX9_swap_19 : decode cX9_swap 19 = .ok (.iload 4, 2) := dk_21 4 (dk_at dksX9_swap_0 19 rfl rfl)
theorem dX9_swap_21 : decode cX9_swap 21 = .ok (.aload_n 0, 1) := dk_42 (dk_at dksX9_swap_0 21 rfl rfl)
theorem dX9_swap_22 : decode cX9_swap 22 = .ok (.getfield 161, 3) := dk_180 0 161 (dk_at dksX9_swap_1 0 rfl rfl)
theorem dX9_swap_25 : decode cX9_swap 25 = .ok (.if_icmp .ge 70, 3) := dk_162 0 70 (dk_at dksX9_swap_1 3 rfl rfl)
theorem dX9_swap_28 : decode cX9_swap 28 = .ok (.iload 4, 2) := dk_21 4 (dk_at dksX9_swap_1 6 rfl rfl)
theorem dX9_swap_30 : decode cX9_swap 30 = .ok (.iconst 1, 1) := dk_4 (dk_at dksX9_swap_1 8 rfl rfl)
theorem dX9_swap_31 : decode cX9_swap 31 = .ok (.iadd, 1) := dk_96 (dk_at dksX9_swap_1 9 rfl rfl)
theorem dX9_swap_32 : decode cX9_swap 32 = .ok (.istore 5, 2) := dk_54 5 (dk_at dksX9_swap_1 10 rfl rfl)
theorem dX9_swap_34 : decode cX9_swap 34 = .ok (.iload 5, 2) := dk_21 5 (dk_at dksX9_swap_1 12 rfl rfl)
theorem dX9_swap_36 : decode cX9_swap 36 = .ok (.aload_n 0, 1) := dk_42 (dk_at dksX9_swap_1 14 rfl rfl)
theorem dX9_swap_37 : decode cX9_swap 37 = .ok (.getfield 161, 3) := dk_180 0 161 (dk_at dksX9_swap_1 15 rfl rfl)
theorem dX9_swap_40 : decode cX9_swap 40 = .ok (.if_icmp .ge 49, 3) := dk_162 0 49 (dk_at dksX9_swap_1 18 rfl rfl)
theorem dX9_swap_43 : decode cX9_swap 43 = .ok (.aload_n 0, 1) := dk_42 (dk_at dksX9_swap_1 21 rfl rfl)
theorem dX9_swap_44 : decode cX9_swap 44 = .ok (.iload 4, 2) := dk_21 4 (dk_at dksX9_swap_1 22 rfl rfl)
theorem dX9_swap_46 : decode cX9_swap 46 = .ok (.putfield 351, 3) := dk_181 1 95 (dk_at dksX9_swap_2 0 rfl rfl)
theorem dX9_swap_49 : decode cX9_swap 49 = .ok (.aload_n 0, 1) := dk_42 (dk_at dksX9_swap_2 3 rfl rfl)
theorem dX9_swap_50 : decode cX9_swap 50 = .ok (.iload 5, 2) := dk_21 5 (dk_at dksX9_swap_2 4 rfl rfl)
theorem dX9_swap_52 : decode cX9_swap 52 = .ok (.putfield 354, 3) := dk_181 1 98 (dk_at dksX9_swap_2 6 rfl rfl)
theorem dX9_swap_55 : decode cX9_swap 55 = .ok (.aload_n 0, 1) := dk_42 (dk_at dksX9_swap_2 9 rfl rfl)
theorem dX9_swap_56 : decode cX9_swap 56 = .ok (.invokevirtual 484, 3) := dk_182 1 228 (dk_at dksX9_swap_2 10 rfl rfl)
theorem dX9_swap_59 : decode cX9_swap 59 = .ok (.lstore 6, 2) := dk_55 6 (dk_at dksX9_swap_2 13 rfl rfl)
theorem dX9_swap_61 : decode cX9_swap 61 = .ok (.lload 6, 2) := dk_22 6 (dk_at dksX9_swap_2 15 rfl rfl)
theorem dX9_swap_63 : decode cX9_swap 63 = .ok (.lload_n 2, 1) := dk_32 (dk_at dksX9_swap_2 17 rfl rfl)
theorem dX9_swap_64 : decode cX9_swap 64 = .ok (.lcmp, 1) := dk_148 (dk_at dksX9_swap_2 18 rfl rfl)
theorem dX9_swap_65 : decode cX9_swap 65 = .ok (.ifCond .lt 6, 3) := dk_155 0 6 (dk_at dksX9_swap_2 19 rfl rfl)
theorem dX9_swap_68 : decode cX9_swap 68 = .ok (.goto 15, 3) := dk_167 0 15 (dk_at dksX9_swap_3 0 rfl rfl)
theorem dX9_swap_71 : decode cX9_swap 71 = .ok (.bipush 10, 2) := dk_16 10 (dk_at dksX9_swap_3 3 rfl rfl)
theorem dX9_swap_73 : decode cX9_swap 73 = .ok (.iload 4, 2) := dk_21 4 (dk_at dksX9_swap_3 5 rfl rfl)
theorem dX9_swap_75 : decode cX9_swap 75 = .ok (.imul, 1) := dk_104 (dk_at dksX9_swap_3 7 rfl rfl)
theorem dX9_swap_76 : decode cX9_swap 76 = .ok (.iload 5, 2) := dk_21 5 (dk_at dksX9_swap_3 8 rfl rfl)
theorem dX9_swap_78 : decode cX9_swap 78 = .ok (.iadd, 1) := dk_96 (dk_at dksX9_swap_3 10 rfl rfl)
theorem dX9_swap_79 : decode cX9_swap 79 = .ok (.istore_n 1, 1) := dk_60 (dk_at dksX9_swap_3 11 rfl rfl)
theorem dX9_swap_80 : decode cX9_swap 80 = .ok (.lload 6, 2) := dk_22 6 (dk_at dksX9_swap_3 12 rfl rfl)
theorem dX9_swap_82 : decode cX9_swap 82 = .ok (.lstore_n 2, 1) := dk_65 (dk_at dksX9_swap_3 14 rfl rfl)
theorem dX9_swap_83 : decode cX9_swap 83 = .ok (.iinc 5 1, 3) := dk_132 5 1 (dk_at dksX9_swap_3 15 rfl rfl)
theorem dX9_swap_86 : decode cX9_swap 86 = .ok (.goto (-52), 3) := dk_167 255 204 (dk_at dksX9_swap_3 18 rfl rfl)
theorem dX9_swap_89 : decode cX9_swap 89 = .ok (.iinc 4 1, 3) := dk_132 4 1 (dk_at dksX9_swap_3 21 rfl rfl)
theorem dX9_swap_92 : decode cX9_swap 92 = .ok (.goto (-73), 3) := dk_167 255 183 (dk_at dksX9_swap_4 0 rfl rfl)
theorem dX9_swap_95 : decode cX9_swap 95 = .ok (.iload_n 1, 1) := dk_27 (dk_at dksX9_swap_4 3 rfl rfl)
theorem dX9_swap_96 : decode cX9_swap 96 = .ok (.ireturn, 1) := dk_172 (dk_at dksX9_swap_4 4 rfl rfl)
abbrev cX9_day : ByteArray := prog_28_method_115_code
def yX9_day : MethodName := ⟨RX9, "day", "(III)I"⟩
def dkwX9_day_4 : List UInt8 := [8, 160, 0, 10, 42, 180, 2, 11, 167, 0, 9, 42, 180, 1, 129, 4, 100, 172]
abbrev dktX9_day_4 : List UInt8 := dkwX9_day_4 ++ []
def dkwX9_day_3 : List UInt8 := [6, 160, 0, 10, 42, 180, 2, 8, 167, 0, 33, 29, 7, 160, 0, 10, 42, 180, 2, 14, 167, 0, 21, 29]
abbrev dktX9_day_3 : List UInt8 := dkwX9_day_3 ++ dktX9_day_4
def dkwX9_day_2 : List UInt8 := [180, 1, 136, 167, 0, 19, 29, 4, 160, 0, 10, 42, 180, 1, 133, 167, 0, 7, 42, 180, 1, 131, 172, 29]
abbrev dktX9_day_2 : List UInt8 := dkwX9_day_2 ++ dktX9_day_3
def dkwX9_day_1 : List UInt8 := [182, 0, 213, 154, 0, 5, 3, 172, 42, 27, 28, 182, 2, 20, 29, 6, 162, 0, 31, 29, 154, 0, 10, 42]
abbrev dktX9_day_1 : List UInt8 := dkwX9_day_1 ++ dktX9_day_2
def dkwX9_day_0 : List UInt8 := [42, 3, 181, 0, 3, 42, 28, 4, 182, 1, 74, 153, 0, 19, 42, 29, 3, 16, 6, 184, 1, 60, 5, 4]
abbrev dktX9_day_0 : List UInt8 := dkwX9_day_0 ++ dktX9_day_1
theorem dksX9_day_0 : cX9_day.data.toList.drop 0 = dktX9_day_0 := by decide +kernel
theorem dksX9_day_1 : cX9_day.data.toList.drop 24 = dktX9_day_1 := dk_seg dksX9_day_0 24 rfl rfl
theorem dksX9_day_2 : cX9_day.data.toList.drop 48 = dktX9_day_2 := dk_seg dksX9_day_1 24 rfl rfl
theorem dksX9_day_3 : cX9_day.data.toList.drop 72 = dktX9_day_3 := dk_seg dksX9_day_2 24 rfl rfl
theorem dksX9_day_4 : cX9_day.data.toList.drop 96 = dktX9_day_4 := dk_seg dksX9_day_3 24 rfl rfl
theorem dX9_day_0 : decode cX9_day 0 = .ok (.aload_n 0, 1) := dk_42 (dk_at dksX9_day_0 0 rfl rfl)
theorem dX9_day_1 : decode cX9_day 1 = .ok (.iconst 0, 1) := dk_3 (dk_at dksX9_day_0 1 rfl rfl)
theorem dX9_day_2 : decode cX9_day 2 = .ok (.putfield 3, 3) := dk_181 0 3 (dk_at dksX9_day_0 2 rfl rfl)
theorem dX9_day_5 : decode cX9_day 5 = .ok (.aload_n 0, 1) := dk_42 (dk_at dksX9_day_0 5 rfl rfl)
theorem dX9_day_6 : decode cX9_day 6 = .ok (.iload_n 2, 1) := dk_28 (dk_at dksX9_day_0 6 rfl rfl)
theorem dX9_day_7 : decode cX9_day 7 = .ok (.iconst 1, 1) := dk_4 (dk_at dksX9_day_0 7 rfl rfl)
theorem dX9_day_8 : decode cX9_day 8 = .ok (.invokevirtual 330, 3) := dk_182 1 74 (dk_at dksX9_day_0 8 rfl rfl)
theorem dX9_day_11 : decode cX9_day 11 = .ok (.ifCond .eq 19, 3) := dk_153 0 19 (dk_at dksX9_day_0 11 rfl rfl)
theorem dX9_day_14 : decode cX9_day 14 = .ok (.aload_n 0, 1) := dk_42 (dk_at dksX9_day_0 14 rfl rfl)
theorem dX9_day_15 : decode cX9_day 15 = .ok (.iload_n 3, 1) := dk_29 (dk_at dksX9_day_0 15 rfl rfl)
theorem dX9_day_16 : decode cX9_day 16 = .ok (.iconst 0, 1) := dk_3 (dk_at dksX9_day_0 16 rfl rfl)
theorem dX9_day_17 : decode cX9_day 17 = .ok (.bipush 6, 2) := dk_16 6 (dk_at dksX9_day_0 17 rfl rfl)
theorem dX9_day_19 : decode cX9_day 19 = .ok (.invokestatic 316, 3) := dk_184 1 60 (dk_at dksX9_day_0 19 rfl rfl)
theorem dX9_day_22 : decode cX9_day 22 = .ok (.iconst 2, 1) := dk_5 (dk_at dksX9_day_0 22 rfl rfl)
theorem dX9_day_23 : decode cX9_day 23 = .ok (.iconst 1, 1) := dk_4 (dk_at dksX9_day_0 23 rfl rfl)
theorem dX9_day_24 : decode cX9_day 24 = .ok (.invokevirtual 213, 3) := dk_182 0 213 (dk_at dksX9_day_1 0 rfl rfl)
theorem dX9_day_27 : decode cX9_day 27 = .ok (.ifCond .ne 5, 3) := dk_154 0 5 (dk_at dksX9_day_1 3 rfl rfl)
theorem dX9_day_30 : decode cX9_day 30 = .ok (.iconst 0, 1) := dk_3 (dk_at dksX9_day_1 6 rfl rfl)
theorem dX9_day_31 : decode cX9_day 31 = .ok (.ireturn, 1) := dk_172 (dk_at dksX9_day_1 7 rfl rfl)
theorem dX9_day_32 : decode cX9_day 32 = .ok (.aload_n 0, 1) := dk_42 (dk_at dksX9_day_1 8 rfl rfl)
theorem dX9_day_33 : decode cX9_day 33 = .ok (.iload_n 1, 1) := dk_27 (dk_at dksX9_day_1 9 rfl rfl)
theorem dX9_day_34 : decode cX9_day 34 = .ok (.iload_n 2, 1) := dk_28 (dk_at dksX9_day_1 10 rfl rfl)
theorem dX9_day_35 : decode cX9_day 35 = .ok (.invokevirtual 532, 3) := dk_182 2 20 (dk_at dksX9_day_1 11 rfl rfl)
theorem dX9_day_38 : decode cX9_day 38 = .ok (.iload_n 3, 1) := dk_29 (dk_at dksX9_day_1 14 rfl rfl)
theorem dX9_day_39 : decode cX9_day 39 = .ok (.iconst 3, 1) := dk_6 (dk_at dksX9_day_1 15 rfl rfl)
theorem dX9_day_40 : decode cX9_day 40 = .ok (.if_icmp .ge 31, 3) := dk_162 0 31 (dk_at dksX9_day_1 16 rfl rfl)
theorem dX9_day_43 : decode cX9_day 43 = .ok (.iload_n 3, 1) := dk_29 (dk_at dksX9_day_1 19 rfl rfl)
theorem dX9_day_44 : decode cX9_day 44 = .ok (.ifCond .ne 10, 3) := dk_154 0 10 (dk_at dksX9_day_1 20 rfl rfl)
theorem dX9_day_47 : decode cX9_day 47 = .ok (.aload_n 0, 1) := dk_42 (dk_at dksX9_day_1 23 rfl rfl)
theorem dX9_day_48 : decode cX9_day 48 = .ok (.getfield 392, 3) := dk_180 1 136 (dk_at dksX9_day_2 0 rfl rfl)
theorem dX9_day_51 : decode cX9_day 51 = .ok (.goto 19, 3) := dk_167 0 19 (dk_at dksX9_day_2 3 rfl rfl)
theorem dX9_day_54 : decode cX9_day 54 = .ok (.iload_n 3, 1) := dk_29 (dk_at dksX9_day_2 6 rfl rfl)
theorem dX9_day_55 : decode cX9_day 55 = .ok (.iconst 1, 1) := dk_4 (dk_at dksX9_day_2 7 rfl rfl)
theorem dX9_day_56 : decode cX9_day 56 = .ok (.if_icmp .ne 10, 3) := dk_160 0 10 (dk_at dksX9_day_2 8 rfl rfl)
theorem dX9_day_59 : decode cX9_day 59 = .ok (.aload_n 0, 1) := dk_42 (dk_at dksX9_day_2 11 rfl rfl)
theorem dX9_day_60 : decode cX9_day 60 = .ok (.getfield 389, 3) := dk_180 1 133 (dk_at dksX9_day_2 12 rfl rfl)
theorem dX9_day_63 : decode cX9_day 63 = .ok (.goto 7, 3) := dk_167 0 7 (dk_at dksX9_day_2 15 rfl rfl)
theorem dX9_day_66 : decode cX9_day 66 = .ok (.aload_n 0, 1) := dk_42 (dk_at dksX9_day_2 18 rfl rfl)
theorem dX9_day_67 : decode cX9_day 67 = .ok (.getfield 387, 3) := dk_180 1 131 (dk_at dksX9_day_2 19 rfl rfl)
theorem dX9_day_70 : decode cX9_day 70 = .ok (.ireturn, 1) := dk_172 (dk_at dksX9_day_2 22 rfl rfl)
theorem dX9_day_71 : decode cX9_day 71 = .ok (.iload_n 3, 1) := dk_29 (dk_at dksX9_day_2 23 rfl rfl)
theorem dX9_day_72 : decode cX9_day 72 = .ok (.iconst 3, 1) := dk_6 (dk_at dksX9_day_3 0 rfl rfl)
theorem dX9_day_73 : decode cX9_day 73 = .ok (.if_icmp .ne 10, 3) := dk_160 0 10 (dk_at dksX9_day_3 1 rfl rfl)
theorem dX9_day_76 : decode cX9_day 76 = .ok (.aload_n 0, 1) := dk_42 (dk_at dksX9_day_3 4 rfl rfl)
theorem dX9_day_77 : decode cX9_day 77 = .ok (.getfield 520, 3) := dk_180 2 8 (dk_at dksX9_day_3 5 rfl rfl)
theorem dX9_day_80 : decode cX9_day 80 = .ok (.goto 33, 3) := dk_167 0 33 (dk_at dksX9_day_3 8 rfl rfl)
theorem dX9_day_83 : decode cX9_day 83 = .ok (.iload_n 3, 1) := dk_29 (dk_at dksX9_day_3 11 rfl rfl)
theorem dX9_day_84 : decode cX9_day 84 = .ok (.iconst 4, 1) := dk_7 (dk_at dksX9_day_3 12 rfl rfl)
theorem dX9_day_85 : decode cX9_day 85 = .ok (.if_icmp .ne 10, 3) := dk_160 0 10 (dk_at dksX9_day_3 13 rfl rfl)
theorem dX9_day_88 : decode cX9_day 88 = .ok (.aload_n 0, 1) := dk_42 (dk_at dksX9_day_3 16 rfl rfl)
theorem dX9_day_89 : decode cX9_day 89 = .ok (.getfield 526, 3) := dk_180 2 14 (dk_at dksX9_day_3 17 rfl rfl)
theorem dX9_day_92 : decode cX9_day 92 = .ok (.goto 21, 3) := dk_167 0 21 (dk_at dksX9_day_3 20 rfl rfl)
theorem dX9_day_95 : decode cX9_day 95 = .ok (.iload_n 3, 1) := dk_29 (dk_at dksX9_day_3 23 rfl rfl)
theorem dX9_day_96 : decode cX9_day 96 = .ok (.iconst 5, 1) := dk_8 (dk_at dksX9_day_4 0 rfl rfl)
theorem dX9_day_97 : decode cX9_day 97 = .ok (.if_icmp .ne 10, 3) := dk_160 0 10 (dk_at dksX9_day_4 1 rfl rfl)
theorem dX9_day_100 : decode cX9_day 100 = .ok (.aload_n 0, 1) := dk_42 (dk_at dksX9_day_4 4 rfl rfl)
theorem dX9_day_101 : decode cX9_day 101 = .ok (.getfield 523, 3) := dk_180 2 11 (dk_at dksX9_day_4 5 rfl rfl)
theorem dX9_day_104 : decode cX9_day 104 = .ok (.goto 9, 3) := dk_167 0 9 (dk_at dksX9_day_4 8 rfl rfl)
theorem dX9_day_107 : decode cX9_day 107 = .ok (.aload_n 0, 1) := dk_42 (dk_at dksX9_day_4 11 rfl rfl)
theorem dX9_day_108 : decode cX9_day 108 = .ok (.getfield 385, 3) := dk_180 1 129 (dk_at dksX9_day_4 12 rfl rfl)
theorem dX9_day_111 : decode cX9_day 111 = .ok (.iconst 1, 1) := dk_4 (dk_at dksX9_day_4 15 rfl rfl)
theorem dX9_day_112 : decode cX9_day 112 = .ok (.isub, 1) := dk_100 (dk_at dksX9_day_4 16 rfl rfl)
theorem dX9_day_113 : decode cX9_day 113 = .ok (.ireturn, 1) := dk_172 (dk_at dksX9_day_4 17 rfl rfl)
abbrev cX9_dayGoes : ByteArray := prog_28_method_114_code
def yX9_dayGoes : MethodName := ⟨RX9, "dayGoes", "(II)V"⟩
def dkwX9_dayGoes_10 : List UInt8 := [132, 4, 1, 167, 255, 151, 132, 3, 1, 167, 255, 71, 177]
abbrev dktX9_dayGoes_10 : List UInt8 := dkwX9_dayGoes_10 ++ []
def dkwX9_dayGoes_9 : List UInt8 := [180, 0, 59, 16, 32, 42, 180, 0, 35, 29, 46, 104, 7, 21, 4, 104, 96, 46, 29, 182, 2, 17]
abbrev dktX9_dayGoes_9 : List UInt8 := dkwX9_dayGoes_9 ++ dktX9_dayGoes_10
def dkwX9_dayGoes_8 : List UInt8 := [4, 96, 46, 54, 5, 21, 5, 153, 0, 14, 42, 16, 16, 182, 2, 5, 21, 5, 162, 0, 27, 42, 42]
abbrev dktX9_dayGoes_8 : List UInt8 := dkwX9_dayGoes_8 ++ dktX9_dayGoes_9
def dkwX9_dayGoes_7 : List UInt8 := [154, 0, 6, 167, 0, 66, 42, 180, 0, 59, 16, 32, 42, 180, 0, 35, 29, 46, 104, 7, 21, 4, 104, 96]
abbrev dktX9_dayGoes_7 : List UInt8 := dkwX9_dayGoes_7 ++ dktX9_dayGoes_8
def dkwX9_dayGoes_6 : List UInt8 := [29, 46, 46, 162, 0, 95, 42, 29, 182, 1, 168, 42, 42, 180, 0, 35, 29, 46, 21, 4, 182, 1, 171]
abbrev dktX9_dayGoes_6 : List UInt8 := dkwX9_dayGoes_6 ++ dktX9_dayGoes_7
def dkwX9_dayGoes_5 : List UInt8 := [180, 0, 90, 16, 7, 42, 29, 182, 1, 77, 79, 3, 54, 4, 21, 4, 42, 180, 0, 62, 42, 180, 0, 35]
abbrev dktX9_dayGoes_5 : List UInt8 := dkwX9_dayGoes_5 ++ dktX9_dayGoes_6
def dkwX9_dayGoes_4 : List UInt8 := [180, 0, 90, 7, 42, 180, 0, 38, 29, 46, 79, 42, 180, 0, 90, 16, 6, 42, 29, 182, 1, 80, 79, 42]
abbrev dktX9_dayGoes_4 : List UInt8 := dkwX9_dayGoes_4 ++ dktX9_dayGoes_5
def dkwX9_dayGoes_3 : List UInt8 := [182, 2, 5, 42, 180, 0, 26, 7, 46, 162, 0, 13, 42, 4, 42, 180, 1, 131, 100, 181, 1, 131, 42]
abbrev dktX9_dayGoes_3 : List UInt8 := dkwX9_dayGoes_3 ++ dktX9_dayGoes_4
def dkwX9_dayGoes_2 : List UInt8 := [46, 181, 1, 131, 42, 3, 181, 1, 129, 3, 62, 29, 28, 163, 0, 186, 42, 3, 181, 1, 127, 42, 16, 16]
abbrev dktX9_dayGoes_2 : List UInt8 := dkwX9_dayGoes_2 ++ dktX9_dayGoes_3
def dkwX9_dayGoes_1 : List UInt8 := [180, 0, 26, 4, 46, 181, 1, 136, 42, 42, 180, 0, 26, 5, 46, 181, 1, 133, 42, 42, 180, 0, 26, 6]
abbrev dktX9_dayGoes_1 : List UInt8 := dkwX9_dayGoes_1 ++ dktX9_dayGoes_2
def dkwX9_dayGoes_0 : List UInt8 := [42, 27, 181, 2, 1, 42, 3, 181, 2, 8, 42, 3, 181, 2, 14, 42, 3, 181, 2, 11, 42, 42]
abbrev dktX9_dayGoes_0 : List UInt8 := dkwX9_dayGoes_0 ++ dktX9_dayGoes_1
theorem dksX9_dayGoes_0 : cX9_dayGoes.data.toList.drop 0 = dktX9_dayGoes_0 := by decide +kernel
theorem dksX9_dayGoes_1 : cX9_dayGoes.data.toList.drop 22 = dktX9_dayGoes_1 := dk_seg dksX9_dayGoes_0 22 rfl rfl
theorem dksX9_dayGoes_2 : cX9_dayGoes.data.toList.drop 46 = dktX9_dayGoes_2 := dk_seg dksX9_dayGoes_1 24 rfl rfl
theorem dksX9_dayGoes_3 : cX9_dayGoes.data.toList.drop 70 = dktX9_dayGoes_3 := dk_seg dksX9_dayGoes_2 24 rfl rfl
theorem dksX9_dayGoes_4 : cX9_dayGoes.data.toList.drop 93 = dktX9_dayGoes_4 := dk_seg dksX9_dayGoes_3 23 rfl rfl
theorem dksX9_dayGoes_5 : cX9_dayGoes.data.toList.drop 117 = dktX9_dayGoes_5 := dk_seg dksX9_dayGoes_4 24 rfl rfl
theorem dksX9_dayGoes_6 : cX9_dayGoes.data.toList.drop 141 = dktX9_dayGoes_6 := dk_seg dksX9_dayGoes_5 24 rfl rfl
theorem dksX9_dayGoes_7 : cX9_dayGoes.data.toList.drop 164 = dktX9_dayGoes_7 := dk_seg dksX9_dayGoes_6 23 rfl rfl
theorem dksX9_dayGoes_8 : cX9_dayGoes.data.toList.drop 188 = dktX9_dayGoes_8 := dk_seg dksX9_dayGoes_7 24 rfl rfl
theorem dksX9_dayGoes_9 : cX9_dayGoes.data.toList.drop 211 = dktX9_dayGoes_9 := dk_seg dksX9_dayGoes_8 23 rfl rfl
theorem dksX9_dayGoes_10 : cX9_dayGoes.data.toList.drop 233 = dktX9_dayGoes_10 := dk_seg dksX9_dayGoes_9 22 rfl rfl
theorem dX9_dayGoes_0 : decode cX9_dayGoes 0 = .ok (.aload_n 0, 1) := dk_42 (dk_at dksX9_dayGoes_0 0 rfl rfl)
theorem dX9_dayGoes_1 : decode cX9_dayGoes 1 = .ok (.iload_n 1, 1) := dk_27 (dk_at dksX9_dayGoes_0 1 rfl rfl)
theorem dX9_dayGoes_2 : decode cX9_dayGoes 2 = .ok (.putfield 513, 3) := dk_181 2 1 (dk_at dksX9_dayGoes_0 2 rfl rfl)
theorem dX9_dayGoes_5 : decode cX9_dayGoes 5 = .ok (.aload_n 0, 1) := dk_42 (dk_at dksX9_dayGoes_0 5 rfl rfl)
theorem dX9_dayGoes_6 : decode cX9_dayGoes 6 = .ok (.iconst 0, 1) := dk_3 (dk_at dksX9_dayGoes_0 6 rfl rfl)
theorem dX9_dayGoes_7 : decode cX9_dayGoes 7 = .ok (.putfield 520, 3) := dk_181 2 8 (dk_at dksX9_dayGoes_0 7 rfl rfl)
theorem dX9_dayGoes_10 : decode cX9_dayGoes 10 = .ok (.aload_n 0, 1) := dk_42 (dk_at dksX9_dayGoes_0 10 rfl rfl)
theorem dX9_dayGoes_11 : decode cX9_dayGoes 11 = .ok (.iconst 0, 1) := dk_3 (dk_at dksX9_dayGoes_0 11 rfl rfl)
theorem dX9_dayGoes_12 : decode cX9_dayGoes 12 = .ok (.putfield 526, 3) := dk_181 2 14 (dk_at dksX9_dayGoes_0 12 rfl rfl)
theorem dX9_dayGoes_15 : decode cX9_dayGoes 15 = .ok (.aload_n 0, 1) := dk_42 (dk_at dksX9_dayGoes_0 15 rfl rfl)
theorem dX9_dayGoes_16 : decode cX9_dayGoes 16 = .ok (.iconst 0, 1) := dk_3 (dk_at dksX9_dayGoes_0 16 rfl rfl)
theorem dX9_dayGoes_17 : decode cX9_dayGoes 17 = .ok (.putfield 523, 3) := dk_181 2 11 (dk_at dksX9_dayGoes_0 17 rfl rfl)
theorem dX9_dayGoes_20 : decode cX9_dayGoes 20 = .ok (.aload_n 0, 1) := dk_42 (dk_at dksX9_dayGoes_0 20 rfl rfl)
theorem dX9_dayGoes_21 : decode cX9_dayGoes 21 = .ok (.aload_n 0, 1) := dk_42 (dk_at dksX9_dayGoes_0 21 rfl rfl)
theorem dX9_dayGoes_22 : decode cX9_dayGoes 22 = .ok (.getfield 26, 3) := dk_180 0 26 (dk_at dksX9_dayGoes_1 0 rfl rfl)
theorem dX9_dayGoes_25 : decode cX9_dayGoes 25 = .ok (.iconst 1, 1) := dk_4 (dk_at dksX9_dayGoes_1 3 rfl rfl)
theorem dX9_dayGoes_26 : decode cX9_dayGoes 26 = .ok (.iaload, 1) := dk_46 (dk_at dksX9_dayGoes_1 4 rfl rfl)
theorem dX9_dayGoes_27 : decode cX9_dayGoes 27 = .ok (.putfield 392, 3) := dk_181 1 136 (dk_at dksX9_dayGoes_1 5 rfl rfl)
theorem dX9_dayGoes_30 : decode cX9_dayGoes 30 = .ok (.aload_n 0, 1) := dk_42 (dk_at dksX9_dayGoes_1 8 rfl rfl)
theorem dX9_dayGoes_31 : decode cX9_dayGoes 31 = .ok (.aload_n 0, 1) := dk_42 (dk_at dksX9_dayGoes_1 9 rfl rfl)
theorem dX9_dayGoes_32 : decode cX9_dayGoes 32 = .ok (.getfield 26, 3) := dk_180 0 26 (dk_at dksX9_dayGoes_1 10 rfl rfl)
theorem dX9_dayGoes_35 : decode cX9_dayGoes 35 = .ok (.iconst 2, 1) := dk_5 (dk_at dksX9_dayGoes_1 13 rfl rfl)
theorem dX9_dayGoes_36 : decode cX9_dayGoes 36 = .ok (.iaload, 1) := dk_46 (dk_at dksX9_dayGoes_1 14 rfl rfl)
theorem dX9_dayGoes_37 : decode cX9_dayGoes 37 = .ok (.putfield 389, 3) := dk_181 1 133 (dk_at dksX9_dayGoes_1 15 rfl rfl)
theorem dX9_dayGoes_40 : decode cX9_dayGoes 40 = .ok (.aload_n 0, 1) := dk_42 (dk_at dksX9_dayGoes_1 18 rfl rfl)
theorem dX9_dayGoes_41 : decode cX9_dayGoes 41 = .ok (.aload_n 0, 1) := dk_42 (dk_at dksX9_dayGoes_1 19 rfl rfl)
theorem dX9_dayGoes_42 : decode cX9_dayGoes 42 = .ok (.getfield 26, 3) := dk_180 0 26 (dk_at dksX9_dayGoes_1 20 rfl rfl)
theorem dX9_dayGoes_45 : decode cX9_dayGoes 45 = .ok (.iconst 3, 1) := dk_6 (dk_at dksX9_dayGoes_1 23 rfl rfl)
theorem dX9_dayGoes_46 : decode cX9_dayGoes 46 = .ok (.iaload, 1) := dk_46 (dk_at dksX9_dayGoes_2 0 rfl rfl)
theorem dX9_dayGoes_47 : decode cX9_dayGoes 47 = .ok (.putfield 387, 3) := dk_181 1 131 (dk_at dksX9_dayGoes_2 1 rfl rfl)
theorem dX9_dayGoes_50 : decode cX9_dayGoes 50 = .ok (.aload_n 0, 1) := dk_42 (dk_at dksX9_dayGoes_2 4 rfl rfl)
theorem dX9_dayGoes_51 : decode cX9_dayGoes 51 = .ok (.iconst 0, 1) := dk_3 (dk_at dksX9_dayGoes_2 5 rfl rfl)
theorem dX9_dayGoes_52 : decode cX9_dayGoes 52 = .ok (.putfield 385, 3) := dk_181 1 129 (dk_at dksX9_dayGoes_2 6 rfl rfl)
theorem dX9_dayGoes_55 : decode cX9_dayGoes 55 = .ok (.iconst 0, 1) := dk_3 (dk_at dksX9_dayGoes_2 9 rfl rfl)
theorem dX9_dayGoes_56 : decode cX9_dayGoes 56 = .ok (.istore_n 3, 1) := dk_62 (dk_at dksX9_dayGoes_2 10 rfl rfl)
theorem dX9_dayGoes_57 : decode cX9_dayGoes 57 = .ok (.iload_n 3, 1) := dk_29 (dk_at dksX9_dayGoes_2 11 rfl rfl)
theorem dX9_dayGoes_58 : decode cX9_dayGoes 58 = .ok (.iload_n 2, 1) := dk_28 (dk_at dksX9_dayGoes_2 12 rfl rfl)
theorem dX9_dayGoes_59 : decode cX9_dayGoes 59 = .ok (.if_icmp .gt 186, 3) := dk_163 0 186 (dk_at dksX9_dayGoes_2 13 rfl rfl)
theorem dX9_dayGoes_62 : decode cX9_dayGoes 62 = .ok (.aload_n 0, 1) := dk_42 (dk_at dksX9_dayGoes_2 16 rfl rfl)
theorem dX9_dayGoes_63 : decode cX9_dayGoes 63 = .ok (.iconst 0, 1) := dk_3 (dk_at dksX9_dayGoes_2 17 rfl rfl)
theorem dX9_dayGoes_64 : decode cX9_dayGoes 64 = .ok (.putfield 383, 3) := dk_181 1 127 (dk_at dksX9_dayGoes_2 18 rfl rfl)
theorem dX9_dayGoes_67 : decode cX9_dayGoes 67 = .ok (.aload_n 0, 1) := dk_42 (dk_at dksX9_dayGoes_2 21 rfl rfl)
theorem dX9_dayGoes_68 : decode cX9_dayGoes 68 = .ok (.bipush 16, 2) := dk_16 16 (dk_at dksX9_dayGoes_2 22 rfl rfl)
theorem dX9_dayGoes_70 : decode cX9_dayGoes 70 = .ok (.invokevirtual 517, 3) := dk_182 2 5 (dk_at dksX9_dayGoes_3 0 rfl rfl)
theorem dX9_dayGoes_73 : decode cX9_dayGoes 73 = .ok (.aload_n 0, 1) := dk_42 (dk_at dksX9_dayGoes_3 3 rfl rfl)
theorem dX9_dayGoes_74 : decode cX9_dayGoes 74 = .ok (.getfield 26, 3) := dk_180 0 26 (dk_at dksX9_dayGoes_3 4 rfl rfl)
theorem dX9_dayGoes_77 : decode cX9_dayGoes 77 = .ok (.iconst 4, 1) := dk_7 (dk_at dksX9_dayGoes_3 7 rfl rfl)
theorem dX9_dayGoes_78 : decode cX9_dayGoes 78 = .ok (.iaload, 1) := dk_46 (dk_at dksX9_dayGoes_3 8 rfl rfl)
theorem dX9_dayGoes_79 : decode cX9_dayGoes 79 = .ok (.if_icmp .ge 13, 3) := dk_162 0 13 (dk_at dksX9_dayGoes_3 9 rfl rfl)
theorem dX9_dayGoes_82 : decode cX9_dayGoes 82 = .ok (.aload_n 0, 1) := dk_42 (dk_at dksX9_dayGoes_3 12 rfl rfl)
theorem dX9_dayGoes_83 : decode cX9_dayGoes 83 = .ok (.iconst 1, 1) := dk_4 (dk_at dksX9_dayGoes_3 13 rfl rfl)
theorem dX9_dayGoes_84 : decode cX9_dayGoes 84 = .ok (.aload_n 0, 1) := dk_42 (dk_at dksX9_dayGoes_3 14 rfl rfl)
theorem dX9_dayGoes_85 : decode cX9_dayGoes 85 = .ok (.getfield 387, 3) := dk_180 1 131 (dk_at dksX9_dayGoes_3 15 rfl rfl)
theorem dX9_dayGoes_88 : decode cX9_dayGoes 88 = .ok (.isub, 1) := dk_100 (dk_at dksX9_dayGoes_3 18 rfl rfl)
theorem dX9_dayGoes_89 : decode cX9_dayGoes 89 = .ok (.putfield 387, 3) := dk_181 1 131 (dk_at dksX9_dayGoes_3 19 rfl rfl)
theorem dX9_dayGoes_92 : decode cX9_dayGoes 92 = .ok (.aload_n 0, 1) := dk_42 (dk_at dksX9_dayGoes_3 22 rfl rfl)
theorem dX9_dayGoes_93 : decode cX9_dayGoes 93 = .ok (.getfield 90, 3) := dk_180 0 90 (dk_at dksX9_dayGoes_4 0 rfl rfl)
theorem dX9_dayGoes_96 : decode cX9_dayGoes 96 = .ok (.iconst 4, 1) := dk_7 (dk_at dksX9_dayGoes_4 3 rfl rfl)
theorem dX9_dayGoes_97 : decode cX9_dayGoes 97 = .ok (.aload_n 0, 1) := dk_42 (dk_at dksX9_dayGoes_4 4 rfl rfl)
theorem dX9_dayGoes_98 : decode cX9_dayGoes 98 = .ok (.getfield 38, 3) := dk_180 0 38 (dk_at dksX9_dayGoes_4 5 rfl rfl)
theorem dX9_dayGoes_101 : decode cX9_dayGoes 101 = .ok (.iload_n 3, 1) := dk_29 (dk_at dksX9_dayGoes_4 8 rfl rfl)
theorem dX9_dayGoes_102 : decode cX9_dayGoes 102 = .ok (.iaload, 1) := dk_46 (dk_at dksX9_dayGoes_4 9 rfl rfl)
theorem dX9_dayGoes_103 : decode cX9_dayGoes 103 = .ok (.iastore, 1) := dk_79 (dk_at dksX9_dayGoes_4 10 rfl rfl)
theorem dX9_dayGoes_104 : decode cX9_dayGoes 104 = .ok (.aload_n 0, 1) := dk_42 (dk_at dksX9_dayGoes_4 11 rfl rfl)
theorem dX9_dayGoes_105 : decode cX9_dayGoes 105 = .ok (.getfield 90, 3) := dk_180 0 90 (dk_at dksX9_dayGoes_4 12 rfl rfl)
theorem dX9_dayGoes_108 : decode cX9_dayGoes 108 = .ok (.bipush 6, 2) := dk_16 6 (dk_at dksX9_dayGoes_4 15 rfl rfl)
theorem dX9_dayGoes_110 : decode cX9_dayGoes 110 = .ok (.aload_n 0, 1) := dk_42 (dk_at dksX9_dayGoes_4 17 rfl rfl)
theorem dX9_dayGoes_111 : decode cX9_dayGoes 111 = .ok (.iload_n 3, 1) := dk_29 (dk_at dksX9_dayGoes_4 18 rfl rfl)
theorem dX9_dayGoes_112 : decode cX9_dayGoes 112 = .ok (.invokevirtual 336, 3) := dk_182 1 80 (dk_at dksX9_dayGoes_4 19 rfl rfl)
theorem dX9_dayGoes_115 : decode cX9_dayGoes 115 = .ok (.iastore, 1) := dk_79 (dk_at dksX9_dayGoes_4 22 rfl rfl)
theorem dX9_dayGoes_116 : decode cX9_dayGoes 116 = .ok (.aload_n 0, 1) := dk_42 (dk_at dksX9_dayGoes_4 23 rfl rfl)
theorem dX9_dayGoes_117 : decode cX9_dayGoes 117 = .ok (.getfield 90, 3) := dk_180 0 90 (dk_at dksX9_dayGoes_5 0 rfl rfl)
theorem dX9_dayGoes_120 : decode cX9_dayGoes 120 = .ok (.bipush 7, 2) := dk_16 7 (dk_at dksX9_dayGoes_5 3 rfl rfl)
theorem dX9_dayGoes_122 : decode cX9_dayGoes 122 = .ok (.aload_n 0, 1) := dk_42 (dk_at dksX9_dayGoes_5 5 rfl rfl)
theorem dX9_dayGoes_123 : decode cX9_dayGoes 123 = .ok (.iload_n 3, 1) := dk_29 (dk_at dksX9_dayGoes_5 6 rfl rfl)
theorem dX9_dayGoes_124 : decode cX9_dayGoes 124 = .ok (.invokevirtual 333, 3) := dk_182 1 77 (dk_at dksX9_dayGoes_5 7 rfl rfl)
theorem dX9_dayGoes_127 : decode cX9_dayGoes 127 = .ok (.iastore, 1) := dk_79 (dk_at dksX9_dayGoes_5 10 rfl rfl)
theorem dX9_dayGoes_128 : decode cX9_dayGoes 128 = .ok (.iconst 0, 1) := dk_3 (dk_at dksX9_dayGoes_5 11 rfl rfl)
theorem dX9_dayGoes_129 : decode cX9_dayGoes 129 = .ok (.istore 4, 2) := dk_54 4 (dk_at dksX9_dayGoes_5 12 rfl rfl)
theorem dX9_dayGoes_131 : decode cX9_dayGoes 131 = .ok (.iload 4, 2) := dk_21 4 (dk_at dksX9_dayGoes_5 14 rfl rfl)
theorem dX9_dayGoes_133 : decode cX9_dayGoes 133 = .ok (.aload_n 0, 1) := dk_42 (dk_at dksX9_dayGoes_5 16 rfl rfl)
theorem dX9_dayGoes_134 : decode cX9_dayGoes 134 = .ok (.getfield 62, 3) := dk_180 0 62 (dk_at dksX9_dayGoes_5 17 rfl rfl)
theorem dX9_dayGoes_137 : decode cX9_dayGoes 137 = .ok (.aload_n 0, 1) := dk_42 (dk_at dksX9_dayGoes_5 20 rfl rfl)
theorem dX9_dayGoes_138 : decode cX9_dayGoes 138 = .ok (.getfield 35, 3) := dk_180 0 35 (dk_at dksX9_dayGoes_5 21 rfl rfl)
theorem dX9_dayGoes_141 : decode cX9_dayGoes 141 = .ok (.iload_n 3, 1) := dk_29 (dk_at dksX9_dayGoes_6 0 rfl rfl)
theorem dX9_dayGoes_142 : decode cX9_dayGoes 142 = .ok (.iaload, 1) := dk_46 (dk_at dksX9_dayGoes_6 1 rfl rfl)
theorem dX9_dayGoes_143 : decode cX9_dayGoes 143 = .ok (.iaload, 1) := dk_46 (dk_at dksX9_dayGoes_6 2 rfl rfl)
theorem dX9_dayGoes_144 : decode cX9_dayGoes 144 = .ok (.if_icmp .ge 95, 3) := dk_162 0 95 (dk_at dksX9_dayGoes_6 3 rfl rfl)
theorem dX9_dayGoes_147 : decode cX9_dayGoes 147 = .ok (.aload_n 0, 1) := dk_42 (dk_at dksX9_dayGoes_6 6 rfl rfl)
theorem dX9_dayGoes_148 : decode cX9_dayGoes 148 = .ok (.iload_n 3, 1) := dk_29 (dk_at dksX9_dayGoes_6 7 rfl rfl)
theorem dX9_dayGoes_149 : decode cX9_dayGoes 149 = .ok (.invokevirtual 424, 3) := dk_182 1 168 (dk_at dksX9_dayGoes_6 8 rfl rfl)
theorem dX9_dayGoes_152 : decode cX9_dayGoes 152 = .ok (.aload_n 0, 1) := dk_42 (dk_at dksX9_dayGoes_6 11 rfl rfl)
theorem dX9_dayGoes_153 : decode cX9_dayGoes 153 = .ok (.aload_n 0, 1) := dk_42 (dk_at dksX9_dayGoes_6 12 rfl rfl)
theorem dX9_dayGoes_154 : decode cX9_dayGoes 154 = .ok (.getfield 35, 3) := dk_180 0 35 (dk_at dksX9_dayGoes_6 13 rfl rfl)
theorem dX9_dayGoes_157 : decode cX9_dayGoes 157 = .ok (.iload_n 3, 1) := dk_29 (dk_at dksX9_dayGoes_6 16 rfl rfl)
theorem dX9_dayGoes_158 : decode cX9_dayGoes 158 = .ok (.iaload, 1) := dk_46 (dk_at dksX9_dayGoes_6 17 rfl rfl)
theorem dX9_dayGoes_159 : decode cX9_dayGoes 159 = .ok (.iload 4, 2) := dk_21 4 (dk_at dksX9_dayGoes_6 18 rfl rfl)
theorem dX9_dayGoes_161 : decode cX9_dayGoes 161 = .ok (.invokevirtual 427, 3) := dk_182 1 171 (dk_at dksX9_dayGoes_6 20 rfl rfl)
theorem dX9_dayGoes_164 : decode cX9_dayGoes 164 = .ok (.ifCond .ne 6, 3) := dk_154 0 6 (dk_at dksX9_dayGoes_7 0 rfl rfl)
theorem dX9_dayGoes_167 : decode cX9_dayGoes 167 = .ok (.goto 66, 3) := dk_167 0 66 (dk_at dksX9_dayGoes_7 3 rfl rfl)
theorem dX9_dayGoes_170 : decode cX9_dayGoes 170 = .ok (.aload_n 0, 1) := dk_42 (dk_at dksX9_dayGoes_7 6 rfl rfl)
theorem dX9_dayGoes_171 : decode cX9_dayGoes 171 = .ok (.getfield 59, 3) := dk_180 0 59 (dk_at dksX9_dayGoes_7 7 rfl rfl)
theorem dX9_dayGoes_174 : decode cX9_dayGoes 174 = .ok (.bipush 32, 2) := dk_16 32 (dk_at dksX9_dayGoes_7 10 rfl rfl)
theorem dX9_dayGoes_176 : decode cX9_dayGoes 176 = .ok (.aload_n 0, 1) := dk_42 (dk_at dksX9_dayGoes_7 12 rfl rfl)
theorem dX9_dayGoes_177 : decode cX9_dayGoes 177 = .ok (.getfield 35, 3) := dk_180 0 35 (dk_at dksX9_dayGoes_7 13 rfl rfl)
theorem dX9_dayGoes_180 : decode cX9_dayGoes 180 = .ok (.iload_n 3, 1) := dk_29 (dk_at dksX9_dayGoes_7 16 rfl rfl)
theorem dX9_dayGoes_181 : decode cX9_dayGoes 181 = .ok (.iaload, 1) := dk_46 (dk_at dksX9_dayGoes_7 17 rfl rfl)
theorem dX9_dayGoes_182 : decode cX9_dayGoes 182 = .ok (.imul, 1) := dk_104 (dk_at dksX9_dayGoes_7 18 rfl rfl)
theorem dX9_dayGoes_183 : decode cX9_dayGoes 183 = .ok (.iconst 4, 1) := dk_7 (dk_at dksX9_dayGoes_7 19 rfl rfl)
theorem dX9_dayGoes_184 : decode cX9_dayGoes 184 = .ok (.iload 4, 2) := dk_21 4 (dk_at dksX9_dayGoes_7 20 rfl rfl)
theorem dX9_dayGoes_186 : decode cX9_dayGoes 186 = .ok (.imul, 1) := dk_104 (dk_at dksX9_dayGoes_7 22 rfl rfl)
theorem dX9_dayGoes_187 : decode cX9_dayGoes 187 = .ok (.iadd, 1) := dk_96 (dk_at dksX9_dayGoes_7 23 rfl rfl)
theorem dX9_dayGoes_188 : decode cX9_dayGoes 188 = .ok (.iconst 1, 1) := dk_4 (dk_at dksX9_dayGoes_8 0 rfl rfl)
theorem dX9_dayGoes_189 : decode cX9_dayGoes 189 = .ok (.iadd, 1) := dk_96 (dk_at dksX9_dayGoes_8 1 rfl rfl)
theorem dX9_dayGoes_190 : decode cX9_dayGoes 190 = .ok (.iaload, 1) := dk_46 (dk_at dksX9_dayGoes_8 2 rfl rfl)
theorem dX9_dayGoes_191 : decode cX9_dayGoes 191 = .ok (.istore 5, 2) := dk_54 5 (dk_at dksX9_dayGoes_8 3 rfl rfl)
theorem dX9_dayGoes_193 : decode cX9_dayGoes 193 = .ok (.iload 5, 2) := dk_21 5 (dk_at dksX9_dayGoes_8 5 rfl rfl)
theorem dX9_dayGoes_195 : decode cX9_dayGoes 195 = .ok (.ifCond .eq 14, 3) := dk_153 0 14 (dk_at dksX9_dayGoes_8 7 rfl rfl)
theorem dX9_dayGoes_198 : decode cX9_dayGoes 198 = .ok (.aload_n 0, 1) := dk_42 (dk_at dksX9_dayGoes_8 10 rfl rfl)
theorem dX9_dayGoes_199 : decode cX9_dayGoes 199 = .ok (.bipush 16, 2) := dk_16 16 (dk_at dksX9_dayGoes_8 11 rfl rfl)
theorem dX9_dayGoes_201 : decode cX9_dayGoes 201 = .ok (.invokevirtual 517, 3) := dk_182 2 5 (dk_at dksX9_dayGoes_8 13 rfl rfl)
theorem dX9_dayGoes_204 : decode cX9_dayGoes 204 = .ok (.iload 5, 2) := dk_21 5 (dk_at dksX9_dayGoes_8 16 rfl rfl)
theorem dX9_dayGoes_206 : decode cX9_dayGoes 206 = .ok (.if_icmp .ge 27, 3) := dk_162 0 27 (dk_at dksX9_dayGoes_8 18 rfl rfl)
theorem dX9_dayGoes_209 : decode cX9_dayGoes 209 = .ok (.aload_n 0, 1) := dk_42 (dk_at dksX9_dayGoes_8 21 rfl rfl)
theorem dX9_dayGoes_210 : decode cX9_dayGoes 210 = .ok (.aload_n 0, 1) := dk_42 (dk_at dksX9_dayGoes_8 22 rfl rfl)
theorem dX9_dayGoes_211 : decode cX9_dayGoes 211 = .ok (.getfield 59, 3) := dk_180 0 59 (dk_at dksX9_dayGoes_9 0 rfl rfl)
theorem dX9_dayGoes_214 : decode cX9_dayGoes 214 = .ok (.bipush 32, 2) := dk_16 32 (dk_at dksX9_dayGoes_9 3 rfl rfl)
theorem dX9_dayGoes_216 : decode cX9_dayGoes 216 = .ok (.aload_n 0, 1) := dk_42 (dk_at dksX9_dayGoes_9 5 rfl rfl)
theorem dX9_dayGoes_217 : decode cX9_dayGoes 217 = .ok (.getfield 35, 3) := dk_180 0 35 (dk_at dksX9_dayGoes_9 6 rfl rfl)
theorem dX9_dayGoes_220 : decode cX9_dayGoes 220 = .ok (.iload_n 3, 1) := dk_29 (dk_at dksX9_dayGoes_9 9 rfl rfl)
theorem dX9_dayGoes_221 : decode cX9_dayGoes 221 = .ok (.iaload, 1) := dk_46 (dk_at dksX9_dayGoes_9 10 rfl rfl)
theorem dX9_dayGoes_222 : decode cX9_dayGoes 222 = .ok (.imul, 1) := dk_104 (dk_at dksX9_dayGoes_9 11 rfl rfl)
theorem dX9_dayGoes_223 : decode cX9_dayGoes 223 = .ok (.iconst 4, 1) := dk_7 (dk_at dksX9_dayGoes_9 12 rfl rfl)
theorem dX9_dayGoes_224 : decode cX9_dayGoes 224 = .ok (.iload 4, 2) := dk_21 4 (dk_at dksX9_dayGoes_9 13 rfl rfl)
theorem dX9_dayGoes_226 : decode cX9_dayGoes 226 = .ok (.imul, 1) := dk_104 (dk_at dksX9_dayGoes_9 15 rfl rfl)
theorem dX9_dayGoes_227 : decode cX9_dayGoes 227 = .ok (.iadd, 1) := dk_96 (dk_at dksX9_dayGoes_9 16 rfl rfl)
theorem dX9_dayGoes_228 : decode cX9_dayGoes 228 = .ok (.iaload, 1) := dk_46 (dk_at dksX9_dayGoes_9 17 rfl rfl)
theorem dX9_dayGoes_229 : decode cX9_dayGoes 229 = .ok (.iload_n 3, 1) := dk_29 (dk_at dksX9_dayGoes_9 18 rfl rfl)
theorem dX9_dayGoes_230 : decode cX9_dayGoes 230 = .ok (.invokevirtual 529, 3) := dk_182 2 17 (dk_at dksX9_dayGoes_9 19 rfl rfl)
theorem dX9_dayGoes_233 : decode cX9_dayGoes 233 = .ok (.iinc 4 1, 3) := dk_132 4 1 (dk_at dksX9_dayGoes_10 0 rfl rfl)
theorem dX9_dayGoes_236 : decode cX9_dayGoes 236 = .ok (.goto (-105), 3) := dk_167 255 151 (dk_at dksX9_dayGoes_10 3 rfl rfl)
theorem dX9_dayGoes_239 : decode cX9_dayGoes 239 = .ok (.iinc 3 1, 3) := dk_132 3 1 (dk_at dksX9_dayGoes_10 6 rfl rfl)
theorem dX9_dayGoes_242 : decode cX9_dayGoes 242 = .ok (.goto (-185), 3) := dk_167 255 71 (dk_at dksX9_dayGoes_10 9 rfl rfl)
theorem dX9_dayGoes_245 : decode cX9_dayGoes 245 = .ok (.return_, 1) := dk_177 (dk_at dksX9_dayGoes_10 12 rfl rfl)
abbrev cX9_draws : ByteArray := prog_28_method_112_code
def yX9_draws : MethodName := ⟨RX9, "draws", "(I)I"⟩
def dkwX9_draws_1 : List UInt8 := [17, 127, 255, 126, 27, 112, 172]
abbrev dktX9_draws_1 : List UInt8 := dkwX9_draws_1 ++ []
def dkwX9_draws_0 : List UInt8 := [42, 42, 180, 2, 1, 19, 2, 4, 104, 17, 48, 57, 96, 181, 2, 1, 42, 180, 2, 1, 16, 16, 122]
abbrev dktX9_draws_0 : List UInt8 := dkwX9_draws_0 ++ dktX9_draws_1
theorem dksX9_draws_0 : cX9_draws.data.toList.drop 0 = dktX9_draws_0 := by decide +kernel
theorem dksX9_draws_1 : cX9_draws.data.toList.drop 23 = dktX9_draws_1 := dk_seg dksX9_draws_0 23 rfl rfl
theorem dX9_draws_0 : decode cX9_draws 0 = .ok (.aload_n 0, 1) := dk_42 (dk_at dksX9_draws_0 0 rfl rfl)
theorem dX9_draws_1 : decode cX9_draws 1 = .ok (.aload_n 0, 1) := dk_42 (dk_at dksX9_draws_0 1 rfl rfl)
theorem dX9_draws_2 : decode cX9_draws 2 = .ok (.getfield 513, 3) := dk_180 2 1 (dk_at dksX9_draws_0 2 rfl rfl)
theorem dX9_draws_5 : decode cX9_draws 5 = .ok (.ldc_w 516, 3) := dk_19 2 4 (dk_at dksX9_draws_0 5 rfl rfl)
theorem dX9_draws_8 : decode cX9_draws 8 = .ok (.imul, 1) := dk_104 (dk_at dksX9_draws_0 8 rfl rfl)
theorem dX9_draws_9 : decode cX9_draws 9 = .ok (.sipush 12345, 3) := dk_17 48 57 (dk_at dksX9_draws_0 9 rfl rfl)
theorem dX9_draws_12 : decode cX9_draws 12 = .ok (.iadd, 1) := dk_96 (dk_at dksX9_draws_0 12 rfl rfl)
theorem dX9_draws_13 : decode cX9_draws 13 = .ok (.putfield 513, 3) := dk_181 2 1 (dk_at dksX9_draws_0 13 rfl rfl)
theorem dX9_draws_16 : decode cX9_draws 16 = .ok (.aload_n 0, 1) := dk_42 (dk_at dksX9_draws_0 16 rfl rfl)
theorem dX9_draws_17 : decode cX9_draws 17 = .ok (.getfield 513, 3) := dk_180 2 1 (dk_at dksX9_draws_0 17 rfl rfl)
theorem dX9_draws_20 : decode cX9_draws 20 = .ok (.bipush 16, 2) := dk_16 16 (dk_at dksX9_draws_0 20 rfl rfl)
theorem dX9_draws_22 : decode cX9_draws 22 = .ok (.ishr, 1) := dk_122 (dk_at dksX9_draws_0 22 rfl rfl)
theorem dX9_draws_23 : decode cX9_draws 23 = .ok (.sipush 32767, 3) := dk_17 127 255 (dk_at dksX9_draws_1 0 rfl rfl)
theorem dX9_draws_26 : decode cX9_draws 26 = .ok (.iand, 1) := dk_126 (dk_at dksX9_draws_1 3 rfl rfl)
theorem dX9_draws_27 : decode cX9_draws 27 = .ok (.iload_n 1, 1) := dk_27 (dk_at dksX9_draws_1 4 rfl rfl)
theorem dX9_draws_28 : decode cX9_draws 28 = .ok (.irem, 1) := dk_112 (dk_at dksX9_draws_1 5 rfl rfl)
theorem dX9_draws_29 : decode cX9_draws 29 = .ok (.ireturn, 1) := dk_172 (dk_at dksX9_draws_1 6 rfl rfl)
abbrev cX9_dayDoes : ByteArray := prog_28_method_113_code
def yX9_dayDoes : MethodName := ⟨RX9, "dayDoes", "(II)V"⟩
def dkwX9_dayDoes_11 : List UInt8 := [42, 180, 1, 131, 100, 181, 1, 131, 177]
abbrev dktX9_dayDoes_11 : List UInt8 := dkwX9_dayDoes_11 ++ []
def dkwX9_dayDoes_10 : List UInt8 := [167, 0, 32, 42, 27, 8, 160, 0, 7, 4, 167, 0, 19, 27, 16, 6, 160, 0, 7, 3, 167, 0, 9, 4]
abbrev dktX9_dayDoes_10 : List UInt8 := dkwX9_dayDoes_10 ++ dktX9_dayDoes_11
def dkwX9_dayDoes_9 : List UInt8 := [96, 181, 1, 129, 167, 0, 50, 27, 7, 160, 0, 16, 42, 3, 181, 1, 136, 42, 3, 181, 1, 133]
abbrev dktX9_dayDoes_9 : List UInt8 := dkwX9_dayDoes_9 ++ dktX9_dayDoes_10
def dkwX9_dayDoes_8 : List UInt8 := [180, 2, 14, 42, 180, 1, 136, 96, 181, 2, 14, 42, 29, 181, 1, 136, 42, 3, 181, 1, 133, 42, 28, 4]
abbrev dktX9_dayDoes_8 : List UInt8 := dkwX9_dayDoes_8 ++ dktX9_dayDoes_9
def dkwX9_dayDoes_7 : List UInt8 := [162, 0, 101, 42, 4, 181, 1, 127, 167, 0, 93, 27, 6, 160, 0, 41, 29, 154, 0, 4, 177, 42, 89]
abbrev dktX9_dayDoes_7 : List UInt8 := dkwX9_dayDoes_7 ++ dktX9_dayDoes_8
def dkwX9_dayDoes_6 : List UInt8 := [181, 2, 11, 42, 180, 1, 133, 158, 0, 117, 42, 16, 16, 182, 2, 5, 42, 180, 0, 26, 16, 6, 46]
abbrev dktX9_dayDoes_6 : List UInt8 := dkwX9_dayDoes_6 ++ dktX9_dayDoes_7
def dkwX9_dayDoes_5 : List UInt8 := [3, 167, 0, 4, 4, 100, 181, 1, 136, 167, 0, 139, 27, 5, 160, 0, 44, 42, 89, 180, 2, 11, 4, 96]
abbrev dktX9_dayDoes_5 : List UInt8 := dkwX9_dayDoes_5 ++ dktX9_dayDoes_6
def dkwX9_dayDoes_4 : List UInt8 := [21, 4, 153, 0, 7, 4, 167, 0, 4, 3, 100, 181, 1, 133, 42, 89, 180, 1, 136, 21, 4, 153, 0, 7]
abbrev dktX9_dayDoes_4 : List UInt8 := dkwX9_dayDoes_4 ++ dktX9_dayDoes_5
def dkwX9_dayDoes_3 : List UInt8 := [89, 180, 2, 8, 21, 4, 153, 0, 7, 4, 167, 0, 4, 3, 96, 181, 2, 8, 42, 89, 180, 1, 133]
abbrev dktX9_dayDoes_3 : List UInt8 := dkwX9_dayDoes_3 ++ dktX9_dayDoes_4
def dkwX9_dayDoes_2 : List UInt8 := [154, 0, 4, 177, 42, 29, 182, 2, 5, 42, 180, 1, 133, 162, 0, 7, 4, 167, 0, 4, 3, 54, 4, 42]
abbrev dktX9_dayDoes_2 : List UInt8 := dkwX9_dayDoes_2 ++ dktX9_dayDoes_3
def dkwX9_dayDoes_1 : List UInt8 := [3, 46, 162, 0, 7, 4, 167, 0, 4, 3, 96, 181, 1, 133, 167, 0, 228, 27, 4, 160, 0, 87, 29]
abbrev dktX9_dayDoes_1 : List UInt8 := dkwX9_dayDoes_1 ++ dktX9_dayDoes_2
def dkwX9_dayDoes_0 : List UInt8 := [42, 180, 1, 136, 42, 180, 1, 133, 96, 62, 27, 154, 0, 30, 42, 89, 180, 1, 133, 29, 42, 180, 0, 26]
abbrev dktX9_dayDoes_0 : List UInt8 := dkwX9_dayDoes_0 ++ dktX9_dayDoes_1
theorem dksX9_dayDoes_0 : cX9_dayDoes.data.toList.drop 0 = dktX9_dayDoes_0 := by decide +kernel
theorem dksX9_dayDoes_1 : cX9_dayDoes.data.toList.drop 24 = dktX9_dayDoes_1 := dk_seg dksX9_dayDoes_0 24 rfl rfl
theorem dksX9_dayDoes_2 : cX9_dayDoes.data.toList.drop 47 = dktX9_dayDoes_2 := dk_seg dksX9_dayDoes_1 23 rfl rfl
theorem dksX9_dayDoes_3 : cX9_dayDoes.data.toList.drop 71 = dktX9_dayDoes_3 := dk_seg dksX9_dayDoes_2 24 rfl rfl
theorem dksX9_dayDoes_4 : cX9_dayDoes.data.toList.drop 94 = dktX9_dayDoes_4 := dk_seg dksX9_dayDoes_3 23 rfl rfl
theorem dksX9_dayDoes_5 : cX9_dayDoes.data.toList.drop 118 = dktX9_dayDoes_5 := dk_seg dksX9_dayDoes_4 24 rfl rfl
theorem dksX9_dayDoes_6 : cX9_dayDoes.data.toList.drop 142 = dktX9_dayDoes_6 := dk_seg dksX9_dayDoes_5 24 rfl rfl
theorem dksX9_dayDoes_7 : cX9_dayDoes.data.toList.drop 165 = dktX9_dayDoes_7 := dk_seg dksX9_dayDoes_6 23 rfl rfl
theorem dksX9_dayDoes_8 : cX9_dayDoes.data.toList.drop 188 = dktX9_dayDoes_8 := dk_seg dksX9_dayDoes_7 23 rfl rfl
theorem dksX9_dayDoes_9 : cX9_dayDoes.data.toList.drop 212 = dktX9_dayDoes_9 := dk_seg dksX9_dayDoes_8 24 rfl rfl
theorem dksX9_dayDoes_10 : cX9_dayDoes.data.toList.drop 234 = dktX9_dayDoes_10 := dk_seg dksX9_dayDoes_9 22 rfl rfl
theorem dksX9_dayDoes_11 : cX9_dayDoes.data.toList.drop 258 = dktX9_dayDoes_11 := dk_seg dksX9_dayDoes_10 24 rfl rfl
theorem dX9_dayDoes_0 : decode cX9_dayDoes 0 = .ok (.aload_n 0, 1) := dk_42 (dk_at dksX9_dayDoes_0 0 rfl rfl)
theorem dX9_dayDoes_1 : decode cX9_dayDoes 1 = .ok (.getfield 392, 3) := dk_180 1 136 (dk_at dksX9_dayDoes_0 1 rfl rfl)
theorem dX9_dayDoes_4 : decode cX9_dayDoes 4 = .ok (.aload_n 0, 1) := dk_42 (dk_at dksX9_dayDoes_0 4 rfl rfl)
theorem dX9_dayDoes_5 : decode cX9_dayDoes 5 = .ok (.getfield 389, 3) := dk_180 1 133 (dk_at dksX9_dayDoes_0 5 rfl rfl)
theorem dX9_dayDoes_8 : decode cX9_dayDoes 8 = .ok (.iadd, 1) := dk_96 (dk_at dksX9_dayDoes_0 8 rfl rfl)
theorem dX9_dayDoes_9 : decode cX9_dayDoes 9 = .ok (.istore_n 3, 1) := dk_62 (dk_at dksX9_dayDoes_0 9 rfl rfl)
theorem dX9_dayDoes_10 : decode cX9_dayDoes 10 = .ok (.iload_n 1, 1) := dk_27 (dk_at dksX9_dayDoes_0 10 rfl rfl)
theorem dX9_dayDoes_11 : decode cX9_dayDoes 11 = .ok (.ifCond .ne 30, 3) := dk_154 0 30 (dk_at dksX9_dayDoes_0 11 rfl rfl)
theorem dX9_dayDoes_14 : decode cX9_dayDoes 14 = .ok (.aload_n 0, 1) := dk_42 (dk_at dksX9_dayDoes_0 14 rfl rfl)
theorem dX9_dayDoes_15 : decode cX9_dayDoes 15 = .ok (.dup, 1) := dk_89 (dk_at dksX9_dayDoes_0 15 rfl rfl)
theorem dX9_dayDoes_16 : decode cX9_dayDoes 16 = .ok (.getfield 389, 3) := dk_180 1 133 (dk_at dksX9_dayDoes_0 16 rfl rfl)
theorem dX9_dayDoes_19 : decode cX9_dayDoes 19 = .ok (.iload_n 3, 1) := dk_29 (dk_at dksX9_dayDoes_0 19 rfl rfl)
theorem dX9_dayDoes_20 : decode cX9_dayDoes 20 = .ok (.aload_n 0, 1) := dk_42 (dk_at dksX9_dayDoes_0 20 rfl rfl)
theorem dX9_dayDoes_21 : decode cX9_dayDoes 21 = .ok (.getfield 26, 3) := dk_180 0 26 (dk_at dksX9_dayDoes_0 21 rfl rfl)
theorem dX9_dayDoes_24 : decode cX9_dayDoes 24 = .ok (.iconst 0, 1) := dk_3 (dk_at dksX9_dayDoes_1 0 rfl rfl)
theorem dX9_dayDoes_25 : decode cX9_dayDoes 25 = .ok (.iaload, 1) := dk_46 (dk_at dksX9_dayDoes_1 1 rfl rfl)
theorem dX9_dayDoes_26 : decode cX9_dayDoes 26 = .ok (.if_icmp .ge 7, 3) := dk_162 0 7 (dk_at dksX9_dayDoes_1 2 rfl rfl)
theorem dX9_dayDoes_29 : decode cX9_dayDoes 29 = .ok (.iconst 1, 1) := dk_4 (dk_at dksX9_dayDoes_1 5 rfl rfl)
theorem dX9_dayDoes_30 : decode cX9_dayDoes 30 = .ok (.goto 4, 3) := dk_167 0 4 (dk_at dksX9_dayDoes_1 6 rfl rfl)
theorem dX9_dayDoes_33 : decode cX9_dayDoes 33 = .ok (.iconst 0, 1) := dk_3 (dk_at dksX9_dayDoes_1 9 rfl rfl)
theorem dX9_dayDoes_34 : decode cX9_dayDoes 34 = .ok (.iadd, 1) := dk_96 (dk_at dksX9_dayDoes_1 10 rfl rfl)
theorem dX9_dayDoes_35 : decode cX9_dayDoes 35 = .ok (.putfield 389, 3) := dk_181 1 133 (dk_at dksX9_dayDoes_1 11 rfl rfl)
theorem dX9_dayDoes_38 : decode cX9_dayDoes 38 = .ok (.goto 228, 3) := dk_167 0 228 (dk_at dksX9_dayDoes_1 14 rfl rfl)
theorem dX9_dayDoes_41 : decode cX9_dayDoes 41 = .ok (.iload_n 1, 1) := dk_27 (dk_at dksX9_dayDoes_1 17 rfl rfl)
theorem dX9_dayDoes_42 : decode cX9_dayDoes 42 = .ok (.iconst 1, 1) := dk_4 (dk_at dksX9_dayDoes_1 18 rfl rfl)
theorem dX9_dayDoes_43 : decode cX9_dayDoes 43 = .ok (.if_icmp .ne 87, 3) := dk_160 0 87 (dk_at dksX9_dayDoes_1 19 rfl rfl)
theorem dX9_dayDoes_46 : decode cX9_dayDoes 46 = .ok (.iload_n 3, 1) := dk_29 (dk_at dksX9_dayDoes_1 22 rfl rfl)
theorem dX9_dayDoes_47 : decode cX9_dayDoes 47 = .ok (.ifCond .ne 4, 3) := dk_154 0 4 (dk_at dksX9_dayDoes_2 0 rfl rfl)
theorem dX9_dayDoes_50 : decode cX9_dayDoes 50 = .ok (.return_, 1) := dk_177 (dk_at dksX9_dayDoes_2 3 rfl rfl)
theorem dX9_dayDoes_51 : decode cX9_dayDoes 51 = .ok (.aload_n 0, 1) := dk_42 (dk_at dksX9_dayDoes_2 4 rfl rfl)
theorem dX9_dayDoes_52 : decode cX9_dayDoes 52 = .ok (.iload_n 3, 1) := dk_29 (dk_at dksX9_dayDoes_2 5 rfl rfl)
theorem dX9_dayDoes_53 : decode cX9_dayDoes 53 = .ok (.invokevirtual 517, 3) := dk_182 2 5 (dk_at dksX9_dayDoes_2 6 rfl rfl)
theorem dX9_dayDoes_56 : decode cX9_dayDoes 56 = .ok (.aload_n 0, 1) := dk_42 (dk_at dksX9_dayDoes_2 9 rfl rfl)
theorem dX9_dayDoes_57 : decode cX9_dayDoes 57 = .ok (.getfield 389, 3) := dk_180 1 133 (dk_at dksX9_dayDoes_2 10 rfl rfl)
theorem dX9_dayDoes_60 : decode cX9_dayDoes 60 = .ok (.if_icmp .ge 7, 3) := dk_162 0 7 (dk_at dksX9_dayDoes_2 13 rfl rfl)
theorem dX9_dayDoes_63 : decode cX9_dayDoes 63 = .ok (.iconst 1, 1) := dk_4 (dk_at dksX9_dayDoes_2 16 rfl rfl)
theorem dX9_dayDoes_64 : decode cX9_dayDoes 64 = .ok (.goto 4, 3) := dk_167 0 4 (dk_at dksX9_dayDoes_2 17 rfl rfl)
theorem dX9_dayDoes_67 : decode cX9_dayDoes 67 = .ok (.iconst 0, 1) := dk_3 (dk_at dksX9_dayDoes_2 20 rfl rfl)
theorem dX9_dayDoes_68 : decode cX9_dayDoes 68 = .ok (.istore 4, 2) := dk_54 4 (dk_at dksX9_dayDoes_2 21 rfl rfl)
theorem dX9_dayDoes_70 : decode cX9_dayDoes 70 = .ok (.aload_n 0, 1) := dk_42 (dk_at dksX9_dayDoes_2 23 rfl rfl)
theorem dX9_dayDoes_71 : decode cX9_dayDoes 71 = .ok (.dup, 1) := dk_89 (dk_at dksX9_dayDoes_3 0 rfl rfl)
theorem dX9_dayDoes_72 : decode cX9_dayDoes 72 = .ok (.getfield 520, 3) := dk_180 2 8 (dk_at dksX9_dayDoes_3 1 rfl rfl)
theorem dX9_dayDoes_75 : decode cX9_dayDoes 75 = .ok (.iload 4, 2) := dk_21 4 (dk_at dksX9_dayDoes_3 4 rfl rfl)
theorem dX9_dayDoes_77 : decode cX9_dayDoes 77 = .ok (.ifCond .eq 7, 3) := dk_153 0 7 (dk_at dksX9_dayDoes_3 6 rfl rfl)
theorem dX9_dayDoes_80 : decode cX9_dayDoes 80 = .ok (.iconst 1, 1) := dk_4 (dk_at dksX9_dayDoes_3 9 rfl rfl)
theorem dX9_dayDoes_81 : decode cX9_dayDoes 81 = .ok (.goto 4, 3) := dk_167 0 4 (dk_at dksX9_dayDoes_3 10 rfl rfl)
theorem dX9_dayDoes_84 : decode cX9_dayDoes 84 = .ok (.iconst 0, 1) := dk_3 (dk_at dksX9_dayDoes_3 13 rfl rfl)
theorem dX9_dayDoes_85 : decode cX9_dayDoes 85 = .ok (.iadd, 1) := dk_96 (dk_at dksX9_dayDoes_3 14 rfl rfl)
theorem dX9_dayDoes_86 : decode cX9_dayDoes 86 = .ok (.putfield 520, 3) := dk_181 2 8 (dk_at dksX9_dayDoes_3 15 rfl rfl)
theorem dX9_dayDoes_89 : decode cX9_dayDoes 89 = .ok (.aload_n 0, 1) := dk_42 (dk_at dksX9_dayDoes_3 18 rfl rfl)
theorem dX9_dayDoes_90 : decode cX9_dayDoes 90 = .ok (.dup, 1) := dk_89 (dk_at dksX9_dayDoes_3 19 rfl rfl)
theorem dX9_dayDoes_91 : decode cX9_dayDoes 91 = .ok (.getfield 389, 3) := dk_180 1 133 (dk_at dksX9_dayDoes_3 20 rfl rfl)
theorem dX9_dayDoes_94 : decode cX9_dayDoes 94 = .ok (.iload 4, 2) := dk_21 4 (dk_at dksX9_dayDoes_4 0 rfl rfl)
theorem dX9_dayDoes_96 : decode cX9_dayDoes 96 = .ok (.ifCond .eq 7, 3) := dk_153 0 7 (dk_at dksX9_dayDoes_4 2 rfl rfl)
theorem dX9_dayDoes_99 : decode cX9_dayDoes 99 = .ok (.iconst 1, 1) := dk_4 (dk_at dksX9_dayDoes_4 5 rfl rfl)
theorem dX9_dayDoes_100 : decode cX9_dayDoes 100 = .ok (.goto 4, 3) := dk_167 0 4 (dk_at dksX9_dayDoes_4 6 rfl rfl)
theorem dX9_dayDoes_103 : decode cX9_dayDoes 103 = .ok (.iconst 0, 1) := dk_3 (dk_at dksX9_dayDoes_4 9 rfl rfl)
theorem dX9_dayDoes_104 : decode cX9_dayDoes 104 = .ok (.isub, 1) := dk_100 (dk_at dksX9_dayDoes_4 10 rfl rfl)
theorem dX9_dayDoes_105 : decode cX9_dayDoes 105 = .ok (.putfield 389, 3) := dk_181 1 133 (dk_at dksX9_dayDoes_4 11 rfl rfl)
theorem dX9_dayDoes_108 : decode cX9_dayDoes 108 = .ok (.aload_n 0, 1) := dk_42 (dk_at dksX9_dayDoes_4 14 rfl rfl)
theorem dX9_dayDoes_109 : decode cX9_dayDoes 109 = .ok (.dup, 1) := dk_89 (dk_at dksX9_dayDoes_4 15 rfl rfl)
theorem dX9_dayDoes_110 : decode cX9_dayDoes 110 = .ok (.getfield 392, 3) := dk_180 1 136 (dk_at dksX9_dayDoes_4 16 rfl rfl)
theorem dX9_dayDoes_113 : decode cX9_dayDoes 113 = .ok (.iload 4, 2) := dk_21 4 (dk_at dksX9_dayDoes_4 19 rfl rfl)
theorem dX9_dayDoes_115 : decode cX9_dayDoes 115 = .ok (.ifCond .eq 7, 3) := dk_153 0 7 (dk_at dksX9_dayDoes_4 21 rfl rfl)
theorem dX9_dayDoes_118 : decode cX9_dayDoes 118 = .ok (.iconst 0, 1) := dk_3 (dk_at dksX9_dayDoes_5 0 rfl rfl)
theorem dX9_dayDoes_119 : decode cX9_dayDoes 119 = .ok (.goto 4, 3) := dk_167 0 4 (dk_at dksX9_dayDoes_5 1 rfl rfl)
theorem dX9_dayDoes_122 : decode cX9_dayDoes 122 = .ok (.iconst 1, 1) := dk_4 (dk_at dksX9_dayDoes_5 4 rfl rfl)
theorem dX9_dayDoes_123 : decode cX9_dayDoes 123 = .ok (.isub, 1) := dk_100 (dk_at dksX9_dayDoes_5 5 rfl rfl)
theorem dX9_dayDoes_124 : decode cX9_dayDoes 124 = .ok (.putfield 392, 3) := dk_181 1 136 (dk_at dksX9_dayDoes_5 6 rfl rfl)
theorem dX9_dayDoes_127 : decode cX9_dayDoes 127 = .ok (.goto 139, 3) := dk_167 0 139 (dk_at dksX9_dayDoes_5 9 rfl rfl)
theorem dX9_dayDoes_130 : decode cX9_dayDoes 130 = .ok (.iload_n 1, 1) := dk_27 (dk_at dksX9_dayDoes_5 12 rfl rfl)
theorem dX9_dayDoes_131 : decode cX9_dayDoes 131 = .ok (.iconst 2, 1) := dk_5 (dk_at dksX9_dayDoes_5 13 rfl rfl)
theorem dX9_dayDoes_132 : decode cX9_dayDoes 132 = .ok (.if_icmp .ne 44, 3) := dk_160 0 44 (dk_at dksX9_dayDoes_5 14 rfl rfl)
theorem dX9_dayDoes_135 : decode cX9_dayDoes 135 = .ok (.aload_n 0, 1) := dk_42 (dk_at dksX9_dayDoes_5 17 rfl rfl)
theorem dX9_dayDoes_136 : decode cX9_dayDoes 136 = .ok (.dup, 1) := dk_89 (dk_at dksX9_dayDoes_5 18 rfl rfl)
theorem dX9_dayDoes_137 : decode cX9_dayDoes 137 = .ok (.getfield 523, 3) := dk_180 2 11 (dk_at dksX9_dayDoes_5 19 rfl rfl)
theorem dX9_dayDoes_140 : decode cX9_dayDoes 140 = .ok (.iconst 1, 1) := dk_4 (dk_at dksX9_dayDoes_5 22 rfl rfl)
theorem dX9_dayDoes_141 : decode cX9_dayDoes 141 = .ok (.iadd, 1) := dk_96 (dk_at dksX9_dayDoes_5 23 rfl rfl)
theorem dX9_dayDoes_142 : decode cX9_dayDoes 142 = .ok (.putfield 523, 3) := dk_181 2 11 (dk_at dksX9_dayDoes_6 0 rfl rfl)
theorem dX9_dayDoes_145 : decode cX9_dayDoes 145 = .ok (.aload_n 0, 1) := dk_42 (dk_at dksX9_dayDoes_6 3 rfl rfl)
theorem dX9_dayDoes_146 : decode cX9_dayDoes 146 = .ok (.getfield 389, 3) := dk_180 1 133 (dk_at dksX9_dayDoes_6 4 rfl rfl)
theorem dX9_dayDoes_149 : decode cX9_dayDoes 149 = .ok (.ifCond .le 117, 3) := dk_158 0 117 (dk_at dksX9_dayDoes_6 7 rfl rfl)
theorem dX9_dayDoes_152 : decode cX9_dayDoes 152 = .ok (.aload_n 0, 1) := dk_42 (dk_at dksX9_dayDoes_6 10 rfl rfl)
theorem dX9_dayDoes_153 : decode cX9_dayDoes 153 = .ok (.bipush 16, 2) := dk_16 16 (dk_at dksX9_dayDoes_6 11 rfl rfl)
theorem dX9_dayDoes_155 : decode cX9_dayDoes 155 = .ok (.invokevirtual 517, 3) := dk_182 2 5 (dk_at dksX9_dayDoes_6 13 rfl rfl)
theorem dX9_dayDoes_158 : decode cX9_dayDoes 158 = .ok (.aload_n 0, 1) := dk_42 (dk_at dksX9_dayDoes_6 16 rfl rfl)
theorem dX9_dayDoes_159 : decode cX9_dayDoes 159 = .ok (.getfield 26, 3) := dk_180 0 26 (dk_at dksX9_dayDoes_6 17 rfl rfl)
theorem dX9_dayDoes_162 : decode cX9_dayDoes 162 = .ok (.bipush 6, 2) := dk_16 6 (dk_at dksX9_dayDoes_6 20 rfl rfl)
theorem dX9_dayDoes_164 : decode cX9_dayDoes 164 = .ok (.iaload, 1) := dk_46 (dk_at dksX9_dayDoes_6 22 rfl rfl)
theorem dX9_dayDoes_165 : decode cX9_dayDoes 165 = .ok (.if_icmp .ge 101, 3) := dk_162 0 101 (dk_at dksX9_dayDoes_7 0 rfl rfl)
theorem dX9_dayDoes_168 : decode cX9_dayDoes 168 = .ok (.aload_n 0, 1) := dk_42 (dk_at dksX9_dayDoes_7 3 rfl rfl)
theorem dX9_dayDoes_169 : decode cX9_dayDoes 169 = .ok (.iconst 1, 1) := dk_4 (dk_at dksX9_dayDoes_7 4 rfl rfl)
theorem dX9_dayDoes_170 : decode cX9_dayDoes 170 = .ok (.putfield 383, 3) := dk_181 1 127 (dk_at dksX9_dayDoes_7 5 rfl rfl)
theorem dX9_dayDoes_173 : decode cX9_dayDoes 173 = .ok (.goto 93, 3) := dk_167 0 93 (dk_at dksX9_dayDoes_7 8 rfl rfl)
theorem dX9_dayDoes_176 : decode cX9_dayDoes 176 = .ok (.iload_n 1, 1) := dk_27 (dk_at dksX9_dayDoes_7 11 rfl rfl)
theorem dX9_dayDoes_177 : decode cX9_dayDoes 177 = .ok (.iconst 3, 1) := dk_6 (dk_at dksX9_dayDoes_7 12 rfl rfl)
theorem dX9_dayDoes_178 : decode cX9_dayDoes 178 = .ok (.if_icmp .ne 41, 3) := dk_160 0 41 (dk_at dksX9_dayDoes_7 13 rfl rfl)
theorem dX9_dayDoes_181 : decode cX9_dayDoes 181 = .ok (.iload_n 3, 1) := dk_29 (dk_at dksX9_dayDoes_7 16 rfl rfl)
theorem dX9_dayDoes_182 : decode cX9_dayDoes 182 = .ok (.ifCond .ne 4, 3) := dk_154 0 4 (dk_at dksX9_dayDoes_7 17 rfl rfl)
theorem dX9_dayDoes_185 : decode cX9_dayDoes 185 = .ok (.return_, 1) := dk_177 (dk_at dksX9_dayDoes_7 20 rfl rfl)
theorem dX9_dayDoes_186 : decode cX9_dayDoes 186 = .ok (.aload_n 0, 1) := dk_42 (dk_at dksX9_dayDoes_7 21 rfl rfl)
theorem dX9_dayDoes_187 : decode cX9_dayDoes 187 = .ok (.dup, 1) := dk_89 (dk_at dksX9_dayDoes_7 22 rfl rfl)
theorem dX9_dayDoes_188 : decode cX9_dayDoes 188 = .ok (.getfield 526, 3) := dk_180 2 14 (dk_at dksX9_dayDoes_8 0 rfl rfl)
theorem dX9_dayDoes_191 : decode cX9_dayDoes 191 = .ok (.aload_n 0, 1) := dk_42 (dk_at dksX9_dayDoes_8 3 rfl rfl)
theorem dX9_dayDoes_192 : decode cX9_dayDoes 192 = .ok (.getfield 392, 3) := dk_180 1 136 (dk_at dksX9_dayDoes_8 4 rfl rfl)
theorem dX9_dayDoes_195 : decode cX9_dayDoes 195 = .ok (.iadd, 1) := dk_96 (dk_at dksX9_dayDoes_8 7 rfl rfl)
theorem dX9_dayDoes_196 : decode cX9_dayDoes 196 = .ok (.putfield 526, 3) := dk_181 2 14 (dk_at dksX9_dayDoes_8 8 rfl rfl)
theorem dX9_dayDoes_199 : decode cX9_dayDoes 199 = .ok (.aload_n 0, 1) := dk_42 (dk_at dksX9_dayDoes_8 11 rfl rfl)
theorem dX9_dayDoes_200 : decode cX9_dayDoes 200 = .ok (.iload_n 3, 1) := dk_29 (dk_at dksX9_dayDoes_8 12 rfl rfl)
theorem dX9_dayDoes_201 : decode cX9_dayDoes 201 = .ok (.putfield 392, 3) := dk_181 1 136 (dk_at dksX9_dayDoes_8 13 rfl rfl)
theorem dX9_dayDoes_204 : decode cX9_dayDoes 204 = .ok (.aload_n 0, 1) := dk_42 (dk_at dksX9_dayDoes_8 16 rfl rfl)
theorem dX9_dayDoes_205 : decode cX9_dayDoes 205 = .ok (.iconst 0, 1) := dk_3 (dk_at dksX9_dayDoes_8 17 rfl rfl)
theorem dX9_dayDoes_206 : decode cX9_dayDoes 206 = .ok (.putfield 389, 3) := dk_181 1 133 (dk_at dksX9_dayDoes_8 18 rfl rfl)
theorem dX9_dayDoes_209 : decode cX9_dayDoes 209 = .ok (.aload_n 0, 1) := dk_42 (dk_at dksX9_dayDoes_8 21 rfl rfl)
theorem dX9_dayDoes_210 : decode cX9_dayDoes 210 = .ok (.iload_n 2, 1) := dk_28 (dk_at dksX9_dayDoes_8 22 rfl rfl)
theorem dX9_dayDoes_211 : decode cX9_dayDoes 211 = .ok (.iconst 1, 1) := dk_4 (dk_at dksX9_dayDoes_8 23 rfl rfl)
theorem dX9_dayDoes_212 : decode cX9_dayDoes 212 = .ok (.iadd, 1) := dk_96 (dk_at dksX9_dayDoes_9 0 rfl rfl)
theorem dX9_dayDoes_213 : decode cX9_dayDoes 213 = .ok (.putfield 385, 3) := dk_181 1 129 (dk_at dksX9_dayDoes_9 1 rfl rfl)
theorem dX9_dayDoes_216 : decode cX9_dayDoes 216 = .ok (.goto 50, 3) := dk_167 0 50 (dk_at dksX9_dayDoes_9 4 rfl rfl)
theorem dX9_dayDoes_219 : decode cX9_dayDoes 219 = .ok (.iload_n 1, 1) := dk_27 (dk_at dksX9_dayDoes_9 7 rfl rfl)
theorem dX9_dayDoes_220 : decode cX9_dayDoes 220 = .ok (.iconst 4, 1) := dk_7 (dk_at dksX9_dayDoes_9 8 rfl rfl)
theorem dX9_dayDoes_221 : decode cX9_dayDoes 221 = .ok (.if_icmp .ne 16, 3) := dk_160 0 16 (dk_at dksX9_dayDoes_9 9 rfl rfl)
theorem dX9_dayDoes_224 : decode cX9_dayDoes 224 = .ok (.aload_n 0, 1) := dk_42 (dk_at dksX9_dayDoes_9 12 rfl rfl)
theorem dX9_dayDoes_225 : decode cX9_dayDoes 225 = .ok (.iconst 0, 1) := dk_3 (dk_at dksX9_dayDoes_9 13 rfl rfl)
theorem dX9_dayDoes_226 : decode cX9_dayDoes 226 = .ok (.putfield 392, 3) := dk_181 1 136 (dk_at dksX9_dayDoes_9 14 rfl rfl)
theorem dX9_dayDoes_229 : decode cX9_dayDoes 229 = .ok (.aload_n 0, 1) := dk_42 (dk_at dksX9_dayDoes_9 17 rfl rfl)
theorem dX9_dayDoes_230 : decode cX9_dayDoes 230 = .ok (.iconst 0, 1) := dk_3 (dk_at dksX9_dayDoes_9 18 rfl rfl)
theorem dX9_dayDoes_231 : decode cX9_dayDoes 231 = .ok (.putfield 389, 3) := dk_181 1 133 (dk_at dksX9_dayDoes_9 19 rfl rfl)
theorem dX9_dayDoes_234 : decode cX9_dayDoes 234 = .ok (.goto 32, 3) := dk_167 0 32 (dk_at dksX9_dayDoes_10 0 rfl rfl)
theorem dX9_dayDoes_237 : decode cX9_dayDoes 237 = .ok (.aload_n 0, 1) := dk_42 (dk_at dksX9_dayDoes_10 3 rfl rfl)
theorem dX9_dayDoes_238 : decode cX9_dayDoes 238 = .ok (.iload_n 1, 1) := dk_27 (dk_at dksX9_dayDoes_10 4 rfl rfl)
theorem dX9_dayDoes_239 : decode cX9_dayDoes 239 = .ok (.iconst 5, 1) := dk_8 (dk_at dksX9_dayDoes_10 5 rfl rfl)
theorem dX9_dayDoes_240 : decode cX9_dayDoes 240 = .ok (.if_icmp .ne 7, 3) := dk_160 0 7 (dk_at dksX9_dayDoes_10 6 rfl rfl)
theorem dX9_dayDoes_243 : decode cX9_dayDoes 243 = .ok (.iconst 1, 1) := dk_4 (dk_at dksX9_dayDoes_10 9 rfl rfl)
theorem dX9_dayDoes_244 : decode cX9_dayDoes 244 = .ok (.goto 19, 3) := dk_167 0 19 (dk_at dksX9_dayDoes_10 10 rfl rfl)
theorem dX9_dayDoes_247 : decode cX9_dayDoes 247 = .ok (.iload_n 1, 1) := dk_27 (dk_at dksX9_dayDoes_10 13 rfl rfl)
theorem dX9_dayDoes_248 : decode cX9_dayDoes 248 = .ok (.bipush 6, 2) := dk_16 6 (dk_at dksX9_dayDoes_10 14 rfl rfl)
theorem dX9_dayDoes_250 : decode cX9_dayDoes 250 = .ok (.if_icmp .ne 7, 3) := dk_160 0 7 (dk_at dksX9_dayDoes_10 16 rfl rfl)
theorem dX9_dayDoes_253 : decode cX9_dayDoes 253 = .ok (.iconst 0, 1) := dk_3 (dk_at dksX9_dayDoes_10 19 rfl rfl)
theorem dX9_dayDoes_254 : decode cX9_dayDoes 254 = .ok (.goto 9, 3) := dk_167 0 9 (dk_at dksX9_dayDoes_10 20 rfl rfl)
theorem dX9_dayDoes_257 : decode cX9_dayDoes 257 = .ok (.iconst 1, 1) := dk_4 (dk_at dksX9_dayDoes_10 23 rfl rfl)
theorem dX9_dayDoes_258 : decode cX9_dayDoes 258 = .ok (.aload_n 0, 1) := dk_42 (dk_at dksX9_dayDoes_11 0 rfl rfl)
theorem dX9_dayDoes_259 : decode cX9_dayDoes 259 = .ok (.getfield 387, 3) := dk_180 1 131 (dk_at dksX9_dayDoes_11 1 rfl rfl)
theorem dX9_dayDoes_262 : decode cX9_dayDoes 262 = .ok (.isub, 1) := dk_100 (dk_at dksX9_dayDoes_11 4 rfl rfl)
theorem dX9_dayDoes_263 : decode cX9_dayDoes 263 = .ok (.putfield 387, 3) := dk_181 1 131 (dk_at dksX9_dayDoes_11 5 rfl rfl)
theorem dX9_dayDoes_266 : decode cX9_dayDoes 266 = .ok (.return_, 1) := dk_177 (dk_at dksX9_dayDoes_11 8 rfl rfl)
abbrev cX9_span : ByteArray := prog_28_method_116_code
def yX9_span : MethodName := ⟨RX9, "span", "(III)I"⟩
def dkwX9_span_6 : List UInt8 := [21, 5, 167, 0, 5, 21, 6, 172]
abbrev dktX9_span_6 : List UInt8 := dkwX9_span_6 ++ []
def dkwX9_span_5 : List UInt8 := [21, 6, 54, 6, 132, 7, 1, 167, 255, 185, 29, 154, 0, 8, 21, 4, 167, 0, 15, 29, 4, 160, 0, 8]
abbrev dktX9_span_5 : List UInt8 := dkwX9_span_5 ++ dktX9_span_6
def dkwX9_span_4 : List UInt8 := [42, 180, 2, 8, 96, 54, 5, 42, 180, 2, 8, 21, 6, 164, 0, 10, 42, 180, 2, 8, 167, 0, 5]
abbrev dktX9_span_4 : List UInt8 := dkwX9_span_4 ++ dktX9_span_5
def dkwX9_span_3 : List UInt8 := [182, 2, 20, 21, 4, 42, 4, 3, 182, 1, 206, 153, 0, 7, 4, 167, 0, 4, 3, 96, 54, 4, 21, 5]
abbrev dktX9_span_3 : List UInt8 := dkwX9_span_3 ++ dktX9_span_4
def dkwX9_span_2 : List UInt8 := [3, 54, 6, 3, 54, 7, 21, 7, 28, 162, 0, 71, 42, 27, 21, 7, 96, 42, 180, 0, 164, 4, 100]
abbrev dktX9_span_2 : List UInt8 := dkwX9_span_2 ++ dktX9_span_3
def dkwX9_span_1 : List UInt8 := [153, 0, 7, 4, 167, 0, 4, 3, 4, 4, 182, 0, 213, 154, 0, 5, 3, 172, 3, 54, 4, 3, 54, 5]
abbrev dktX9_span_1 : List UInt8 := dkwX9_span_1 ++ dktX9_span_2
def dkwX9_span_0 : List UInt8 := [42, 3, 181, 0, 3, 42, 28, 4, 16, 40, 184, 1, 60, 153, 0, 16, 29, 3, 5, 184, 1, 60]
abbrev dktX9_span_0 : List UInt8 := dkwX9_span_0 ++ dktX9_span_1
theorem dksX9_span_0 : cX9_span.data.toList.drop 0 = dktX9_span_0 := by decide +kernel
theorem dksX9_span_1 : cX9_span.data.toList.drop 22 = dktX9_span_1 := dk_seg dksX9_span_0 22 rfl rfl
theorem dksX9_span_2 : cX9_span.data.toList.drop 46 = dktX9_span_2 := dk_seg dksX9_span_1 24 rfl rfl
theorem dksX9_span_3 : cX9_span.data.toList.drop 69 = dktX9_span_3 := dk_seg dksX9_span_2 23 rfl rfl
theorem dksX9_span_4 : cX9_span.data.toList.drop 93 = dktX9_span_4 := dk_seg dksX9_span_3 24 rfl rfl
theorem dksX9_span_5 : cX9_span.data.toList.drop 116 = dktX9_span_5 := dk_seg dksX9_span_4 23 rfl rfl
theorem dksX9_span_6 : cX9_span.data.toList.drop 140 = dktX9_span_6 := dk_seg dksX9_span_5 24 rfl rfl
theorem dX9_span_0 : decode cX9_span 0 = .ok (.aload_n 0, 1) := dk_42 (dk_at dksX9_span_0 0 rfl rfl)
theorem dX9_span_1 : decode cX9_span 1 = .ok (.iconst 0, 1) := dk_3 (dk_at dksX9_span_0 1 rfl rfl)
theorem dX9_span_2 : decode cX9_span 2 = .ok (.putfield 3, 3) := dk_181 0 3 (dk_at dksX9_span_0 2 rfl rfl)
theorem dX9_span_5 : decode cX9_span 5 = .ok (.aload_n 0, 1) := dk_42 (dk_at dksX9_span_0 5 rfl rfl)
theorem dX9_span_6 : decode cX9_span 6 = .ok (.iload_n 2, 1) := dk_28 (dk_at dksX9_span_0 6 rfl rfl)
theorem dX9_span_7 : decode cX9_span 7 = .ok (.iconst 1, 1) := dk_4 (dk_at dksX9_span_0 7 rfl rfl)
theorem dX9_span_8 : decode cX9_span 8 = .ok (.bipush 40, 2) := dk_16 40 (dk_at dksX9_span_0 8 rfl rfl)
theorem dX9_span_10 : decode cX9_span 10 = .ok (.invokestatic 316, 3) := dk_184 1 60 (dk_at dksX9_span_0 10 rfl rfl)
theorem dX9_span_13 : decode cX9_span 13 = .ok (.ifCond .eq 16, 3) := dk_153 0 16 (dk_at dksX9_span_0 13 rfl rfl)
theorem dX9_span_16 : decode cX9_span 16 = .ok (.iload_n 3, 1) := dk_29 (dk_at dksX9_span_0 16 rfl rfl)
theorem dX9_span_17 : decode cX9_span 17 = .ok (.iconst 0, 1) := dk_3 (dk_at dksX9_span_0 17 rfl rfl)
theorem dX9_span_18 : decode cX9_span 18 = .ok (.iconst 2, 1) := dk_5 (dk_at dksX9_span_0 18 rfl rfl)
theorem dX9_span_19 : decode cX9_span 19 = .ok (.invokestatic 316, 3) := dk_184 1 60 (dk_at dksX9_span_0 19 rfl rfl)
theorem dX9_span_22 : decode cX9_span 22 = .ok (.ifCond .eq 7, 3) := dk_153 0 7 (dk_at dksX9_span_1 0 rfl rfl)
theorem dX9_span_25 : decode cX9_span 25 = .ok (.iconst 1, 1) := dk_4 (dk_at dksX9_span_1 3 rfl rfl)
theorem dX9_span_26 : decode cX9_span 26 = .ok (.goto 4, 3) := dk_167 0 4 (dk_at dksX9_span_1 4 rfl rfl)
theorem dX9_span_29 : decode cX9_span 29 = .ok (.iconst 0, 1) := dk_3 (dk_at dksX9_span_1 7 rfl rfl)
theorem dX9_span_30 : decode cX9_span 30 = .ok (.iconst 1, 1) := dk_4 (dk_at dksX9_span_1 8 rfl rfl)
theorem dX9_span_31 : decode cX9_span 31 = .ok (.iconst 1, 1) := dk_4 (dk_at dksX9_span_1 9 rfl rfl)
theorem dX9_span_32 : decode cX9_span 32 = .ok (.invokevirtual 213, 3) := dk_182 0 213 (dk_at dksX9_span_1 10 rfl rfl)
theorem dX9_span_35 : decode cX9_span 35 = .ok (.ifCond .ne 5, 3) := dk_154 0 5 (dk_at dksX9_span_1 13 rfl rfl)
theorem dX9_span_38 : decode cX9_span 38 = .ok (.iconst 0, 1) := dk_3 (dk_at dksX9_span_1 16 rfl rfl)
theorem dX9_span_39 : decode cX9_span 39 = .ok (.ireturn, 1) := dk_172 (dk_at dksX9_span_1 17 rfl rfl)
theorem dX9_span_40 : decode cX9_span 40 = .ok (.iconst 0, 1) := dk_3 (dk_at dksX9_span_1 18 rfl rfl)
theorem dX9_span_41 : decode cX9_span 41 = .ok (.istore 4, 2) := dk_54 4 (dk_at dksX9_span_1 19 rfl rfl)
theorem dX9_span_43 : decode cX9_span 43 = .ok (.iconst 0, 1) := dk_3 (dk_at dksX9_span_1 21 rfl rfl)
theorem dX9_span_44 : decode cX9_span 44 = .ok (.istore 5, 2) := dk_54 5 (dk_at dksX9_span_1 22 rfl rfl)
theorem dX9_span_46 : decode cX9_span 46 = .ok (.iconst 0, 1) := dk_3 (dk_at dksX9_span_2 0 rfl rfl)
theorem dX9_span_47 : decode cX9_span 47 = .ok (.istore 6, 2) := dk_54 6 (dk_at dksX9_span_2 1 rfl rfl)
theorem dX9_span_49 : decode cX9_span 49 = .ok (.iconst 0, 1) := dk_3 (dk_at dksX9_span_2 3 rfl rfl)
theorem dX9_span_50 : decode cX9_span 50 = .ok (.istore 7, 2) := dk_54 7 (dk_at dksX9_span_2 4 rfl rfl)
theorem dX9_span_52 : decode cX9_span 52 = .ok (.iload 7, 2) := dk_21 7 (dk_at dksX9_span_2 6 rfl rfl)
theorem dX9_span_54 : decode cX9_span 54 = .ok (.iload_n 2, 1) := dk_28 (dk_at dksX9_span_2 8 rfl rfl)
theorem dX9_span_55 : decode cX9_span 55 = .ok (.if_icmp .ge 71, 3) := dk_162 0 71 (dk_at dksX9_span_2 9 rfl rfl)
theorem dX9_span_58 : decode cX9_span 58 = .ok (.aload_n 0, 1) := dk_42 (dk_at dksX9_span_2 12 rfl rfl)
theorem dX9_span_59 : decode cX9_span 59 = .ok (.iload_n 1, 1) := dk_27 (dk_at dksX9_span_2 13 rfl rfl)
theorem dX9_span_60 : decode cX9_span 60 = .ok (.iload 7, 2) := dk_21 7 (dk_at dksX9_span_2 14 rfl rfl)
theorem dX9_span_62 : decode cX9_span 62 = .ok (.iadd, 1) := dk_96 (dk_at dksX9_span_2 16 rfl rfl)
theorem dX9_span_63 : decode cX9_span 63 = .ok (.aload_n 0, 1) := dk_42 (dk_at dksX9_span_2 17 rfl rfl)
theorem dX9_span_64 : decode cX9_span 64 = .ok (.getfield 164, 3) := dk_180 0 164 (dk_at dksX9_span_2 18 rfl rfl)
theorem dX9_span_67 : decode cX9_span 67 = .ok (.iconst 1, 1) := dk_4 (dk_at dksX9_span_2 21 rfl rfl)
theorem dX9_span_68 : decode cX9_span 68 = .ok (.isub, 1) := dk_100 (dk_at dksX9_span_2 22 rfl rfl)
theorem dX9_span_69 : decode cX9_span 69 = .ok (.invokevirtual 532, 3) := dk_182 2 20 (dk_at dksX9_span_3 0 rfl rfl)
theorem dX9_span_72 : decode cX9_span 72 = .ok (.iload 4, 2) := dk_21 4 (dk_at dksX9_span_3 3 rfl rfl)
theorem dX9_span_74 : decode cX9_span 74 = .ok (.aload_n 0, 1) := dk_42 (dk_at dksX9_span_3 5 rfl rfl)
theorem dX9_span_75 : decode cX9_span 75 = .ok (.iconst 1, 1) := dk_4 (dk_at dksX9_span_3 6 rfl rfl)
theorem dX9_span_76 : decode cX9_span 76 = .ok (.iconst 0, 1) := dk_3 (dk_at dksX9_span_3 7 rfl rfl)
theorem dX9_span_77 : decode cX9_span 77 = .ok (.invokevirtual 462, 3) := dk_182 1 206 (dk_at dksX9_span_3 8 rfl rfl)
theorem dX9_span_80 : decode cX9_span 80 = .ok (.ifCond .eq 7, 3) := dk_153 0 7 (dk_at dksX9_span_3 11 rfl rfl)
theorem dX9_span_83 : decode cX9_span 83 = .ok (.iconst 1, 1) := dk_4 (dk_at dksX9_span_3 14 rfl rfl)
theorem dX9_span_84 : decode cX9_span 84 = .ok (.goto 4, 3) := dk_167 0 4 (dk_at dksX9_span_3 15 rfl rfl)
theorem dX9_span_87 : decode cX9_span 87 = .ok (.iconst 0, 1) := dk_3 (dk_at dksX9_span_3 18 rfl rfl)
theorem dX9_span_88 : decode cX9_span 88 = .ok (.iadd, 1) := dk_96 (dk_at dksX9_span_3 19 rfl rfl)
theorem dX9_span_89 : decode cX9_span 89 = .ok (.istore 4, 2) := dk_54 4 (dk_at dksX9_span_3 20 rfl rfl)
theorem dX9_span_91 : decode cX9_span 91 = .ok (.iload 5, 2) := dk_21 5 (dk_at dksX9_span_3 22 rfl rfl)
theorem dX9_span_93 : decode cX9_span 93 = .ok (.aload_n 0, 1) := dk_42 (dk_at dksX9_span_4 0 rfl rfl)
theorem dX9_span_94 : decode cX9_span 94 = .ok (.getfield 520, 3) := dk_180 2 8 (dk_at dksX9_span_4 1 rfl rfl)
theorem dX9_span_97 : decode cX9_span 97 = .ok (.iadd, 1) := dk_96 (dk_at dksX9_span_4 4 rfl rfl)
theorem dX9_span_98 : decode cX9_span 98 = .ok (.istore 5, 2) := dk_54 5 (dk_at dksX9_span_4 5 rfl rfl)
theorem dX9_span_100 : decode cX9_span 100 = .ok (.aload_n 0, 1) := dk_42 (dk_at dksX9_span_4 7 rfl rfl)
theorem dX9_span_101 : decode cX9_span 101 = .ok (.getfield 520, 3) := dk_180 2 8 (dk_at dksX9_span_4 8 rfl rfl)
theorem dX9_span_104 : decode cX9_span 104 = .ok (.iload 6, 2) := dk_21 6 (dk_at dksX9_span_4 11 rfl rfl)
theorem dX9_span_106 : decode cX9_span 106 = .ok (.if_icmp .le 10, 3) := dk_164 0 10 (dk_at dksX9_span_4 13 rfl rfl)
theorem dX9_span_109 : decode cX9_span 109 = .ok (.aload_n 0, 1) := dk_42 (dk_at dksX9_span_4 16 rfl rfl)
theorem dX9_span_110 : decode cX9_span 110 = .ok (.getfield 520, 3) := dk_180 2 8 (dk_at dksX9_span_4 17 rfl rfl)
theorem dX9_span_113 : decode cX9_span 113 = .ok (.goto 5, 3) := dk_167 0 5 (dk_at dksX9_span_4 20 rfl rfl)
theorem dX9_span_116 : decode cX9_span 116 = .ok (.iload 6, 2) := dk_21 6 (dk_at dksX9_span_5 0 rfl rfl)
theorem dX9_span_118 : decode cX9_span 118 = .ok (.istore 6, 2) := dk_54 6 (dk_at dksX9_span_5 2 rfl rfl)
theorem dX9_span_120 : decode cX9_span 120 = .ok (.iinc 7 1, 3) := dk_132 7 1 (dk_at dksX9_span_5 4 rfl rfl)
theorem dX9_span_123 : decode cX9_span 123 = .ok (.goto (-71), 3) := dk_167 255 185 (dk_at dksX9_span_5 7 rfl rfl)
theorem dX9_span_126 : decode cX9_span 126 = .ok (.iload_n 3, 1) := dk_29 (dk_at dksX9_span_5 10 rfl rfl)
theorem dX9_span_127 : decode cX9_span 127 = .ok (.ifCond .ne 8, 3) := dk_154 0 8 (dk_at dksX9_span_5 11 rfl rfl)
theorem dX9_span_130 : decode cX9_span 130 = .ok (.iload 4, 2) := dk_21 4 (dk_at dksX9_span_5 14 rfl rfl)
theorem dX9_span_132 : decode cX9_span 132 = .ok (.goto 15, 3) := dk_167 0 15 (dk_at dksX9_span_5 16 rfl rfl)
theorem dX9_span_135 : decode cX9_span 135 = .ok (.iload_n 3, 1) := dk_29 (dk_at dksX9_span_5 19 rfl rfl)
theorem dX9_span_136 : decode cX9_span 136 = .ok (.iconst 1, 1) := dk_4 (dk_at dksX9_span_5 20 rfl rfl)
theorem dX9_span_137 : decode cX9_span 137 = .ok (.if_icmp .ne 8, 3) := dk_160 0 8 (dk_at dksX9_span_5 21 rfl rfl)
theorem dX9_span_140 : decode cX9_span 140 = .ok (.iload 5, 2) := dk_21 5 (dk_at dksX9_span_6 0 rfl rfl)
theorem dX9_span_142 : decode cX9_span 142 = .ok (.goto 5, 3) := dk_167 0 5 (dk_at dksX9_span_6 2 rfl rfl)
theorem dX9_span_145 : decode cX9_span 145 = .ok (.iload 6, 2) := dk_21 6 (dk_at dksX9_span_6 5 rfl rfl)
theorem dX9_span_147 : decode cX9_span 147 = .ok (.ireturn, 1) := dk_172 (dk_at dksX9_span_6 7 rfl rfl)
abbrev cX9_come : ByteArray := prog_28_method_119_code
def yX9_come : MethodName := ⟨RX9, "come", "(II)I"⟩
def dkwX9_come_3 : List UInt8 := [182, 0, 198, 62, 42, 89, 180, 0, 164, 4, 96, 181, 0, 164, 29, 172]
abbrev dktX9_come_3 : List UInt8 := dkwX9_come_3 ++ []
def dkwX9_come_2 : List UInt8 := [160, 0, 5, 2, 172, 42, 182, 2, 23, 42, 42, 180, 0, 35, 42, 180, 0, 38, 42, 180, 0, 164, 27, 28]
abbrev dktX9_come_2 : List UInt8 := dkwX9_come_2 ++ dktX9_come_3
def dkwX9_come_1 : List UInt8 := [4, 182, 0, 213, 154, 0, 5, 3, 172, 42, 180, 0, 164, 16, 24, 159, 0, 12, 42, 180, 0, 170, 16, 20]
abbrev dktX9_come_1 : List UInt8 := dkwX9_come_1 ++ dktX9_come_2
def dkwX9_come_0 : List UInt8 := [42, 3, 181, 0, 3, 42, 27, 4, 182, 1, 64, 153, 0, 20, 42, 28, 3, 17, 1, 224, 184, 1, 60, 5]
abbrev dktX9_come_0 : List UInt8 := dkwX9_come_0 ++ dktX9_come_1
theorem dksX9_come_0 : cX9_come.data.toList.drop 0 = dktX9_come_0 := by decide +kernel
theorem dksX9_come_1 : cX9_come.data.toList.drop 24 = dktX9_come_1 := dk_seg dksX9_come_0 24 rfl rfl
theorem dksX9_come_2 : cX9_come.data.toList.drop 48 = dktX9_come_2 := dk_seg dksX9_come_1 24 rfl rfl
theorem dksX9_come_3 : cX9_come.data.toList.drop 72 = dktX9_come_3 := dk_seg dksX9_come_2 24 rfl rfl
theorem dX9_come_0 : decode cX9_come 0 = .ok (.aload_n 0, 1) := dk_42 (dk_at dksX9_come_0 0 rfl rfl)
theorem dX9_come_1 : decode cX9_come 1 = .ok (.iconst 0, 1) := dk_3 (dk_at dksX9_come_0 1 rfl rfl)
theorem dX9_come_2 : decode cX9_come 2 = .ok (.putfield 3, 3) := dk_181 0 3 (dk_at dksX9_come_0 2 rfl rfl)
theorem dX9_come_5 : decode cX9_come 5 = .ok (.aload_n 0, 1) := dk_42 (dk_at dksX9_come_0 5 rfl rfl)
theorem dX9_come_6 : decode cX9_come 6 = .ok (.iload_n 1, 1) := dk_27 (dk_at dksX9_come_0 6 rfl rfl)
theorem dX9_come_7 : decode cX9_come 7 = .ok (.iconst 1, 1) := dk_4 (dk_at dksX9_come_0 7 rfl rfl)
theorem dX9_come_8 : decode cX9_come 8 = .ok (.invokevirtual 320, 3) := dk_182 1 64 (dk_at dksX9_come_0 8 rfl rfl)
theorem dX9_come_11 : decode cX9_come 11 = .ok (.ifCond .eq 20, 3) := dk_153 0 20 (dk_at dksX9_come_0 11 rfl rfl)
theorem dX9_come_14 : decode cX9_come 14 = .ok (.aload_n 0, 1) := dk_42 (dk_at dksX9_come_0 14 rfl rfl)
theorem dX9_come_15 : decode cX9_come 15 = .ok (.iload_n 2, 1) := dk_28 (dk_at dksX9_come_0 15 rfl rfl)
theorem dX9_come_16 : decode cX9_come 16 = .ok (.iconst 0, 1) := dk_3 (dk_at dksX9_come_0 16 rfl rfl)
theorem dX9_come_17 : decode cX9_come 17 = .ok (.sipush 480, 3) := dk_17 1 224 (dk_at dksX9_come_0 17 rfl rfl)
theorem dX9_come_20 : decode cX9_come 20 = .ok (.invokestatic 316, 3) := dk_184 1 60 (dk_at dksX9_come_0 20 rfl rfl)
theorem dX9_come_23 : decode cX9_come 23 = .ok (.iconst 2, 1) := dk_5 (dk_at dksX9_come_0 23 rfl rfl)
theorem dX9_come_24 : decode cX9_come 24 = .ok (.iconst 1, 1) := dk_4 (dk_at dksX9_come_1 0 rfl rfl)
theorem dX9_come_25 : decode cX9_come 25 = .ok (.invokevirtual 213, 3) := dk_182 0 213 (dk_at dksX9_come_1 1 rfl rfl)
theorem dX9_come_28 : decode cX9_come 28 = .ok (.ifCond .ne 5, 3) := dk_154 0 5 (dk_at dksX9_come_1 4 rfl rfl)
theorem dX9_come_31 : decode cX9_come 31 = .ok (.iconst 0, 1) := dk_3 (dk_at dksX9_come_1 7 rfl rfl)
theorem dX9_come_32 : decode cX9_come 32 = .ok (.ireturn, 1) := dk_172 (dk_at dksX9_come_1 8 rfl rfl)
theorem dX9_come_33 : decode cX9_come 33 = .ok (.aload_n 0, 1) := dk_42 (dk_at dksX9_come_1 9 rfl rfl)
theorem dX9_come_34 : decode cX9_come 34 = .ok (.getfield 164, 3) := dk_180 0 164 (dk_at dksX9_come_1 10 rfl rfl)
theorem dX9_come_37 : decode cX9_come 37 = .ok (.bipush 24, 2) := dk_16 24 (dk_at dksX9_come_1 13 rfl rfl)
theorem dX9_come_39 : decode cX9_come 39 = .ok (.if_icmp .eq 12, 3) := dk_159 0 12 (dk_at dksX9_come_1 15 rfl rfl)
theorem dX9_come_42 : decode cX9_come 42 = .ok (.aload_n 0, 1) := dk_42 (dk_at dksX9_come_1 18 rfl rfl)
theorem dX9_come_43 : decode cX9_come 43 = .ok (.getfield 170, 3) := dk_180 0 170 (dk_at dksX9_come_1 19 rfl rfl)
theorem dX9_come_46 : decode cX9_come 46 = .ok (.bipush 20, 2) := dk_16 20 (dk_at dksX9_come_1 22 rfl rfl)
theorem dX9_come_48 : decode cX9_come 48 = .ok (.if_icmp .ne 5, 3) := dk_160 0 5 (dk_at dksX9_come_2 0 rfl rfl)
theorem dX9_come_51 : decode cX9_come 51 = .ok (.iconst (-1), 1) := dk_2 (dk_at dksX9_come_2 3 rfl rfl)
theorem dX9_come_52 : decode cX9_come 52 = .ok (.ireturn, 1) := dk_172 (dk_at dksX9_come_2 4 rfl rfl)
theorem dX9_come_53 : decode cX9_come 53 = .ok (.aload_n 0, 1) := dk_42 (dk_at dksX9_come_2 5 rfl rfl)
theorem dX9_come_54 : decode cX9_come 54 = .ok (.invokevirtual 535, 3) := dk_182 2 23 (dk_at dksX9_come_2 6 rfl rfl)
theorem dX9_come_57 : decode cX9_come 57 = .ok (.aload_n 0, 1) := dk_42 (dk_at dksX9_come_2 9 rfl rfl)
theorem dX9_come_58 : decode cX9_come 58 = .ok (.aload_n 0, 1) := dk_42 (dk_at dksX9_come_2 10 rfl rfl)
theorem dX9_come_59 : decode cX9_come 59 = .ok (.getfield 35, 3) := dk_180 0 35 (dk_at dksX9_come_2 11 rfl rfl)
theorem dX9_come_62 : decode cX9_come 62 = .ok (.aload_n 0, 1) := dk_42 (dk_at dksX9_come_2 14 rfl rfl)
theorem dX9_come_63 : decode cX9_come 63 = .ok (.getfield 38, 3) := dk_180 0 38 (dk_at dksX9_come_2 15 rfl rfl)
theorem dX9_come_66 : decode cX9_come 66 = .ok (.aload_n 0, 1) := dk_42 (dk_at dksX9_come_2 18 rfl rfl)
theorem dX9_come_67 : decode cX9_come 67 = .ok (.getfield 164, 3) := dk_180 0 164 (dk_at dksX9_come_2 19 rfl rfl)
theorem dX9_come_70 : decode cX9_come 70 = .ok (.iload_n 1, 1) := dk_27 (dk_at dksX9_come_2 22 rfl rfl)
theorem dX9_come_71 : decode cX9_come 71 = .ok (.iload_n 2, 1) := dk_28 (dk_at dksX9_come_2 23 rfl rfl)
theorem dX9_come_72 : decode cX9_come 72 = .ok (.invokevirtual 198, 3) := dk_182 0 198 (dk_at dksX9_come_3 0 rfl rfl)
theorem dX9_come_75 : decode cX9_come 75 = .ok (.istore_n 3, 1) := dk_62 (dk_at dksX9_come_3 3 rfl rfl)
theorem dX9_come_76 : decode cX9_come 76 = .ok (.aload_n 0, 1) := dk_42 (dk_at dksX9_come_3 4 rfl rfl)
theorem dX9_come_77 : decode cX9_come 77 = .ok (.dup, 1) := dk_89 (dk_at dksX9_come_3 5 rfl rfl)
theorem dX9_come_78 : decode cX9_come 78 = .ok (.getfield 164, 3) := dk_180 0 164 (dk_at dksX9_come_3 6 rfl rfl)
theorem dX9_come_81 : decode cX9_come 81 = .ok (.iconst 1, 1) := dk_4 (dk_at dksX9_come_3 9 rfl rfl)
theorem dX9_come_82 : decode cX9_come 82 = .ok (.iadd, 1) := dk_96 (dk_at dksX9_come_3 10 rfl rfl)
theorem dX9_come_83 : decode cX9_come 83 = .ok (.putfield 164, 3) := dk_181 0 164 (dk_at dksX9_come_3 11 rfl rfl)
theorem dX9_come_86 : decode cX9_come 86 = .ok (.iload_n 3, 1) := dk_29 (dk_at dksX9_come_3 14 rfl rfl)
theorem dX9_come_87 : decode cX9_come 87 = .ok (.ireturn, 1) := dk_172 (dk_at dksX9_come_3 15 rfl rfl)
abbrev cX9_keepsVisits : ByteArray := prog_28_method_117_code
def yX9_keepsVisits : MethodName := ⟨RX9, "keepsVisits", "()V"⟩
def dkwX9_keepsVisits_3 : List UInt8 := [16, 48, 96, 42, 180, 0, 164, 79, 42, 89, 180, 0, 170, 4, 96, 181, 0, 170, 177]
abbrev dktX9_keepsVisits_3 : List UInt8 := dkwX9_keepsVisits_3 ++ []
def dkwX9_keepsVisits_2 : List UInt8 := [180, 0, 38, 27, 46, 79, 132, 1, 1, 167, 255, 204, 42, 180, 0, 93, 16, 49, 42, 180, 0, 170, 104]
abbrev dktX9_keepsVisits_2 : List UInt8 := dkwX9_keepsVisits_2 ++ dktX9_keepsVisits_3
def dkwX9_keepsVisits_1 : List UInt8 := [180, 0, 35, 27, 46, 79, 42, 180, 0, 93, 16, 49, 42, 180, 0, 170, 104, 16, 24, 96, 27, 96, 42]
abbrev dktX9_keepsVisits_1 : List UInt8 := dkwX9_keepsVisits_1 ++ dktX9_keepsVisits_2
def dkwX9_keepsVisits_0 : List UInt8 := [3, 60, 27, 16, 24, 162, 0, 52, 42, 180, 0, 93, 16, 49, 42, 180, 0, 170, 104, 27, 96, 42]
abbrev dktX9_keepsVisits_0 : List UInt8 := dkwX9_keepsVisits_0 ++ dktX9_keepsVisits_1
theorem dksX9_keepsVisits_0 : cX9_keepsVisits.data.toList.drop 0 = dktX9_keepsVisits_0 := by decide +kernel
theorem dksX9_keepsVisits_1 : cX9_keepsVisits.data.toList.drop 22 = dktX9_keepsVisits_1 := dk_seg dksX9_keepsVisits_0 22 rfl rfl
theorem dksX9_keepsVisits_2 : cX9_keepsVisits.data.toList.drop 45 = dktX9_keepsVisits_2 := dk_seg dksX9_keepsVisits_1 23 rfl rfl
theorem dksX9_keepsVisits_3 : cX9_keepsVisits.data.toList.drop 68 = dktX9_keepsVisits_3 := dk_seg dksX9_keepsVisits_2 23 rfl rfl
theorem dX9_keepsVisits_0 : decode cX9_keepsVisits 0 = .ok (.iconst 0, 1) := dk_3 (dk_at dksX9_keepsVisits_0 0 rfl rfl)
theorem dX9_keepsVisits_1 : decode cX9_keepsVisits 1 = .ok (.istore_n 1, 1) := dk_60 (dk_at dksX9_keepsVisits_0 1 rfl rfl)
theorem dX9_keepsVisits_2 : decode cX9_keepsVisits 2 = .ok (.iload_n 1, 1) := dk_27 (dk_at dksX9_keepsVisits_0 2 rfl rfl)
theorem dX9_keepsVisits_3 : decode cX9_keepsVisits 3 = .ok (.bipush 24, 2) := dk_16 24 (dk_at dksX9_keepsVisits_0 3 rfl rfl)
theorem dX9_keepsVisits_5 : decode cX9_keepsVisits 5 = .ok (.if_icmp .ge 52, 3) := dk_162 0 52 (dk_at dksX9_keepsVisits_0 5 rfl rfl)
theorem dX9_keepsVisits_8 : decode cX9_keepsVisits 8 = .ok (.aload_n 0, 1) := dk_42 (dk_at dksX9_keepsVisits_0 8 rfl rfl)
theorem dX9_keepsVisits_9 : decode cX9_keepsVisits 9 = .ok (.getfield 93, 3) := dk_180 0 93 (dk_at dksX9_keepsVisits_0 9 rfl rfl)
theorem dX9_keepsVisits_12 : decode cX9_keepsVisits 12 = .ok (.bipush 49, 2) := dk_16 49 (dk_at dksX9_keepsVisits_0 12 rfl rfl)
theorem dX9_keepsVisits_14 : decode cX9_keepsVisits 14 = .ok (.aload_n 0, 1) := dk_42 (dk_at dksX9_keepsVisits_0 14 rfl rfl)
theorem dX9_keepsVisits_15 : decode cX9_keepsVisits 15 = .ok (.getfield 170, 3) := dk_180 0 170 (dk_at dksX9_keepsVisits_0 15 rfl rfl)
theorem dX9_keepsVisits_18 : decode cX9_keepsVisits 18 = .ok (.imul, 1) := dk_104 (dk_at dksX9_keepsVisits_0 18 rfl rfl)
theorem dX9_keepsVisits_19 : decode cX9_keepsVisits 19 = .ok (.iload_n 1, 1) := dk_27 (dk_at dksX9_keepsVisits_0 19 rfl rfl)
theorem dX9_keepsVisits_20 : decode cX9_keepsVisits 20 = .ok (.iadd, 1) := dk_96 (dk_at dksX9_keepsVisits_0 20 rfl rfl)
theorem dX9_keepsVisits_21 : decode cX9_keepsVisits 21 = .ok (.aload_n 0, 1) := dk_42 (dk_at dksX9_keepsVisits_0 21 rfl rfl)
theorem dX9_keepsVisits_22 : decode cX9_keepsVisits 22 = .ok (.getfield 35, 3) := dk_180 0 35 (dk_at dksX9_keepsVisits_1 0 rfl rfl)
theorem dX9_keepsVisits_25 : decode cX9_keepsVisits 25 = .ok (.iload_n 1, 1) := dk_27 (dk_at dksX9_keepsVisits_1 3 rfl rfl)
theorem dX9_keepsVisits_26 : decode cX9_keepsVisits 26 = .ok (.iaload, 1) := dk_46 (dk_at dksX9_keepsVisits_1 4 rfl rfl)
theorem dX9_keepsVisits_27 : decode cX9_keepsVisits 27 = .ok (.iastore, 1) := dk_79 (dk_at dksX9_keepsVisits_1 5 rfl rfl)
theorem dX9_keepsVisits_28 : decode cX9_keepsVisits 28 = .ok (.aload_n 0, 1) := dk_42 (dk_at dksX9_keepsVisits_1 6 rfl rfl)
theorem dX9_keepsVisits_29 : decode cX9_keepsVisits 29 = .ok (.getfield 93, 3) := dk_180 0 93 (dk_at dksX9_keepsVisits_1 7 rfl rfl)
theorem dX9_keepsVisits_32 : decode cX9_keepsVisits 32 = .ok (.bipush 49, 2) := dk_16 49 (dk_at dksX9_keepsVisits_1 10 rfl rfl)
theorem dX9_keepsVisits_34 : decode cX9_keepsVisits 34 = .ok (.aload_n 0, 1) := dk_42 (dk_at dksX9_keepsVisits_1 12 rfl rfl)
theorem dX9_keepsVisits_35 : decode cX9_keepsVisits 35 = .ok (.getfield 170, 3) := dk_180 0 170 (dk_at dksX9_keepsVisits_1 13 rfl rfl)
theorem dX9_keepsVisits_38 : decode cX9_keepsVisits 38 = .ok (.imul, 1) := dk_104 (dk_at dksX9_keepsVisits_1 16 rfl rfl)
theorem dX9_keepsVisits_39 : decode cX9_keepsVisits 39 = .ok (.bipush 24, 2) := dk_16 24 (dk_at dksX9_keepsVisits_1 17 rfl rfl)
theorem dX9_keepsVisits_41 : decode cX9_keepsVisits 41 = .ok (.iadd, 1) := dk_96 (dk_at dksX9_keepsVisits_1 19 rfl rfl)
theorem dX9_keepsVisits_42 : decode cX9_keepsVisits 42 = .ok (.iload_n 1, 1) := dk_27 (dk_at dksX9_keepsVisits_1 20 rfl rfl)
theorem dX9_keepsVisits_43 : decode cX9_keepsVisits 43 = .ok (.iadd, 1) := dk_96 (dk_at dksX9_keepsVisits_1 21 rfl rfl)
theorem dX9_keepsVisits_44 : decode cX9_keepsVisits 44 = .ok (.aload_n 0, 1) := dk_42 (dk_at dksX9_keepsVisits_1 22 rfl rfl)
theorem dX9_keepsVisits_45 : decode cX9_keepsVisits 45 = .ok (.getfield 38, 3) := dk_180 0 38 (dk_at dksX9_keepsVisits_2 0 rfl rfl)
theorem dX9_keepsVisits_48 : decode cX9_keepsVisits 48 = .ok (.iload_n 1, 1) := dk_27 (dk_at dksX9_keepsVisits_2 3 rfl rfl)
theorem dX9_keepsVisits_49 : decode cX9_keepsVisits 49 = .ok (.iaload, 1) := dk_46 (dk_at dksX9_keepsVisits_2 4 rfl rfl)
theorem dX9_keepsVisits_50 : decode cX9_keepsVisits 50 = .ok (.iastore, 1) := dk_79 (dk_at dksX9_keepsVisits_2 5 rfl rfl)
theorem dX9_keepsVisits_51 : decode cX9_keepsVisits 51 = .ok (.iinc 1 1, 3) := dk_132 1 1 (dk_at dksX9_keepsVisits_2 6 rfl rfl)
theorem dX9_keepsVisits_54 : decode cX9_keepsVisits 54 = .ok (.goto (-52), 3) := dk_167 255 204 (dk_at dksX9_keepsVisits_2 9 rfl rfl)
theorem dX9_keepsVisits_57 : decode cX9_keepsVisits 57 = .ok (.aload_n 0, 1) := dk_42 (dk_at dksX9_keepsVisits_2 12 rfl rfl)
theorem dX9_keepsVisits_58 : decode cX9_keepsVisits 58 = .ok (.getfield 93, 3) := dk_180 0 93 (dk_at dksX9_keepsVisits_2 13 rfl rfl)
theorem dX9_keepsVisits_61 : decode cX9_keepsVisits 61 = .ok (.bipush 49, 2) := dk_16 49 (dk_at dksX9_keepsVisits_2 16 rfl rfl)
theorem dX9_keepsVisits_63 : decode cX9_keepsVisits 63 = .ok (.aload_n 0, 1) := dk_42 (dk_at dksX9_keepsVisits_2 18 rfl rfl)
theorem dX9_keepsVisits_64 : decode cX9_keepsVisits 64 = .ok (.getfield 170, 3) := dk_180 0 170 (dk_at dksX9_keepsVisits_2 19 rfl rfl)
theorem dX9_keepsVisits_67 : decode cX9_keepsVisits 67 = .ok (.imul, 1) := dk_104 (dk_at dksX9_keepsVisits_2 22 rfl rfl)
theorem dX9_keepsVisits_68 : decode cX9_keepsVisits 68 = .ok (.bipush 48, 2) := dk_16 48 (dk_at dksX9_keepsVisits_3 0 rfl rfl)
theorem dX9_keepsVisits_70 : decode cX9_keepsVisits 70 = .ok (.iadd, 1) := dk_96 (dk_at dksX9_keepsVisits_3 2 rfl rfl)
theorem dX9_keepsVisits_71 : decode cX9_keepsVisits 71 = .ok (.aload_n 0, 1) := dk_42 (dk_at dksX9_keepsVisits_3 3 rfl rfl)
theorem dX9_keepsVisits_72 : decode cX9_keepsVisits 72 = .ok (.getfield 164, 3) := dk_180 0 164 (dk_at dksX9_keepsVisits_3 4 rfl rfl)
theorem dX9_keepsVisits_75 : decode cX9_keepsVisits 75 = .ok (.iastore, 1) := dk_79 (dk_at dksX9_keepsVisits_3 7 rfl rfl)
theorem dX9_keepsVisits_76 : decode cX9_keepsVisits 76 = .ok (.aload_n 0, 1) := dk_42 (dk_at dksX9_keepsVisits_3 8 rfl rfl)
theorem dX9_keepsVisits_77 : decode cX9_keepsVisits 77 = .ok (.dup, 1) := dk_89 (dk_at dksX9_keepsVisits_3 9 rfl rfl)
theorem dX9_keepsVisits_78 : decode cX9_keepsVisits 78 = .ok (.getfield 170, 3) := dk_180 0 170 (dk_at dksX9_keepsVisits_3 10 rfl rfl)
theorem dX9_keepsVisits_81 : decode cX9_keepsVisits 81 = .ok (.iconst 1, 1) := dk_4 (dk_at dksX9_keepsVisits_3 13 rfl rfl)
theorem dX9_keepsVisits_82 : decode cX9_keepsVisits 82 = .ok (.iadd, 1) := dk_96 (dk_at dksX9_keepsVisits_3 14 rfl rfl)
theorem dX9_keepsVisits_83 : decode cX9_keepsVisits 83 = .ok (.putfield 170, 3) := dk_181 0 170 (dk_at dksX9_keepsVisits_3 15 rfl rfl)
theorem dX9_keepsVisits_86 : decode cX9_keepsVisits 86 = .ok (.return_, 1) := dk_177 (dk_at dksX9_keepsVisits_3 18 rfl rfl)
abbrev cX9_skip : ByteArray := prog_28_method_120_code
def yX9_skip : MethodName := ⟨RX9, "skip", "(I)I"⟩
def dkwX9_skip_1 : List UInt8 := [160, 0, 5, 2, 172, 42, 182, 2, 23, 42, 27, 182, 2, 26, 42, 180, 0, 164, 172]
abbrev dktX9_skip_1 : List UInt8 := dkwX9_skip_1 ++ []
def dkwX9_skip_0 : List UInt8 := [42, 3, 181, 0, 3, 42, 27, 4, 182, 1, 74, 154, 0, 5, 3, 172, 42, 180, 0, 170, 16, 20]
abbrev dktX9_skip_0 : List UInt8 := dkwX9_skip_0 ++ dktX9_skip_1
theorem dksX9_skip_0 : cX9_skip.data.toList.drop 0 = dktX9_skip_0 := by decide +kernel
theorem dksX9_skip_1 : cX9_skip.data.toList.drop 22 = dktX9_skip_1 := dk_seg dksX9_skip_0 22 rfl rfl
theorem dX9_skip_0 : decode cX9_skip 0 = .ok (.aload_n 0, 1) := dk_42 (dk_at dksX9_skip_0 0 rfl rfl)
theorem dX9_skip_1 : decode cX9_skip 1 = .ok (.iconst 0, 1) := dk_3 (dk_at dksX9_skip_0 1 rfl rfl)
theorem dX9_skip_2 : decode cX9_skip 2 = .ok (.putfield 3, 3) := dk_181 0 3 (dk_at dksX9_skip_0 2 rfl rfl)
theorem dX9_skip_5 : decode cX9_skip 5 = .ok (.aload_n 0, 1) := dk_42 (dk_at dksX9_skip_0 5 rfl rfl)
theorem dX9_skip_6 : decode cX9_skip 6 = .ok (.iload_n 1, 1) := dk_27 (dk_at dksX9_skip_0 6 rfl rfl)
theorem dX9_skip_7 : decode cX9_skip 7 = .ok (.iconst 1, 1) := dk_4 (dk_at dksX9_skip_0 7 rfl rfl)
theorem dX9_skip_8 : decode cX9_skip 8 = .ok (.invokevirtual 330, 3) := dk_182 1 74 (dk_at dksX9_skip_0 8 rfl rfl)
theorem dX9_skip_11 : decode cX9_skip 11 = .ok (.ifCond .ne 5, 3) := dk_154 0 5 (dk_at dksX9_skip_0 11 rfl rfl)
theorem dX9_skip_14 : decode cX9_skip 14 = .ok (.iconst 0, 1) := dk_3 (dk_at dksX9_skip_0 14 rfl rfl)
theorem dX9_skip_15 : decode cX9_skip 15 = .ok (.ireturn, 1) := dk_172 (dk_at dksX9_skip_0 15 rfl rfl)
theorem dX9_skip_16 : decode cX9_skip 16 = .ok (.aload_n 0, 1) := dk_42 (dk_at dksX9_skip_0 16 rfl rfl)
theorem dX9_skip_17 : decode cX9_skip 17 = .ok (.getfield 170, 3) := dk_180 0 170 (dk_at dksX9_skip_0 17 rfl rfl)
theorem dX9_skip_20 : decode cX9_skip 20 = .ok (.bipush 20, 2) := dk_16 20 (dk_at dksX9_skip_0 20 rfl rfl)
theorem dX9_skip_22 : decode cX9_skip 22 = .ok (.if_icmp .ne 5, 3) := dk_160 0 5 (dk_at dksX9_skip_1 0 rfl rfl)
theorem dX9_skip_25 : decode cX9_skip 25 = .ok (.iconst (-1), 1) := dk_2 (dk_at dksX9_skip_1 3 rfl rfl)
theorem dX9_skip_26 : decode cX9_skip 26 = .ok (.ireturn, 1) := dk_172 (dk_at dksX9_skip_1 4 rfl rfl)
theorem dX9_skip_27 : decode cX9_skip 27 = .ok (.aload_n 0, 1) := dk_42 (dk_at dksX9_skip_1 5 rfl rfl)
theorem dX9_skip_28 : decode cX9_skip 28 = .ok (.invokevirtual 535, 3) := dk_182 2 23 (dk_at dksX9_skip_1 6 rfl rfl)
theorem dX9_skip_31 : decode cX9_skip 31 = .ok (.aload_n 0, 1) := dk_42 (dk_at dksX9_skip_1 9 rfl rfl)
theorem dX9_skip_32 : decode cX9_skip 32 = .ok (.iload_n 1, 1) := dk_27 (dk_at dksX9_skip_1 10 rfl rfl)
theorem dX9_skip_33 : decode cX9_skip 33 = .ok (.invokevirtual 538, 3) := dk_182 2 26 (dk_at dksX9_skip_1 11 rfl rfl)
theorem dX9_skip_36 : decode cX9_skip 36 = .ok (.aload_n 0, 1) := dk_42 (dk_at dksX9_skip_1 14 rfl rfl)
theorem dX9_skip_37 : decode cX9_skip 37 = .ok (.getfield 164, 3) := dk_180 0 164 (dk_at dksX9_skip_1 15 rfl rfl)
theorem dX9_skip_40 : decode cX9_skip 40 = .ok (.ireturn, 1) := dk_172 (dk_at dksX9_skip_1 18 rfl rfl)
abbrev cX9_leaves : ByteArray := prog_28_method_118_code
def yX9_leaves : MethodName := ⟨RX9, "leaves", "(I)V"⟩
def dkwX9_leaves_2 : List UInt8 := [132, 2, 1, 167, 255, 217, 177]
abbrev dktX9_leaves_2 : List UInt8 := dkwX9_leaves_2 ++ []
def dkwX9_leaves_1 : List UInt8 := [28, 42, 180, 0, 35, 28, 4, 96, 46, 79, 42, 180, 0, 38, 28, 42, 180, 0, 38, 28, 4, 96, 46, 79]
abbrev dktX9_leaves_1 : List UInt8 := dkwX9_leaves_1 ++ dktX9_leaves_2
def dkwX9_leaves_0 : List UInt8 := [42, 89, 180, 0, 164, 4, 100, 181, 0, 164, 27, 61, 28, 42, 180, 0, 164, 162, 0, 37, 42, 180, 0, 35]
abbrev dktX9_leaves_0 : List UInt8 := dkwX9_leaves_0 ++ dktX9_leaves_1
theorem dksX9_leaves_0 : cX9_leaves.data.toList.drop 0 = dktX9_leaves_0 := by decide +kernel
theorem dksX9_leaves_1 : cX9_leaves.data.toList.drop 24 = dktX9_leaves_1 := dk_seg dksX9_leaves_0 24 rfl rfl
theorem dksX9_leaves_2 : cX9_leaves.data.toList.drop 48 = dktX9_leaves_2 := dk_seg dksX9_leaves_1 24 rfl rfl
theorem dX9_leaves_0 : decode cX9_leaves 0 = .ok (.aload_n 0, 1) := dk_42 (dk_at dksX9_leaves_0 0 rfl rfl)
theorem dX9_leaves_1 : decode cX9_leaves 1 = .ok (.dup, 1) := dk_89 (dk_at dksX9_leaves_0 1 rfl rfl)
theorem dX9_leaves_2 : decode cX9_leaves 2 = .ok (.getfield 164, 3) := dk_180 0 164 (dk_at dksX9_leaves_0 2 rfl rfl)
theorem dX9_leaves_5 : decode cX9_leaves 5 = .ok (.iconst 1, 1) := dk_4 (dk_at dksX9_leaves_0 5 rfl rfl)
theorem dX9_leaves_6 : decode cX9_leaves 6 = .ok (.isub, 1) := dk_100 (dk_at dksX9_leaves_0 6 rfl rfl)
theorem dX9_leaves_7 : decode cX9_leaves 7 = .ok (.putfield 164, 3) := dk_181 0 164 (dk_at dksX9_leaves_0 7 rfl rfl)
theorem dX9_leaves_10 : decode cX9_leaves 10 = .ok (.iload_n 1, 1) := dk_27 (dk_at dksX9_leaves_0 10 rfl rfl)
theorem dX9_leaves_11 : decode cX9_leaves 11 = .ok (.istore_n 2, 1) := dk_61 (dk_at dksX9_leaves_0 11 rfl rfl)
theorem dX9_leaves_12 : decode cX9_leaves 12 = .ok (.iload_n 2, 1) := dk_28 (dk_at dksX9_leaves_0 12 rfl rfl)
theorem dX9_leaves_13 : decode cX9_leaves 13 = .ok (.aload_n 0, 1) := dk_42 (dk_at dksX9_leaves_0 13 rfl rfl)
theorem dX9_leaves_14 : decode cX9_leaves 14 = .ok (.getfield 164, 3) := dk_180 0 164 (dk_at dksX9_leaves_0 14 rfl rfl)
theorem dX9_leaves_17 : decode cX9_leaves 17 = .ok (.if_icmp .ge 37, 3) := dk_162 0 37 (dk_at dksX9_leaves_0 17 rfl rfl)
theorem dX9_leaves_20 : decode cX9_leaves 20 = .ok (.aload_n 0, 1) := dk_42 (dk_at dksX9_leaves_0 20 rfl rfl)
theorem dX9_leaves_21 : decode cX9_leaves 21 = .ok (.getfield 35, 3) := dk_180 0 35 (dk_at dksX9_leaves_0 21 rfl rfl)
theorem dX9_leaves_24 : decode cX9_leaves 24 = .ok (.iload_n 2, 1) := dk_28 (dk_at dksX9_leaves_1 0 rfl rfl)
theorem dX9_leaves_25 : decode cX9_leaves 25 = .ok (.aload_n 0, 1) := dk_42 (dk_at dksX9_leaves_1 1 rfl rfl)
theorem dX9_leaves_26 : decode cX9_leaves 26 = .ok (.getfield 35, 3) := dk_180 0 35 (dk_at dksX9_leaves_1 2 rfl rfl)
theorem dX9_leaves_29 : decode cX9_leaves 29 = .ok (.iload_n 2, 1) := dk_28 (dk_at dksX9_leaves_1 5 rfl rfl)
theorem dX9_leaves_30 : decode cX9_leaves 30 = .ok (.iconst 1, 1) := dk_4 (dk_at dksX9_leaves_1 6 rfl rfl)
theorem dX9_leaves_31 : decode cX9_leaves 31 = .ok (.iadd, 1) := dk_96 (dk_at dksX9_leaves_1 7 rfl rfl)
theorem dX9_leaves_32 : decode cX9_leaves 32 = .ok (.iaload, 1) := dk_46 (dk_at dksX9_leaves_1 8 rfl rfl)
theorem dX9_leaves_33 : decode cX9_leaves 33 = .ok (.iastore, 1) := dk_79 (dk_at dksX9_leaves_1 9 rfl rfl)
theorem dX9_leaves_34 : decode cX9_leaves 34 = .ok (.aload_n 0, 1) := dk_42 (dk_at dksX9_leaves_1 10 rfl rfl)
theorem dX9_leaves_35 : decode cX9_leaves 35 = .ok (.getfield 38, 3) := dk_180 0 38 (dk_at dksX9_leaves_1 11 rfl rfl)
theorem dX9_leaves_38 : decode cX9_leaves 38 = .ok (.iload_n 2, 1) := dk_28 (dk_at dksX9_leaves_1 14 rfl rfl)
theorem dX9_leaves_39 : decode cX9_leaves 39 = .ok (.aload_n 0, 1) := dk_42 (dk_at dksX9_leaves_1 15 rfl rfl)
theorem dX9_leaves_40 : decode cX9_leaves 40 = .ok (.getfield 38, 3) := dk_180 0 38 (dk_at dksX9_leaves_1 16 rfl rfl)
theorem dX9_leaves_43 : decode cX9_leaves 43 = .ok (.iload_n 2, 1) := dk_28 (dk_at dksX9_leaves_1 19 rfl rfl)
theorem dX9_leaves_44 : decode cX9_leaves 44 = .ok (.iconst 1, 1) := dk_4 (dk_at dksX9_leaves_1 20 rfl rfl)
theorem dX9_leaves_45 : decode cX9_leaves 45 = .ok (.iadd, 1) := dk_96 (dk_at dksX9_leaves_1 21 rfl rfl)
theorem dX9_leaves_46 : decode cX9_leaves 46 = .ok (.iaload, 1) := dk_46 (dk_at dksX9_leaves_1 22 rfl rfl)
theorem dX9_leaves_47 : decode cX9_leaves 47 = .ok (.iastore, 1) := dk_79 (dk_at dksX9_leaves_1 23 rfl rfl)
theorem dX9_leaves_48 : decode cX9_leaves 48 = .ok (.iinc 2 1, 3) := dk_132 2 1 (dk_at dksX9_leaves_2 0 rfl rfl)
theorem dX9_leaves_51 : decode cX9_leaves 51 = .ok (.goto (-39), 3) := dk_167 255 217 (dk_at dksX9_leaves_2 3 rfl rfl)
theorem dX9_leaves_54 : decode cX9_leaves 54 = .ok (.return_, 1) := dk_177 (dk_at dksX9_leaves_2 6 rfl rfl)
abbrev cX9_shift : ByteArray := prog_28_method_121_code
def yX9_shift : MethodName := ⟨RX9, "shift", "(II)I"⟩
def dkwX9_shift_3 : List UInt8 := [180, 0, 164, 29, 28, 182, 0, 198, 54, 4, 42, 89, 180, 0, 164, 4, 96, 181, 0, 164, 21, 4, 172]
abbrev dktX9_shift_3 : List UInt8 := dkwX9_shift_3 ++ []
def dkwX9_shift_2 : List UInt8 := [42, 180, 0, 35, 27, 46, 62, 42, 27, 182, 2, 26, 42, 42, 180, 0, 35, 42, 180, 0, 38, 42]
abbrev dktX9_shift_2 : List UInt8 := dkwX9_shift_2 ++ dktX9_shift_3
def dkwX9_shift_1 : List UInt8 := [4, 182, 0, 213, 154, 0, 5, 3, 172, 42, 180, 0, 170, 16, 20, 160, 0, 5, 2, 172, 42, 182, 2, 23]
abbrev dktX9_shift_1 : List UInt8 := dkwX9_shift_1 ++ dktX9_shift_2
def dkwX9_shift_0 : List UInt8 := [42, 3, 181, 0, 3, 42, 27, 4, 182, 1, 74, 153, 0, 20, 42, 28, 3, 17, 1, 224, 184, 1, 60, 5]
abbrev dktX9_shift_0 : List UInt8 := dkwX9_shift_0 ++ dktX9_shift_1
theorem dksX9_shift_0 : cX9_shift.data.toList.drop 0 = dktX9_shift_0 := by decide +kernel
theorem dksX9_shift_1 : cX9_shift.data.toList.drop 24 = dktX9_shift_1 := dk_seg dksX9_shift_0 24 rfl rfl
theorem dksX9_shift_2 : cX9_shift.data.toList.drop 48 = dktX9_shift_2 := dk_seg dksX9_shift_1 24 rfl rfl
theorem dksX9_shift_3 : cX9_shift.data.toList.drop 70 = dktX9_shift_3 := dk_seg dksX9_shift_2 22 rfl rfl
theorem dX9_shift_0 : decode cX9_shift 0 = .ok (.aload_n 0, 1) := dk_42 (dk_at dksX9_shift_0 0 rfl rfl)
theorem dX9_shift_1 : decode cX9_shift 1 = .ok (.iconst 0, 1) := dk_3 (dk_at dksX9_shift_0 1 rfl rfl)
theorem dX9_shift_2 : decode cX9_shift 2 = .ok (.putfield 3, 3) := dk_181 0 3 (dk_at dksX9_shift_0 2 rfl rfl)
theorem dX9_shift_5 : decode cX9_shift 5 = .ok (.aload_n 0, 1) := dk_42 (dk_at dksX9_shift_0 5 rfl rfl)
theorem dX9_shift_6 : decode cX9_shift 6 = .ok (.iload_n 1, 1) := dk_27 (dk_at dksX9_shift_0 6 rfl rfl)
theorem dX9_shift_7 : decode cX9_shift 7 = .ok (.iconst 1, 1) := dk_4 (dk_at dksX9_shift_0 7 rfl rfl)
theorem dX9_shift_8 : decode cX9_shift 8 = .ok (.invokevirtual 330, 3) := dk_182 1 74 (dk_at dksX9_shift_0 8 rfl rfl)
theorem dX9_shift_11 : decode cX9_shift 11 = .ok (.ifCond .eq 20, 3) := dk_153 0 20 (dk_at dksX9_shift_0 11 rfl rfl)
theorem dX9_shift_14 : decode cX9_shift 14 = .ok (.aload_n 0, 1) := dk_42 (dk_at dksX9_shift_0 14 rfl rfl)
theorem dX9_shift_15 : decode cX9_shift 15 = .ok (.iload_n 2, 1) := dk_28 (dk_at dksX9_shift_0 15 rfl rfl)
theorem dX9_shift_16 : decode cX9_shift 16 = .ok (.iconst 0, 1) := dk_3 (dk_at dksX9_shift_0 16 rfl rfl)
theorem dX9_shift_17 : decode cX9_shift 17 = .ok (.sipush 480, 3) := dk_17 1 224 (dk_at dksX9_shift_0 17 rfl rfl)
theorem dX9_shift_20 : decode cX9_shift 20 = .ok (.invokestatic 316, 3) := dk_184 1 60 (dk_at dksX9_shift_0 20 rfl rfl)
theorem dX9_shift_23 : decode cX9_shift 23 = .ok (.iconst 2, 1) := dk_5 (dk_at dksX9_shift_0 23 rfl rfl)
theorem dX9_shift_24 : decode cX9_shift 24 = .ok (.iconst 1, 1) := dk_4 (dk_at dksX9_shift_1 0 rfl rfl)
theorem dX9_shift_25 : decode cX9_shift 25 = .ok (.invokevirtual 213, 3) := dk_182 0 213 (dk_at dksX9_shift_1 1 rfl rfl)
theorem dX9_shift_28 : decode cX9_shift 28 = .ok (.ifCond .ne 5, 3) := dk_154 0 5 (dk_at dksX9_shift_1 4 rfl rfl)
theorem dX9_shift_31 : decode cX9_shift 31 = .ok (.iconst 0, 1) := dk_3 (dk_at dksX9_shift_1 7 rfl rfl)
theorem dX9_shift_32 : decode cX9_shift 32 = .ok (.ireturn, 1) := dk_172 (dk_at dksX9_shift_1 8 rfl rfl)
theorem dX9_shift_33 : decode cX9_shift 33 = .ok (.aload_n 0, 1) := dk_42 (dk_at dksX9_shift_1 9 rfl rfl)
theorem dX9_shift_34 : decode cX9_shift 34 = .ok (.getfield 170, 3) := dk_180 0 170 (dk_at dksX9_shift_1 10 rfl rfl)
theorem dX9_shift_37 : decode cX9_shift 37 = .ok (.bipush 20, 2) := dk_16 20 (dk_at dksX9_shift_1 13 rfl rfl)
theorem dX9_shift_39 : decode cX9_shift 39 = .ok (.if_icmp .ne 5, 3) := dk_160 0 5 (dk_at dksX9_shift_1 15 rfl rfl)
theorem dX9_shift_42 : decode cX9_shift 42 = .ok (.iconst (-1), 1) := dk_2 (dk_at dksX9_shift_1 18 rfl rfl)
theorem dX9_shift_43 : decode cX9_shift 43 = .ok (.ireturn, 1) := dk_172 (dk_at dksX9_shift_1 19 rfl rfl)
theorem dX9_shift_44 : decode cX9_shift 44 = .ok (.aload_n 0, 1) := dk_42 (dk_at dksX9_shift_1 20 rfl rfl)
theorem dX9_shift_45 : decode cX9_shift 45 = .ok (.invokevirtual 535, 3) := dk_182 2 23 (dk_at dksX9_shift_1 21 rfl rfl)
theorem dX9_shift_48 : decode cX9_shift 48 = .ok (.aload_n 0, 1) := dk_42 (dk_at dksX9_shift_2 0 rfl rfl)
theorem dX9_shift_49 : decode cX9_shift 49 = .ok (.getfield 35, 3) := dk_180 0 35 (dk_at dksX9_shift_2 1 rfl rfl)
theorem dX9_shift_52 : decode cX9_shift 52 = .ok (.iload_n 1, 1) := dk_27 (dk_at dksX9_shift_2 4 rfl rfl)
theorem dX9_shift_53 : decode cX9_shift 53 = .ok (.iaload, 1) := dk_46 (dk_at dksX9_shift_2 5 rfl rfl)
theorem dX9_shift_54 : decode cX9_shift 54 = .ok (.istore_n 3, 1) := dk_62 (dk_at dksX9_shift_2 6 rfl rfl)
theorem dX9_shift_55 : decode cX9_shift 55 = .ok (.aload_n 0, 1) := dk_42 (dk_at dksX9_shift_2 7 rfl rfl)
theorem dX9_shift_56 : decode cX9_shift 56 = .ok (.iload_n 1, 1) := dk_27 (dk_at dksX9_shift_2 8 rfl rfl)
theorem dX9_shift_57 : decode cX9_shift 57 = .ok (.invokevirtual 538, 3) := dk_182 2 26 (dk_at dksX9_shift_2 9 rfl rfl)
theorem dX9_shift_60 : decode cX9_shift 60 = .ok (.aload_n 0, 1) := dk_42 (dk_at dksX9_shift_2 12 rfl rfl)
theorem dX9_shift_61 : decode cX9_shift 61 = .ok (.aload_n 0, 1) := dk_42 (dk_at dksX9_shift_2 13 rfl rfl)
theorem dX9_shift_62 : decode cX9_shift 62 = .ok (.getfield 35, 3) := dk_180 0 35 (dk_at dksX9_shift_2 14 rfl rfl)
theorem dX9_shift_65 : decode cX9_shift 65 = .ok (.aload_n 0, 1) := dk_42 (dk_at dksX9_shift_2 17 rfl rfl)
theorem dX9_shift_66 : decode cX9_shift 66 = .ok (.getfield 38, 3) := dk_180 0 38 (dk_at dksX9_shift_2 18 rfl rfl)
theorem dX9_shift_69 : decode cX9_shift 69 = .ok (.aload_n 0, 1) := dk_42 (dk_at dksX9_shift_2 21 rfl rfl)
theorem dX9_shift_70 : decode cX9_shift 70 = .ok (.getfield 164, 3) := dk_180 0 164 (dk_at dksX9_shift_3 0 rfl rfl)
theorem dX9_shift_73 : decode cX9_shift 73 = .ok (.iload_n 3, 1) := dk_29 (dk_at dksX9_shift_3 3 rfl rfl)
theorem dX9_shift_74 : decode cX9_shift 74 = .ok (.iload_n 2, 1) := dk_28 (dk_at dksX9_shift_3 4 rfl rfl)
theorem dX9_shift_75 : decode cX9_shift 75 = .ok (.invokevirtual 198, 3) := dk_182 0 198 (dk_at dksX9_shift_3 5 rfl rfl)
theorem dX9_shift_78 : decode cX9_shift 78 = .ok (.istore 4, 2) := dk_54 4 (dk_at dksX9_shift_3 8 rfl rfl)
theorem dX9_shift_80 : decode cX9_shift 80 = .ok (.aload_n 0, 1) := dk_42 (dk_at dksX9_shift_3 10 rfl rfl)
theorem dX9_shift_81 : decode cX9_shift 81 = .ok (.dup, 1) := dk_89 (dk_at dksX9_shift_3 11 rfl rfl)
theorem dX9_shift_82 : decode cX9_shift 82 = .ok (.getfield 164, 3) := dk_180 0 164 (dk_at dksX9_shift_3 12 rfl rfl)
theorem dX9_shift_85 : decode cX9_shift 85 = .ok (.iconst 1, 1) := dk_4 (dk_at dksX9_shift_3 15 rfl rfl)
theorem dX9_shift_86 : decode cX9_shift 86 = .ok (.iadd, 1) := dk_96 (dk_at dksX9_shift_3 16 rfl rfl)
theorem dX9_shift_87 : decode cX9_shift 87 = .ok (.putfield 164, 3) := dk_181 0 164 (dk_at dksX9_shift_3 17 rfl rfl)
theorem dX9_shift_90 : decode cX9_shift 90 = .ok (.iload 4, 2) := dk_21 4 (dk_at dksX9_shift_3 20 rfl rfl)
theorem dX9_shift_92 : decode cX9_shift 92 = .ok (.ireturn, 1) := dk_172 (dk_at dksX9_shift_3 22 rfl rfl)
abbrev cX9_teach : ByteArray := prog_28_method_122_code
def yX9_teach : MethodName := ⟨RX9, "teach", "(II)I"⟩
def dkwX9_teach_6 : List UInt8 := [172]
abbrev dktX9_teach_6 : List UInt8 := dkwX9_teach_6 ++ []
def dkwX9_teach_5 : List UInt8 := [180, 0, 56, 17, 0, 150, 28, 104, 29, 96, 46, 79, 132, 3, 1, 167, 255, 198, 42, 180, 0, 62, 27, 46]
abbrev dktX9_teach_5 : List UInt8 := dkwX9_teach_5 ++ dktX9_teach_6
def dkwX9_teach_4 : List UInt8 := [180, 0, 53, 17, 0, 150, 28, 104, 29, 96, 46, 79, 42, 180, 0, 56, 17, 0, 150, 27, 104, 29, 96, 42]
abbrev dktX9_teach_4 : List UInt8 := dkwX9_teach_4 ++ dktX9_teach_5
def dkwX9_teach_3 : List UInt8 := [167, 255, 225, 3, 62, 29, 17, 0, 150, 162, 0, 57, 42, 180, 0, 53, 17, 0, 150, 27, 104, 29, 96, 42]
abbrev dktX9_teach_3 : List UInt8 := dkwX9_teach_3 ++ dktX9_teach_4
def dkwX9_teach_2 : List UInt8 := [180, 0, 59, 16, 32, 27, 104, 29, 96, 42, 180, 0, 59, 16, 32, 28, 104, 29, 96, 46, 79, 132, 3, 1]
abbrev dktX9_teach_2 : List UInt8 := dkwX9_teach_2 ++ dktX9_teach_3
def dkwX9_teach_1 : List UInt8 := [172, 42, 180, 0, 62, 27, 42, 180, 0, 62, 28, 46, 79, 3, 62, 29, 16, 32, 162, 0, 31, 42]
abbrev dktX9_teach_1 : List UInt8 := dkwX9_teach_1 ++ dktX9_teach_2
def dkwX9_teach_0 : List UInt8 := [42, 3, 181, 0, 3, 42, 27, 4, 182, 1, 64, 153, 0, 12, 42, 28, 4, 182, 1, 64, 154, 0, 5, 3]
abbrev dktX9_teach_0 : List UInt8 := dkwX9_teach_0 ++ dktX9_teach_1
theorem dksX9_teach_0 : cX9_teach.data.toList.drop 0 = dktX9_teach_0 := by decide +kernel
theorem dksX9_teach_1 : cX9_teach.data.toList.drop 24 = dktX9_teach_1 := dk_seg dksX9_teach_0 24 rfl rfl
theorem dksX9_teach_2 : cX9_teach.data.toList.drop 46 = dktX9_teach_2 := dk_seg dksX9_teach_1 22 rfl rfl
theorem dksX9_teach_3 : cX9_teach.data.toList.drop 70 = dktX9_teach_3 := dk_seg dksX9_teach_2 24 rfl rfl
theorem dksX9_teach_4 : cX9_teach.data.toList.drop 94 = dktX9_teach_4 := dk_seg dksX9_teach_3 24 rfl rfl
theorem dksX9_teach_5 : cX9_teach.data.toList.drop 118 = dktX9_teach_5 := dk_seg dksX9_teach_4 24 rfl rfl
theorem dksX9_teach_6 : cX9_teach.data.toList.drop 142 = dktX9_teach_6 := dk_seg dksX9_teach_5 24 rfl rfl
theorem dX9_teach_0 : decode cX9_teach 0 = .ok (.aload_n 0, 1) := dk_42 (dk_at dksX9_teach_0 0 rfl rfl)
theorem dX9_teach_1 : decode cX9_teach 1 = .ok (.iconst 0, 1) := dk_3 (dk_at dksX9_teach_0 1 rfl rfl)
theorem dX9_teach_2 : decode cX9_teach 2 = .ok (.putfield 3, 3) := dk_181 0 3 (dk_at dksX9_teach_0 2 rfl rfl)
theorem dX9_teach_5 : decode cX9_teach 5 = .ok (.aload_n 0, 1) := dk_42 (dk_at dksX9_teach_0 5 rfl rfl)
theorem dX9_teach_6 : decode cX9_teach 6 = .ok (.iload_n 1, 1) := dk_27 (dk_at dksX9_teach_0 6 rfl rfl)
theorem dX9_teach_7 : decode cX9_teach 7 = .ok (.iconst 1, 1) := dk_4 (dk_at dksX9_teach_0 7 rfl rfl)
theorem dX9_teach_8 : decode cX9_teach 8 = .ok (.invokevirtual 320, 3) := dk_182 1 64 (dk_at dksX9_teach_0 8 rfl rfl)
theorem dX9_teach_11 : decode cX9_teach 11 = .ok (.ifCond .eq 12, 3) := dk_153 0 12 (dk_at dksX9_teach_0 11 rfl rfl)
theorem dX9_teach_14 : decode cX9_teach 14 = .ok (.aload_n 0, 1) := dk_42 (dk_at dksX9_teach_0 14 rfl rfl)
theorem dX9_teach_15 : decode cX9_teach 15 = .ok (.iload_n 2, 1) := dk_28 (dk_at dksX9_teach_0 15 rfl rfl)
theorem dX9_teach_16 : decode cX9_teach 16 = .ok (.iconst 1, 1) := dk_4 (dk_at dksX9_teach_0 16 rfl rfl)
theorem dX9_teach_17 : decode cX9_teach 17 = .ok (.invokevirtual 320, 3) := dk_182 1 64 (dk_at dksX9_teach_0 17 rfl rfl)
theorem dX9_teach_20 : decode cX9_teach 20 = .ok (.ifCond .ne 5, 3) := dk_154 0 5 (dk_at dksX9_teach_0 20 rfl rfl)
theorem dX9_teach_23 : decode cX9_teach 23 = .ok (.iconst 0, 1) := dk_3 (dk_at dksX9_teach_0 23 rfl rfl)
theorem dX9_teach_24 : decode cX9_teach 24 = .ok (.ireturn, 1) := dk_172 (dk_at dksX9_teach_1 0 rfl rfl)
theorem dX9_teach_25 : decode cX9_teach 25 = .ok (.aload_n 0, 1) := dk_42 (dk_at dksX9_teach_1 1 rfl rfl)
theorem dX9_teach_26 : decode cX9_teach 26 = .ok (.getfield 62, 3) := dk_180 0 62 (dk_at dksX9_teach_1 2 rfl rfl)
theorem dX9_teach_29 : decode cX9_teach 29 = .ok (.iload_n 1, 1) := dk_27 (dk_at dksX9_teach_1 5 rfl rfl)
theorem dX9_teach_30 : decode cX9_teach 30 = .ok (.aload_n 0, 1) := dk_42 (dk_at dksX9_teach_1 6 rfl rfl)
theorem dX9_teach_31 : decode cX9_teach 31 = .ok (.getfield 62, 3) := dk_180 0 62 (dk_at dksX9_teach_1 7 rfl rfl)
theorem dX9_teach_34 : decode cX9_teach 34 = .ok (.iload_n 2, 1) := dk_28 (dk_at dksX9_teach_1 10 rfl rfl)
theorem dX9_teach_35 : decode cX9_teach 35 = .ok (.iaload, 1) := dk_46 (dk_at dksX9_teach_1 11 rfl rfl)
theorem dX9_teach_36 : decode cX9_teach 36 = .ok (.iastore, 1) := dk_79 (dk_at dksX9_teach_1 12 rfl rfl)
theorem dX9_teach_37 : decode cX9_teach 37 = .ok (.iconst 0, 1) := dk_3 (dk_at dksX9_teach_1 13 rfl rfl)
theorem dX9_teach_38 : decode cX9_teach 38 = .ok (.istore_n 3, 1) := dk_62 (dk_at dksX9_teach_1 14 rfl rfl)
theorem dX9_teach_39 : decode cX9_teach 39 = .ok (.iload_n 3, 1) := dk_29 (dk_at dksX9_teach_1 15 rfl rfl)
theorem dX9_teach_40 : decode cX9_teach 40 = .ok (.bipush 32, 2) := dk_16 32 (dk_at dksX9_teach_1 16 rfl rfl)
theorem dX9_teach_42 : decode cX9_teach 42 = .ok (.if_icmp .ge 31, 3) := dk_162 0 31 (dk_at dksX9_teach_1 18 rfl rfl)
theorem dX9_teach_45 : decode cX9_teach 45 = .ok (.aload_n 0, 1) := dk_42 (dk_at dksX9_teach_1 21 rfl rfl)
theorem dX9_teach_46 : decode cX9_teach 46 = .ok (.getfield 59, 3) := dk_180 0 59 (dk_at dksX9_teach_2 0 rfl rfl)
theorem dX9_teach_49 : decode cX9_teach 49 = .ok (.bipush 32, 2) := dk_16 32 (dk_at dksX9_teach_2 3 rfl rfl)
theorem dX9_teach_51 : decode cX9_teach 51 = .ok (.iload_n 1, 1) := dk_27 (dk_at dksX9_teach_2 5 rfl rfl)
theorem dX9_teach_52 : decode cX9_teach 52 = .ok (.imul, 1) := dk_104 (dk_at dksX9_teach_2 6 rfl rfl)
theorem dX9_teach_53 : decode cX9_teach 53 = .ok (.iload_n 3, 1) := dk_29 (dk_at dksX9_teach_2 7 rfl rfl)
theorem dX9_teach_54 : decode cX9_teach 54 = .ok (.iadd, 1) := dk_96 (dk_at dksX9_teach_2 8 rfl rfl)
theorem dX9_teach_55 : decode cX9_teach 55 = .ok (.aload_n 0, 1) := dk_42 (dk_at dksX9_teach_2 9 rfl rfl)
theorem dX9_teach_56 : decode cX9_teach 56 = .ok (.getfield 59, 3) := dk_180 0 59 (dk_at dksX9_teach_2 10 rfl rfl)
theorem dX9_teach_59 : decode cX9_teach 59 = .ok (.bipush 32, 2) := dk_16 32 (dk_at dksX9_teach_2 13 rfl rfl)
theorem dX9_teach_61 : decode cX9_teach 61 = .ok (.iload_n 2, 1) := dk_28 (dk_at dksX9_teach_2 15 rfl rfl)
theorem dX9_teach_62 : decode cX9_teach 62 = .ok (.imul, 1) := dk_104 (dk_at dksX9_teach_2 16 rfl rfl)
theorem dX9_teach_63 : decode cX9_teach 63 = .ok (.iload_n 3, 1) := dk_29 (dk_at dksX9_teach_2 17 rfl rfl)
theorem dX9_teach_64 : decode cX9_teach 64 = .ok (.iadd, 1) := dk_96 (dk_at dksX9_teach_2 18 rfl rfl)
theorem dX9_teach_65 : decode cX9_teach 65 = .ok (.iaload, 1) := dk_46 (dk_at dksX9_teach_2 19 rfl rfl)
theorem dX9_teach_66 : decode cX9_teach 66 = .ok (.iastore, 1) := dk_79 (dk_at dksX9_teach_2 20 rfl rfl)
theorem dX9_teach_67 : decode cX9_teach 67 = .ok (.iinc 3 1, 3) := dk_132 3 1 (dk_at dksX9_teach_2 21 rfl rfl)
theorem dX9_teach_70 : decode cX9_teach 70 = .ok (.goto (-31), 3) := dk_167 255 225 (dk_at dksX9_teach_3 0 rfl rfl)
theorem dX9_teach_73 : decode cX9_teach 73 = .ok (.iconst 0, 1) := dk_3 (dk_at dksX9_teach_3 3 rfl rfl)
theorem dX9_teach_74 : decode cX9_teach 74 = .ok (.istore_n 3, 1) := dk_62 (dk_at dksX9_teach_3 4 rfl rfl)
theorem dX9_teach_75 : decode cX9_teach 75 = .ok (.iload_n 3, 1) := dk_29 (dk_at dksX9_teach_3 5 rfl rfl)
theorem dX9_teach_76 : decode cX9_teach 76 = .ok (.sipush 150, 3) := dk_17 0 150 (dk_at dksX9_teach_3 6 rfl rfl)
theorem dX9_teach_79 : decode cX9_teach 79 = .ok (.if_icmp .ge 57, 3) := dk_162 0 57 (dk_at dksX9_teach_3 9 rfl rfl)
theorem dX9_teach_82 : decode cX9_teach 82 = .ok (.aload_n 0, 1) := dk_42 (dk_at dksX9_teach_3 12 rfl rfl)
theorem dX9_teach_83 : decode cX9_teach 83 = .ok (.getfield 53, 3) := dk_180 0 53 (dk_at dksX9_teach_3 13 rfl rfl)
theorem dX9_teach_86 : decode cX9_teach 86 = .ok (.sipush 150, 3) := dk_17 0 150 (dk_at dksX9_teach_3 16 rfl rfl)
theorem dX9_teach_89 : decode cX9_teach 89 = .ok (.iload_n 1, 1) := dk_27 (dk_at dksX9_teach_3 19 rfl rfl)
theorem dX9_teach_90 : decode cX9_teach 90 = .ok (.imul, 1) := dk_104 (dk_at dksX9_teach_3 20 rfl rfl)
theorem dX9_teach_91 : decode cX9_teach 91 = .ok (.iload_n 3, 1) := dk_29 (dk_at dksX9_teach_3 21 rfl rfl)
theorem dX9_teach_92 : decode cX9_teach 92 = .ok (.iadd, 1) := dk_96 (dk_at dksX9_teach_3 22 rfl rfl)
theorem dX9_teach_93 : decode cX9_teach 93 = .ok (.aload_n 0, 1) := dk_42 (dk_at dksX9_teach_3 23 rfl rfl)
theorem dX9_teach_94 : decode cX9_teach 94 = .ok (.getfield 53, 3) := dk_180 0 53 (dk_at dksX9_teach_4 0 rfl rfl)
theorem dX9_teach_97 : decode cX9_teach 97 = .ok (.sipush 150, 3) := dk_17 0 150 (dk_at dksX9_teach_4 3 rfl rfl)
theorem dX9_teach_100 : decode cX9_teach 100 = .ok (.iload_n 2, 1) := dk_28 (dk_at dksX9_teach_4 6 rfl rfl)
theorem dX9_teach_101 : decode cX9_teach 101 = .ok (.imul, 1) := dk_104 (dk_at dksX9_teach_4 7 rfl rfl)
theorem dX9_teach_102 : decode cX9_teach 102 = .ok (.iload_n 3, 1) := dk_29 (dk_at dksX9_teach_4 8 rfl rfl)
theorem dX9_teach_103 : decode cX9_teach 103 = .ok (.iadd, 1) := dk_96 (dk_at dksX9_teach_4 9 rfl rfl)
theorem dX9_teach_104 : decode cX9_teach 104 = .ok (.iaload, 1) := dk_46 (dk_at dksX9_teach_4 10 rfl rfl)
theorem dX9_teach_105 : decode cX9_teach 105 = .ok (.iastore, 1) := dk_79 (dk_at dksX9_teach_4 11 rfl rfl)
theorem dX9_teach_106 : decode cX9_teach 106 = .ok (.aload_n 0, 1) := dk_42 (dk_at dksX9_teach_4 12 rfl rfl)
theorem dX9_teach_107 : decode cX9_teach 107 = .ok (.getfield 56, 3) := dk_180 0 56 (dk_at dksX9_teach_4 13 rfl rfl)
theorem dX9_teach_110 : decode cX9_teach 110 = .ok (.sipush 150, 3) := dk_17 0 150 (dk_at dksX9_teach_4 16 rfl rfl)
theorem dX9_teach_113 : decode cX9_teach 113 = .ok (.iload_n 1, 1) := dk_27 (dk_at dksX9_teach_4 19 rfl rfl)
theorem dX9_teach_114 : decode cX9_teach 114 = .ok (.imul, 1) := dk_104 (dk_at dksX9_teach_4 20 rfl rfl)
theorem dX9_teach_115 : decode cX9_teach 115 = .ok (.iload_n 3, 1) := dk_29 (dk_at dksX9_teach_4 21 rfl rfl)
theorem dX9_teach_116 : decode cX9_teach 116 = .ok (.iadd, 1) := dk_96 (dk_at dksX9_teach_4 22 rfl rfl)
theorem dX9_teach_117 : decode cX9_teach 117 = .ok (.aload_n 0, 1) := dk_42 (dk_at dksX9_teach_4 23 rfl rfl)
theorem dX9_teach_118 : decode cX9_teach 118 = .ok (.getfield 56, 3) := dk_180 0 56 (dk_at dksX9_teach_5 0 rfl rfl)
theorem dX9_teach_121 : decode cX9_teach 121 = .ok (.sipush 150, 3) := dk_17 0 150 (dk_at dksX9_teach_5 3 rfl rfl)
theorem dX9_teach_124 : decode cX9_teach 124 = .ok (.iload_n 2, 1) := dk_28 (dk_at dksX9_teach_5 6 rfl rfl)
theorem dX9_teach_125 : decode cX9_teach 125 = .ok (.imul, 1) := dk_104 (dk_at dksX9_teach_5 7 rfl rfl)
theorem dX9_teach_126 : decode cX9_teach 126 = .ok (.iload_n 3, 1) := dk_29 (dk_at dksX9_teach_5 8 rfl rfl)
theorem dX9_teach_127 : decode cX9_teach 127 = .ok (.iadd, 1) := dk_96 (dk_at dksX9_teach_5 9 rfl rfl)
theorem dX9_teach_128 : decode cX9_teach 128 = .ok (.iaload, 1) := dk_46 (dk_at dksX9_teach_5 10 rfl rfl)
theorem dX9_teach_129 : decode cX9_teach 129 = .ok (.iastore, 1) := dk_79 (dk_at dksX9_teach_5 11 rfl rfl)
theorem dX9_teach_130 : decode cX9_teach 130 = .ok (.iinc 3 1, 3) := dk_132 3 1 (dk_at dksX9_teach_5 12 rfl rfl)
theorem dX9_teach_133 : decode cX9_teach 133 = .ok (.goto (-58), 3) := dk_167 255 198 (dk_at dksX9_teach_5 15 rfl rfl)
theorem dX9_teach_136 : decode cX9_teach 136 = .ok (.aload_n 0, 1) := dk_42 (dk_at dksX9_teach_5 18 rfl rfl)
theorem dX9_teach_137 : decode cX9_teach 137 = .ok (.getfield 62, 3) := dk_180 0 62 (dk_at dksX9_teach_5 19 rfl rfl)
theorem dX9_teach_140 : decode cX9_teach 140 = .ok (.iload_n 1, 1) := dk_27 (dk_at dksX9_teach_5 22 rfl rfl)
theorem dX9_teach_141 : decode cX9_teach 141 = .ok (.iaload, 1) := dk_46 (dk_at dksX9_teach_5 23 rfl rfl)
theorem dX9_teach_142 : decode cX9_teach 142 = .ok (.ireturn, 1) := dk_172 (dk_at dksX9_teach_6 0 rfl rfl)
abbrev cX9_undo : ByteArray := prog_28_method_123_code
def yX9_undo : MethodName := ⟨RX9, "undo", "()I"⟩
def dkwX9_undo_4 : List UInt8 := [46, 181, 0, 164, 42, 180, 0, 170, 172]
abbrev dktX9_undo_4 : List UInt8 := dkwX9_undo_4 ++ []
def dkwX9_undo_3 : List UInt8 := [96, 46, 79, 132, 1, 1, 167, 255, 204, 42, 42, 180, 0, 93, 16, 49, 42, 180, 0, 170, 104, 16, 48, 96]
abbrev dktX9_undo_3 : List UInt8 := dkwX9_undo_3 ++ dktX9_undo_4
def dkwX9_undo_2 : List UInt8 := [27, 96, 46, 79, 42, 180, 0, 38, 27, 42, 180, 0, 93, 16, 49, 42, 180, 0, 170, 104, 16, 24, 96, 27]
abbrev dktX9_undo_2 : List UInt8 := dkwX9_undo_2 ++ dktX9_undo_3
def dkwX9_undo_1 : List UInt8 := [3, 60, 27, 16, 24, 162, 0, 52, 42, 180, 0, 35, 27, 42, 180, 0, 93, 16, 49, 42, 180, 0, 170, 104]
abbrev dktX9_undo_1 : List UInt8 := dkwX9_undo_1 ++ dktX9_undo_2
def dkwX9_undo_0 : List UInt8 := [42, 3, 181, 0, 3, 42, 180, 0, 170, 154, 0, 5, 2, 172, 42, 89, 180, 0, 170, 4, 100, 181, 0, 170]
abbrev dktX9_undo_0 : List UInt8 := dkwX9_undo_0 ++ dktX9_undo_1
theorem dksX9_undo_0 : cX9_undo.data.toList.drop 0 = dktX9_undo_0 := by decide +kernel
theorem dksX9_undo_1 : cX9_undo.data.toList.drop 24 = dktX9_undo_1 := dk_seg dksX9_undo_0 24 rfl rfl
theorem dksX9_undo_2 : cX9_undo.data.toList.drop 48 = dktX9_undo_2 := dk_seg dksX9_undo_1 24 rfl rfl
theorem dksX9_undo_3 : cX9_undo.data.toList.drop 72 = dktX9_undo_3 := dk_seg dksX9_undo_2 24 rfl rfl
theorem dksX9_undo_4 : cX9_undo.data.toList.drop 96 = dktX9_undo_4 := dk_seg dksX9_undo_3 24 rfl rfl
theorem dX9_undo_0 : decode cX9_undo 0 = .ok (.aload_n 0, 1) := dk_42 (dk_at dksX9_undo_0 0 rfl rfl)
theorem dX9_undo_1 : decode cX9_undo 1 = .ok (.iconst 0, 1) := dk_3 (dk_at dksX9_undo_0 1 rfl rfl)
theorem dX9_undo_2 : decode cX9_undo 2 = .ok (.putfield 3, 3) := dk_181 0 3 (dk_at dksX9_undo_0 2 rfl rfl)
theorem dX9_undo_5 : decode cX9_undo 5 = .ok (.aload_n 0, 1) := dk_42 (dk_at dksX9_undo_0 5 rfl rfl)
theorem dX9_undo_6 : decode cX9_undo 6 = .ok (.getfield 170, 3) := dk_180 0 170 (dk_at dksX9_undo_0 6 rfl rfl)
theorem dX9_undo_9 : decode cX9_undo 9 = .ok (.ifCond .ne 5, 3) := dk_154 0 5 (dk_at dksX9_undo_0 9 rfl rfl)
theorem dX9_undo_12 : decode cX9_undo 12 = .ok (.iconst (-1), 1) := dk_2 (dk_at dksX9_undo_0 12 rfl rfl)
theorem dX9_undo_13 : decode cX9_undo 13 = .ok (.ireturn, 1) := dk_172 (dk_at dksX9_undo_0 13 rfl rfl)
theorem dX9_undo_14 : decode cX9_undo 14 = .ok (.aload_n 0, 1) := dk_42 (dk_at dksX9_undo_0 14 rfl rfl)
theorem dX9_undo_15 : decode cX9_undo 15 = .ok (.dup, 1) := dk_89 (dk_at dksX9_undo_0 15 rfl rfl)
theorem dX9_undo_16 : decode cX9_undo 16 = .ok (.getfield 170, 3) := dk_180 0 170 (dk_at dksX9_undo_0 16 rfl rfl)
theorem dX9_undo_19 : decode cX9_undo 19 = .ok (.iconst 1, 1) := dk_4 (dk_at dksX9_undo_0 19 rfl rfl)
theorem dX9_undo_20 : decode cX9_undo 20 = .ok (.isub, 1) := dk_100 (dk_at dksX9_undo_0 20 rfl rfl)
theorem dX9_undo_21 : decode cX9_undo 21 = .ok (.putfield 170, 3) := dk_181 0 170 (dk_at dksX9_undo_0 21 rfl rfl)
theorem dX9_undo_24 : decode cX9_undo 24 = .ok (.iconst 0, 1) := dk_3 (dk_at dksX9_undo_1 0 rfl rfl)
theorem dX9_undo_25 : decode cX9_undo 25 = .ok (.istore_n 1, 1) := dk_60 (dk_at dksX9_undo_1 1 rfl rfl)
theorem dX9_undo_26 : decode cX9_undo 26 = .ok (.iload_n 1, 1) := dk_27 (dk_at dksX9_undo_1 2 rfl rfl)
theorem dX9_undo_27 : decode cX9_undo 27 = .ok (.bipush 24, 2) := dk_16 24 (dk_at dksX9_undo_1 3 rfl rfl)
theorem dX9_undo_29 : decode cX9_undo 29 = .ok (.if_icmp .ge 52, 3) := dk_162 0 52 (dk_at dksX9_undo_1 5 rfl rfl)
theorem dX9_undo_32 : decode cX9_undo 32 = .ok (.aload_n 0, 1) := dk_42 (dk_at dksX9_undo_1 8 rfl rfl)
theorem dX9_undo_33 : decode cX9_undo 33 = .ok (.getfield 35, 3) := dk_180 0 35 (dk_at dksX9_undo_1 9 rfl rfl)
theorem dX9_undo_36 : decode cX9_undo 36 = .ok (.iload_n 1, 1) := dk_27 (dk_at dksX9_undo_1 12 rfl rfl)
theorem dX9_undo_37 : decode cX9_undo 37 = .ok (.aload_n 0, 1) := dk_42 (dk_at dksX9_undo_1 13 rfl rfl)
theorem dX9_undo_38 : decode cX9_undo 38 = .ok (.getfield 93, 3) := dk_180 0 93 (dk_at dksX9_undo_1 14 rfl rfl)
theorem dX9_undo_41 : decode cX9_undo 41 = .ok (.bipush 49, 2) := dk_16 49 (dk_at dksX9_undo_1 17 rfl rfl)
theorem dX9_undo_43 : decode cX9_undo 43 = .ok (.aload_n 0, 1) := dk_42 (dk_at dksX9_undo_1 19 rfl rfl)
theorem dX9_undo_44 : decode cX9_undo 44 = .ok (.getfield 170, 3) := dk_180 0 170 (dk_at dksX9_undo_1 20 rfl rfl)
theorem dX9_undo_47 : decode cX9_undo 47 = .ok (.imul, 1) := dk_104 (dk_at dksX9_undo_1 23 rfl rfl)
theorem dX9_undo_48 : decode cX9_undo 48 = .ok (.iload_n 1, 1) := dk_27 (dk_at dksX9_undo_2 0 rfl rfl)
theorem dX9_undo_49 : decode cX9_undo 49 = .ok (.iadd, 1) := dk_96 (dk_at dksX9_undo_2 1 rfl rfl)
theorem dX9_undo_50 : decode cX9_undo 50 = .ok (.iaload, 1) := dk_46 (dk_at dksX9_undo_2 2 rfl rfl)
theorem dX9_undo_51 : decode cX9_undo 51 = .ok (.iastore, 1) := dk_79 (dk_at dksX9_undo_2 3 rfl rfl)
theorem dX9_undo_52 : decode cX9_undo 52 = .ok (.aload_n 0, 1) := dk_42 (dk_at dksX9_undo_2 4 rfl rfl)
theorem dX9_undo_53 : decode cX9_undo 53 = .ok (.getfield 38, 3) := dk_180 0 38 (dk_at dksX9_undo_2 5 rfl rfl)
theorem dX9_undo_56 : decode cX9_undo 56 = .ok (.iload_n 1, 1) := dk_27 (dk_at dksX9_undo_2 8 rfl rfl)
theorem dX9_undo_57 : decode cX9_undo 57 = .ok (.aload_n 0, 1) := dk_42 (dk_at dksX9_undo_2 9 rfl rfl)
theorem dX9_undo_58 : decode cX9_undo 58 = .ok (.getfield 93, 3) := dk_180 0 93 (dk_at dksX9_undo_2 10 rfl rfl)
theorem dX9_undo_61 : decode cX9_undo 61 = .ok (.bipush 49, 2) := dk_16 49 (dk_at dksX9_undo_2 13 rfl rfl)
theorem dX9_undo_63 : decode cX9_undo 63 = .ok (.aload_n 0, 1) := dk_42 (dk_at dksX9_undo_2 15 rfl rfl)
theorem dX9_undo_64 : decode cX9_undo 64 = .ok (.getfield 170, 3) := dk_180 0 170 (dk_at dksX9_undo_2 16 rfl rfl)
theorem dX9_undo_67 : decode cX9_undo 67 = .ok (.imul, 1) := dk_104 (dk_at dksX9_undo_2 19 rfl rfl)
theorem dX9_undo_68 : decode cX9_undo 68 = .ok (.bipush 24, 2) := dk_16 24 (dk_at dksX9_undo_2 20 rfl rfl)
theorem dX9_undo_70 : decode cX9_undo 70 = .ok (.iadd, 1) := dk_96 (dk_at dksX9_undo_2 22 rfl rfl)
theorem dX9_undo_71 : decode cX9_undo 71 = .ok (.iload_n 1, 1) := dk_27 (dk_at dksX9_undo_2 23 rfl rfl)
theorem dX9_undo_72 : decode cX9_undo 72 = .ok (.iadd, 1) := dk_96 (dk_at dksX9_undo_3 0 rfl rfl)
theorem dX9_undo_73 : decode cX9_undo 73 = .ok (.iaload, 1) := dk_46 (dk_at dksX9_undo_3 1 rfl rfl)
theorem dX9_undo_74 : decode cX9_undo 74 = .ok (.iastore, 1) := dk_79 (dk_at dksX9_undo_3 2 rfl rfl)
theorem dX9_undo_75 : decode cX9_undo 75 = .ok (.iinc 1 1, 3) := dk_132 1 1 (dk_at dksX9_undo_3 3 rfl rfl)
theorem dX9_undo_78 : decode cX9_undo 78 = .ok (.goto (-52), 3) := dk_167 255 204 (dk_at dksX9_undo_3 6 rfl rfl)
theorem dX9_undo_81 : decode cX9_undo 81 = .ok (.aload_n 0, 1) := dk_42 (dk_at dksX9_undo_3 9 rfl rfl)
theorem dX9_undo_82 : decode cX9_undo 82 = .ok (.aload_n 0, 1) := dk_42 (dk_at dksX9_undo_3 10 rfl rfl)
theorem dX9_undo_83 : decode cX9_undo 83 = .ok (.getfield 93, 3) := dk_180 0 93 (dk_at dksX9_undo_3 11 rfl rfl)
theorem dX9_undo_86 : decode cX9_undo 86 = .ok (.bipush 49, 2) := dk_16 49 (dk_at dksX9_undo_3 14 rfl rfl)
theorem dX9_undo_88 : decode cX9_undo 88 = .ok (.aload_n 0, 1) := dk_42 (dk_at dksX9_undo_3 16 rfl rfl)
theorem dX9_undo_89 : decode cX9_undo 89 = .ok (.getfield 170, 3) := dk_180 0 170 (dk_at dksX9_undo_3 17 rfl rfl)
theorem dX9_undo_92 : decode cX9_undo 92 = .ok (.imul, 1) := dk_104 (dk_at dksX9_undo_3 20 rfl rfl)
theorem dX9_undo_93 : decode cX9_undo 93 = .ok (.bipush 48, 2) := dk_16 48 (dk_at dksX9_undo_3 21 rfl rfl)
theorem dX9_undo_95 : decode cX9_undo 95 = .ok (.iadd, 1) := dk_96 (dk_at dksX9_undo_3 23 rfl rfl)
theorem dX9_undo_96 : decode cX9_undo 96 = .ok (.iaload, 1) := dk_46 (dk_at dksX9_undo_4 0 rfl rfl)
theorem dX9_undo_97 : decode cX9_undo 97 = .ok (.putfield 164, 3) := dk_181 0 164 (dk_at dksX9_undo_4 1 rfl rfl)
theorem dX9_undo_100 : decode cX9_undo 100 = .ok (.aload_n 0, 1) := dk_42 (dk_at dksX9_undo_4 4 rfl rfl)
theorem dX9_undo_101 : decode cX9_undo 101 = .ok (.getfield 170, 3) := dk_180 0 170 (dk_at dksX9_undo_4 5 rfl rfl)
theorem dX9_undo_104 : decode cX9_undo 104 = .ok (.ireturn, 1) := dk_172 (dk_at dksX9_undo_4 8 rfl rfl)
abbrev cX9_image : ByteArray := prog_28_method_126_code
def yX9_image : MethodName := ⟨RX9, "image", "()I"⟩
def dkwX9_image_1 : List UInt8 := [42, 89, 180, 0, 173, 4, 96, 181, 0, 173, 42, 180, 0, 173, 172]
abbrev dktX9_image_1 : List UInt8 := dkwX9_image_1 ++ []
def dkwX9_image_0 : List UInt8 := [42, 3, 181, 0, 3, 42, 180, 0, 173, 6, 160, 0, 5, 2, 172, 42, 42, 180, 0, 173, 4, 182, 2, 33]
abbrev dktX9_image_0 : List UInt8 := dkwX9_image_0 ++ dktX9_image_1
theorem dksX9_image_0 : cX9_image.data.toList.drop 0 = dktX9_image_0 := by decide +kernel
theorem dksX9_image_1 : cX9_image.data.toList.drop 24 = dktX9_image_1 := dk_seg dksX9_image_0 24 rfl rfl
theorem dX9_image_0 : decode cX9_image 0 = .ok (.aload_n 0, 1) := dk_42 (dk_at dksX9_image_0 0 rfl rfl)
theorem dX9_image_1 : decode cX9_image 1 = .ok (.iconst 0, 1) := dk_3 (dk_at dksX9_image_0 1 rfl rfl)
theorem dX9_image_2 : decode cX9_image 2 = .ok (.putfield 3, 3) := dk_181 0 3 (dk_at dksX9_image_0 2 rfl rfl)
theorem dX9_image_5 : decode cX9_image 5 = .ok (.aload_n 0, 1) := dk_42 (dk_at dksX9_image_0 5 rfl rfl)
theorem dX9_image_6 : decode cX9_image 6 = .ok (.getfield 173, 3) := dk_180 0 173 (dk_at dksX9_image_0 6 rfl rfl)
theorem dX9_image_9 : decode cX9_image 9 = .ok (.iconst 3, 1) := dk_6 (dk_at dksX9_image_0 9 rfl rfl)
theorem dX9_image_10 : decode cX9_image 10 = .ok (.if_icmp .ne 5, 3) := dk_160 0 5 (dk_at dksX9_image_0 10 rfl rfl)
theorem dX9_image_13 : decode cX9_image 13 = .ok (.iconst (-1), 1) := dk_2 (dk_at dksX9_image_0 13 rfl rfl)
theorem dX9_image_14 : decode cX9_image 14 = .ok (.ireturn, 1) := dk_172 (dk_at dksX9_image_0 14 rfl rfl)
theorem dX9_image_15 : decode cX9_image 15 = .ok (.aload_n 0, 1) := dk_42 (dk_at dksX9_image_0 15 rfl rfl)
theorem dX9_image_16 : decode cX9_image 16 = .ok (.aload_n 0, 1) := dk_42 (dk_at dksX9_image_0 16 rfl rfl)
theorem dX9_image_17 : decode cX9_image 17 = .ok (.getfield 173, 3) := dk_180 0 173 (dk_at dksX9_image_0 17 rfl rfl)
theorem dX9_image_20 : decode cX9_image 20 = .ok (.iconst 1, 1) := dk_4 (dk_at dksX9_image_0 20 rfl rfl)
theorem dX9_image_21 : decode cX9_image 21 = .ok (.invokevirtual 545, 3) := dk_182 2 33 (dk_at dksX9_image_0 21 rfl rfl)
theorem dX9_image_24 : decode cX9_image 24 = .ok (.aload_n 0, 1) := dk_42 (dk_at dksX9_image_1 0 rfl rfl)
theorem dX9_image_25 : decode cX9_image 25 = .ok (.dup, 1) := dk_89 (dk_at dksX9_image_1 1 rfl rfl)
theorem dX9_image_26 : decode cX9_image 26 = .ok (.getfield 173, 3) := dk_180 0 173 (dk_at dksX9_image_1 2 rfl rfl)
theorem dX9_image_29 : decode cX9_image 29 = .ok (.iconst 1, 1) := dk_4 (dk_at dksX9_image_1 5 rfl rfl)
theorem dX9_image_30 : decode cX9_image 30 = .ok (.iadd, 1) := dk_96 (dk_at dksX9_image_1 6 rfl rfl)
theorem dX9_image_31 : decode cX9_image 31 = .ok (.putfield 173, 3) := dk_181 0 173 (dk_at dksX9_image_1 7 rfl rfl)
theorem dX9_image_34 : decode cX9_image 34 = .ok (.aload_n 0, 1) := dk_42 (dk_at dksX9_image_1 10 rfl rfl)
theorem dX9_image_35 : decode cX9_image 35 = .ok (.getfield 173, 3) := dk_180 0 173 (dk_at dksX9_image_1 11 rfl rfl)
theorem dX9_image_38 : decode cX9_image 38 = .ok (.ireturn, 1) := dk_172 (dk_at dksX9_image_1 14 rfl rfl)
abbrev cX9_keepsAll : ByteArray := prog_28_method_125_code
def yX9_keepsAll : MethodName := ⟨RX9, "keepsAll", "(IZ)V"⟩
def dkwX9_keepsAll_4 : List UInt8 := [181, 0, 170, 177]
abbrev dktX9_keepsAll_4 : List UInt8 := dkwX9_keepsAll_4 ++ []
def dkwX9_keepsAll_3 : List UInt8 := [79, 167, 0, 25, 42, 42, 180, 0, 96, 29, 46, 181, 0, 164, 42, 42, 180, 0, 96, 29, 4, 96, 46]
abbrev dktX9_keepsAll_3 : List UInt8 := dkwX9_keepsAll_3 ++ dktX9_keepsAll_4
def dkwX9_keepsAll_2 : List UInt8 := [153, 0, 28, 42, 180, 0, 96, 29, 42, 180, 0, 164, 79, 42, 180, 0, 96, 29, 4, 96, 42, 180, 0, 170]
abbrev dktX9_keepsAll_2 : List UInt8 := dkwX9_keepsAll_2 ++ dktX9_keepsAll_3
def dkwX9_keepsAll_1 : List UInt8 := [16, 24, 28, 182, 2, 29, 62, 42, 29, 42, 180, 0, 93, 17, 3, 212, 28, 182, 2, 29, 62, 28]
abbrev dktX9_keepsAll_1 : List UInt8 := dkwX9_keepsAll_1 ++ dktX9_keepsAll_2
def dkwX9_keepsAll_0 : List UInt8 := [42, 17, 4, 6, 27, 104, 42, 180, 0, 35, 16, 24, 28, 182, 2, 29, 62, 42, 29, 42, 180, 0, 38]
abbrev dktX9_keepsAll_0 : List UInt8 := dkwX9_keepsAll_0 ++ dktX9_keepsAll_1
theorem dksX9_keepsAll_0 : cX9_keepsAll.data.toList.drop 0 = dktX9_keepsAll_0 := by decide +kernel
theorem dksX9_keepsAll_1 : cX9_keepsAll.data.toList.drop 23 = dktX9_keepsAll_1 := dk_seg dksX9_keepsAll_0 23 rfl rfl
theorem dksX9_keepsAll_2 : cX9_keepsAll.data.toList.drop 45 = dktX9_keepsAll_2 := dk_seg dksX9_keepsAll_1 22 rfl rfl
theorem dksX9_keepsAll_3 : cX9_keepsAll.data.toList.drop 69 = dktX9_keepsAll_3 := dk_seg dksX9_keepsAll_2 24 rfl rfl
theorem dksX9_keepsAll_4 : cX9_keepsAll.data.toList.drop 92 = dktX9_keepsAll_4 := dk_seg dksX9_keepsAll_3 23 rfl rfl
theorem dX9_keepsAll_0 : decode cX9_keepsAll 0 = .ok (.aload_n 0, 1) := dk_42 (dk_at dksX9_keepsAll_0 0 rfl rfl)
theorem dX9_keepsAll_1 : decode cX9_keepsAll 1 = .ok (.sipush 1030, 3) := dk_17 4 6 (dk_at dksX9_keepsAll_0 1 rfl rfl)
theorem dX9_keepsAll_4 : decode cX9_keepsAll 4 = .ok (.iload_n 1, 1) := dk_27 (dk_at dksX9_keepsAll_0 4 rfl rfl)
theorem dX9_keepsAll_5 : decode cX9_keepsAll 5 = .ok (.imul, 1) := dk_104 (dk_at dksX9_keepsAll_0 5 rfl rfl)
theorem dX9_keepsAll_6 : decode cX9_keepsAll 6 = .ok (.aload_n 0, 1) := dk_42 (dk_at dksX9_keepsAll_0 6 rfl rfl)
theorem dX9_keepsAll_7 : decode cX9_keepsAll 7 = .ok (.getfield 35, 3) := dk_180 0 35 (dk_at dksX9_keepsAll_0 7 rfl rfl)
theorem dX9_keepsAll_10 : decode cX9_keepsAll 10 = .ok (.bipush 24, 2) := dk_16 24 (dk_at dksX9_keepsAll_0 10 rfl rfl)
theorem dX9_keepsAll_12 : decode cX9_keepsAll 12 = .ok (.iload_n 2, 1) := dk_28 (dk_at dksX9_keepsAll_0 12 rfl rfl)
theorem dX9_keepsAll_13 : decode cX9_keepsAll 13 = .ok (.invokevirtual 541, 3) := dk_182 2 29 (dk_at dksX9_keepsAll_0 13 rfl rfl)
theorem dX9_keepsAll_16 : decode cX9_keepsAll 16 = .ok (.istore_n 3, 1) := dk_62 (dk_at dksX9_keepsAll_0 16 rfl rfl)
theorem dX9_keepsAll_17 : decode cX9_keepsAll 17 = .ok (.aload_n 0, 1) := dk_42 (dk_at dksX9_keepsAll_0 17 rfl rfl)
theorem dX9_keepsAll_18 : decode cX9_keepsAll 18 = .ok (.iload_n 3, 1) := dk_29 (dk_at dksX9_keepsAll_0 18 rfl rfl)
theorem dX9_keepsAll_19 : decode cX9_keepsAll 19 = .ok (.aload_n 0, 1) := dk_42 (dk_at dksX9_keepsAll_0 19 rfl rfl)
theorem dX9_keepsAll_20 : decode cX9_keepsAll 20 = .ok (.getfield 38, 3) := dk_180 0 38 (dk_at dksX9_keepsAll_0 20 rfl rfl)
theorem dX9_keepsAll_23 : decode cX9_keepsAll 23 = .ok (.bipush 24, 2) := dk_16 24 (dk_at dksX9_keepsAll_1 0 rfl rfl)
theorem dX9_keepsAll_25 : decode cX9_keepsAll 25 = .ok (.iload_n 2, 1) := dk_28 (dk_at dksX9_keepsAll_1 2 rfl rfl)
theorem dX9_keepsAll_26 : decode cX9_keepsAll 26 = .ok (.invokevirtual 541, 3) := dk_182 2 29 (dk_at dksX9_keepsAll_1 3 rfl rfl)
theorem dX9_keepsAll_29 : decode cX9_keepsAll 29 = .ok (.istore_n 3, 1) := dk_62 (dk_at dksX9_keepsAll_1 6 rfl rfl)
theorem dX9_keepsAll_30 : decode cX9_keepsAll 30 = .ok (.aload_n 0, 1) := dk_42 (dk_at dksX9_keepsAll_1 7 rfl rfl)
theorem dX9_keepsAll_31 : decode cX9_keepsAll 31 = .ok (.iload_n 3, 1) := dk_29 (dk_at dksX9_keepsAll_1 8 rfl rfl)
theorem dX9_keepsAll_32 : decode cX9_keepsAll 32 = .ok (.aload_n 0, 1) := dk_42 (dk_at dksX9_keepsAll_1 9 rfl rfl)
theorem dX9_keepsAll_33 : decode cX9_keepsAll 33 = .ok (.getfield 93, 3) := dk_180 0 93 (dk_at dksX9_keepsAll_1 10 rfl rfl)
theorem dX9_keepsAll_36 : decode cX9_keepsAll 36 = .ok (.sipush 980, 3) := dk_17 3 212 (dk_at dksX9_keepsAll_1 13 rfl rfl)
theorem dX9_keepsAll_39 : decode cX9_keepsAll 39 = .ok (.iload_n 2, 1) := dk_28 (dk_at dksX9_keepsAll_1 16 rfl rfl)
theorem dX9_keepsAll_40 : decode cX9_keepsAll 40 = .ok (.invokevirtual 541, 3) := dk_182 2 29 (dk_at dksX9_keepsAll_1 17 rfl rfl)
theorem dX9_keepsAll_43 : decode cX9_keepsAll 43 = .ok (.istore_n 3, 1) := dk_62 (dk_at dksX9_keepsAll_1 20 rfl rfl)
theorem dX9_keepsAll_44 : decode cX9_keepsAll 44 = .ok (.iload_n 2, 1) := dk_28 (dk_at dksX9_keepsAll_1 21 rfl rfl)
theorem dX9_keepsAll_45 : decode cX9_keepsAll 45 = .ok (.ifCond .eq 28, 3) := dk_153 0 28 (dk_at dksX9_keepsAll_2 0 rfl rfl)
theorem dX9_keepsAll_48 : decode cX9_keepsAll 48 = .ok (.aload_n 0, 1) := dk_42 (dk_at dksX9_keepsAll_2 3 rfl rfl)
theorem dX9_keepsAll_49 : decode cX9_keepsAll 49 = .ok (.getfield 96, 3) := dk_180 0 96 (dk_at dksX9_keepsAll_2 4 rfl rfl)
theorem dX9_keepsAll_52 : decode cX9_keepsAll 52 = .ok (.iload_n 3, 1) := dk_29 (dk_at dksX9_keepsAll_2 7 rfl rfl)
theorem dX9_keepsAll_53 : decode cX9_keepsAll 53 = .ok (.aload_n 0, 1) := dk_42 (dk_at dksX9_keepsAll_2 8 rfl rfl)
theorem dX9_keepsAll_54 : decode cX9_keepsAll 54 = .ok (.getfield 164, 3) := dk_180 0 164 (dk_at dksX9_keepsAll_2 9 rfl rfl)
theorem dX9_keepsAll_57 : decode cX9_keepsAll 57 = .ok (.iastore, 1) := dk_79 (dk_at dksX9_keepsAll_2 12 rfl rfl)
theorem dX9_keepsAll_58 : decode cX9_keepsAll 58 = .ok (.aload_n 0, 1) := dk_42 (dk_at dksX9_keepsAll_2 13 rfl rfl)
theorem dX9_keepsAll_59 : decode cX9_keepsAll 59 = .ok (.getfield 96, 3) := dk_180 0 96 (dk_at dksX9_keepsAll_2 14 rfl rfl)
theorem dX9_keepsAll_62 : decode cX9_keepsAll 62 = .ok (.iload_n 3, 1) := dk_29 (dk_at dksX9_keepsAll_2 17 rfl rfl)
theorem dX9_keepsAll_63 : decode cX9_keepsAll 63 = .ok (.iconst 1, 1) := dk_4 (dk_at dksX9_keepsAll_2 18 rfl rfl)
theorem dX9_keepsAll_64 : decode cX9_keepsAll 64 = .ok (.iadd, 1) := dk_96 (dk_at dksX9_keepsAll_2 19 rfl rfl)
theorem dX9_keepsAll_65 : decode cX9_keepsAll 65 = .ok (.aload_n 0, 1) := dk_42 (dk_at dksX9_keepsAll_2 20 rfl rfl)
theorem dX9_keepsAll_66 : decode cX9_keepsAll 66 = .ok (.getfield 170, 3) := dk_180 0 170 (dk_at dksX9_keepsAll_2 21 rfl rfl)
theorem dX9_keepsAll_69 : decode cX9_keepsAll 69 = .ok (.iastore, 1) := dk_79 (dk_at dksX9_keepsAll_3 0 rfl rfl)
theorem dX9_keepsAll_70 : decode cX9_keepsAll 70 = .ok (.goto 25, 3) := dk_167 0 25 (dk_at dksX9_keepsAll_3 1 rfl rfl)
theorem dX9_keepsAll_73 : decode cX9_keepsAll 73 = .ok (.aload_n 0, 1) := dk_42 (dk_at dksX9_keepsAll_3 4 rfl rfl)
theorem dX9_keepsAll_74 : decode cX9_keepsAll 74 = .ok (.aload_n 0, 1) := dk_42 (dk_at dksX9_keepsAll_3 5 rfl rfl)
theorem dX9_keepsAll_75 : decode cX9_keepsAll 75 = .ok (.getfield 96, 3) := dk_180 0 96 (dk_at dksX9_keepsAll_3 6 rfl rfl)
theorem dX9_keepsAll_78 : decode cX9_keepsAll 78 = .ok (.iload_n 3, 1) := dk_29 (dk_at dksX9_keepsAll_3 9 rfl rfl)
theorem dX9_keepsAll_79 : decode cX9_keepsAll 79 = .ok (.iaload, 1) := dk_46 (dk_at dksX9_keepsAll_3 10 rfl rfl)
theorem dX9_keepsAll_80 : decode cX9_keepsAll 80 = .ok (.putfield 164, 3) := dk_181 0 164 (dk_at dksX9_keepsAll_3 11 rfl rfl)
theorem dX9_keepsAll_83 : decode cX9_keepsAll 83 = .ok (.aload_n 0, 1) := dk_42 (dk_at dksX9_keepsAll_3 14 rfl rfl)
theorem dX9_keepsAll_84 : decode cX9_keepsAll 84 = .ok (.aload_n 0, 1) := dk_42 (dk_at dksX9_keepsAll_3 15 rfl rfl)
theorem dX9_keepsAll_85 : decode cX9_keepsAll 85 = .ok (.getfield 96, 3) := dk_180 0 96 (dk_at dksX9_keepsAll_3 16 rfl rfl)
theorem dX9_keepsAll_88 : decode cX9_keepsAll 88 = .ok (.iload_n 3, 1) := dk_29 (dk_at dksX9_keepsAll_3 19 rfl rfl)
theorem dX9_keepsAll_89 : decode cX9_keepsAll 89 = .ok (.iconst 1, 1) := dk_4 (dk_at dksX9_keepsAll_3 20 rfl rfl)
theorem dX9_keepsAll_90 : decode cX9_keepsAll 90 = .ok (.iadd, 1) := dk_96 (dk_at dksX9_keepsAll_3 21 rfl rfl)
theorem dX9_keepsAll_91 : decode cX9_keepsAll 91 = .ok (.iaload, 1) := dk_46 (dk_at dksX9_keepsAll_3 22 rfl rfl)
theorem dX9_keepsAll_92 : decode cX9_keepsAll 92 = .ok (.putfield 170, 3) := dk_181 0 170 (dk_at dksX9_keepsAll_4 0 rfl rfl)
theorem dX9_keepsAll_95 : decode cX9_keepsAll 95 = .ok (.return_, 1) := dk_177 (dk_at dksX9_keepsAll_4 3 rfl rfl)
abbrev cX9_keepsRow : ByteArray := prog_28_method_124_code
def yX9_keepsRow : MethodName := ⟨RX9, "keepsRow", "(I[IIZ)I"⟩
def dkwX9_keepsRow_2 : List UInt8 := [167, 255, 213, 27, 29, 96, 172]
abbrev dktX9_keepsRow_2 : List UInt8 := dkwX9_keepsRow_2 ++ []
def dkwX9_keepsRow_1 : List UInt8 := [21, 5, 46, 79, 167, 0, 16, 44, 21, 5, 42, 180, 0, 96, 27, 21, 5, 96, 46, 79, 132, 5, 1]
abbrev dktX9_keepsRow_1 : List UInt8 := dkwX9_keepsRow_1 ++ dktX9_keepsRow_2
def dkwX9_keepsRow_0 : List UInt8 := [3, 54, 5, 21, 5, 29, 162, 0, 43, 21, 4, 153, 0, 19, 42, 180, 0, 96, 27, 21, 5, 96, 44]
abbrev dktX9_keepsRow_0 : List UInt8 := dkwX9_keepsRow_0 ++ dktX9_keepsRow_1
theorem dksX9_keepsRow_0 : cX9_keepsRow.data.toList.drop 0 = dktX9_keepsRow_0 := by decide +kernel
theorem dksX9_keepsRow_1 : cX9_keepsRow.data.toList.drop 23 = dktX9_keepsRow_1 := dk_seg dksX9_keepsRow_0 23 rfl rfl
theorem dksX9_keepsRow_2 : cX9_keepsRow.data.toList.drop 46 = dktX9_keepsRow_2 := dk_seg dksX9_keepsRow_1 23 rfl rfl
theorem dX9_keepsRow_0 : decode cX9_keepsRow 0 = .ok (.iconst 0, 1) := dk_3 (dk_at dksX9_keepsRow_0 0 rfl rfl)
theorem dX9_keepsRow_1 : decode cX9_keepsRow 1 = .ok (.istore 5, 2) := dk_54 5 (dk_at dksX9_keepsRow_0 1 rfl rfl)
theorem dX9_keepsRow_3 : decode cX9_keepsRow 3 = .ok (.iload 5, 2) := dk_21 5 (dk_at dksX9_keepsRow_0 3 rfl rfl)
theorem dX9_keepsRow_5 : decode cX9_keepsRow 5 = .ok (.iload_n 3, 1) := dk_29 (dk_at dksX9_keepsRow_0 5 rfl rfl)
theorem dX9_keepsRow_6 : decode cX9_keepsRow 6 = .ok (.if_icmp .ge 43, 3) := dk_162 0 43 (dk_at dksX9_keepsRow_0 6 rfl rfl)
theorem dX9_keepsRow_9 : decode cX9_keepsRow 9 = .ok (.iload 4, 2) := dk_21 4 (dk_at dksX9_keepsRow_0 9 rfl rfl)
theorem dX9_keepsRow_11 : decode cX9_keepsRow 11 = .ok (.ifCond .eq 19, 3) := dk_153 0 19 (dk_at dksX9_keepsRow_0 11 rfl rfl)
theorem dX9_keepsRow_14 : decode cX9_keepsRow 14 = .ok (.aload_n 0, 1) := dk_42 (dk_at dksX9_keepsRow_0 14 rfl rfl)
theorem dX9_keepsRow_15 : decode cX9_keepsRow 15 = .ok (.getfield 96, 3) := dk_180 0 96 (dk_at dksX9_keepsRow_0 15 rfl rfl)
theorem dX9_keepsRow_18 : decode cX9_keepsRow 18 = .ok (.iload_n 1, 1) := dk_27 (dk_at dksX9_keepsRow_0 18 rfl rfl)
theorem dX9_keepsRow_19 : decode cX9_keepsRow 19 = .ok (.iload 5, 2) := dk_21 5 (dk_at dksX9_keepsRow_0 19 rfl rfl)
theorem dX9_keepsRow_21 : decode cX9_keepsRow 21 = .ok (.iadd, 1) := dk_96 (dk_at dksX9_keepsRow_0 21 rfl rfl)
theorem dX9_keepsRow_22 : decode cX9_keepsRow 22 = .ok (.aload_n 2, 1) := dk_44 (dk_at dksX9_keepsRow_0 22 rfl rfl)
theorem dX9_keepsRow_23 : decode cX9_keepsRow 23 = .ok (.iload 5, 2) := dk_21 5 (dk_at dksX9_keepsRow_1 0 rfl rfl)
theorem dX9_keepsRow_25 : decode cX9_keepsRow 25 = .ok (.iaload, 1) := dk_46 (dk_at dksX9_keepsRow_1 2 rfl rfl)
theorem dX9_keepsRow_26 : decode cX9_keepsRow 26 = .ok (.iastore, 1) := dk_79 (dk_at dksX9_keepsRow_1 3 rfl rfl)
theorem dX9_keepsRow_27 : decode cX9_keepsRow 27 = .ok (.goto 16, 3) := dk_167 0 16 (dk_at dksX9_keepsRow_1 4 rfl rfl)
theorem dX9_keepsRow_30 : decode cX9_keepsRow 30 = .ok (.aload_n 2, 1) := dk_44 (dk_at dksX9_keepsRow_1 7 rfl rfl)
theorem dX9_keepsRow_31 : decode cX9_keepsRow 31 = .ok (.iload 5, 2) := dk_21 5 (dk_at dksX9_keepsRow_1 8 rfl rfl)
theorem dX9_keepsRow_33 : decode cX9_keepsRow 33 = .ok (.aload_n 0, 1) := dk_42 (dk_at dksX9_keepsRow_1 10 rfl rfl)
theorem dX9_keepsRow_34 : decode cX9_keepsRow 34 = .ok (.getfield 96, 3) := dk_180 0 96 (dk_at dksX9_keepsRow_1 11 rfl rfl)
theorem dX9_keepsRow_37 : decode cX9_keepsRow 37 = .ok (.iload_n 1, 1) := dk_27 (dk_at dksX9_keepsRow_1 14 rfl rfl)
theorem dX9_keepsRow_38 : decode cX9_keepsRow 38 = .ok (.iload 5, 2) := dk_21 5 (dk_at dksX9_keepsRow_1 15 rfl rfl)
theorem dX9_keepsRow_40 : decode cX9_keepsRow 40 = .ok (.iadd, 1) := dk_96 (dk_at dksX9_keepsRow_1 17 rfl rfl)
theorem dX9_keepsRow_41 : decode cX9_keepsRow 41 = .ok (.iaload, 1) := dk_46 (dk_at dksX9_keepsRow_1 18 rfl rfl)
theorem dX9_keepsRow_42 : decode cX9_keepsRow 42 = .ok (.iastore, 1) := dk_79 (dk_at dksX9_keepsRow_1 19 rfl rfl)
theorem dX9_keepsRow_43 : decode cX9_keepsRow 43 = .ok (.iinc 5 1, 3) := dk_132 5 1 (dk_at dksX9_keepsRow_1 20 rfl rfl)
theorem dX9_keepsRow_46 : decode cX9_keepsRow 46 = .ok (.goto (-43), 3) := dk_167 255 213 (dk_at dksX9_keepsRow_2 0 rfl rfl)
theorem dX9_keepsRow_49 : decode cX9_keepsRow 49 = .ok (.iload_n 1, 1) := dk_27 (dk_at dksX9_keepsRow_2 3 rfl rfl)
theorem dX9_keepsRow_50 : decode cX9_keepsRow 50 = .ok (.iload_n 3, 1) := dk_29 (dk_at dksX9_keepsRow_2 4 rfl rfl)
theorem dX9_keepsRow_51 : decode cX9_keepsRow 51 = .ok (.iadd, 1) := dk_96 (dk_at dksX9_keepsRow_2 5 rfl rfl)
theorem dX9_keepsRow_52 : decode cX9_keepsRow 52 = .ok (.ireturn, 1) := dk_172 (dk_at dksX9_keepsRow_2 6 rfl rfl)
abbrev cX9_restore : ByteArray := prog_28_method_127_code
def yX9_restore : MethodName := ⟨RX9, "restore", "()I"⟩
def dkwX9_restore_1 : List UInt8 := [42, 42, 180, 0, 173, 3, 182, 2, 33, 42, 180, 0, 173, 172]
abbrev dktX9_restore_1 : List UInt8 := dkwX9_restore_1 ++ []
def dkwX9_restore_0 : List UInt8 := [42, 3, 181, 0, 3, 42, 180, 0, 173, 154, 0, 5, 2, 172, 42, 89, 180, 0, 173, 4, 100, 181, 0, 173]
abbrev dktX9_restore_0 : List UInt8 := dkwX9_restore_0 ++ dktX9_restore_1
theorem dksX9_restore_0 : cX9_restore.data.toList.drop 0 = dktX9_restore_0 := by decide +kernel
theorem dksX9_restore_1 : cX9_restore.data.toList.drop 24 = dktX9_restore_1 := dk_seg dksX9_restore_0 24 rfl rfl
theorem dX9_restore_0 : decode cX9_restore 0 = .ok (.aload_n 0, 1) := dk_42 (dk_at dksX9_restore_0 0 rfl rfl)
theorem dX9_restore_1 : decode cX9_restore 1 = .ok (.iconst 0, 1) := dk_3 (dk_at dksX9_restore_0 1 rfl rfl)
theorem dX9_restore_2 : decode cX9_restore 2 = .ok (.putfield 3, 3) := dk_181 0 3 (dk_at dksX9_restore_0 2 rfl rfl)
theorem dX9_restore_5 : decode cX9_restore 5 = .ok (.aload_n 0, 1) := dk_42 (dk_at dksX9_restore_0 5 rfl rfl)
theorem dX9_restore_6 : decode cX9_restore 6 = .ok (.getfield 173, 3) := dk_180 0 173 (dk_at dksX9_restore_0 6 rfl rfl)
theorem dX9_restore_9 : decode cX9_restore 9 = .ok (.ifCond .ne 5, 3) := dk_154 0 5 (dk_at dksX9_restore_0 9 rfl rfl)
theorem dX9_restore_12 : decode cX9_restore 12 = .ok (.iconst (-1), 1) := dk_2 (dk_at dksX9_restore_0 12 rfl rfl)
theorem dX9_restore_13 : decode cX9_restore 13 = .ok (.ireturn, 1) := dk_172 (dk_at dksX9_restore_0 13 rfl rfl)
theorem dX9_restore_14 : decode cX9_restore 14 = .ok (.aload_n 0, 1) := dk_42 (dk_at dksX9_restore_0 14 rfl rfl)
theorem dX9_restore_15 : decode cX9_restore 15 = .ok (.dup, 1) := dk_89 (dk_at dksX9_restore_0 15 rfl rfl)
theorem dX9_restore_16 : decode cX9_restore 16 = .ok (.getfield 173, 3) := dk_180 0 173 (dk_at dksX9_restore_0 16 rfl rfl)
theorem dX9_restore_19 : decode cX9_restore 19 = .ok (.iconst 1, 1) := dk_4 (dk_at dksX9_restore_0 19 rfl rfl)
theorem dX9_restore_20 : decode cX9_restore 20 = .ok (.isub, 1) := dk_100 (dk_at dksX9_restore_0 20 rfl rfl)
theorem dX9_restore_21 : decode cX9_restore 21 = .ok (.putfield 173, 3) := dk_181 0 173 (dk_at dksX9_restore_0 21 rfl rfl)
theorem dX9_restore_24 : decode cX9_restore 24 = .ok (.aload_n 0, 1) := dk_42 (dk_at dksX9_restore_1 0 rfl rfl)
theorem dX9_restore_25 : decode cX9_restore 25 = .ok (.aload_n 0, 1) := dk_42 (dk_at dksX9_restore_1 1 rfl rfl)
theorem dX9_restore_26 : decode cX9_restore 26 = .ok (.getfield 173, 3) := dk_180 0 173 (dk_at dksX9_restore_1 2 rfl rfl)
theorem dX9_restore_29 : decode cX9_restore 29 = .ok (.iconst 0, 1) := dk_3 (dk_at dksX9_restore_1 5 rfl rfl)
theorem dX9_restore_30 : decode cX9_restore 30 = .ok (.invokevirtual 545, 3) := dk_182 2 33 (dk_at dksX9_restore_1 6 rfl rfl)
theorem dX9_restore_33 : decode cX9_restore 33 = .ok (.aload_n 0, 1) := dk_42 (dk_at dksX9_restore_1 9 rfl rfl)
theorem dX9_restore_34 : decode cX9_restore 34 = .ok (.getfield 173, 3) := dk_180 0 173 (dk_at dksX9_restore_1 10 rfl rfl)
theorem dX9_restore_37 : decode cX9_restore 37 = .ok (.ireturn, 1) := dk_172 (dk_at dksX9_restore_1 13 rfl rfl)
abbrev cX9_status : ByteArray := prog_28_method_128_code
def yX9_status : MethodName := ⟨RX9, "status", "(I)I"⟩
def dkwX9_status_1 : List UInt8 := [172]
abbrev dktX9_status_1 : List UInt8 := dkwX9_status_1 ++ []
def dkwX9_status_0 : List UInt8 := [42, 3, 181, 0, 3, 27, 3, 4, 184, 1, 60, 153, 0, 12, 42, 180, 0, 7, 27, 46, 167, 0, 4, 2]
abbrev dktX9_status_0 : List UInt8 := dkwX9_status_0 ++ dktX9_status_1
theorem dksX9_status_0 : cX9_status.data.toList.drop 0 = dktX9_status_0 := by decide +kernel
theorem dksX9_status_1 : cX9_status.data.toList.drop 24 = dktX9_status_1 := dk_seg dksX9_status_0 24 rfl rfl
theorem dX9_status_0 : decode cX9_status 0 = .ok (.aload_n 0, 1) := dk_42 (dk_at dksX9_status_0 0 rfl rfl)
theorem dX9_status_1 : decode cX9_status 1 = .ok (.iconst 0, 1) := dk_3 (dk_at dksX9_status_0 1 rfl rfl)
theorem dX9_status_2 : decode cX9_status 2 = .ok (.putfield 3, 3) := dk_181 0 3 (dk_at dksX9_status_0 2 rfl rfl)
theorem dX9_status_5 : decode cX9_status 5 = .ok (.iload_n 1, 1) := dk_27 (dk_at dksX9_status_0 5 rfl rfl)
theorem dX9_status_6 : decode cX9_status 6 = .ok (.iconst 0, 1) := dk_3 (dk_at dksX9_status_0 6 rfl rfl)
theorem dX9_status_7 : decode cX9_status 7 = .ok (.iconst 1, 1) := dk_4 (dk_at dksX9_status_0 7 rfl rfl)
theorem dX9_status_8 : decode cX9_status 8 = .ok (.invokestatic 316, 3) := dk_184 1 60 (dk_at dksX9_status_0 8 rfl rfl)
theorem dX9_status_11 : decode cX9_status 11 = .ok (.ifCond .eq 12, 3) := dk_153 0 12 (dk_at dksX9_status_0 11 rfl rfl)
theorem dX9_status_14 : decode cX9_status 14 = .ok (.aload_n 0, 1) := dk_42 (dk_at dksX9_status_0 14 rfl rfl)
theorem dX9_status_15 : decode cX9_status 15 = .ok (.getfield 7, 3) := dk_180 0 7 (dk_at dksX9_status_0 15 rfl rfl)
theorem dX9_status_18 : decode cX9_status 18 = .ok (.iload_n 1, 1) := dk_27 (dk_at dksX9_status_0 18 rfl rfl)
theorem dX9_status_19 : decode cX9_status 19 = .ok (.iaload, 1) := dk_46 (dk_at dksX9_status_0 19 rfl rfl)
theorem dX9_status_20 : decode cX9_status 20 = .ok (.goto 4, 3) := dk_167 0 4 (dk_at dksX9_status_0 20 rfl rfl)
theorem dX9_status_23 : decode cX9_status 23 = .ok (.iconst (-1), 1) := dk_2 (dk_at dksX9_status_0 23 rfl rfl)
theorem dX9_status_24 : decode cX9_status 24 = .ok (.ireturn, 1) := dk_172 (dk_at dksX9_status_1 0 rfl rfl)
abbrev cX9_count : ByteArray := prog_28_method_129_code
def yX9_count : MethodName := ⟨RX9, "count", "(I)I"⟩
def dkwX9_count_1 : List UInt8 := [180, 0, 105, 167, 0, 16, 27, 5, 160, 0, 10, 42, 180, 0, 170, 167, 0, 4, 2, 172]
abbrev dktX9_count_1 : List UInt8 := dkwX9_count_1 ++ []
def dkwX9_count_0 : List UInt8 := [42, 3, 181, 0, 3, 27, 154, 0, 10, 42, 180, 0, 173, 167, 0, 28, 27, 4, 160, 0, 10, 42]
abbrev dktX9_count_0 : List UInt8 := dkwX9_count_0 ++ dktX9_count_1
theorem dksX9_count_0 : cX9_count.data.toList.drop 0 = dktX9_count_0 := by decide +kernel
theorem dksX9_count_1 : cX9_count.data.toList.drop 22 = dktX9_count_1 := dk_seg dksX9_count_0 22 rfl rfl
theorem dX9_count_0 : decode cX9_count 0 = .ok (.aload_n 0, 1) := dk_42 (dk_at dksX9_count_0 0 rfl rfl)
theorem dX9_count_1 : decode cX9_count 1 = .ok (.iconst 0, 1) := dk_3 (dk_at dksX9_count_0 1 rfl rfl)
theorem dX9_count_2 : decode cX9_count 2 = .ok (.putfield 3, 3) := dk_181 0 3 (dk_at dksX9_count_0 2 rfl rfl)
theorem dX9_count_5 : decode cX9_count 5 = .ok (.iload_n 1, 1) := dk_27 (dk_at dksX9_count_0 5 rfl rfl)
theorem dX9_count_6 : decode cX9_count 6 = .ok (.ifCond .ne 10, 3) := dk_154 0 10 (dk_at dksX9_count_0 6 rfl rfl)
theorem dX9_count_9 : decode cX9_count 9 = .ok (.aload_n 0, 1) := dk_42 (dk_at dksX9_count_0 9 rfl rfl)
theorem dX9_count_10 : decode cX9_count 10 = .ok (.getfield 173, 3) := dk_180 0 173 (dk_at dksX9_count_0 10 rfl rfl)
theorem dX9_count_13 : decode cX9_count 13 = .ok (.goto 28, 3) := dk_167 0 28 (dk_at dksX9_count_0 13 rfl rfl)
theorem dX9_count_16 : decode cX9_count 16 = .ok (.iload_n 1, 1) := dk_27 (dk_at dksX9_count_0 16 rfl rfl)
theorem dX9_count_17 : decode cX9_count 17 = .ok (.iconst 1, 1) := dk_4 (dk_at dksX9_count_0 17 rfl rfl)
theorem dX9_count_18 : decode cX9_count 18 = .ok (.if_icmp .ne 10, 3) := dk_160 0 10 (dk_at dksX9_count_0 18 rfl rfl)
theorem dX9_count_21 : decode cX9_count 21 = .ok (.aload_n 0, 1) := dk_42 (dk_at dksX9_count_0 21 rfl rfl)
theorem dX9_count_22 : decode cX9_count 22 = .ok (.getfield 105, 3) := dk_180 0 105 (dk_at dksX9_count_1 0 rfl rfl)
theorem dX9_count_25 : decode cX9_count 25 = .ok (.goto 16, 3) := dk_167 0 16 (dk_at dksX9_count_1 3 rfl rfl)
theorem dX9_count_28 : decode cX9_count 28 = .ok (.iload_n 1, 1) := dk_27 (dk_at dksX9_count_1 6 rfl rfl)
theorem dX9_count_29 : decode cX9_count 29 = .ok (.iconst 2, 1) := dk_5 (dk_at dksX9_count_1 7 rfl rfl)
theorem dX9_count_30 : decode cX9_count 30 = .ok (.if_icmp .ne 10, 3) := dk_160 0 10 (dk_at dksX9_count_1 8 rfl rfl)
theorem dX9_count_33 : decode cX9_count 33 = .ok (.aload_n 0, 1) := dk_42 (dk_at dksX9_count_1 11 rfl rfl)
theorem dX9_count_34 : decode cX9_count 34 = .ok (.getfield 170, 3) := dk_180 0 170 (dk_at dksX9_count_1 12 rfl rfl)
theorem dX9_count_37 : decode cX9_count 37 = .ok (.goto 4, 3) := dk_167 0 4 (dk_at dksX9_count_1 15 rfl rfl)
theorem dX9_count_40 : decode cX9_count 40 = .ok (.iconst (-1), 1) := dk_2 (dk_at dksX9_count_1 18 rfl rfl)
theorem dX9_count_41 : decode cX9_count 41 = .ok (.ireturn, 1) := dk_172 (dk_at dksX9_count_1 19 rfl rfl)
theorem q116 : (Jvm.Cond.initialized "CardCupsModel") ∈ lw_all := lw_g (lw_at lw_m1 9 rfl) rfl
theorem q1742 : (Jvm.Cond.instanceMethod ({ cls := "CardCupsModel", name := "thrown", desc := "()I" } : Jvm.MethodName)) ∈ lw_all := lw_g (lw_at lw_m7 195 rfl) rfl
theorem q1743 : (Jvm.Cond.selects "CardCupsModel" ({ cls := "CardCupsModel", name := "thrown", desc := "()I" } : Jvm.MethodName) ({ cls := "CardCupsModel", name := "thrown", desc := "()I" } : Jvm.MethodName)) ∈ lw_all := lw_g (lw_at lw_m7 196 rfl) rfl
theorem q1744 : (Jvm.Cond.code ({ cls := "CardCupsModel", name := "thrown", desc := "()I" } : Jvm.MethodName) prog_28_method_1_code (1 : Nat) (Option.some Jvm.ClassFile.FieldType.int)) ∈ lw_all := lw_g (lw_at lw_m7 197 rfl) rfl
theorem q1746 : (Jvm.Cond.instantiable "CardCupsModel" (65 : Nat)) ∈ lw_all := lw_g (lw_at lw_m7 199 rfl) rfl
theorem q1748 : (Jvm.Cond.instanceMethod ({ cls := "CardCupsModel", name := "<init>", desc := "()V" } : Jvm.MethodName)) ∈ lw_all := lw_g (lw_at lw_m7 201 rfl) rfl
theorem q1749 : (Jvm.Cond.code ({ cls := "CardCupsModel", name := "<init>", desc := "()V" } : Jvm.MethodName) prog_28_method_4_code (1 : Nat) (Option.none : Option Jvm.ClassFile.FieldType)) ∈ lw_all := lw_g (lw_at lw_m7 202 rfl) rfl
theorem q1750 : (Jvm.Cond.methodLink "CardCupsModel" (11 : Nat) ({ cls := "java/lang/Object", name := "<init>", desc := "()V" } : Jvm.MethodName)) ∈ lw_all := lw_g (lw_at lw_m7 203 rfl) rfl
theorem q1751 : (Jvm.Cond.methodLink "CardCupsModel" (99 : Nat) ({ cls := "CardCupsModel", name := "clears", desc := "()V" } : Jvm.MethodName)) ∈ lw_all := lw_g (lw_at lw_m7 204 rfl) rfl
theorem q1752 : (Jvm.Cond.privateMethod ({ cls := "CardCupsModel", name := "clears", desc := "()V" } : Jvm.MethodName)) ∈ lw_tbl := lw_at lw_m7 205 rfl
theorem q1753 : (Jvm.Cond.instanceMethod ({ cls := "CardCupsModel", name := "clears", desc := "()V" } : Jvm.MethodName)) ∈ lw_all := lw_g (lw_at lw_m7 206 rfl) rfl
theorem q1754 : (Jvm.Cond.code ({ cls := "CardCupsModel", name := "clears", desc := "()V" } : Jvm.MethodName) prog_28_method_20_code (1 : Nat) (Option.none : Option Jvm.ClassFile.FieldType)) ∈ lw_all := lw_g (lw_at lw_m7 207 rfl) rfl
theorem q1755 : (Jvm.Cond.methodLink "CardCupsModel" (102 : Nat) ({ cls := "CardCupsModel", name := "sets", desc := "()V" } : Jvm.MethodName)) ∈ lw_all := lw_g (lw_at lw_m7 208 rfl) rfl
theorem q1756 : (Jvm.Cond.privateMethod ({ cls := "CardCupsModel", name := "sets", desc := "()V" } : Jvm.MethodName)) ∈ lw_tbl := lw_at lw_m7 209 rfl
theorem q1757 : (Jvm.Cond.instanceMethod ({ cls := "CardCupsModel", name := "sets", desc := "()V" } : Jvm.MethodName)) ∈ lw_all := lw_g (lw_at lw_m7 210 rfl) rfl
theorem q1758 : (Jvm.Cond.code ({ cls := "CardCupsModel", name := "sets", desc := "()V" } : Jvm.MethodName) prog_28_method_22_code (2 : Nat) (Option.none : Option Jvm.ClassFile.FieldType)) ∈ lw_all := lw_g (lw_at lw_m7 211 rfl) rfl
theorem q1759 : (Jvm.Cond.methodLink "CardCupsModel" (157 : Nat) ({ cls := "CardCupsModel", name := "copies", desc := "([I[II)V" } : Jvm.MethodName)) ∈ lw_all := lw_g (lw_at lw_m7 212 rfl) rfl
theorem q1760 : (Jvm.Cond.privateMethod ({ cls := "CardCupsModel", name := "copies", desc := "([I[II)V" } : Jvm.MethodName)) ∈ lw_tbl := lw_at lw_m7 213 rfl
theorem q1761 : (Jvm.Cond.instanceMethod ({ cls := "CardCupsModel", name := "copies", desc := "([I[II)V" } : Jvm.MethodName)) ∈ lw_all := lw_g (lw_at lw_m7 214 rfl) rfl
theorem q1762 : (Jvm.Cond.code ({ cls := "CardCupsModel", name := "copies", desc := "([I[II)V" } : Jvm.MethodName) prog_28_method_21_code (5 : Nat) (Option.none : Option Jvm.ClassFile.FieldType)) ∈ lw_all := lw_g (lw_at lw_m7 215 rfl) rfl
theorem q1763 : (Jvm.Cond.fieldLink "CardCupsModel" (3 : Nat) "CardCupsModel" "thrown" "I") ∈ lw_all := lw_g (lw_at lw_m7 216 rfl) rfl
theorem q1764 : (Jvm.Cond.fieldLink "CardCupsModel" (7 : Nat) "CardCupsModel" "refused" "[I") ∈ lw_all := lw_g (lw_at lw_m7 217 rfl) rfl
theorem q1765 : (Jvm.Cond.fieldLink "CardCupsModel" (105 : Nat) "CardCupsModel" "taped" "I") ∈ lw_all := lw_g (lw_at lw_m7 218 rfl) rfl
theorem q1766 : (Jvm.Cond.fieldLink "CardCupsModel" (117 : Nat) "CardCupsModel" "size" "I") ∈ lw_all := lw_g (lw_at lw_m7 219 rfl) rfl
theorem q1767 : (Jvm.Cond.fieldLink "CardCupsModel" (114 : Nat) "CardCupsModel" "at" "I") ∈ lw_all := lw_g (lw_at lw_m7 220 rfl) rfl
theorem q1768 : (Jvm.Cond.fieldLink "CardCupsModel" (108 : Nat) "CardCupsModel" "bad" "I") ∈ lw_all := lw_g (lw_at lw_m7 221 rfl) rfl
theorem q1769 : (Jvm.Cond.fieldLink "CardCupsModel" (111 : Nat) "CardCupsModel" "badKind" "I") ∈ lw_all := lw_g (lw_at lw_m7 222 rfl) rfl
theorem q1770 : (Jvm.Cond.fieldLink "CardCupsModel" (148 : Nat) "CardCupsModel" "opens" "I") ∈ lw_all := lw_g (lw_at lw_m7 223 rfl) rfl
theorem q1771 : (Jvm.Cond.fieldLink "CardCupsModel" (17 : Nat) "CardCupsModel" "faultAt" "I") ∈ lw_all := lw_g (lw_at lw_m7 224 rfl) rfl
theorem q1772 : (Jvm.Cond.fieldLink "CardCupsModel" (20 : Nat) "CardCupsModel" "tape" "[I") ∈ lw_all := lw_g (lw_at lw_m7 225 rfl) rfl
theorem q1773 : (Jvm.Cond.fieldLink "CardCupsModel" (23 : Nat) "CardCupsModel" "newOffice" "[I") ∈ lw_all := lw_g (lw_at lw_m7 226 rfl) rfl
theorem q1774 : (Jvm.Cond.fieldLink "CardCupsModel" (26 : Nat) "CardCupsModel" "office" "[I") ∈ lw_all := lw_g (lw_at lw_m7 227 rfl) rfl
theorem q1775 : (Jvm.Cond.fieldLink "CardCupsModel" (29 : Nat) "CardCupsModel" "newWho" "[I") ∈ lw_all := lw_g (lw_at lw_m7 228 rfl) rfl
theorem q1776 : (Jvm.Cond.fieldLink "CardCupsModel" (32 : Nat) "CardCupsModel" "newMinute" "[I") ∈ lw_all := lw_g (lw_at lw_m7 229 rfl) rfl
theorem q1777 : (Jvm.Cond.fieldLink "CardCupsModel" (35 : Nat) "CardCupsModel" "who" "[I") ∈ lw_all := lw_g (lw_at lw_m7 230 rfl) rfl
theorem q1778 : (Jvm.Cond.fieldLink "CardCupsModel" (38 : Nat) "CardCupsModel" "minute" "[I") ∈ lw_all := lw_g (lw_at lw_m7 231 rfl) rfl
theorem q1779 : (Jvm.Cond.fieldLink "CardCupsModel" (151 : Nat) "CardCupsModel" "newPeople" "I") ∈ lw_all := lw_g (lw_at lw_m7 232 rfl) rfl
theorem q1780 : (Jvm.Cond.fieldLink "CardCupsModel" (154 : Nat) "CardCupsModel" "newVisits" "I") ∈ lw_all := lw_g (lw_at lw_m7 233 rfl) rfl
theorem q1781 : (Jvm.Cond.fieldLink "CardCupsModel" (161 : Nat) "CardCupsModel" "people" "I") ∈ lw_all := lw_g (lw_at lw_m7 234 rfl) rfl
theorem q1782 : (Jvm.Cond.fieldLink "CardCupsModel" (164 : Nat) "CardCupsModel" "visits" "I") ∈ lw_all := lw_g (lw_at lw_m7 235 rfl) rfl
theorem q1783 : (Jvm.Cond.fieldLink "CardCupsModel" (41 : Nat) "CardCupsModel" "newCode" "[I") ∈ lw_all := lw_g (lw_at lw_m7 236 rfl) rfl
theorem q1784 : (Jvm.Cond.fieldLink "CardCupsModel" (44 : Nat) "CardCupsModel" "newOf" "[I") ∈ lw_all := lw_g (lw_at lw_m7 237 rfl) rfl
theorem q1785 : (Jvm.Cond.fieldLink "CardCupsModel" (47 : Nat) "CardCupsModel" "newStep" "[I") ∈ lw_all := lw_g (lw_at lw_m7 238 rfl) rfl
theorem q1786 : (Jvm.Cond.fieldLink "CardCupsModel" (50 : Nat) "CardCupsModel" "stack" "[I") ∈ lw_all := lw_g (lw_at lw_m7 239 rfl) rfl
theorem q1787 : (Jvm.Cond.fieldLink "CardCupsModel" (53 : Nat) "CardCupsModel" "code" "[I") ∈ lw_all := lw_g (lw_at lw_m8 0 rfl) rfl
theorem q1788 : (Jvm.Cond.fieldLink "CardCupsModel" (56 : Nat) "CardCupsModel" "ofCode" "[I") ∈ lw_all := lw_g (lw_at lw_m8 1 rfl) rfl
theorem q1789 : (Jvm.Cond.fieldLink "CardCupsModel" (59 : Nat) "CardCupsModel" "step" "[I") ∈ lw_all := lw_g (lw_at lw_m8 2 rfl) rfl
theorem q1790 : (Jvm.Cond.fieldLink "CardCupsModel" (62 : Nat) "CardCupsModel" "steps" "[I") ∈ lw_all := lw_g (lw_at lw_m8 3 rfl) rfl
theorem q1791 : (Jvm.Cond.fieldLink "CardCupsModel" (240 : Nat) "CardCupsModel" "newCodes" "I") ∈ lw_all := lw_g (lw_at lw_m8 4 rfl) rfl
theorem q1792 : (Jvm.Cond.fieldLink "CardCupsModel" (306 : Nat) "CardCupsModel" "newSteps" "I") ∈ lw_all := lw_g (lw_at lw_m8 5 rfl) rfl
theorem q1793 : (Jvm.Cond.fieldLink "CardCupsModel" (65 : Nat) "CardCupsModel" "newLine" "[I") ∈ lw_all := lw_g (lw_at lw_m8 6 rfl) rfl
theorem q1794 : (Jvm.Cond.fieldLink "CardCupsModel" (68 : Nat) "CardCupsModel" "line" "[I") ∈ lw_all := lw_g (lw_at lw_m8 7 rfl) rfl
theorem q1795 : (Jvm.Cond.fieldLink "CardCupsModel" (167 : Nat) "CardCupsModel" "lines" "I") ∈ lw_all := lw_g (lw_at lw_m8 8 rfl) rfl
theorem q1796 : (Jvm.Cond.fieldLink "CardCupsModel" (71 : Nat) "CardCupsModel" "live" "[I") ∈ lw_all := lw_g (lw_at lw_m8 9 rfl) rfl
theorem q1797 : (Jvm.Cond.fieldLink "CardCupsModel" (74 : Nat) "CardCupsModel" "liveNext" "[I") ∈ lw_all := lw_g (lw_at lw_m8 10 rfl) rfl
theorem q1798 : (Jvm.Cond.fieldLink "CardCupsModel" (364 : Nat) "CardCupsModel" "lives" "I") ∈ lw_all := lw_g (lw_at lw_m8 11 rfl) rfl
theorem q1799 : (Jvm.Cond.fieldLink "CardCupsModel" (380 : Nat) "CardCupsModel" "nexts" "I") ∈ lw_all := lw_g (lw_at lw_m8 12 rfl) rfl
theorem q1800 : (Jvm.Cond.fieldLink "CardCupsModel" (77 : Nat) "CardCupsModel" "parts" "[J") ∈ lw_all := lw_g (lw_at lw_m8 13 rfl) rfl
theorem q1801 : (Jvm.Cond.fieldLink "CardCupsModel" (81 : Nat) "CardCupsModel" "next" "[J") ∈ lw_all := lw_g (lw_at lw_m8 14 rfl) rfl
theorem q1802 : (Jvm.Cond.fieldLink "CardCupsModel" (84 : Nat) "CardCupsModel" "drunkBy" "[J") ∈ lw_all := lw_g (lw_at lw_m8 15 rfl) rfl
theorem q1803 : (Jvm.Cond.fieldLink "CardCupsModel" (87 : Nat) "CardCupsModel" "trueAt" "[J") ∈ lw_all := lw_g (lw_at lw_m8 16 rfl) rfl
theorem q1804 : (Jvm.Cond.fieldLink "CardCupsModel" (373 : Nat) "CardCupsModel" "washed" "J") ∈ lw_all := lw_g (lw_at lw_m8 17 rfl) rfl
theorem q1805 : (Jvm.Cond.fieldLink "CardCupsModel" (377 : Nat) "CardCupsModel" "looks" "J") ∈ lw_all := lw_g (lw_at lw_m8 18 rfl) rfl
theorem q1806 : (Jvm.Cond.fieldLink "CardCupsModel" (339 : Nat) "CardCupsModel" "optFall" "I") ∈ lw_all := lw_g (lw_at lw_m8 19 rfl) rfl
theorem q1807 : (Jvm.Cond.fieldLink "CardCupsModel" (342 : Nat) "CardCupsModel" "optSee" "I") ∈ lw_all := lw_g (lw_at lw_m8 20 rfl) rfl
theorem q1808 : (Jvm.Cond.fieldLink "CardCupsModel" (345 : Nat) "CardCupsModel" "optFill" "I") ∈ lw_all := lw_g (lw_at lw_m8 21 rfl) rfl
theorem q1809 : (Jvm.Cond.fieldLink "CardCupsModel" (348 : Nat) "CardCupsModel" "optWithout" "I") ∈ lw_all := lw_g (lw_at lw_m8 22 rfl) rfl
theorem q1810 : (Jvm.Cond.fieldLink "CardCupsModel" (351 : Nat) "CardCupsModel" "optOne" "I") ∈ lw_all := lw_g (lw_at lw_m8 23 rfl) rfl
theorem q1811 : (Jvm.Cond.fieldLink "CardCupsModel" (354 : Nat) "CardCupsModel" "optOther" "I") ∈ lw_all := lw_g (lw_at lw_m8 24 rfl) rfl
theorem q1812 : (Jvm.Cond.fieldLink "CardCupsModel" (357 : Nat) "CardCupsModel" "optRuled" "Z") ∈ lw_all := lw_g (lw_at lw_m8 25 rfl) rfl
theorem q1813 : (Jvm.Cond.fieldLink "CardCupsModel" (361 : Nat) "CardCupsModel" "optBook" "Z") ∈ lw_all := lw_g (lw_at lw_m8 26 rfl) rfl
theorem q1814 : (Jvm.Cond.fieldLink "CardCupsModel" (392 : Nat) "CardCupsModel" "c" "I") ∈ lw_all := lw_g (lw_at lw_m8 27 rfl) rfl
theorem q1815 : (Jvm.Cond.fieldLink "CardCupsModel" (389 : Nat) "CardCupsModel" "d" "I") ∈ lw_all := lw_g (lw_at lw_m8 28 rfl) rfl
theorem q1816 : (Jvm.Cond.fieldLink "CardCupsModel" (387 : Nat) "CardCupsModel" "card" "I") ∈ lw_all := lw_g (lw_at lw_m8 29 rfl) rfl
theorem q1817 : (Jvm.Cond.fieldLink "CardCupsModel" (385 : Nat) "CardCupsModel" "start" "I") ∈ lw_all := lw_g (lw_at lw_m8 30 rfl) rfl
theorem q1818 : (Jvm.Cond.fieldLink "CardCupsModel" (383 : Nat) "CardCupsModel" "seen" "I") ∈ lw_all := lw_g (lw_at lw_m8 31 rfl) rfl
theorem q1819 : (Jvm.Cond.fieldLink "CardCupsModel" (90 : Nat) "CardCupsModel" "facts" "[I") ∈ lw_all := lw_g (lw_at lw_m8 32 rfl) rfl
theorem q1820 : (Jvm.Cond.fieldLink "CardCupsModel" (513 : Nat) "CardCupsModel" "seedNow" "I") ∈ lw_all := lw_g (lw_at lw_m8 33 rfl) rfl
theorem q1821 : (Jvm.Cond.fieldLink "CardCupsModel" (520 : Nat) "CardCupsModel" "dayDrunk" "I") ∈ lw_all := lw_g (lw_at lw_m8 34 rfl) rfl
theorem q1822 : (Jvm.Cond.fieldLink "CardCupsModel" (526 : Nat) "CardCupsModel" "dayWashed" "I") ∈ lw_all := lw_g (lw_at lw_m8 35 rfl) rfl
theorem q1823 : (Jvm.Cond.fieldLink "CardCupsModel" (523 : Nat) "CardCupsModel" "dayLooks" "I") ∈ lw_all := lw_g (lw_at lw_m8 36 rfl) rfl
theorem q1824 : (Jvm.Cond.fieldLink "CardCupsModel" (93 : Nat) "CardCupsModel" "past" "[I") ∈ lw_all := lw_g (lw_at lw_m8 37 rfl) rfl
theorem q1825 : (Jvm.Cond.fieldLink "CardCupsModel" (170 : Nat) "CardCupsModel" "changes" "I") ∈ lw_all := lw_g (lw_at lw_m8 38 rfl) rfl
theorem q1826 : (Jvm.Cond.fieldLink "CardCupsModel" (96 : Nat) "CardCupsModel" "image" "[I") ∈ lw_all := lw_g (lw_at lw_m8 39 rfl) rfl
theorem q1827 : (Jvm.Cond.fieldLink "CardCupsModel" (173 : Nat) "CardCupsModel" "images" "I") ∈ lw_all := lw_g (lw_at lw_m8 40 rfl) rfl
theorem q1828 : (Jvm.Cond.lays "CardCupsModel" "CardCupsModel" "thrown" "I") ∈ lw_all := lw_g (lw_at lw_m8 41 rfl) rfl
theorem q1829 : (Jvm.Cond.soleField "CardCupsModel" "thrown") ∈ lw_all := lw_g (lw_at lw_m8 42 rfl) rfl
theorem q1830 : (Jvm.Cond.laysFinal "CardCupsModel" "CardCupsModel" "refused" "[I") ∈ lw_all := lw_g (lw_at lw_m8 43 rfl) rfl
theorem q1831 : (Jvm.Cond.soleField "CardCupsModel" "refused") ∈ lw_all := lw_g (lw_at lw_m8 44 rfl) rfl
theorem q1832 : (Jvm.Cond.lays "CardCupsModel" "CardCupsModel" "taped" "I") ∈ lw_all := lw_g (lw_at lw_m8 45 rfl) rfl
theorem q1833 : (Jvm.Cond.soleField "CardCupsModel" "taped") ∈ lw_all := lw_g (lw_at lw_m8 46 rfl) rfl
theorem q1834 : (Jvm.Cond.lays "CardCupsModel" "CardCupsModel" "size" "I") ∈ lw_all := lw_g (lw_at lw_m8 47 rfl) rfl
theorem q1835 : (Jvm.Cond.soleField "CardCupsModel" "size") ∈ lw_all := lw_g (lw_at lw_m8 48 rfl) rfl
theorem q1836 : (Jvm.Cond.lays "CardCupsModel" "CardCupsModel" "at" "I") ∈ lw_all := lw_g (lw_at lw_m8 49 rfl) rfl
theorem q1837 : (Jvm.Cond.soleField "CardCupsModel" "at") ∈ lw_all := lw_g (lw_at lw_m8 50 rfl) rfl
theorem q1838 : (Jvm.Cond.lays "CardCupsModel" "CardCupsModel" "bad" "I") ∈ lw_all := lw_g (lw_at lw_m8 51 rfl) rfl
theorem q1839 : (Jvm.Cond.soleField "CardCupsModel" "bad") ∈ lw_all := lw_g (lw_at lw_m8 52 rfl) rfl
theorem q1840 : (Jvm.Cond.lays "CardCupsModel" "CardCupsModel" "badKind" "I") ∈ lw_all := lw_g (lw_at lw_m8 53 rfl) rfl
theorem q1841 : (Jvm.Cond.soleField "CardCupsModel" "badKind") ∈ lw_all := lw_g (lw_at lw_m8 54 rfl) rfl
theorem q1842 : (Jvm.Cond.lays "CardCupsModel" "CardCupsModel" "opens" "I") ∈ lw_all := lw_g (lw_at lw_m8 55 rfl) rfl
theorem q1843 : (Jvm.Cond.soleField "CardCupsModel" "opens") ∈ lw_all := lw_g (lw_at lw_m8 56 rfl) rfl
theorem q1844 : (Jvm.Cond.lays "CardCupsModel" "CardCupsModel" "faultAt" "I") ∈ lw_all := lw_g (lw_at lw_m8 57 rfl) rfl
theorem q1845 : (Jvm.Cond.soleField "CardCupsModel" "faultAt") ∈ lw_all := lw_g (lw_at lw_m8 58 rfl) rfl
theorem q1846 : (Jvm.Cond.laysFinal "CardCupsModel" "CardCupsModel" "tape" "[I") ∈ lw_all := lw_g (lw_at lw_m8 59 rfl) rfl
theorem q1847 : (Jvm.Cond.soleField "CardCupsModel" "tape") ∈ lw_all := lw_g (lw_at lw_m8 60 rfl) rfl
theorem q1848 : (Jvm.Cond.laysFinal "CardCupsModel" "CardCupsModel" "newOffice" "[I") ∈ lw_all := lw_g (lw_at lw_m8 61 rfl) rfl
theorem q1849 : (Jvm.Cond.soleField "CardCupsModel" "newOffice") ∈ lw_all := lw_g (lw_at lw_m8 62 rfl) rfl
theorem q1850 : (Jvm.Cond.laysFinal "CardCupsModel" "CardCupsModel" "office" "[I") ∈ lw_all := lw_g (lw_at lw_m8 63 rfl) rfl
theorem q1851 : (Jvm.Cond.soleField "CardCupsModel" "office") ∈ lw_all := lw_g (lw_at lw_m8 64 rfl) rfl
theorem q1852 : (Jvm.Cond.laysFinal "CardCupsModel" "CardCupsModel" "newWho" "[I") ∈ lw_all := lw_g (lw_at lw_m8 65 rfl) rfl
theorem q1853 : (Jvm.Cond.soleField "CardCupsModel" "newWho") ∈ lw_all := lw_g (lw_at lw_m8 66 rfl) rfl
theorem q1854 : (Jvm.Cond.laysFinal "CardCupsModel" "CardCupsModel" "newMinute" "[I") ∈ lw_all := lw_g (lw_at lw_m8 67 rfl) rfl
theorem q1855 : (Jvm.Cond.soleField "CardCupsModel" "newMinute") ∈ lw_all := lw_g (lw_at lw_m8 68 rfl) rfl
theorem q1856 : (Jvm.Cond.laysFinal "CardCupsModel" "CardCupsModel" "who" "[I") ∈ lw_all := lw_g (lw_at lw_m8 69 rfl) rfl
theorem q1857 : (Jvm.Cond.soleField "CardCupsModel" "who") ∈ lw_all := lw_g (lw_at lw_m8 70 rfl) rfl
theorem q1858 : (Jvm.Cond.laysFinal "CardCupsModel" "CardCupsModel" "minute" "[I") ∈ lw_all := lw_g (lw_at lw_m8 71 rfl) rfl
theorem q1859 : (Jvm.Cond.soleField "CardCupsModel" "minute") ∈ lw_all := lw_g (lw_at lw_m8 72 rfl) rfl
theorem q1860 : (Jvm.Cond.lays "CardCupsModel" "CardCupsModel" "newPeople" "I") ∈ lw_all := lw_g (lw_at lw_m8 73 rfl) rfl
theorem q1861 : (Jvm.Cond.soleField "CardCupsModel" "newPeople") ∈ lw_all := lw_g (lw_at lw_m8 74 rfl) rfl
theorem q1862 : (Jvm.Cond.lays "CardCupsModel" "CardCupsModel" "newVisits" "I") ∈ lw_all := lw_g (lw_at lw_m8 75 rfl) rfl
theorem q1863 : (Jvm.Cond.soleField "CardCupsModel" "newVisits") ∈ lw_all := lw_g (lw_at lw_m8 76 rfl) rfl
theorem q1864 : (Jvm.Cond.lays "CardCupsModel" "CardCupsModel" "people" "I") ∈ lw_all := lw_g (lw_at lw_m8 77 rfl) rfl
theorem q1865 : (Jvm.Cond.soleField "CardCupsModel" "people") ∈ lw_all := lw_g (lw_at lw_m8 78 rfl) rfl
theorem q1866 : (Jvm.Cond.lays "CardCupsModel" "CardCupsModel" "visits" "I") ∈ lw_all := lw_g (lw_at lw_m8 79 rfl) rfl
theorem q1867 : (Jvm.Cond.soleField "CardCupsModel" "visits") ∈ lw_all := lw_g (lw_at lw_m8 80 rfl) rfl
theorem q1868 : (Jvm.Cond.laysFinal "CardCupsModel" "CardCupsModel" "newCode" "[I") ∈ lw_all := lw_g (lw_at lw_m8 81 rfl) rfl
theorem q1869 : (Jvm.Cond.soleField "CardCupsModel" "newCode") ∈ lw_all := lw_g (lw_at lw_m8 82 rfl) rfl
theorem q1870 : (Jvm.Cond.laysFinal "CardCupsModel" "CardCupsModel" "newOf" "[I") ∈ lw_all := lw_g (lw_at lw_m8 83 rfl) rfl
theorem q1871 : (Jvm.Cond.soleField "CardCupsModel" "newOf") ∈ lw_all := lw_g (lw_at lw_m8 84 rfl) rfl
theorem q1872 : (Jvm.Cond.laysFinal "CardCupsModel" "CardCupsModel" "newStep" "[I") ∈ lw_all := lw_g (lw_at lw_m8 85 rfl) rfl
theorem q1873 : (Jvm.Cond.soleField "CardCupsModel" "newStep") ∈ lw_all := lw_g (lw_at lw_m8 86 rfl) rfl
theorem q1874 : (Jvm.Cond.laysFinal "CardCupsModel" "CardCupsModel" "stack" "[I") ∈ lw_all := lw_g (lw_at lw_m8 87 rfl) rfl
theorem q1875 : (Jvm.Cond.soleField "CardCupsModel" "stack") ∈ lw_all := lw_g (lw_at lw_m8 88 rfl) rfl
theorem q1876 : (Jvm.Cond.laysFinal "CardCupsModel" "CardCupsModel" "code" "[I") ∈ lw_all := lw_g (lw_at lw_m8 89 rfl) rfl
theorem q1877 : (Jvm.Cond.soleField "CardCupsModel" "code") ∈ lw_all := lw_g (lw_at lw_m8 90 rfl) rfl
theorem q1878 : (Jvm.Cond.laysFinal "CardCupsModel" "CardCupsModel" "ofCode" "[I") ∈ lw_all := lw_g (lw_at lw_m8 91 rfl) rfl
theorem q1879 : (Jvm.Cond.soleField "CardCupsModel" "ofCode") ∈ lw_all := lw_g (lw_at lw_m8 92 rfl) rfl
theorem q1880 : (Jvm.Cond.laysFinal "CardCupsModel" "CardCupsModel" "step" "[I") ∈ lw_all := lw_g (lw_at lw_m8 93 rfl) rfl
theorem q1881 : (Jvm.Cond.soleField "CardCupsModel" "step") ∈ lw_all := lw_g (lw_at lw_m8 94 rfl) rfl
theorem q1882 : (Jvm.Cond.laysFinal "CardCupsModel" "CardCupsModel" "steps" "[I") ∈ lw_all := lw_g (lw_at lw_m8 95 rfl) rfl
theorem q1883 : (Jvm.Cond.soleField "CardCupsModel" "steps") ∈ lw_all := lw_g (lw_at lw_m8 96 rfl) rfl
theorem q1884 : (Jvm.Cond.lays "CardCupsModel" "CardCupsModel" "newCodes" "I") ∈ lw_all := lw_g (lw_at lw_m8 97 rfl) rfl
theorem q1885 : (Jvm.Cond.soleField "CardCupsModel" "newCodes") ∈ lw_all := lw_g (lw_at lw_m8 98 rfl) rfl
theorem q1886 : (Jvm.Cond.lays "CardCupsModel" "CardCupsModel" "newSteps" "I") ∈ lw_all := lw_g (lw_at lw_m8 99 rfl) rfl
theorem q1887 : (Jvm.Cond.soleField "CardCupsModel" "newSteps") ∈ lw_all := lw_g (lw_at lw_m8 100 rfl) rfl
theorem q1888 : (Jvm.Cond.laysFinal "CardCupsModel" "CardCupsModel" "newLine" "[I") ∈ lw_all := lw_g (lw_at lw_m8 101 rfl) rfl
theorem q1889 : (Jvm.Cond.soleField "CardCupsModel" "newLine") ∈ lw_all := lw_g (lw_at lw_m8 102 rfl) rfl
theorem q1890 : (Jvm.Cond.laysFinal "CardCupsModel" "CardCupsModel" "line" "[I") ∈ lw_all := lw_g (lw_at lw_m8 103 rfl) rfl
theorem q1891 : (Jvm.Cond.soleField "CardCupsModel" "line") ∈ lw_all := lw_g (lw_at lw_m8 104 rfl) rfl
theorem q1892 : (Jvm.Cond.lays "CardCupsModel" "CardCupsModel" "lines" "I") ∈ lw_all := lw_g (lw_at lw_m8 105 rfl) rfl
theorem q1893 : (Jvm.Cond.soleField "CardCupsModel" "lines") ∈ lw_all := lw_g (lw_at lw_m8 106 rfl) rfl
theorem q1894 : (Jvm.Cond.laysFinal "CardCupsModel" "CardCupsModel" "live" "[I") ∈ lw_all := lw_g (lw_at lw_m8 107 rfl) rfl
theorem q1895 : (Jvm.Cond.soleField "CardCupsModel" "live") ∈ lw_all := lw_g (lw_at lw_m8 108 rfl) rfl
theorem q1896 : (Jvm.Cond.laysFinal "CardCupsModel" "CardCupsModel" "liveNext" "[I") ∈ lw_all := lw_g (lw_at lw_m8 109 rfl) rfl
theorem q1897 : (Jvm.Cond.soleField "CardCupsModel" "liveNext") ∈ lw_all := lw_g (lw_at lw_m8 110 rfl) rfl
theorem q1898 : (Jvm.Cond.lays "CardCupsModel" "CardCupsModel" "lives" "I") ∈ lw_all := lw_g (lw_at lw_m8 111 rfl) rfl
theorem q1899 : (Jvm.Cond.soleField "CardCupsModel" "lives") ∈ lw_all := lw_g (lw_at lw_m8 112 rfl) rfl
theorem q1900 : (Jvm.Cond.lays "CardCupsModel" "CardCupsModel" "nexts" "I") ∈ lw_all := lw_g (lw_at lw_m8 113 rfl) rfl
theorem q1901 : (Jvm.Cond.soleField "CardCupsModel" "nexts") ∈ lw_all := lw_g (lw_at lw_m8 114 rfl) rfl
theorem q1902 : (Jvm.Cond.laysFinal "CardCupsModel" "CardCupsModel" "parts" "[J") ∈ lw_all := lw_g (lw_at lw_m8 115 rfl) rfl
theorem q1903 : (Jvm.Cond.soleField "CardCupsModel" "parts") ∈ lw_all := lw_g (lw_at lw_m8 116 rfl) rfl
theorem q1904 : (Jvm.Cond.laysFinal "CardCupsModel" "CardCupsModel" "next" "[J") ∈ lw_all := lw_g (lw_at lw_m8 117 rfl) rfl
theorem q1905 : (Jvm.Cond.soleField "CardCupsModel" "next") ∈ lw_all := lw_g (lw_at lw_m8 118 rfl) rfl
theorem q1906 : (Jvm.Cond.laysFinal "CardCupsModel" "CardCupsModel" "drunkBy" "[J") ∈ lw_all := lw_g (lw_at lw_m8 119 rfl) rfl
theorem q1907 : (Jvm.Cond.soleField "CardCupsModel" "drunkBy") ∈ lw_all := lw_g (lw_at lw_m8 120 rfl) rfl
theorem q1908 : (Jvm.Cond.laysFinal "CardCupsModel" "CardCupsModel" "trueAt" "[J") ∈ lw_all := lw_g (lw_at lw_m8 121 rfl) rfl
theorem q1909 : (Jvm.Cond.soleField "CardCupsModel" "trueAt") ∈ lw_all := lw_g (lw_at lw_m8 122 rfl) rfl
theorem q1910 : (Jvm.Cond.lays "CardCupsModel" "CardCupsModel" "washed" "J") ∈ lw_all := lw_g (lw_at lw_m8 123 rfl) rfl
theorem q1911 : (Jvm.Cond.soleField "CardCupsModel" "washed") ∈ lw_all := lw_g (lw_at lw_m8 124 rfl) rfl
theorem q1912 : (Jvm.Cond.lays "CardCupsModel" "CardCupsModel" "looks" "J") ∈ lw_all := lw_g (lw_at lw_m8 125 rfl) rfl
theorem q1913 : (Jvm.Cond.soleField "CardCupsModel" "looks") ∈ lw_all := lw_g (lw_at lw_m8 126 rfl) rfl
theorem q1914 : (Jvm.Cond.lays "CardCupsModel" "CardCupsModel" "optFall" "I") ∈ lw_all := lw_g (lw_at lw_m8 127 rfl) rfl
theorem q1915 : (Jvm.Cond.soleField "CardCupsModel" "optFall") ∈ lw_all := lw_g (lw_at lw_m8 128 rfl) rfl
theorem q1916 : (Jvm.Cond.lays "CardCupsModel" "CardCupsModel" "optSee" "I") ∈ lw_all := lw_g (lw_at lw_m8 129 rfl) rfl
theorem q1917 : (Jvm.Cond.soleField "CardCupsModel" "optSee") ∈ lw_all := lw_g (lw_at lw_m8 130 rfl) rfl
theorem q1918 : (Jvm.Cond.lays "CardCupsModel" "CardCupsModel" "optFill" "I") ∈ lw_all := lw_g (lw_at lw_m8 131 rfl) rfl
theorem q1919 : (Jvm.Cond.soleField "CardCupsModel" "optFill") ∈ lw_all := lw_g (lw_at lw_m8 132 rfl) rfl
theorem q1920 : (Jvm.Cond.lays "CardCupsModel" "CardCupsModel" "optWithout" "I") ∈ lw_all := lw_g (lw_at lw_m8 133 rfl) rfl
theorem q1921 : (Jvm.Cond.soleField "CardCupsModel" "optWithout") ∈ lw_all := lw_g (lw_at lw_m8 134 rfl) rfl
theorem q1922 : (Jvm.Cond.lays "CardCupsModel" "CardCupsModel" "optOne" "I") ∈ lw_all := lw_g (lw_at lw_m8 135 rfl) rfl
theorem q1923 : (Jvm.Cond.soleField "CardCupsModel" "optOne") ∈ lw_all := lw_g (lw_at lw_m8 136 rfl) rfl
theorem q1924 : (Jvm.Cond.lays "CardCupsModel" "CardCupsModel" "optOther" "I") ∈ lw_all := lw_g (lw_at lw_m8 137 rfl) rfl
theorem q1925 : (Jvm.Cond.soleField "CardCupsModel" "optOther") ∈ lw_all := lw_g (lw_at lw_m8 138 rfl) rfl
theorem q1926 : (Jvm.Cond.lays "CardCupsModel" "CardCupsModel" "optRuled" "Z") ∈ lw_all := lw_g (lw_at lw_m8 139 rfl) rfl
theorem q1927 : (Jvm.Cond.soleField "CardCupsModel" "optRuled") ∈ lw_all := lw_g (lw_at lw_m8 140 rfl) rfl
theorem q1928 : (Jvm.Cond.lays "CardCupsModel" "CardCupsModel" "optBook" "Z") ∈ lw_all := lw_g (lw_at lw_m8 141 rfl) rfl
theorem q1929 : (Jvm.Cond.soleField "CardCupsModel" "optBook") ∈ lw_all := lw_g (lw_at lw_m8 142 rfl) rfl
theorem q1930 : (Jvm.Cond.lays "CardCupsModel" "CardCupsModel" "c" "I") ∈ lw_all := lw_g (lw_at lw_m8 143 rfl) rfl
theorem q1931 : (Jvm.Cond.soleField "CardCupsModel" "c") ∈ lw_all := lw_g (lw_at lw_m8 144 rfl) rfl
theorem q1932 : (Jvm.Cond.lays "CardCupsModel" "CardCupsModel" "d" "I") ∈ lw_all := lw_g (lw_at lw_m8 145 rfl) rfl
theorem q1933 : (Jvm.Cond.soleField "CardCupsModel" "d") ∈ lw_all := lw_g (lw_at lw_m8 146 rfl) rfl
theorem q1934 : (Jvm.Cond.lays "CardCupsModel" "CardCupsModel" "card" "I") ∈ lw_all := lw_g (lw_at lw_m8 147 rfl) rfl
theorem q1935 : (Jvm.Cond.soleField "CardCupsModel" "card") ∈ lw_all := lw_g (lw_at lw_m8 148 rfl) rfl
theorem q1936 : (Jvm.Cond.lays "CardCupsModel" "CardCupsModel" "start" "I") ∈ lw_all := lw_g (lw_at lw_m8 149 rfl) rfl
theorem q1937 : (Jvm.Cond.soleField "CardCupsModel" "start") ∈ lw_all := lw_g (lw_at lw_m8 150 rfl) rfl
theorem q1938 : (Jvm.Cond.lays "CardCupsModel" "CardCupsModel" "seen" "I") ∈ lw_all := lw_g (lw_at lw_m8 151 rfl) rfl
theorem q1939 : (Jvm.Cond.soleField "CardCupsModel" "seen") ∈ lw_all := lw_g (lw_at lw_m8 152 rfl) rfl
theorem q1940 : (Jvm.Cond.laysFinal "CardCupsModel" "CardCupsModel" "facts" "[I") ∈ lw_all := lw_g (lw_at lw_m8 153 rfl) rfl
theorem q1941 : (Jvm.Cond.soleField "CardCupsModel" "facts") ∈ lw_all := lw_g (lw_at lw_m8 154 rfl) rfl
theorem q1942 : (Jvm.Cond.lays "CardCupsModel" "CardCupsModel" "seedNow" "I") ∈ lw_all := lw_g (lw_at lw_m8 155 rfl) rfl
theorem q1943 : (Jvm.Cond.soleField "CardCupsModel" "seedNow") ∈ lw_all := lw_g (lw_at lw_m8 156 rfl) rfl
theorem q1944 : (Jvm.Cond.lays "CardCupsModel" "CardCupsModel" "dayDrunk" "I") ∈ lw_all := lw_g (lw_at lw_m8 157 rfl) rfl
theorem q1945 : (Jvm.Cond.soleField "CardCupsModel" "dayDrunk") ∈ lw_all := lw_g (lw_at lw_m8 158 rfl) rfl
theorem q1946 : (Jvm.Cond.lays "CardCupsModel" "CardCupsModel" "dayWashed" "I") ∈ lw_all := lw_g (lw_at lw_m8 159 rfl) rfl
theorem q1947 : (Jvm.Cond.soleField "CardCupsModel" "dayWashed") ∈ lw_all := lw_g (lw_at lw_m8 160 rfl) rfl
theorem q1948 : (Jvm.Cond.lays "CardCupsModel" "CardCupsModel" "dayLooks" "I") ∈ lw_all := lw_g (lw_at lw_m8 161 rfl) rfl
theorem q1949 : (Jvm.Cond.soleField "CardCupsModel" "dayLooks") ∈ lw_all := lw_g (lw_at lw_m8 162 rfl) rfl
theorem q1950 : (Jvm.Cond.laysFinal "CardCupsModel" "CardCupsModel" "past" "[I") ∈ lw_all := lw_g (lw_at lw_m8 163 rfl) rfl
theorem q1951 : (Jvm.Cond.soleField "CardCupsModel" "past") ∈ lw_all := lw_g (lw_at lw_m8 164 rfl) rfl
theorem q1952 : (Jvm.Cond.lays "CardCupsModel" "CardCupsModel" "changes" "I") ∈ lw_all := lw_g (lw_at lw_m8 165 rfl) rfl
theorem q1953 : (Jvm.Cond.soleField "CardCupsModel" "changes") ∈ lw_all := lw_g (lw_at lw_m8 166 rfl) rfl
theorem q1954 : (Jvm.Cond.laysFinal "CardCupsModel" "CardCupsModel" "image" "[I") ∈ lw_all := lw_g (lw_at lw_m8 167 rfl) rfl
theorem q1955 : (Jvm.Cond.soleField "CardCupsModel" "image") ∈ lw_all := lw_g (lw_at lw_m8 168 rfl) rfl
theorem q1956 : (Jvm.Cond.lays "CardCupsModel" "CardCupsModel" "images" "I") ∈ lw_all := lw_g (lw_at lw_m8 169 rfl) rfl
theorem q1957 : (Jvm.Cond.soleField "CardCupsModel" "images") ∈ lw_all := lw_g (lw_at lw_m8 170 rfl) rfl
theorem q1958 : (Jvm.Cond.superclass "CardCupsModel" "java/lang/Object") ∈ lw_all := lw_g (lw_at lw_m8 171 rfl) rfl
theorem q1960 : (Jvm.Cond.instanceMethod ({ cls := "CardCupsModel", name := "feed", desc := "(IIIII)I" } : Jvm.MethodName)) ∈ lw_all := lw_g (lw_at lw_m8 173 rfl) rfl
theorem q1961 : (Jvm.Cond.selects "CardCupsModel" ({ cls := "CardCupsModel", name := "feed", desc := "(IIIII)I" } : Jvm.MethodName) ({ cls := "CardCupsModel", name := "feed", desc := "(IIIII)I" } : Jvm.MethodName)) ∈ lw_all := lw_g (lw_at lw_m8 174 rfl) rfl
theorem q1962 : (Jvm.Cond.code ({ cls := "CardCupsModel", name := "feed", desc := "(IIIII)I" } : Jvm.MethodName) prog_28_method_5_code (8 : Nat) (Option.some Jvm.ClassFile.FieldType.int)) ∈ lw_all := lw_g (lw_at lw_m8 175 rfl) rfl
theorem q1964 : (Jvm.Cond.instanceMethod ({ cls := "CardCupsModel", name := "fault", desc := "()I" } : Jvm.MethodName)) ∈ lw_all := lw_g (lw_at lw_m8 177 rfl) rfl
theorem q1965 : (Jvm.Cond.selects "CardCupsModel" ({ cls := "CardCupsModel", name := "fault", desc := "()I" } : Jvm.MethodName) ({ cls := "CardCupsModel", name := "fault", desc := "()I" } : Jvm.MethodName)) ∈ lw_all := lw_g (lw_at lw_m8 178 rfl) rfl
theorem q1966 : (Jvm.Cond.code ({ cls := "CardCupsModel", name := "fault", desc := "()I" } : Jvm.MethodName) prog_28_method_19_code (1 : Nat) (Option.some Jvm.ClassFile.FieldType.int)) ∈ lw_all := lw_g (lw_at lw_m8 179 rfl) rfl
theorem q1968 : (Jvm.Cond.instanceMethod ({ cls := "CardCupsModel", name := "office", desc := "(I)I" } : Jvm.MethodName)) ∈ lw_all := lw_g (lw_at lw_m8 181 rfl) rfl
theorem q1969 : (Jvm.Cond.selects "CardCupsModel" ({ cls := "CardCupsModel", name := "office", desc := "(I)I" } : Jvm.MethodName) ({ cls := "CardCupsModel", name := "office", desc := "(I)I" } : Jvm.MethodName)) ∈ lw_all := lw_g (lw_at lw_m8 182 rfl) rfl
theorem q1970 : (Jvm.Cond.code ({ cls := "CardCupsModel", name := "office", desc := "(I)I" } : Jvm.MethodName) prog_28_method_27_code (4 : Nat) (Option.some Jvm.ClassFile.FieldType.int)) ∈ lw_all := lw_g (lw_at lw_m8 183 rfl) rfl
theorem q1971 : (Jvm.Cond.methodLink "CardCupsModel" (213 : Nat) ({ cls := "CardCupsModel", name := "may", desc := "(ZII)Z" } : Jvm.MethodName)) ∈ lw_all := lw_g (lw_at lw_m8 184 rfl) rfl
theorem q1972 : (Jvm.Cond.privateMethod ({ cls := "CardCupsModel", name := "may", desc := "(ZII)Z" } : Jvm.MethodName)) ∈ lw_tbl := lw_at lw_m8 185 rfl
theorem q1973 : (Jvm.Cond.instanceMethod ({ cls := "CardCupsModel", name := "may", desc := "(ZII)Z" } : Jvm.MethodName)) ∈ lw_all := lw_g (lw_at lw_m8 186 rfl) rfl
theorem q1974 : (Jvm.Cond.code ({ cls := "CardCupsModel", name := "may", desc := "(ZII)Z" } : Jvm.MethodName) prog_28_method_2_code (4 : Nat) (Option.some Jvm.ClassFile.FieldType.boolean)) ∈ lw_all := lw_g (lw_at lw_m8 187 rfl) rfl
theorem q1975 : (Jvm.Cond.methodLink "CardCupsModel" (217 : Nat) ({ cls := "CardCupsModel", name := "begins", desc := "(I)V" } : Jvm.MethodName)) ∈ lw_all := lw_g (lw_at lw_m8 188 rfl) rfl
theorem q1976 : (Jvm.Cond.privateMethod ({ cls := "CardCupsModel", name := "begins", desc := "(I)V" } : Jvm.MethodName)) ∈ lw_tbl := lw_at lw_m8 189 rfl
theorem q1977 : (Jvm.Cond.instanceMethod ({ cls := "CardCupsModel", name := "begins", desc := "(I)V" } : Jvm.MethodName)) ∈ lw_all := lw_g (lw_at lw_m8 190 rfl) rfl
theorem q1978 : (Jvm.Cond.code ({ cls := "CardCupsModel", name := "begins", desc := "(I)V" } : Jvm.MethodName) prog_28_method_17_code (2 : Nat) (Option.none : Option Jvm.ClassFile.FieldType)) ∈ lw_all := lw_g (lw_at lw_m8 191 rfl) rfl
theorem q1979 : (Jvm.Cond.methodLink "CardCupsModel" (137 : Nat) ({ cls := "CardCupsModel", name := "fine", desc := "()Z" } : Jvm.MethodName)) ∈ lw_all := lw_g (lw_at lw_m8 192 rfl) rfl
theorem q1980 : (Jvm.Cond.privateMethod ({ cls := "CardCupsModel", name := "fine", desc := "()Z" } : Jvm.MethodName)) ∈ lw_tbl := lw_at lw_m8 193 rfl
theorem q1981 : (Jvm.Cond.instanceMethod ({ cls := "CardCupsModel", name := "fine", desc := "()Z" } : Jvm.MethodName)) ∈ lw_all := lw_g (lw_at lw_m8 194 rfl) rfl
theorem q1982 : (Jvm.Cond.code ({ cls := "CardCupsModel", name := "fine", desc := "()Z" } : Jvm.MethodName) prog_28_method_6_code (1 : Nat) (Option.some Jvm.ClassFile.FieldType.boolean)) ∈ lw_all := lw_g (lw_at lw_m8 195 rfl) rfl
theorem q1983 : (Jvm.Cond.methodLink "CardCupsModel" (221 : Nat) ({ cls := "CardCupsModel", name := "isMore", desc := "()Z" } : Jvm.MethodName)) ∈ lw_all := lw_g (lw_at lw_m8 196 rfl) rfl
theorem q1984 : (Jvm.Cond.privateMethod ({ cls := "CardCupsModel", name := "isMore", desc := "()Z" } : Jvm.MethodName)) ∈ lw_tbl := lw_at lw_m8 197 rfl
theorem q1985 : (Jvm.Cond.instanceMethod ({ cls := "CardCupsModel", name := "isMore", desc := "()Z" } : Jvm.MethodName)) ∈ lw_all := lw_g (lw_at lw_m8 198 rfl) rfl
theorem q1986 : (Jvm.Cond.code ({ cls := "CardCupsModel", name := "isMore", desc := "()Z" } : Jvm.MethodName) prog_28_method_16_code (1 : Nat) (Option.some Jvm.ClassFile.FieldType.boolean)) ∈ lw_all := lw_g (lw_at lw_m8 199 rfl) rfl
theorem q1987 : (Jvm.Cond.methodLink "CardCupsModel" (120 : Nat) ({ cls := "CardCupsModel", name := "here", desc := "()I" } : Jvm.MethodName)) ∈ lw_all := lw_g (lw_at lw_m8 200 rfl) rfl
theorem q1988 : (Jvm.Cond.privateMethod ({ cls := "CardCupsModel", name := "here", desc := "()I" } : Jvm.MethodName)) ∈ lw_tbl := lw_at lw_m8 201 rfl
theorem q1989 : (Jvm.Cond.instanceMethod ({ cls := "CardCupsModel", name := "here", desc := "()I" } : Jvm.MethodName)) ∈ lw_all := lw_g (lw_at lw_m8 202 rfl) rfl
theorem q1990 : (Jvm.Cond.code ({ cls := "CardCupsModel", name := "here", desc := "()I" } : Jvm.MethodName) prog_28_method_8_code (1 : Nat) (Option.some Jvm.ClassFile.FieldType.int)) ∈ lw_all := lw_g (lw_at lw_m8 203 rfl) rfl
theorem q1991 : (Jvm.Cond.methodLink "CardCupsModel" (224 : Nat) ({ cls := "CardCupsModel", name := "clauseHere", desc := "()I" } : Jvm.MethodName)) ∈ lw_all := lw_g (lw_at lw_m8 204 rfl) rfl
theorem q1992 : (Jvm.Cond.privateMethod ({ cls := "CardCupsModel", name := "clauseHere", desc := "()I" } : Jvm.MethodName)) ∈ lw_tbl := lw_at lw_m8 205 rfl
theorem q1993 : (Jvm.Cond.instanceMethod ({ cls := "CardCupsModel", name := "clauseHere", desc := "()I" } : Jvm.MethodName)) ∈ lw_all := lw_g (lw_at lw_m8 206 rfl) rfl
theorem q1994 : (Jvm.Cond.code ({ cls := "CardCupsModel", name := "clauseHere", desc := "()I" } : Jvm.MethodName) prog_28_method_26_code (2 : Nat) (Option.some Jvm.ClassFile.FieldType.int)) ∈ lw_all := lw_g (lw_at lw_m8 207 rfl) rfl
theorem q1995 : (Jvm.Cond.stringRef "CardCupsModel" (202 : Nat) "machine") ∈ lw_tbl := lw_at lw_m8 208 rfl
theorem q1996 : (Jvm.Cond.methodLink "CardCupsModel" (204 : Nat) ({ cls := "CardCupsModel", name := "standsHere", desc := "(Ljava/lang/String;)Z" } : Jvm.MethodName)) ∈ lw_all := lw_g (lw_at lw_m8 209 rfl) rfl
theorem q1997 : (Jvm.Cond.privateMethod ({ cls := "CardCupsModel", name := "standsHere", desc := "(Ljava/lang/String;)Z" } : Jvm.MethodName)) ∈ lw_tbl := lw_at lw_m8 210 rfl
theorem q1998 : (Jvm.Cond.instanceMethod ({ cls := "CardCupsModel", name := "standsHere", desc := "(Ljava/lang/String;)Z" } : Jvm.MethodName)) ∈ lw_all := lw_g (lw_at lw_m8 211 rfl) rfl
theorem q1999 : (Jvm.Cond.code ({ cls := "CardCupsModel", name := "standsHere", desc := "(Ljava/lang/String;)Z" } : Jvm.MethodName) prog_28_method_25_code (3 : Nat) (Option.some Jvm.ClassFile.FieldType.boolean)) ∈ lw_all := lw_g (lw_at lw_m8 212 rfl) rfl
theorem q2000 : (Jvm.Cond.methodLink "CardCupsModel" (128 : Nat) ({ cls := "java/lang/String", name := "length", desc := "()I" } : Jvm.MethodName)) ∈ lw_all := lw_g (lw_at lw_m8 213 rfl) rfl
theorem q2001 : (Jvm.Cond.methodLink "CardCupsModel" (133 : Nat) ({ cls := "java/lang/String", name := "charAt", desc := "(I)C" } : Jvm.MethodName)) ∈ lw_all := lw_g (lw_at lw_m8 214 rfl) rfl
theorem q2002 : (Jvm.Cond.methodLink "CardCupsModel" (124 : Nat) ({ cls := "CardCupsModel", name := "isSmall", desc := "(I)Z" } : Jvm.MethodName)) ∈ lw_all := lw_g (lw_at lw_m8 215 rfl) rfl
theorem q2003 : (Jvm.Cond.static ({ cls := "CardCupsModel", name := "isSmall", desc := "(I)Z" } : Jvm.MethodName)) ∈ lw_all := lw_g (lw_at lw_m8 216 rfl) rfl
theorem q2004 : (Jvm.Cond.code ({ cls := "CardCupsModel", name := "isSmall", desc := "(I)Z" } : Jvm.MethodName) prog_28_method_9_code (1 : Nat) (Option.some Jvm.ClassFile.FieldType.boolean)) ∈ lw_all := lw_g (lw_at lw_m8 217 rfl) rfl
theorem q2005 : (Jvm.Cond.methodLink "CardCupsModel" (208 : Nat) ({ cls := "CardCupsModel", name := "word", desc := "()I" } : Jvm.MethodName)) ∈ lw_all := lw_g (lw_at lw_m8 218 rfl) rfl
theorem q2006 : (Jvm.Cond.privateMethod ({ cls := "CardCupsModel", name := "word", desc := "()I" } : Jvm.MethodName)) ∈ lw_tbl := lw_at lw_m8 219 rfl
theorem q2007 : (Jvm.Cond.instanceMethod ({ cls := "CardCupsModel", name := "word", desc := "()I" } : Jvm.MethodName)) ∈ lw_all := lw_g (lw_at lw_m8 220 rfl) rfl
theorem q2008 : (Jvm.Cond.code ({ cls := "CardCupsModel", name := "word", desc := "()I" } : Jvm.MethodName) prog_28_method_11_code (4 : Nat) (Option.some Jvm.ClassFile.FieldType.int)) ∈ lw_all := lw_g (lw_at lw_m8 221 rfl) rfl
theorem q2009 : (Jvm.Cond.stringRef "CardCupsModel" (180 : Nat) "cups") ∈ lw_tbl := lw_at lw_m8 222 rfl
theorem q2010 : (Jvm.Cond.methodLink "CardCupsModel" (182 : Nat) ({ cls := "CardCupsModel", name := "of", desc := "(Ljava/lang/String;)I" } : Jvm.MethodName)) ∈ lw_all := lw_g (lw_at lw_m8 223 rfl) rfl
theorem q2011 : (Jvm.Cond.static ({ cls := "CardCupsModel", name := "of", desc := "(Ljava/lang/String;)I" } : Jvm.MethodName)) ∈ lw_all := lw_g (lw_at lw_m8 224 rfl) rfl
theorem q2012 : (Jvm.Cond.code ({ cls := "CardCupsModel", name := "of", desc := "(Ljava/lang/String;)I" } : Jvm.MethodName) prog_28_method_12_code (3 : Nat) (Option.some Jvm.ClassFile.FieldType.int)) ∈ lw_all := lw_g (lw_at lw_m8 225 rfl) rfl
theorem q2013 : (Jvm.Cond.stringRef "CardCupsModel" (186 : Nat) "card") ∈ lw_tbl := lw_at lw_m8 226 rfl
theorem q2014 : (Jvm.Cond.stringRef "CardCupsModel" (188 : Nat) "fall") ∈ lw_tbl := lw_at lw_m8 227 rfl
theorem q2015 : (Jvm.Cond.stringRef "CardCupsModel" (190 : Nat) "warm") ∈ lw_tbl := lw_at lw_m8 228 rfl
theorem q2016 : (Jvm.Cond.stringRef "CardCupsModel" (192 : Nat) "see") ∈ lw_tbl := lw_at lw_m8 229 rfl
theorem q2017 : (Jvm.Cond.stringRef "CardCupsModel" (194 : Nat) "cost") ∈ lw_tbl := lw_at lw_m8 230 rfl
theorem q2018 : (Jvm.Cond.stringRef "CardCupsModel" (196 : Nat) "person") ∈ lw_tbl := lw_at lw_m8 231 rfl
theorem q2019 : (Jvm.Cond.stringRef "CardCupsModel" (211 : Nat) "comes") ∈ lw_tbl := lw_at lw_m8 232 rfl
theorem q2020 : (Jvm.Cond.methodLink "CardCupsModel" (144 : Nat) ({ cls := "CardCupsModel", name := "wrong", desc := "(II)V" } : Jvm.MethodName)) ∈ lw_all := lw_g (lw_at lw_m8 233 rfl) rfl
theorem q2021 : (Jvm.Cond.privateMethod ({ cls := "CardCupsModel", name := "wrong", desc := "(II)V" } : Jvm.MethodName)) ∈ lw_tbl := lw_at lw_m8 234 rfl
theorem q2022 : (Jvm.Cond.instanceMethod ({ cls := "CardCupsModel", name := "wrong", desc := "(II)V" } : Jvm.MethodName)) ∈ lw_all := lw_g (lw_at lw_m8 235 rfl) rfl
theorem q2023 : (Jvm.Cond.code ({ cls := "CardCupsModel", name := "wrong", desc := "(II)V" } : Jvm.MethodName) prog_28_method_7_code (3 : Nat) (Option.none : Option Jvm.ClassFile.FieldType)) ∈ lw_all := lw_g (lw_at lw_m8 236 rfl) rfl
theorem q2024 : (Jvm.Cond.methodLink "CardCupsModel" (227 : Nat) ({ cls := "CardCupsModel", name := "pass", desc := "()V" } : Jvm.MethodName)) ∈ lw_all := lw_g (lw_at lw_m8 237 rfl) rfl
theorem q2025 : (Jvm.Cond.privateMethod ({ cls := "CardCupsModel", name := "pass", desc := "()V" } : Jvm.MethodName)) ∈ lw_tbl := lw_at lw_m8 238 rfl
theorem q2026 : (Jvm.Cond.instanceMethod ({ cls := "CardCupsModel", name := "pass", desc := "()V" } : Jvm.MethodName)) ∈ lw_all := lw_g (lw_at lw_m8 239 rfl) rfl
theorem q2027 : (Jvm.Cond.code ({ cls := "CardCupsModel", name := "pass", desc := "()V" } : Jvm.MethodName) prog_28_method_13_code (1 : Nat) (Option.none : Option Jvm.ClassFile.FieldType)) ∈ lw_all := lw_g (lw_at lw_m9 0 rfl) rfl
theorem q2028 : (Jvm.Cond.methodLink "CardCupsModel" (230 : Nat) ({ cls := "CardCupsModel", name := "readClause", desc := "(I)V" } : Jvm.MethodName)) ∈ lw_all := lw_g (lw_at lw_m9 1 rfl) rfl
theorem q2029 : (Jvm.Cond.privateMethod ({ cls := "CardCupsModel", name := "readClause", desc := "(I)V" } : Jvm.MethodName)) ∈ lw_tbl := lw_at lw_m9 2 rfl
theorem q2030 : (Jvm.Cond.instanceMethod ({ cls := "CardCupsModel", name := "readClause", desc := "(I)V" } : Jvm.MethodName)) ∈ lw_all := lw_g (lw_at lw_m9 3 rfl) rfl
theorem q2031 : (Jvm.Cond.code ({ cls := "CardCupsModel", name := "readClause", desc := "(I)V" } : Jvm.MethodName) prog_28_method_24_code (4 : Nat) (Option.none : Option Jvm.ClassFile.FieldType)) ∈ lw_all := lw_g (lw_at lw_m9 4 rfl) rfl
theorem q2032 : (Jvm.Cond.methodLink "CardCupsModel" (176 : Nat) ({ cls := "CardCupsModel", name := "readNumber", desc := "(II)I" } : Jvm.MethodName)) ∈ lw_all := lw_g (lw_at lw_m9 5 rfl) rfl
theorem q2033 : (Jvm.Cond.privateMethod ({ cls := "CardCupsModel", name := "readNumber", desc := "(II)I" } : Jvm.MethodName)) ∈ lw_tbl := lw_at lw_m9 6 rfl
theorem q2034 : (Jvm.Cond.instanceMethod ({ cls := "CardCupsModel", name := "readNumber", desc := "(II)I" } : Jvm.MethodName)) ∈ lw_all := lw_g (lw_at lw_m9 7 rfl) rfl
theorem q2035 : (Jvm.Cond.code ({ cls := "CardCupsModel", name := "readNumber", desc := "(II)I" } : Jvm.MethodName) prog_28_method_14_code (6 : Nat) (Option.some Jvm.ClassFile.FieldType.int)) ∈ lw_all := lw_g (lw_at lw_m9 8 rfl) rfl
theorem q2036 : (Jvm.Cond.methodLink "CardCupsModel" (141 : Nat) ({ cls := "CardCupsModel", name := "isDigit", desc := "(I)Z" } : Jvm.MethodName)) ∈ lw_all := lw_g (lw_at lw_m9 9 rfl) rfl
theorem q2037 : (Jvm.Cond.static ({ cls := "CardCupsModel", name := "isDigit", desc := "(I)Z" } : Jvm.MethodName)) ∈ lw_all := lw_g (lw_at lw_m9 10 rfl) rfl
theorem q2038 : (Jvm.Cond.code ({ cls := "CardCupsModel", name := "isDigit", desc := "(I)Z" } : Jvm.MethodName) prog_28_method_10_code (1 : Nat) (Option.some Jvm.ClassFile.FieldType.boolean)) ∈ lw_all := lw_g (lw_at lw_m9 11 rfl) rfl
theorem q2039 : (Jvm.Cond.methodLink "CardCupsModel" (198 : Nat) ({ cls := "CardCupsModel", name := "puts", desc := "([I[IIII)I" } : Jvm.MethodName)) ∈ lw_all := lw_g (lw_at lw_m9 12 rfl) rfl
theorem q2040 : (Jvm.Cond.privateMethod ({ cls := "CardCupsModel", name := "puts", desc := "([I[IIII)I" } : Jvm.MethodName)) ∈ lw_tbl := lw_at lw_m9 13 rfl
theorem q2041 : (Jvm.Cond.instanceMethod ({ cls := "CardCupsModel", name := "puts", desc := "([I[IIII)I" } : Jvm.MethodName)) ∈ lw_all := lw_g (lw_at lw_m9 14 rfl) rfl
theorem q2042 : (Jvm.Cond.code ({ cls := "CardCupsModel", name := "puts", desc := "([I[IIII)I" } : Jvm.MethodName) prog_28_method_23_code (7 : Nat) (Option.some Jvm.ClassFile.FieldType.int)) ∈ lw_all := lw_g (lw_at lw_m9 15 rfl) rfl
theorem q2043 : (Jvm.Cond.methodLink "CardCupsModel" (233 : Nat) ({ cls := "CardCupsModel", name := "sign", desc := "(I)V" } : Jvm.MethodName)) ∈ lw_all := lw_g (lw_at lw_m9 16 rfl) rfl
theorem q2044 : (Jvm.Cond.privateMethod ({ cls := "CardCupsModel", name := "sign", desc := "(I)V" } : Jvm.MethodName)) ∈ lw_tbl := lw_at lw_m9 17 rfl
theorem q2045 : (Jvm.Cond.instanceMethod ({ cls := "CardCupsModel", name := "sign", desc := "(I)V" } : Jvm.MethodName)) ∈ lw_all := lw_g (lw_at lw_m9 18 rfl) rfl
theorem q2046 : (Jvm.Cond.code ({ cls := "CardCupsModel", name := "sign", desc := "(I)V" } : Jvm.MethodName) prog_28_method_15_code (2 : Nat) (Option.none : Option Jvm.ClassFile.FieldType)) ∈ lw_all := lw_g (lw_at lw_m9 19 rfl) rfl
theorem q2047 : (Jvm.Cond.methodLink "CardCupsModel" (236 : Nat) ({ cls := "CardCupsModel", name := "result", desc := "(I)I" } : Jvm.MethodName)) ∈ lw_all := lw_g (lw_at lw_m9 20 rfl) rfl
theorem q2048 : (Jvm.Cond.privateMethod ({ cls := "CardCupsModel", name := "result", desc := "(I)I" } : Jvm.MethodName)) ∈ lw_tbl := lw_at lw_m9 21 rfl
theorem q2049 : (Jvm.Cond.instanceMethod ({ cls := "CardCupsModel", name := "result", desc := "(I)I" } : Jvm.MethodName)) ∈ lw_all := lw_g (lw_at lw_m9 22 rfl) rfl
theorem q2050 : (Jvm.Cond.code ({ cls := "CardCupsModel", name := "result", desc := "(I)I" } : Jvm.MethodName) prog_28_method_18_code (2 : Nat) (Option.some Jvm.ClassFile.FieldType.int)) ∈ lw_all := lw_g (lw_at lw_m9 23 rfl) rfl
theorem q2052 : (Jvm.Cond.instanceMethod ({ cls := "CardCupsModel", name := "habit", desc := "(II)I" } : Jvm.MethodName)) ∈ lw_all := lw_g (lw_at lw_m9 25 rfl) rfl
theorem q2053 : (Jvm.Cond.selects "CardCupsModel" ({ cls := "CardCupsModel", name := "habit", desc := "(II)I" } : Jvm.MethodName) ({ cls := "CardCupsModel", name := "habit", desc := "(II)I" } : Jvm.MethodName)) ∈ lw_all := lw_g (lw_at lw_m9 26 rfl) rfl
theorem q2054 : (Jvm.Cond.code ({ cls := "CardCupsModel", name := "habit", desc := "(II)I" } : Jvm.MethodName) prog_28_method_43_code (3 : Nat) (Option.some Jvm.ClassFile.FieldType.int)) ∈ lw_all := lw_g (lw_at lw_m9 27 rfl) rfl
theorem q2055 : (Jvm.Cond.methodLink "CardCupsModel" (320 : Nat) ({ cls := "CardCupsModel", name := "isPerson", desc := "(II)Z" } : Jvm.MethodName)) ∈ lw_all := lw_g (lw_at lw_m9 28 rfl) rfl
theorem q2056 : (Jvm.Cond.privateMethod ({ cls := "CardCupsModel", name := "isPerson", desc := "(II)Z" } : Jvm.MethodName)) ∈ lw_tbl := lw_at lw_m9 29 rfl
theorem q2057 : (Jvm.Cond.instanceMethod ({ cls := "CardCupsModel", name := "isPerson", desc := "(II)Z" } : Jvm.MethodName)) ∈ lw_all := lw_g (lw_at lw_m9 30 rfl) rfl
theorem q2058 : (Jvm.Cond.code ({ cls := "CardCupsModel", name := "isPerson", desc := "(II)Z" } : Jvm.MethodName) prog_28_method_40_code (3 : Nat) (Option.some Jvm.ClassFile.FieldType.boolean)) ∈ lw_all := lw_g (lw_at lw_m9 31 rfl) rfl
theorem q2059 : (Jvm.Cond.methodLink "CardCupsModel" (316 : Nat) ({ cls := "CardCupsModel", name := "within", desc := "(III)Z" } : Jvm.MethodName)) ∈ lw_all := lw_g (lw_at lw_m9 32 rfl) rfl
theorem q2060 : (Jvm.Cond.static ({ cls := "CardCupsModel", name := "within", desc := "(III)Z" } : Jvm.MethodName)) ∈ lw_all := lw_g (lw_at lw_m9 33 rfl) rfl
theorem q2061 : (Jvm.Cond.code ({ cls := "CardCupsModel", name := "within", desc := "(III)Z" } : Jvm.MethodName) prog_28_method_3_code (3 : Nat) (Option.some Jvm.ClassFile.FieldType.boolean)) ∈ lw_all := lw_g (lw_at lw_m9 34 rfl) rfl
theorem q2062 : (Jvm.Cond.methodLink "CardCupsModel" (324 : Nat) ({ cls := "CardCupsModel", name := "isTold", desc := "(I)Z" } : Jvm.MethodName)) ∈ lw_all := lw_g (lw_at lw_m9 35 rfl) rfl
theorem q2063 : (Jvm.Cond.privateMethod ({ cls := "CardCupsModel", name := "isTold", desc := "(I)Z" } : Jvm.MethodName)) ∈ lw_tbl := lw_at lw_m9 36 rfl
theorem q2064 : (Jvm.Cond.instanceMethod ({ cls := "CardCupsModel", name := "isTold", desc := "(I)Z" } : Jvm.MethodName)) ∈ lw_all := lw_g (lw_at lw_m9 37 rfl) rfl
theorem q2065 : (Jvm.Cond.code ({ cls := "CardCupsModel", name := "isTold", desc := "(I)Z" } : Jvm.MethodName) prog_28_method_42_code (2 : Nat) (Option.some Jvm.ClassFile.FieldType.boolean)) ∈ lw_all := lw_g (lw_at lw_m9 38 rfl) rfl
theorem q2066 : (Jvm.Cond.methodLink "CardCupsModel" (327 : Nat) ({ cls := "CardCupsModel", name := "readHabit", desc := "(II)I" } : Jvm.MethodName)) ∈ lw_all := lw_g (lw_at lw_m9 39 rfl) rfl
theorem q2067 : (Jvm.Cond.privateMethod ({ cls := "CardCupsModel", name := "readHabit", desc := "(II)I" } : Jvm.MethodName)) ∈ lw_tbl := lw_at lw_m9 40 rfl
theorem q2068 : (Jvm.Cond.instanceMethod ({ cls := "CardCupsModel", name := "readHabit", desc := "(II)I" } : Jvm.MethodName)) ∈ lw_all := lw_g (lw_at lw_m9 41 rfl) rfl
theorem q2069 : (Jvm.Cond.code ({ cls := "CardCupsModel", name := "readHabit", desc := "(II)I" } : Jvm.MethodName) prog_28_method_39_code (5 : Nat) (Option.some Jvm.ClassFile.FieldType.int)) ∈ lw_all := lw_g (lw_at lw_m9 42 rfl) rfl
theorem q2070 : (Jvm.Cond.methodLink "CardCupsModel" (313 : Nat) ({ cls := "CardCupsModel", name := "readStep", desc := "()V" } : Jvm.MethodName)) ∈ lw_all := lw_g (lw_at lw_m9 43 rfl) rfl
theorem q2071 : (Jvm.Cond.privateMethod ({ cls := "CardCupsModel", name := "readStep", desc := "()V" } : Jvm.MethodName)) ∈ lw_tbl := lw_at lw_m9 44 rfl
theorem q2072 : (Jvm.Cond.instanceMethod ({ cls := "CardCupsModel", name := "readStep", desc := "()V" } : Jvm.MethodName)) ∈ lw_all := lw_g (lw_at lw_m9 45 rfl) rfl
theorem q2073 : (Jvm.Cond.code ({ cls := "CardCupsModel", name := "readStep", desc := "()V" } : Jvm.MethodName) prog_28_method_38_code (4 : Nat) (Option.none : Option Jvm.ClassFile.FieldType)) ∈ lw_all := lw_g (lw_at lw_m9 46 rfl) rfl
theorem q2074 : (Jvm.Cond.methodLink "CardCupsModel" (303 : Nat) ({ cls := "CardCupsModel", name := "actOf", desc := "(I)I" } : Jvm.MethodName)) ∈ lw_all := lw_g (lw_at lw_m9 47 rfl) rfl
theorem q2075 : (Jvm.Cond.static ({ cls := "CardCupsModel", name := "actOf", desc := "(I)I" } : Jvm.MethodName)) ∈ lw_all := lw_g (lw_at lw_m9 48 rfl) rfl
theorem q2076 : (Jvm.Cond.code ({ cls := "CardCupsModel", name := "actOf", desc := "(I)I" } : Jvm.MethodName) prog_28_method_37_code (1 : Nat) (Option.some Jvm.ClassFile.FieldType.int)) ∈ lw_all := lw_g (lw_at lw_m9 49 rfl) rfl
theorem q2077 : (Jvm.Cond.stringRef "CardCupsModel" (287 : Nat) "put") ∈ lw_tbl := lw_at lw_m9 50 rfl
theorem q2078 : (Jvm.Cond.stringRef "CardCupsModel" (289 : Nat) "take") ∈ lw_tbl := lw_at lw_m9 51 rfl
theorem q2079 : (Jvm.Cond.stringRef "CardCupsModel" (291 : Nat) "look") ∈ lw_tbl := lw_at lw_m9 52 rfl
theorem q2080 : (Jvm.Cond.stringRef "CardCupsModel" (293 : Nat) "start") ∈ lw_tbl := lw_at lw_m9 53 rfl
theorem q2081 : (Jvm.Cond.stringRef "CardCupsModel" (295 : Nat) "empty") ∈ lw_tbl := lw_at lw_m9 54 rfl
theorem q2082 : (Jvm.Cond.stringRef "CardCupsModel" (297 : Nat) "clean") ∈ lw_tbl := lw_at lw_m9 55 rfl
theorem q2083 : (Jvm.Cond.stringRef "CardCupsModel" (299 : Nat) "dirty") ∈ lw_tbl := lw_at lw_m9 56 rfl
theorem q2084 : (Jvm.Cond.stringRef "CardCupsModel" (301 : Nat) "turn") ∈ lw_tbl := lw_at lw_m9 57 rfl
theorem q2085 : (Jvm.Cond.stringRef "CardCupsModel" (309 : Nat) "by") ∈ lw_tbl := lw_at lw_m9 58 rfl
theorem q2086 : (Jvm.Cond.stringRef "CardCupsModel" (311 : Nat) "if") ∈ lw_tbl := lw_at lw_m9 59 rfl
theorem q2087 : (Jvm.Cond.methodLink "CardCupsModel" (259 : Nat) ({ cls := "CardCupsModel", name := "readAny", desc := "()V" } : Jvm.MethodName)) ∈ lw_all := lw_g (lw_at lw_m9 60 rfl) rfl
theorem q2088 : (Jvm.Cond.privateMethod ({ cls := "CardCupsModel", name := "readAny", desc := "()V" } : Jvm.MethodName)) ∈ lw_tbl := lw_at lw_m9 61 rfl
theorem q2089 : (Jvm.Cond.instanceMethod ({ cls := "CardCupsModel", name := "readAny", desc := "()V" } : Jvm.MethodName)) ∈ lw_all := lw_g (lw_at lw_m9 62 rfl) rfl
theorem q2090 : (Jvm.Cond.code ({ cls := "CardCupsModel", name := "readAny", desc := "()V" } : Jvm.MethodName) prog_28_method_30_code (1 : Nat) (Option.none : Option Jvm.ClassFile.FieldType)) ∈ lw_all := lw_g (lw_at lw_m9 63 rfl) rfl
theorem q2091 : (Jvm.Cond.methodLink "CardCupsModel" (243 : Nat) ({ cls := "CardCupsModel", name := "readAll", desc := "()V" } : Jvm.MethodName)) ∈ lw_all := lw_g (lw_at lw_m9 64 rfl) rfl
theorem q2092 : (Jvm.Cond.privateMethod ({ cls := "CardCupsModel", name := "readAll", desc := "()V" } : Jvm.MethodName)) ∈ lw_tbl := lw_at lw_m9 65 rfl
theorem q2093 : (Jvm.Cond.instanceMethod ({ cls := "CardCupsModel", name := "readAll", desc := "()V" } : Jvm.MethodName)) ∈ lw_all := lw_g (lw_at lw_m9 66 rfl) rfl
theorem q2094 : (Jvm.Cond.code ({ cls := "CardCupsModel", name := "readAll", desc := "()V" } : Jvm.MethodName) prog_28_method_31_code (1 : Nat) (Option.none : Option Jvm.ClassFile.FieldType)) ∈ lw_all := lw_g (lw_at lw_m9 67 rfl) rfl
theorem q2095 : (Jvm.Cond.methodLink "CardCupsModel" (251 : Nat) ({ cls := "CardCupsModel", name := "readOne", desc := "()V" } : Jvm.MethodName)) ∈ lw_all := lw_g (lw_at lw_m9 68 rfl) rfl
theorem q2096 : (Jvm.Cond.privateMethod ({ cls := "CardCupsModel", name := "readOne", desc := "()V" } : Jvm.MethodName)) ∈ lw_tbl := lw_at lw_m9 69 rfl
theorem q2097 : (Jvm.Cond.instanceMethod ({ cls := "CardCupsModel", name := "readOne", desc := "()V" } : Jvm.MethodName)) ∈ lw_all := lw_g (lw_at lw_m9 70 rfl) rfl
theorem q2098 : (Jvm.Cond.code ({ cls := "CardCupsModel", name := "readOne", desc := "()V" } : Jvm.MethodName) prog_28_method_32_code (2 : Nat) (Option.none : Option Jvm.ClassFile.FieldType)) ∈ lw_all := lw_g (lw_at lw_m9 71 rfl) rfl
theorem q2099 : (Jvm.Cond.methodLink "CardCupsModel" (256 : Nat) ({ cls := "CardCupsModel", name := "opensOne", desc := "(I)V" } : Jvm.MethodName)) ∈ lw_all := lw_g (lw_at lw_m9 72 rfl) rfl
theorem q2100 : (Jvm.Cond.privateMethod ({ cls := "CardCupsModel", name := "opensOne", desc := "(I)V" } : Jvm.MethodName)) ∈ lw_tbl := lw_at lw_m9 73 rfl
theorem q2101 : (Jvm.Cond.instanceMethod ({ cls := "CardCupsModel", name := "opensOne", desc := "(I)V" } : Jvm.MethodName)) ∈ lw_all := lw_g (lw_at lw_m9 74 rfl) rfl
theorem q2102 : (Jvm.Cond.code ({ cls := "CardCupsModel", name := "opensOne", desc := "(I)V" } : Jvm.MethodName) prog_28_method_29_code (2 : Nat) (Option.none : Option Jvm.ClassFile.FieldType)) ∈ lw_all := lw_g (lw_at lw_m9 75 rfl) rfl
theorem q2103 : (Jvm.Cond.stringRef "CardCupsModel" (262 : Nat) "not") ∈ lw_tbl := lw_at lw_m9 76 rfl
theorem q2104 : (Jvm.Cond.methodLink "CardCupsModel" (248 : Nat) ({ cls := "CardCupsModel", name := "emit", desc := "(II)V" } : Jvm.MethodName)) ∈ lw_all := lw_g (lw_at lw_m9 77 rfl) rfl
theorem q2105 : (Jvm.Cond.privateMethod ({ cls := "CardCupsModel", name := "emit", desc := "(II)V" } : Jvm.MethodName)) ∈ lw_tbl := lw_at lw_m9 78 rfl
theorem q2106 : (Jvm.Cond.instanceMethod ({ cls := "CardCupsModel", name := "emit", desc := "(II)V" } : Jvm.MethodName)) ∈ lw_all := lw_g (lw_at lw_m9 79 rfl) rfl
theorem q2107 : (Jvm.Cond.code ({ cls := "CardCupsModel", name := "emit", desc := "(II)V" } : Jvm.MethodName) prog_28_method_28_code (3 : Nat) (Option.none : Option Jvm.ClassFile.FieldType)) ∈ lw_all := lw_g (lw_at lw_m9 80 rfl) rfl
theorem q2108 : (Jvm.Cond.methodLink "CardCupsModel" (264 : Nat) ({ cls := "CardCupsModel", name := "readSum", desc := "()V" } : Jvm.MethodName)) ∈ lw_all := lw_g (lw_at lw_m9 81 rfl) rfl
theorem q2109 : (Jvm.Cond.privateMethod ({ cls := "CardCupsModel", name := "readSum", desc := "()V" } : Jvm.MethodName)) ∈ lw_tbl := lw_at lw_m9 82 rfl
theorem q2110 : (Jvm.Cond.instanceMethod ({ cls := "CardCupsModel", name := "readSum", desc := "()V" } : Jvm.MethodName)) ∈ lw_all := lw_g (lw_at lw_m9 83 rfl) rfl
theorem q2111 : (Jvm.Cond.code ({ cls := "CardCupsModel", name := "readSum", desc := "()V" } : Jvm.MethodName) prog_28_method_33_code (2 : Nat) (Option.none : Option Jvm.ClassFile.FieldType)) ∈ lw_all := lw_g (lw_at lw_m9 84 rfl) rfl
theorem q2112 : (Jvm.Cond.methodLink "CardCupsModel" (267 : Nat) ({ cls := "CardCupsModel", name := "readProduct", desc := "()V" } : Jvm.MethodName)) ∈ lw_all := lw_g (lw_at lw_m9 85 rfl) rfl
theorem q2113 : (Jvm.Cond.privateMethod ({ cls := "CardCupsModel", name := "readProduct", desc := "()V" } : Jvm.MethodName)) ∈ lw_tbl := lw_at lw_m9 86 rfl
theorem q2114 : (Jvm.Cond.instanceMethod ({ cls := "CardCupsModel", name := "readProduct", desc := "()V" } : Jvm.MethodName)) ∈ lw_all := lw_g (lw_at lw_m9 87 rfl) rfl
theorem q2115 : (Jvm.Cond.code ({ cls := "CardCupsModel", name := "readProduct", desc := "()V" } : Jvm.MethodName) prog_28_method_34_code (1 : Nat) (Option.none : Option Jvm.ClassFile.FieldType)) ∈ lw_all := lw_g (lw_at lw_m9 88 rfl) rfl
theorem q2116 : (Jvm.Cond.methodLink "CardCupsModel" (270 : Nat) ({ cls := "CardCupsModel", name := "readUnit", desc := "()V" } : Jvm.MethodName)) ∈ lw_all := lw_g (lw_at lw_m9 89 rfl) rfl
theorem q2117 : (Jvm.Cond.privateMethod ({ cls := "CardCupsModel", name := "readUnit", desc := "()V" } : Jvm.MethodName)) ∈ lw_tbl := lw_at lw_m9 90 rfl
theorem q2118 : (Jvm.Cond.instanceMethod ({ cls := "CardCupsModel", name := "readUnit", desc := "()V" } : Jvm.MethodName)) ∈ lw_all := lw_g (lw_at lw_m9 91 rfl) rfl
theorem q2119 : (Jvm.Cond.code ({ cls := "CardCupsModel", name := "readUnit", desc := "()V" } : Jvm.MethodName) prog_28_method_36_code (2 : Nat) (Option.none : Option Jvm.ClassFile.FieldType)) ∈ lw_all := lw_g (lw_at lw_m9 92 rfl) rfl
theorem q2120 : (Jvm.Cond.methodLink "CardCupsModel" (284 : Nat) ({ cls := "CardCupsModel", name := "factOf", desc := "(I)I" } : Jvm.MethodName)) ∈ lw_all := lw_g (lw_at lw_m9 93 rfl) rfl
theorem q2121 : (Jvm.Cond.static ({ cls := "CardCupsModel", name := "factOf", desc := "(I)I" } : Jvm.MethodName)) ∈ lw_all := lw_g (lw_at lw_m9 94 rfl) rfl
theorem q2122 : (Jvm.Cond.code ({ cls := "CardCupsModel", name := "factOf", desc := "(I)I" } : Jvm.MethodName) prog_28_method_35_code (1 : Nat) (Option.some Jvm.ClassFile.FieldType.int)) ∈ lw_all := lw_g (lw_at lw_m9 95 rfl) rfl
theorem q2123 : (Jvm.Cond.stringRef "CardCupsModel" (273 : Nat) "in") ∈ lw_tbl := lw_at lw_m9 96 rfl
theorem q2124 : (Jvm.Cond.stringRef "CardCupsModel" (275 : Nat) "room") ∈ lw_tbl := lw_at lw_m9 97 rfl
theorem q2125 : (Jvm.Cond.stringRef "CardCupsModel" (277 : Nat) "minute") ∈ lw_tbl := lw_at lw_m9 98 rfl
theorem q2126 : (Jvm.Cond.stringRef "CardCupsModel" (278 : Nat) "seen") ∈ lw_tbl := lw_at lw_m9 99 rfl
theorem q2127 : (Jvm.Cond.stringRef "CardCupsModel" (280 : Nat) "last") ∈ lw_tbl := lw_at lw_m9 100 rfl
theorem q2128 : (Jvm.Cond.stringRef "CardCupsModel" (282 : Nat) "visit") ∈ lw_tbl := lw_at lw_m9 101 rfl
theorem q2129 : (Jvm.Cond.stringRef "CardCupsModel" (254 : Nat) "and") ∈ lw_tbl := lw_at lw_m9 102 rfl
theorem q2130 : (Jvm.Cond.stringRef "CardCupsModel" (246 : Nat) "or") ∈ lw_tbl := lw_at lw_m9 103 rfl
theorem q2132 : (Jvm.Cond.instanceMethod ({ cls := "CardCupsModel", name := "rule", desc := "(I)I" } : Jvm.MethodName)) ∈ lw_all := lw_g (lw_at lw_m9 105 rfl) rfl
theorem q2133 : (Jvm.Cond.selects "CardCupsModel" ({ cls := "CardCupsModel", name := "rule", desc := "(I)I" } : Jvm.MethodName) ({ cls := "CardCupsModel", name := "rule", desc := "(I)I" } : Jvm.MethodName)) ∈ lw_all := lw_g (lw_at lw_m9 106 rfl) rfl
theorem q2134 : (Jvm.Cond.code ({ cls := "CardCupsModel", name := "rule", desc := "(I)I" } : Jvm.MethodName) prog_28_method_44_code (2 : Nat) (Option.some Jvm.ClassFile.FieldType.int)) ∈ lw_all := lw_g (lw_at lw_m9 107 rfl) rfl
theorem q2136 : (Jvm.Cond.instanceMethod ({ cls := "CardCupsModel", name := "book", desc := "(I)I" } : Jvm.MethodName)) ∈ lw_all := lw_g (lw_at lw_m9 109 rfl) rfl
theorem q2137 : (Jvm.Cond.selects "CardCupsModel" ({ cls := "CardCupsModel", name := "book", desc := "(I)I" } : Jvm.MethodName) ({ cls := "CardCupsModel", name := "book", desc := "(I)I" } : Jvm.MethodName)) ∈ lw_all := lw_g (lw_at lw_m9 110 rfl) rfl
theorem q2138 : (Jvm.Cond.code ({ cls := "CardCupsModel", name := "book", desc := "(I)I" } : Jvm.MethodName) prog_28_method_45_code (8 : Nat) (Option.some Jvm.ClassFile.FieldType.int)) ∈ lw_all := lw_g (lw_at lw_m9 111 rfl) rfl
theorem q2140 : (Jvm.Cond.instanceMethod ({ cls := "CardCupsModel", name := "told", desc := "(I)I" } : Jvm.MethodName)) ∈ lw_all := lw_g (lw_at lw_m9 113 rfl) rfl
theorem q2141 : (Jvm.Cond.selects "CardCupsModel" ({ cls := "CardCupsModel", name := "told", desc := "(I)I" } : Jvm.MethodName) ({ cls := "CardCupsModel", name := "told", desc := "(I)I" } : Jvm.MethodName)) ∈ lw_all := lw_g (lw_at lw_m9 114 rfl) rfl
theorem q2142 : (Jvm.Cond.code ({ cls := "CardCupsModel", name := "told", desc := "(I)I" } : Jvm.MethodName) prog_28_method_46_code (2 : Nat) (Option.some Jvm.ClassFile.FieldType.int)) ∈ lw_all := lw_g (lw_at lw_m9 115 rfl) rfl
theorem q2144 : (Jvm.Cond.instanceMethod ({ cls := "CardCupsModel", name := "visit", desc := "(II)I" } : Jvm.MethodName)) ∈ lw_all := lw_g (lw_at lw_m9 117 rfl) rfl
theorem q2145 : (Jvm.Cond.selects "CardCupsModel" ({ cls := "CardCupsModel", name := "visit", desc := "(II)I" } : Jvm.MethodName) ({ cls := "CardCupsModel", name := "visit", desc := "(II)I" } : Jvm.MethodName)) ∈ lw_all := lw_g (lw_at lw_m9 118 rfl) rfl
theorem q2146 : (Jvm.Cond.code ({ cls := "CardCupsModel", name := "visit", desc := "(II)I" } : Jvm.MethodName) prog_28_method_49_code (3 : Nat) (Option.some Jvm.ClassFile.FieldType.int)) ∈ lw_all := lw_g (lw_at lw_m9 119 rfl) rfl
theorem q2147 : (Jvm.Cond.methodLink "CardCupsModel" (330 : Nat) ({ cls := "CardCupsModel", name := "isVisit", desc := "(II)Z" } : Jvm.MethodName)) ∈ lw_all := lw_g (lw_at lw_m9 120 rfl) rfl
theorem q2148 : (Jvm.Cond.privateMethod ({ cls := "CardCupsModel", name := "isVisit", desc := "(II)Z" } : Jvm.MethodName)) ∈ lw_tbl := lw_at lw_m9 121 rfl
theorem q2149 : (Jvm.Cond.instanceMethod ({ cls := "CardCupsModel", name := "isVisit", desc := "(II)Z" } : Jvm.MethodName)) ∈ lw_all := lw_g (lw_at lw_m9 122 rfl) rfl
theorem q2150 : (Jvm.Cond.code ({ cls := "CardCupsModel", name := "isVisit", desc := "(II)Z" } : Jvm.MethodName) prog_28_method_41_code (3 : Nat) (Option.some Jvm.ClassFile.FieldType.boolean)) ∈ lw_all := lw_g (lw_at lw_m9 123 rfl) rfl
theorem q2151 : (Jvm.Cond.methodLink "CardCupsModel" (333 : Nat) ({ cls := "CardCupsModel", name := "whichOf", desc := "(I)I" } : Jvm.MethodName)) ∈ lw_all := lw_g (lw_at lw_m9 124 rfl) rfl
theorem q2152 : (Jvm.Cond.privateMethod ({ cls := "CardCupsModel", name := "whichOf", desc := "(I)I" } : Jvm.MethodName)) ∈ lw_tbl := lw_at lw_m9 125 rfl
theorem q2153 : (Jvm.Cond.instanceMethod ({ cls := "CardCupsModel", name := "whichOf", desc := "(I)I" } : Jvm.MethodName)) ∈ lw_all := lw_g (lw_at lw_m9 126 rfl) rfl
theorem q2154 : (Jvm.Cond.code ({ cls := "CardCupsModel", name := "whichOf", desc := "(I)I" } : Jvm.MethodName) prog_28_method_47_code (4 : Nat) (Option.some Jvm.ClassFile.FieldType.int)) ∈ lw_all := lw_g (lw_at lw_m9 127 rfl) rfl
theorem q2155 : (Jvm.Cond.methodLink "CardCupsModel" (336 : Nat) ({ cls := "CardCupsModel", name := "sinceOf", desc := "(I)I" } : Jvm.MethodName)) ∈ lw_all := lw_g (lw_at lw_m9 128 rfl) rfl
theorem q2156 : (Jvm.Cond.privateMethod ({ cls := "CardCupsModel", name := "sinceOf", desc := "(I)I" } : Jvm.MethodName)) ∈ lw_tbl := lw_at lw_m9 129 rfl
theorem q2157 : (Jvm.Cond.instanceMethod ({ cls := "CardCupsModel", name := "sinceOf", desc := "(I)I" } : Jvm.MethodName)) ∈ lw_all := lw_g (lw_at lw_m9 130 rfl) rfl
theorem q2158 : (Jvm.Cond.code ({ cls := "CardCupsModel", name := "sinceOf", desc := "(I)I" } : Jvm.MethodName) prog_28_method_48_code (3 : Nat) (Option.some Jvm.ClassFile.FieldType.int)) ∈ lw_all := lw_g (lw_at lw_m9 131 rfl) rfl
theorem q2160 : (Jvm.Cond.instanceMethod ({ cls := "CardCupsModel", name := "person", desc := "(II)I" } : Jvm.MethodName)) ∈ lw_all := lw_g (lw_at lw_m9 133 rfl) rfl
theorem q2161 : (Jvm.Cond.selects "CardCupsModel" ({ cls := "CardCupsModel", name := "person", desc := "(II)I" } : Jvm.MethodName) ({ cls := "CardCupsModel", name := "person", desc := "(II)I" } : Jvm.MethodName)) ∈ lw_all := lw_g (lw_at lw_m9 134 rfl) rfl
theorem q2162 : (Jvm.Cond.code ({ cls := "CardCupsModel", name := "person", desc := "(II)I" } : Jvm.MethodName) prog_28_method_50_code (6 : Nat) (Option.some Jvm.ClassFile.FieldType.int)) ∈ lw_all := lw_g (lw_at lw_m9 135 rfl) rfl
theorem q2164 : (Jvm.Cond.instanceMethod ({ cls := "CardCupsModel", name := "price", desc := "(I)I" } : Jvm.MethodName)) ∈ lw_all := lw_g (lw_at lw_m9 137 rfl) rfl
theorem q2165 : (Jvm.Cond.selects "CardCupsModel" ({ cls := "CardCupsModel", name := "price", desc := "(I)I" } : Jvm.MethodName) ({ cls := "CardCupsModel", name := "price", desc := "(I)I" } : Jvm.MethodName)) ∈ lw_all := lw_g (lw_at lw_m9 138 rfl) rfl
theorem q2166 : (Jvm.Cond.code ({ cls := "CardCupsModel", name := "price", desc := "(I)I" } : Jvm.MethodName) prog_28_method_51_code (2 : Nat) (Option.some Jvm.ClassFile.FieldType.int)) ∈ lw_all := lw_g (lw_at lw_m9 139 rfl) rfl
theorem q2168 : (Jvm.Cond.instanceMethod ({ cls := "CardCupsModel", name := "states", desc := "(I)I" } : Jvm.MethodName)) ∈ lw_all := lw_g (lw_at lw_m9 141 rfl) rfl
theorem q2169 : (Jvm.Cond.selects "CardCupsModel" ({ cls := "CardCupsModel", name := "states", desc := "(I)I" } : Jvm.MethodName) ({ cls := "CardCupsModel", name := "states", desc := "(I)I" } : Jvm.MethodName)) ∈ lw_all := lw_g (lw_at lw_m9 142 rfl) rfl
theorem q2170 : (Jvm.Cond.code ({ cls := "CardCupsModel", name := "states", desc := "(I)I" } : Jvm.MethodName) prog_28_method_78_code (4 : Nat) (Option.some Jvm.ClassFile.FieldType.int)) ∈ lw_all := lw_g (lw_at lw_m9 143 rfl) rfl
theorem q2171 : (Jvm.Cond.methodLink "CardCupsModel" (465 : Nat) ({ cls := "CardCupsModel", name := "plain", desc := "()V" } : Jvm.MethodName)) ∈ lw_all := lw_g (lw_at lw_m9 144 rfl) rfl
theorem q2172 : (Jvm.Cond.privateMethod ({ cls := "CardCupsModel", name := "plain", desc := "()V" } : Jvm.MethodName)) ∈ lw_tbl := lw_at lw_m9 145 rfl
theorem q2173 : (Jvm.Cond.instanceMethod ({ cls := "CardCupsModel", name := "plain", desc := "()V" } : Jvm.MethodName)) ∈ lw_all := lw_g (lw_at lw_m9 146 rfl) rfl
theorem q2174 : (Jvm.Cond.code ({ cls := "CardCupsModel", name := "plain", desc := "()V" } : Jvm.MethodName) prog_28_method_52_code (1 : Nat) (Option.none : Option Jvm.ClassFile.FieldType)) ∈ lw_all := lw_g (lw_at lw_m9 147 rfl) rfl
theorem q2175 : (Jvm.Cond.methodLink "CardCupsModel" (459 : Nat) ({ cls := "CardCupsModel", name := "goes", desc := "(I)V" } : Jvm.MethodName)) ∈ lw_all := lw_g (lw_at lw_m9 148 rfl) rfl
theorem q2176 : (Jvm.Cond.privateMethod ({ cls := "CardCupsModel", name := "goes", desc := "(I)V" } : Jvm.MethodName)) ∈ lw_tbl := lw_at lw_m9 149 rfl
theorem q2177 : (Jvm.Cond.instanceMethod ({ cls := "CardCupsModel", name := "goes", desc := "(I)V" } : Jvm.MethodName)) ∈ lw_all := lw_g (lw_at lw_m9 150 rfl) rfl
theorem q2178 : (Jvm.Cond.code ({ cls := "CardCupsModel", name := "goes", desc := "(I)V" } : Jvm.MethodName) prog_28_method_72_code (5 : Nat) (Option.none : Option Jvm.ClassFile.FieldType)) ∈ lw_all := lw_g (lw_at lw_m9 151 rfl) rfl
theorem q2179 : (Jvm.Cond.methodLink "CardCupsModel" (440 : Nat) ({ cls := "CardCupsModel", name := "begin", desc := "()V" } : Jvm.MethodName)) ∈ lw_all := lw_g (lw_at lw_m9 152 rfl) rfl
theorem q2180 : (Jvm.Cond.privateMethod ({ cls := "CardCupsModel", name := "begin", desc := "()V" } : Jvm.MethodName)) ∈ lw_tbl := lw_at lw_m9 153 rfl
theorem q2181 : (Jvm.Cond.instanceMethod ({ cls := "CardCupsModel", name := "begin", desc := "()V" } : Jvm.MethodName)) ∈ lw_all := lw_g (lw_at lw_m9 154 rfl) rfl
theorem q2182 : (Jvm.Cond.code ({ cls := "CardCupsModel", name := "begin", desc := "()V" } : Jvm.MethodName) prog_28_method_54_code (2 : Nat) (Option.none : Option Jvm.ClassFile.FieldType)) ∈ lw_all := lw_g (lw_at lw_m9 155 rfl) rfl
theorem q2183 : (Jvm.Cond.methodLink "CardCupsModel" (367 : Nat) ({ cls := "CardCupsModel", name := "index", desc := "(IIIII)I" } : Jvm.MethodName)) ∈ lw_all := lw_g (lw_at lw_m9 156 rfl) rfl
theorem q2184 : (Jvm.Cond.static ({ cls := "CardCupsModel", name := "index", desc := "(IIIII)I" } : Jvm.MethodName)) ∈ lw_all := lw_g (lw_at lw_m9 157 rfl) rfl
theorem q2185 : (Jvm.Cond.code ({ cls := "CardCupsModel", name := "index", desc := "(IIIII)I" } : Jvm.MethodName) prog_28_method_53_code (5 : Nat) (Option.some Jvm.ClassFile.FieldType.int)) ∈ lw_all := lw_g (lw_at lw_m9 158 rfl) rfl
theorem q2186 : (Jvm.Cond.constantLong "CardCupsModel" (371 : Nat) (1099511627776 : Int64)) ∈ lw_all := lw_g (lw_at lw_m9 159 rfl) rfl
theorem q2187 : (Jvm.Cond.methodLink "CardCupsModel" (443 : Nat) ({ cls := "CardCupsModel", name := "comes", desc := "(I)V" } : Jvm.MethodName)) ∈ lw_all := lw_g (lw_at lw_m9 160 rfl) rfl
theorem q2188 : (Jvm.Cond.privateMethod ({ cls := "CardCupsModel", name := "comes", desc := "(I)V" } : Jvm.MethodName)) ∈ lw_tbl := lw_at lw_m9 161 rfl
theorem q2189 : (Jvm.Cond.instanceMethod ({ cls := "CardCupsModel", name := "comes", desc := "(I)V" } : Jvm.MethodName)) ∈ lw_all := lw_g (lw_at lw_m9 162 rfl) rfl
theorem q2190 : (Jvm.Cond.code ({ cls := "CardCupsModel", name := "comes", desc := "(I)V" } : Jvm.MethodName) prog_28_method_71_code (2 : Nat) (Option.none : Option Jvm.ClassFile.FieldType)) ∈ lw_all := lw_g (lw_at lw_m9 163 rfl) rfl
theorem q2191 : (Jvm.Cond.methodLink "CardCupsModel" (434 : Nat) ({ cls := "CardCupsModel", name := "falls", desc := "()V" } : Jvm.MethodName)) ∈ lw_all := lw_g (lw_at lw_m9 164 rfl) rfl
theorem q2192 : (Jvm.Cond.privateMethod ({ cls := "CardCupsModel", name := "falls", desc := "()V" } : Jvm.MethodName)) ∈ lw_tbl := lw_at lw_m9 165 rfl
theorem q2193 : (Jvm.Cond.instanceMethod ({ cls := "CardCupsModel", name := "falls", desc := "()V" } : Jvm.MethodName)) ∈ lw_all := lw_g (lw_at lw_m9 166 rfl) rfl
theorem q2194 : (Jvm.Cond.code ({ cls := "CardCupsModel", name := "falls", desc := "()V" } : Jvm.MethodName) prog_28_method_58_code (5 : Nat) (Option.none : Option Jvm.ClassFile.FieldType)) ∈ lw_all := lw_g (lw_at lw_m9 167 rfl) rfl
theorem q2195 : (Jvm.Cond.methodLink "CardCupsModel" (395 : Nat) ({ cls := "CardCupsModel", name := "stateOf", desc := "(I)V" } : Jvm.MethodName)) ∈ lw_all := lw_g (lw_at lw_m9 168 rfl) rfl
theorem q2196 : (Jvm.Cond.privateMethod ({ cls := "CardCupsModel", name := "stateOf", desc := "(I)V" } : Jvm.MethodName)) ∈ lw_tbl := lw_at lw_m9 169 rfl
theorem q2197 : (Jvm.Cond.instanceMethod ({ cls := "CardCupsModel", name := "stateOf", desc := "(I)V" } : Jvm.MethodName)) ∈ lw_all := lw_g (lw_at lw_m9 170 rfl) rfl
theorem q2198 : (Jvm.Cond.code ({ cls := "CardCupsModel", name := "stateOf", desc := "(I)V" } : Jvm.MethodName) prog_28_method_57_code (2 : Nat) (Option.none : Option Jvm.ClassFile.FieldType)) ∈ lw_all := lw_g (lw_at lw_m9 171 rfl) rfl
theorem q2199 : (Jvm.Cond.constantLong "CardCupsModel" (398 : Nat) (16 : Int64)) ∈ lw_all := lw_g (lw_at lw_m9 172 rfl) rfl
theorem q2200 : (Jvm.Cond.methodLink "CardCupsModel" (400 : Nat) ({ cls := "CardCupsModel", name := "gives", desc := "(IJ)V" } : Jvm.MethodName)) ∈ lw_all := lw_g (lw_at lw_m9 173 rfl) rfl
theorem q2201 : (Jvm.Cond.privateMethod ({ cls := "CardCupsModel", name := "gives", desc := "(IJ)V" } : Jvm.MethodName)) ∈ lw_tbl := lw_at lw_m9 174 rfl
theorem q2202 : (Jvm.Cond.instanceMethod ({ cls := "CardCupsModel", name := "gives", desc := "(IJ)V" } : Jvm.MethodName)) ∈ lw_all := lw_g (lw_at lw_m9 175 rfl) rfl
theorem q2203 : (Jvm.Cond.code ({ cls := "CardCupsModel", name := "gives", desc := "(IJ)V" } : Jvm.MethodName) prog_28_method_55_code (4 : Nat) (Option.none : Option Jvm.ClassFile.FieldType)) ∈ lw_all := lw_g (lw_at lw_m9 176 rfl) rfl
theorem q2204 : (Jvm.Cond.methodLink "CardCupsModel" (404 : Nat) ({ cls := "CardCupsModel", name := "takesNext", desc := "()V" } : Jvm.MethodName)) ∈ lw_all := lw_g (lw_at lw_m9 177 rfl) rfl
theorem q2205 : (Jvm.Cond.privateMethod ({ cls := "CardCupsModel", name := "takesNext", desc := "()V" } : Jvm.MethodName)) ∈ lw_tbl := lw_at lw_m9 178 rfl
theorem q2206 : (Jvm.Cond.instanceMethod ({ cls := "CardCupsModel", name := "takesNext", desc := "()V" } : Jvm.MethodName)) ∈ lw_all := lw_g (lw_at lw_m9 179 rfl) rfl
theorem q2207 : (Jvm.Cond.code ({ cls := "CardCupsModel", name := "takesNext", desc := "()V" } : Jvm.MethodName) prog_28_method_56_code (2 : Nat) (Option.none : Option Jvm.ClassFile.FieldType)) ∈ lw_all := lw_g (lw_at lw_m9 180 rfl) rfl
theorem q2208 : (Jvm.Cond.methodLink "CardCupsModel" (437 : Nat) ({ cls := "CardCupsModel", name := "keepsBook", desc := "(I)V" } : Jvm.MethodName)) ∈ lw_all := lw_g (lw_at lw_m9 181 rfl) rfl
theorem q2209 : (Jvm.Cond.privateMethod ({ cls := "CardCupsModel", name := "keepsBook", desc := "(I)V" } : Jvm.MethodName)) ∈ lw_tbl := lw_at lw_m9 182 rfl
theorem q2210 : (Jvm.Cond.instanceMethod ({ cls := "CardCupsModel", name := "keepsBook", desc := "(I)V" } : Jvm.MethodName)) ∈ lw_all := lw_g (lw_at lw_m9 183 rfl) rfl
theorem q2211 : (Jvm.Cond.code ({ cls := "CardCupsModel", name := "keepsBook", desc := "(I)V" } : Jvm.MethodName) prog_28_method_61_code (4 : Nat) (Option.none : Option Jvm.ClassFile.FieldType)) ∈ lw_all := lw_g (lw_at lw_m9 184 rfl) rfl
theorem q2212 : (Jvm.Cond.methodLink "CardCupsModel" (410 : Nat) ({ cls := "CardCupsModel", name := "isLine", desc := "(II)Z" } : Jvm.MethodName)) ∈ lw_all := lw_g (lw_at lw_m9 185 rfl) rfl
theorem q2213 : (Jvm.Cond.privateMethod ({ cls := "CardCupsModel", name := "isLine", desc := "(II)Z" } : Jvm.MethodName)) ∈ lw_tbl := lw_at lw_m9 186 rfl
theorem q2214 : (Jvm.Cond.instanceMethod ({ cls := "CardCupsModel", name := "isLine", desc := "(II)Z" } : Jvm.MethodName)) ∈ lw_all := lw_g (lw_at lw_m9 187 rfl) rfl
theorem q2215 : (Jvm.Cond.code ({ cls := "CardCupsModel", name := "isLine", desc := "(II)Z" } : Jvm.MethodName) prog_28_method_60_code (4 : Nat) (Option.some Jvm.ClassFile.FieldType.boolean)) ∈ lw_all := lw_g (lw_at lw_m9 188 rfl) rfl
theorem q2216 : (Jvm.Cond.methodLink "CardCupsModel" (407 : Nat) ({ cls := "CardCupsModel", name := "isWarm", desc := "(I)Z" } : Jvm.MethodName)) ∈ lw_all := lw_g (lw_at lw_m9 189 rfl) rfl
theorem q2217 : (Jvm.Cond.privateMethod ({ cls := "CardCupsModel", name := "isWarm", desc := "(I)Z" } : Jvm.MethodName)) ∈ lw_tbl := lw_at lw_m9 190 rfl
theorem q2218 : (Jvm.Cond.instanceMethod ({ cls := "CardCupsModel", name := "isWarm", desc := "(I)Z" } : Jvm.MethodName)) ∈ lw_all := lw_g (lw_at lw_m9 191 rfl) rfl
theorem q2219 : (Jvm.Cond.code ({ cls := "CardCupsModel", name := "isWarm", desc := "(I)Z" } : Jvm.MethodName) prog_28_method_59_code (2 : Nat) (Option.some Jvm.ClassFile.FieldType.boolean)) ∈ lw_all := lw_g (lw_at lw_m9 192 rfl) rfl
theorem q2220 : (Jvm.Cond.methodLink "CardCupsModel" (445 : Nat) ({ cls := "CardCupsModel", name := "habitOf", desc := "(I)I" } : Jvm.MethodName)) ∈ lw_all := lw_g (lw_at lw_m9 193 rfl) rfl
theorem q2221 : (Jvm.Cond.privateMethod ({ cls := "CardCupsModel", name := "habitOf", desc := "(I)I" } : Jvm.MethodName)) ∈ lw_tbl := lw_at lw_m9 194 rfl
theorem q2222 : (Jvm.Cond.instanceMethod ({ cls := "CardCupsModel", name := "habitOf", desc := "(I)I" } : Jvm.MethodName)) ∈ lw_all := lw_g (lw_at lw_m9 195 rfl) rfl
theorem q2223 : (Jvm.Cond.code ({ cls := "CardCupsModel", name := "habitOf", desc := "(I)I" } : Jvm.MethodName) prog_28_method_65_code (2 : Nat) (Option.some Jvm.ClassFile.FieldType.int)) ∈ lw_all := lw_g (lw_at lw_m9 196 rfl) rfl
theorem q2224 : (Jvm.Cond.methodLink "CardCupsModel" (448 : Nat) ({ cls := "CardCupsModel", name := "goesStep", desc := "(III)V" } : Jvm.MethodName)) ∈ lw_all := lw_g (lw_at lw_m9 197 rfl) rfl
theorem q2225 : (Jvm.Cond.privateMethod ({ cls := "CardCupsModel", name := "goesStep", desc := "(III)V" } : Jvm.MethodName)) ∈ lw_tbl := lw_at lw_m9 198 rfl
theorem q2226 : (Jvm.Cond.instanceMethod ({ cls := "CardCupsModel", name := "goesStep", desc := "(III)V" } : Jvm.MethodName)) ∈ lw_all := lw_g (lw_at lw_m9 199 rfl) rfl
theorem q2227 : (Jvm.Cond.code ({ cls := "CardCupsModel", name := "goesStep", desc := "(III)V" } : Jvm.MethodName) prog_28_method_69_code (12 : Nat) (Option.none : Option Jvm.ClassFile.FieldType)) ∈ lw_all := lw_g (lw_at lw_m9 200 rfl) rfl
theorem q2228 : (Jvm.Cond.methodLink "CardCupsModel" (424 : Nat) ({ cls := "CardCupsModel", name := "findFacts", desc := "(I)V" } : Jvm.MethodName)) ∈ lw_all := lw_g (lw_at lw_m9 201 rfl) rfl
theorem q2229 : (Jvm.Cond.privateMethod ({ cls := "CardCupsModel", name := "findFacts", desc := "(I)V" } : Jvm.MethodName)) ∈ lw_tbl := lw_at lw_m9 202 rfl
theorem q2230 : (Jvm.Cond.instanceMethod ({ cls := "CardCupsModel", name := "findFacts", desc := "(I)V" } : Jvm.MethodName)) ∈ lw_all := lw_g (lw_at lw_m9 203 rfl) rfl
theorem q2231 : (Jvm.Cond.code ({ cls := "CardCupsModel", name := "findFacts", desc := "(I)V" } : Jvm.MethodName) prog_28_method_64_code (2 : Nat) (Option.none : Option Jvm.ClassFile.FieldType)) ∈ lw_all := lw_g (lw_at lw_m9 204 rfl) rfl
theorem q2232 : (Jvm.Cond.methodLink "CardCupsModel" (427 : Nat) ({ cls := "CardCupsModel", name := "isSo", desc := "(II)Z" } : Jvm.MethodName)) ∈ lw_all := lw_g (lw_at lw_m9 205 rfl) rfl
theorem q2233 : (Jvm.Cond.privateMethod ({ cls := "CardCupsModel", name := "isSo", desc := "(II)Z" } : Jvm.MethodName)) ∈ lw_tbl := lw_at lw_m9 206 rfl
theorem q2234 : (Jvm.Cond.instanceMethod ({ cls := "CardCupsModel", name := "isSo", desc := "(II)Z" } : Jvm.MethodName)) ∈ lw_all := lw_g (lw_at lw_m9 207 rfl) rfl
theorem q2235 : (Jvm.Cond.code ({ cls := "CardCupsModel", name := "isSo", desc := "(II)Z" } : Jvm.MethodName) prog_28_method_62_code (8 : Nat) (Option.some Jvm.ClassFile.FieldType.boolean)) ∈ lw_all := lw_g (lw_at lw_m9 208 rfl) rfl
theorem q2236 : (Jvm.Cond.methodLink "CardCupsModel" (413 : Nat) ({ cls := "CardCupsModel", name := "both", desc := "(III)I" } : Jvm.MethodName)) ∈ lw_all := lw_g (lw_at lw_m9 209 rfl) rfl
theorem q2237 : (Jvm.Cond.static ({ cls := "CardCupsModel", name := "both", desc := "(III)I" } : Jvm.MethodName)) ∈ lw_all := lw_g (lw_at lw_m9 210 rfl) rfl
theorem q2238 : (Jvm.Cond.code ({ cls := "CardCupsModel", name := "both", desc := "(III)I" } : Jvm.MethodName) prog_28_method_63_code (4 : Nat) (Option.some Jvm.ClassFile.FieldType.int)) ∈ lw_all := lw_g (lw_at lw_m9 211 rfl) rfl
theorem q2239 : (Jvm.Cond.methodLink "CardCupsModel" (430 : Nat) ({ cls := "CardCupsModel", name := "does", desc := "(IJI)V" } : Jvm.MethodName)) ∈ lw_all := lw_g (lw_at lw_m9 212 rfl) rfl
theorem q2240 : (Jvm.Cond.privateMethod ({ cls := "CardCupsModel", name := "does", desc := "(IJI)V" } : Jvm.MethodName)) ∈ lw_tbl := lw_at lw_m9 213 rfl
theorem q2241 : (Jvm.Cond.instanceMethod ({ cls := "CardCupsModel", name := "does", desc := "(IJI)V" } : Jvm.MethodName)) ∈ lw_all := lw_g (lw_at lw_m9 214 rfl) rfl
theorem q2242 : (Jvm.Cond.code ({ cls := "CardCupsModel", name := "does", desc := "(IJI)V" } : Jvm.MethodName) prog_28_method_66_code (7 : Nat) (Option.none : Option Jvm.ClassFile.FieldType)) ∈ lw_all := lw_g (lw_at lw_m9 215 rfl) rfl
theorem q2243 : (Jvm.Cond.methodLink "CardCupsModel" (417 : Nat) ({ cls := "CardCupsModel", name := "takes", desc := "(JI)V" } : Jvm.MethodName)) ∈ lw_all := lw_g (lw_at lw_m9 216 rfl) rfl
theorem q2244 : (Jvm.Cond.privateMethod ({ cls := "CardCupsModel", name := "takes", desc := "(JI)V" } : Jvm.MethodName)) ∈ lw_tbl := lw_at lw_m9 217 rfl
theorem q2245 : (Jvm.Cond.instanceMethod ({ cls := "CardCupsModel", name := "takes", desc := "(JI)V" } : Jvm.MethodName)) ∈ lw_all := lw_g (lw_at lw_m9 218 rfl) rfl
theorem q2246 : (Jvm.Cond.code ({ cls := "CardCupsModel", name := "takes", desc := "(JI)V" } : Jvm.MethodName) prog_28_method_67_code (6 : Nat) (Option.none : Option Jvm.ClassFile.FieldType)) ∈ lw_all := lw_g (lw_at lw_m9 219 rfl) rfl
theorem q2247 : (Jvm.Cond.methodLink "CardCupsModel" (421 : Nat) ({ cls := "CardCupsModel", name := "starts", desc := "(JI)V" } : Jvm.MethodName)) ∈ lw_all := lw_g (lw_at lw_m9 220 rfl) rfl
theorem q2248 : (Jvm.Cond.privateMethod ({ cls := "CardCupsModel", name := "starts", desc := "(JI)V" } : Jvm.MethodName)) ∈ lw_tbl := lw_at lw_m9 221 rfl
theorem q2249 : (Jvm.Cond.instanceMethod ({ cls := "CardCupsModel", name := "starts", desc := "(JI)V" } : Jvm.MethodName)) ∈ lw_all := lw_g (lw_at lw_m9 222 rfl) rfl
theorem q2250 : (Jvm.Cond.code ({ cls := "CardCupsModel", name := "starts", desc := "(JI)V" } : Jvm.MethodName) prog_28_method_68_code (4 : Nat) (Option.none : Option Jvm.ClassFile.FieldType)) ∈ lw_all := lw_g (lw_at lw_m9 223 rfl) rfl
theorem q2251 : (Jvm.Cond.methodLink "CardCupsModel" (452 : Nat) ({ cls := "CardCupsModel", name := "ends", desc := "(I)V" } : Jvm.MethodName)) ∈ lw_all := lw_g (lw_at lw_m9 224 rfl) rfl
theorem q2252 : (Jvm.Cond.privateMethod ({ cls := "CardCupsModel", name := "ends", desc := "(I)V" } : Jvm.MethodName)) ∈ lw_tbl := lw_at lw_m9 225 rfl
theorem q2253 : (Jvm.Cond.instanceMethod ({ cls := "CardCupsModel", name := "ends", desc := "(I)V" } : Jvm.MethodName)) ∈ lw_all := lw_g (lw_at lw_m9 226 rfl) rfl
theorem q2254 : (Jvm.Cond.code ({ cls := "CardCupsModel", name := "ends", desc := "(I)V" } : Jvm.MethodName) prog_28_method_70_code (4 : Nat) (Option.none : Option Jvm.ClassFile.FieldType)) ∈ lw_all := lw_g (lw_at lw_m9 227 rfl) rfl
theorem q2255 : (Jvm.Cond.methodLink "CardCupsModel" (455 : Nat) ({ cls := "CardCupsModel", name := "likelyOf", desc := "(II)J" } : Jvm.MethodName)) ∈ lw_all := lw_g (lw_at lw_m9 228 rfl) rfl
theorem q2256 : (Jvm.Cond.privateMethod ({ cls := "CardCupsModel", name := "likelyOf", desc := "(II)J" } : Jvm.MethodName)) ∈ lw_tbl := lw_at lw_m9 229 rfl
theorem q2257 : (Jvm.Cond.instanceMethod ({ cls := "CardCupsModel", name := "likelyOf", desc := "(II)J" } : Jvm.MethodName)) ∈ lw_all := lw_g (lw_at lw_m9 230 rfl) rfl
theorem q2258 : (Jvm.Cond.code ({ cls := "CardCupsModel", name := "likelyOf", desc := "(II)J" } : Jvm.MethodName) prog_28_method_75_code (7 : Nat) (Option.some Jvm.ClassFile.FieldType.long)) ∈ lw_all := lw_g (lw_at lw_m9 231 rfl) rfl
theorem q2259 : (Jvm.Cond.methodLink "CardCupsModel" (462 : Nat) ({ cls := "CardCupsModel", name := "isOf", desc := "(II)Z" } : Jvm.MethodName)) ∈ lw_all := lw_g (lw_at lw_m9 232 rfl) rfl
theorem q2260 : (Jvm.Cond.privateMethod ({ cls := "CardCupsModel", name := "isOf", desc := "(II)Z" } : Jvm.MethodName)) ∈ lw_tbl := lw_at lw_m9 233 rfl
theorem q2261 : (Jvm.Cond.instanceMethod ({ cls := "CardCupsModel", name := "isOf", desc := "(II)Z" } : Jvm.MethodName)) ∈ lw_all := lw_g (lw_at lw_m9 234 rfl) rfl
theorem q2262 : (Jvm.Cond.code ({ cls := "CardCupsModel", name := "isOf", desc := "(II)Z" } : Jvm.MethodName) prog_28_method_74_code (3 : Nat) (Option.some Jvm.ClassFile.FieldType.boolean)) ∈ lw_all := lw_g (lw_at lw_m9 235 rfl) rfl
theorem q2264 : (Jvm.Cond.instanceMethod ({ cls := "CardCupsModel", name := "likely", desc := "(II)J" } : Jvm.MethodName)) ∈ lw_all := lw_g (lw_at lw_m9 237 rfl) rfl
theorem q2265 : (Jvm.Cond.selects "CardCupsModel" ({ cls := "CardCupsModel", name := "likely", desc := "(II)J" } : Jvm.MethodName) ({ cls := "CardCupsModel", name := "likely", desc := "(II)J" } : Jvm.MethodName)) ∈ lw_all := lw_g (lw_at lw_m9 238 rfl) rfl
theorem q2266 : (Jvm.Cond.code ({ cls := "CardCupsModel", name := "likely", desc := "(II)J" } : Jvm.MethodName) prog_28_method_79_code (3 : Nat) (Option.some Jvm.ClassFile.FieldType.long)) ∈ lw_all := lw_g (lw_at lw_m9 239 rfl) rfl
theorem q2268 : (Jvm.Cond.instanceMethod ({ cls := "CardCupsModel", name := "state", desc := "(IIII)J" } : Jvm.MethodName)) ∈ lw_all := lw_g (lw_at lw_m10 1 rfl) rfl
theorem q2269 : (Jvm.Cond.selects "CardCupsModel" ({ cls := "CardCupsModel", name := "state", desc := "(IIII)J" } : Jvm.MethodName) ({ cls := "CardCupsModel", name := "state", desc := "(IIII)J" } : Jvm.MethodName)) ∈ lw_all := lw_g (lw_at lw_m10 2 rfl) rfl
theorem q2270 : (Jvm.Cond.code ({ cls := "CardCupsModel", name := "state", desc := "(IIII)J" } : Jvm.MethodName) prog_28_method_81_code (5 : Nat) (Option.some Jvm.ClassFile.FieldType.long)) ∈ lw_all := lw_g (lw_at lw_m10 3 rfl) rfl
theorem q2271 : (Jvm.Cond.methodLink "CardCupsModel" (468 : Nat) ({ cls := "CardCupsModel", name := "partsOf", desc := "(III)J" } : Jvm.MethodName)) ∈ lw_all := lw_g (lw_at lw_m10 4 rfl) rfl
theorem q2272 : (Jvm.Cond.privateMethod ({ cls := "CardCupsModel", name := "partsOf", desc := "(III)J" } : Jvm.MethodName)) ∈ lw_tbl := lw_at lw_m10 5 rfl
theorem q2273 : (Jvm.Cond.instanceMethod ({ cls := "CardCupsModel", name := "partsOf", desc := "(III)J" } : Jvm.MethodName)) ∈ lw_all := lw_g (lw_at lw_m10 6 rfl) rfl
theorem q2274 : (Jvm.Cond.code ({ cls := "CardCupsModel", name := "partsOf", desc := "(III)J" } : Jvm.MethodName) prog_28_method_80_code (7 : Nat) (Option.some Jvm.ClassFile.FieldType.long)) ∈ lw_all := lw_g (lw_at lw_m10 7 rfl) rfl
theorem q2276 : (Jvm.Cond.instanceMethod ({ cls := "CardCupsModel", name := "likeliest", desc := "(I)I" } : Jvm.MethodName)) ∈ lw_all := lw_g (lw_at lw_m10 9 rfl) rfl
theorem q2277 : (Jvm.Cond.selects "CardCupsModel" ({ cls := "CardCupsModel", name := "likeliest", desc := "(I)I" } : Jvm.MethodName) ({ cls := "CardCupsModel", name := "likeliest", desc := "(I)I" } : Jvm.MethodName)) ∈ lw_all := lw_g (lw_at lw_m10 10 rfl) rfl
theorem q2278 : (Jvm.Cond.code ({ cls := "CardCupsModel", name := "likeliest", desc := "(I)I" } : Jvm.MethodName) prog_28_method_82_code (10 : Nat) (Option.some Jvm.ClassFile.FieldType.int)) ∈ lw_all := lw_g (lw_at lw_m10 11 rfl) rfl
theorem q2280 : (Jvm.Cond.instanceMethod ({ cls := "CardCupsModel", name := "mean", desc := "(III)J" } : Jvm.MethodName)) ∈ lw_all := lw_g (lw_at lw_m10 13 rfl) rfl
theorem q2281 : (Jvm.Cond.selects "CardCupsModel" ({ cls := "CardCupsModel", name := "mean", desc := "(III)J" } : Jvm.MethodName) ({ cls := "CardCupsModel", name := "mean", desc := "(III)J" } : Jvm.MethodName)) ∈ lw_all := lw_g (lw_at lw_m10 14 rfl) rfl
theorem q2282 : (Jvm.Cond.code ({ cls := "CardCupsModel", name := "mean", desc := "(III)J" } : Jvm.MethodName) prog_28_method_83_code (8 : Nat) (Option.some Jvm.ClassFile.FieldType.long)) ∈ lw_all := lw_g (lw_at lw_m10 15 rfl) rfl
theorem q2283 : (Jvm.Cond.methodLink "CardCupsModel" (472 : Nat) ({ cls := "CardCupsModel", name := "least", desc := "(JJI)J" } : Jvm.MethodName)) ∈ lw_all := lw_g (lw_at lw_m10 16 rfl) rfl
theorem q2284 : (Jvm.Cond.static ({ cls := "CardCupsModel", name := "least", desc := "(JJI)J" } : Jvm.MethodName)) ∈ lw_all := lw_g (lw_at lw_m10 17 rfl) rfl
theorem q2285 : (Jvm.Cond.code ({ cls := "CardCupsModel", name := "least", desc := "(JJI)J" } : Jvm.MethodName) prog_28_method_77_code (11 : Nat) (Option.some Jvm.ClassFile.FieldType.long)) ∈ lw_all := lw_g (lw_at lw_m10 18 rfl) rfl
theorem q2287 : (Jvm.Cond.instanceMethod ({ cls := "CardCupsModel", name := "often", desc := "(I)J" } : Jvm.MethodName)) ∈ lw_all := lw_g (lw_at lw_m10 20 rfl) rfl
theorem q2288 : (Jvm.Cond.selects "CardCupsModel" ({ cls := "CardCupsModel", name := "often", desc := "(I)J" } : Jvm.MethodName) ({ cls := "CardCupsModel", name := "often", desc := "(I)J" } : Jvm.MethodName)) ∈ lw_all := lw_g (lw_at lw_m10 21 rfl) rfl
theorem q2289 : (Jvm.Cond.code ({ cls := "CardCupsModel", name := "often", desc := "(I)J" } : Jvm.MethodName) prog_28_method_85_code (5 : Nat) (Option.some Jvm.ClassFile.FieldType.long)) ∈ lw_all := lw_g (lw_at lw_m10 22 rfl) rfl
theorem q2290 : (Jvm.Cond.methodLink "CardCupsModel" (476 : Nat) ({ cls := "CardCupsModel", name := "isPart", desc := "(I)Z" } : Jvm.MethodName)) ∈ lw_all := lw_g (lw_at lw_m10 23 rfl) rfl
theorem q2291 : (Jvm.Cond.privateMethod ({ cls := "CardCupsModel", name := "isPart", desc := "(I)Z" } : Jvm.MethodName)) ∈ lw_tbl := lw_at lw_m10 24 rfl
theorem q2292 : (Jvm.Cond.instanceMethod ({ cls := "CardCupsModel", name := "isPart", desc := "(I)Z" } : Jvm.MethodName)) ∈ lw_all := lw_g (lw_at lw_m10 25 rfl) rfl
theorem q2293 : (Jvm.Cond.code ({ cls := "CardCupsModel", name := "isPart", desc := "(I)Z" } : Jvm.MethodName) prog_28_method_84_code (2 : Nat) (Option.some Jvm.ClassFile.FieldType.boolean)) ∈ lw_all := lw_g (lw_at lw_m10 26 rfl) rfl
theorem q2294 : (Jvm.Cond.methodLink "CardCupsModel" (479 : Nat) ({ cls := "CardCupsModel", name := "goesAll", desc := "()V" } : Jvm.MethodName)) ∈ lw_all := lw_g (lw_at lw_m10 27 rfl) rfl
theorem q2295 : (Jvm.Cond.privateMethod ({ cls := "CardCupsModel", name := "goesAll", desc := "()V" } : Jvm.MethodName)) ∈ lw_tbl := lw_at lw_m10 28 rfl
theorem q2296 : (Jvm.Cond.instanceMethod ({ cls := "CardCupsModel", name := "goesAll", desc := "()V" } : Jvm.MethodName)) ∈ lw_all := lw_g (lw_at lw_m10 29 rfl) rfl
theorem q2297 : (Jvm.Cond.code ({ cls := "CardCupsModel", name := "goesAll", desc := "()V" } : Jvm.MethodName) prog_28_method_73_code (1 : Nat) (Option.none : Option Jvm.ClassFile.FieldType)) ∈ lw_all := lw_g (lw_at lw_m10 30 rfl) rfl
theorem q2299 : (Jvm.Cond.instanceMethod ({ cls := "CardCupsModel", name := "since", desc := "()I" } : Jvm.MethodName)) ∈ lw_all := lw_g (lw_at lw_m10 32 rfl) rfl
theorem q2300 : (Jvm.Cond.selects "CardCupsModel" ({ cls := "CardCupsModel", name := "since", desc := "()I" } : Jvm.MethodName) ({ cls := "CardCupsModel", name := "since", desc := "()I" } : Jvm.MethodName)) ∈ lw_all := lw_g (lw_at lw_m10 33 rfl) rfl
theorem q2301 : (Jvm.Cond.code ({ cls := "CardCupsModel", name := "since", desc := "()I" } : Jvm.MethodName) prog_28_method_86_code (2 : Nat) (Option.some Jvm.ClassFile.FieldType.int)) ∈ lw_all := lw_g (lw_at lw_m10 34 rfl) rfl
theorem q2302 : (Jvm.Cond.constantLong "CardCupsModel" (482 : Nat) (2 : Int64)) ∈ lw_all := lw_g (lw_at lw_m10 35 rfl) rfl
theorem q2304 : (Jvm.Cond.instanceMethod ({ cls := "CardCupsModel", name := "drunk", desc := "(II)J" } : Jvm.MethodName)) ∈ lw_all := lw_g (lw_at lw_m10 37 rfl) rfl
theorem q2305 : (Jvm.Cond.selects "CardCupsModel" ({ cls := "CardCupsModel", name := "drunk", desc := "(II)J" } : Jvm.MethodName) ({ cls := "CardCupsModel", name := "drunk", desc := "(II)J" } : Jvm.MethodName)) ∈ lw_all := lw_g (lw_at lw_m10 38 rfl) rfl
theorem q2306 : (Jvm.Cond.code ({ cls := "CardCupsModel", name := "drunk", desc := "(II)J" } : Jvm.MethodName) prog_28_method_87_code (3 : Nat) (Option.some Jvm.ClassFile.FieldType.long)) ∈ lw_all := lw_g (lw_at lw_m10 39 rfl) rfl
theorem q2308 : (Jvm.Cond.instanceMethod ({ cls := "CardCupsModel", name := "done", desc := "(II)J" } : Jvm.MethodName)) ∈ lw_all := lw_g (lw_at lw_m10 41 rfl) rfl
theorem q2309 : (Jvm.Cond.selects "CardCupsModel" ({ cls := "CardCupsModel", name := "done", desc := "(II)J" } : Jvm.MethodName) ({ cls := "CardCupsModel", name := "done", desc := "(II)J" } : Jvm.MethodName)) ∈ lw_all := lw_g (lw_at lw_m10 42 rfl) rfl
theorem q2310 : (Jvm.Cond.code ({ cls := "CardCupsModel", name := "done", desc := "(II)J" } : Jvm.MethodName) prog_28_method_88_code (3 : Nat) (Option.some Jvm.ClassFile.FieldType.long)) ∈ lw_all := lw_g (lw_at lw_m10 43 rfl) rfl
theorem q2312 : (Jvm.Cond.instanceMethod ({ cls := "CardCupsModel", name := "cost", desc := "(I)J" } : Jvm.MethodName)) ∈ lw_all := lw_g (lw_at lw_m10 45 rfl) rfl
theorem q2313 : (Jvm.Cond.selects "CardCupsModel" ({ cls := "CardCupsModel", name := "cost", desc := "(I)J" } : Jvm.MethodName) ({ cls := "CardCupsModel", name := "cost", desc := "(I)J" } : Jvm.MethodName)) ∈ lw_all := lw_g (lw_at lw_m10 46 rfl) rfl
theorem q2314 : (Jvm.Cond.code ({ cls := "CardCupsModel", name := "cost", desc := "(I)J" } : Jvm.MethodName) prog_28_method_90_code (2 : Nat) (Option.some Jvm.ClassFile.FieldType.long)) ∈ lw_all := lw_g (lw_at lw_m10 47 rfl) rfl
theorem q2315 : (Jvm.Cond.methodLink "CardCupsModel" (484 : Nat) ({ cls := "CardCupsModel", name := "costNow", desc := "()J" } : Jvm.MethodName)) ∈ lw_all := lw_g (lw_at lw_m10 48 rfl) rfl
theorem q2316 : (Jvm.Cond.privateMethod ({ cls := "CardCupsModel", name := "costNow", desc := "()J" } : Jvm.MethodName)) ∈ lw_tbl := lw_at lw_m10 49 rfl
theorem q2317 : (Jvm.Cond.instanceMethod ({ cls := "CardCupsModel", name := "costNow", desc := "()J" } : Jvm.MethodName)) ∈ lw_all := lw_g (lw_at lw_m10 50 rfl) rfl
theorem q2318 : (Jvm.Cond.code ({ cls := "CardCupsModel", name := "costNow", desc := "()J" } : Jvm.MethodName) prog_28_method_89_code (4 : Nat) (Option.some Jvm.ClassFile.FieldType.long)) ∈ lw_all := lw_g (lw_at lw_m10 51 rfl) rfl
theorem q2320 : (Jvm.Cond.instanceMethod ({ cls := "CardCupsModel", name := "fits", desc := "(I)J" } : Jvm.MethodName)) ∈ lw_all := lw_g (lw_at lw_m10 53 rfl) rfl
theorem q2321 : (Jvm.Cond.selects "CardCupsModel" ({ cls := "CardCupsModel", name := "fits", desc := "(I)J" } : Jvm.MethodName) ({ cls := "CardCupsModel", name := "fits", desc := "(I)J" } : Jvm.MethodName)) ∈ lw_all := lw_g (lw_at lw_m10 54 rfl) rfl
theorem q2322 : (Jvm.Cond.code ({ cls := "CardCupsModel", name := "fits", desc := "(I)J" } : Jvm.MethodName) prog_28_method_91_code (2 : Nat) (Option.some Jvm.ClassFile.FieldType.long)) ∈ lw_all := lw_g (lw_at lw_m10 55 rfl) rfl
theorem q2323 : (Jvm.Cond.methodLink "CardCupsModel" (488 : Nat) ({ cls := "CardCupsModel", name := "all", desc := "()J" } : Jvm.MethodName)) ∈ lw_all := lw_g (lw_at lw_m10 56 rfl) rfl
theorem q2324 : (Jvm.Cond.privateMethod ({ cls := "CardCupsModel", name := "all", desc := "()J" } : Jvm.MethodName)) ∈ lw_tbl := lw_at lw_m10 57 rfl
theorem q2325 : (Jvm.Cond.instanceMethod ({ cls := "CardCupsModel", name := "all", desc := "()J" } : Jvm.MethodName)) ∈ lw_all := lw_g (lw_at lw_m10 58 rfl) rfl
theorem q2326 : (Jvm.Cond.code ({ cls := "CardCupsModel", name := "all", desc := "()J" } : Jvm.MethodName) prog_28_method_76_code (4 : Nat) (Option.some Jvm.ClassFile.FieldType.long)) ∈ lw_all := lw_g (lw_at lw_m10 59 rfl) rfl
theorem q2328 : (Jvm.Cond.instanceMethod ({ cls := "CardCupsModel", name := "given", desc := "(III)J" } : Jvm.MethodName)) ∈ lw_all := lw_g (lw_at lw_m10 61 rfl) rfl
theorem q2329 : (Jvm.Cond.selects "CardCupsModel" ({ cls := "CardCupsModel", name := "given", desc := "(III)J" } : Jvm.MethodName) ({ cls := "CardCupsModel", name := "given", desc := "(III)J" } : Jvm.MethodName)) ∈ lw_all := lw_g (lw_at lw_m10 62 rfl) rfl
theorem q2330 : (Jvm.Cond.code ({ cls := "CardCupsModel", name := "given", desc := "(III)J" } : Jvm.MethodName) prog_28_method_94_code (4 : Nat) (Option.some Jvm.ClassFile.FieldType.long)) ∈ lw_all := lw_g (lw_at lw_m10 63 rfl) rfl
theorem q2331 : (Jvm.Cond.methodLink "CardCupsModel" (491 : Nat) ({ cls := "CardCupsModel", name := "goesGiven", desc := "(I)V" } : Jvm.MethodName)) ∈ lw_all := lw_g (lw_at lw_m10 64 rfl) rfl
theorem q2332 : (Jvm.Cond.privateMethod ({ cls := "CardCupsModel", name := "goesGiven", desc := "(I)V" } : Jvm.MethodName)) ∈ lw_tbl := lw_at lw_m10 65 rfl
theorem q2333 : (Jvm.Cond.instanceMethod ({ cls := "CardCupsModel", name := "goesGiven", desc := "(I)V" } : Jvm.MethodName)) ∈ lw_all := lw_g (lw_at lw_m10 66 rfl) rfl
theorem q2334 : (Jvm.Cond.code ({ cls := "CardCupsModel", name := "goesGiven", desc := "(I)V" } : Jvm.MethodName) prog_28_method_92_code (2 : Nat) (Option.none : Option Jvm.ClassFile.FieldType)) ∈ lw_all := lw_g (lw_at lw_m10 67 rfl) rfl
theorem q2335 : (Jvm.Cond.methodLink "CardCupsModel" (494 : Nat) ({ cls := "CardCupsModel", name := "share", desc := "(JI)J" } : Jvm.MethodName)) ∈ lw_all := lw_g (lw_at lw_m10 68 rfl) rfl
theorem q2336 : (Jvm.Cond.privateMethod ({ cls := "CardCupsModel", name := "share", desc := "(JI)J" } : Jvm.MethodName)) ∈ lw_tbl := lw_at lw_m10 69 rfl
theorem q2337 : (Jvm.Cond.instanceMethod ({ cls := "CardCupsModel", name := "share", desc := "(JI)J" } : Jvm.MethodName)) ∈ lw_all := lw_g (lw_at lw_m10 70 rfl) rfl
theorem q2338 : (Jvm.Cond.code ({ cls := "CardCupsModel", name := "share", desc := "(JI)J" } : Jvm.MethodName) prog_28_method_93_code (6 : Nat) (Option.some Jvm.ClassFile.FieldType.long)) ∈ lw_all := lw_g (lw_at lw_m10 71 rfl) rfl
theorem q2340 : (Jvm.Cond.instanceMethod ({ cls := "CardCupsModel", name := "best", desc := "(I)I" } : Jvm.MethodName)) ∈ lw_all := lw_g (lw_at lw_m10 73 rfl) rfl
theorem q2341 : (Jvm.Cond.selects "CardCupsModel" ({ cls := "CardCupsModel", name := "best", desc := "(I)I" } : Jvm.MethodName) ({ cls := "CardCupsModel", name := "best", desc := "(I)I" } : Jvm.MethodName)) ∈ lw_all := lw_g (lw_at lw_m10 74 rfl) rfl
theorem q2342 : (Jvm.Cond.code ({ cls := "CardCupsModel", name := "best", desc := "(I)I" } : Jvm.MethodName) prog_28_method_97_code (4 : Nat) (Option.some Jvm.ClassFile.FieldType.int)) ∈ lw_all := lw_g (lw_at lw_m10 75 rfl) rfl
theorem q2343 : (Jvm.Cond.methodLink "CardCupsModel" (502 : Nat) ({ cls := "CardCupsModel", name := "worthOf", desc := "(I)J" } : Jvm.MethodName)) ∈ lw_all := lw_g (lw_at lw_m10 76 rfl) rfl
theorem q2344 : (Jvm.Cond.privateMethod ({ cls := "CardCupsModel", name := "worthOf", desc := "(I)J" } : Jvm.MethodName)) ∈ lw_tbl := lw_at lw_m10 77 rfl
theorem q2345 : (Jvm.Cond.instanceMethod ({ cls := "CardCupsModel", name := "worthOf", desc := "(I)J" } : Jvm.MethodName)) ∈ lw_all := lw_g (lw_at lw_m10 78 rfl) rfl
theorem q2346 : (Jvm.Cond.code ({ cls := "CardCupsModel", name := "worthOf", desc := "(I)J" } : Jvm.MethodName) prog_28_method_96_code (18 : Nat) (Option.some Jvm.ClassFile.FieldType.long)) ∈ lw_all := lw_g (lw_at lw_m10 79 rfl) rfl
theorem q2347 : (Jvm.Cond.methodLink "CardCupsModel" (498 : Nat) ({ cls := "CardCupsModel", name := "takeCost", desc := "(J)J" } : Jvm.MethodName)) ∈ lw_all := lw_g (lw_at lw_m10 80 rfl) rfl
theorem q2348 : (Jvm.Cond.privateMethod ({ cls := "CardCupsModel", name := "takeCost", desc := "(J)J" } : Jvm.MethodName)) ∈ lw_tbl := lw_at lw_m10 81 rfl
theorem q2349 : (Jvm.Cond.instanceMethod ({ cls := "CardCupsModel", name := "takeCost", desc := "(J)J" } : Jvm.MethodName)) ∈ lw_all := lw_g (lw_at lw_m10 82 rfl) rfl
theorem q2350 : (Jvm.Cond.code ({ cls := "CardCupsModel", name := "takeCost", desc := "(J)J" } : Jvm.MethodName) prog_28_method_95_code (3 : Nat) (Option.some Jvm.ClassFile.FieldType.long)) ∈ lw_all := lw_g (lw_at lw_m10 83 rfl) rfl
theorem q2352 : (Jvm.Cond.instanceMethod ({ cls := "CardCupsModel", name := "worth", desc := "(III)J" } : Jvm.MethodName)) ∈ lw_all := lw_g (lw_at lw_m10 85 rfl) rfl
theorem q2353 : (Jvm.Cond.selects "CardCupsModel" ({ cls := "CardCupsModel", name := "worth", desc := "(III)J" } : Jvm.MethodName) ({ cls := "CardCupsModel", name := "worth", desc := "(III)J" } : Jvm.MethodName)) ∈ lw_all := lw_g (lw_at lw_m10 86 rfl) rfl
theorem q2354 : (Jvm.Cond.code ({ cls := "CardCupsModel", name := "worth", desc := "(III)J" } : Jvm.MethodName) prog_28_method_98_code (4 : Nat) (Option.some Jvm.ClassFile.FieldType.long)) ∈ lw_all := lw_g (lw_at lw_m10 87 rfl) rfl
theorem q2356 : (Jvm.Cond.instanceMethod ({ cls := "CardCupsModel", name := "gain", desc := "(II)J" } : Jvm.MethodName)) ∈ lw_all := lw_g (lw_at lw_m10 89 rfl) rfl
theorem q2357 : (Jvm.Cond.selects "CardCupsModel" ({ cls := "CardCupsModel", name := "gain", desc := "(II)J" } : Jvm.MethodName) ({ cls := "CardCupsModel", name := "gain", desc := "(II)J" } : Jvm.MethodName)) ∈ lw_all := lw_g (lw_at lw_m10 90 rfl) rfl
theorem q2358 : (Jvm.Cond.code ({ cls := "CardCupsModel", name := "gain", desc := "(II)J" } : Jvm.MethodName) prog_28_method_99_code (9 : Nat) (Option.some Jvm.ClassFile.FieldType.long)) ∈ lw_all := lw_g (lw_at lw_m10 91 rfl) rfl
theorem q2360 : (Jvm.Cond.instanceMethod ({ cls := "CardCupsModel", name := "without", desc := "(II)J" } : Jvm.MethodName)) ∈ lw_all := lw_g (lw_at lw_m10 93 rfl) rfl
theorem q2361 : (Jvm.Cond.selects "CardCupsModel" ({ cls := "CardCupsModel", name := "without", desc := "(II)J" } : Jvm.MethodName) ({ cls := "CardCupsModel", name := "without", desc := "(II)J" } : Jvm.MethodName)) ∈ lw_all := lw_g (lw_at lw_m10 94 rfl) rfl
theorem q2362 : (Jvm.Cond.code ({ cls := "CardCupsModel", name := "without", desc := "(II)J" } : Jvm.MethodName) prog_28_method_101_code (3 : Nat) (Option.some Jvm.ClassFile.FieldType.long)) ∈ lw_all := lw_g (lw_at lw_m10 95 rfl) rfl
theorem q2363 : (Jvm.Cond.methodLink "CardCupsModel" (506 : Nat) ({ cls := "CardCupsModel", name := "trueNow", desc := "()J" } : Jvm.MethodName)) ∈ lw_all := lw_g (lw_at lw_m10 96 rfl) rfl
theorem q2364 : (Jvm.Cond.privateMethod ({ cls := "CardCupsModel", name := "trueNow", desc := "()J" } : Jvm.MethodName)) ∈ lw_tbl := lw_at lw_m10 97 rfl
theorem q2365 : (Jvm.Cond.instanceMethod ({ cls := "CardCupsModel", name := "trueNow", desc := "()J" } : Jvm.MethodName)) ∈ lw_all := lw_g (lw_at lw_m10 98 rfl) rfl
theorem q2366 : (Jvm.Cond.code ({ cls := "CardCupsModel", name := "trueNow", desc := "()J" } : Jvm.MethodName) prog_28_method_100_code (1 : Nat) (Option.some Jvm.ClassFile.FieldType.long)) ∈ lw_all := lw_g (lw_at lw_m10 99 rfl) rfl
theorem q2368 : (Jvm.Cond.instanceMethod ({ cls := "CardCupsModel", name := "keeper", desc := "()I" } : Jvm.MethodName)) ∈ lw_all := lw_g (lw_at lw_m10 101 rfl) rfl
theorem q2369 : (Jvm.Cond.selects "CardCupsModel" ({ cls := "CardCupsModel", name := "keeper", desc := "()I" } : Jvm.MethodName) ({ cls := "CardCupsModel", name := "keeper", desc := "()I" } : Jvm.MethodName)) ∈ lw_all := lw_g (lw_at lw_m10 102 rfl) rfl
theorem q2370 : (Jvm.Cond.code ({ cls := "CardCupsModel", name := "keeper", desc := "()I" } : Jvm.MethodName) prog_28_method_103_code (1 : Nat) (Option.some Jvm.ClassFile.FieldType.int)) ∈ lw_all := lw_g (lw_at lw_m10 103 rfl) rfl
theorem q2371 : (Jvm.Cond.methodLink "CardCupsModel" (509 : Nat) ({ cls := "CardCupsModel", name := "leastWithout", desc := "(Z)I" } : Jvm.MethodName)) ∈ lw_all := lw_g (lw_at lw_m10 104 rfl) rfl
theorem q2372 : (Jvm.Cond.privateMethod ({ cls := "CardCupsModel", name := "leastWithout", desc := "(Z)I" } : Jvm.MethodName)) ∈ lw_tbl := lw_at lw_m10 105 rfl
theorem q2373 : (Jvm.Cond.instanceMethod ({ cls := "CardCupsModel", name := "leastWithout", desc := "(Z)I" } : Jvm.MethodName)) ∈ lw_all := lw_g (lw_at lw_m10 106 rfl) rfl
theorem q2374 : (Jvm.Cond.code ({ cls := "CardCupsModel", name := "leastWithout", desc := "(Z)I" } : Jvm.MethodName) prog_28_method_102_code (8 : Nat) (Option.some Jvm.ClassFile.FieldType.int)) ∈ lw_all := lw_g (lw_at lw_m10 107 rfl) rfl
theorem q2376 : (Jvm.Cond.instanceMethod ({ cls := "CardCupsModel", name := "spoiler", desc := "()I" } : Jvm.MethodName)) ∈ lw_all := lw_g (lw_at lw_m10 109 rfl) rfl
theorem q2377 : (Jvm.Cond.selects "CardCupsModel" ({ cls := "CardCupsModel", name := "spoiler", desc := "()I" } : Jvm.MethodName) ({ cls := "CardCupsModel", name := "spoiler", desc := "()I" } : Jvm.MethodName)) ∈ lw_all := lw_g (lw_at lw_m10 110 rfl) rfl
theorem q2378 : (Jvm.Cond.code ({ cls := "CardCupsModel", name := "spoiler", desc := "()I" } : Jvm.MethodName) prog_28_method_104_code (1 : Nat) (Option.some Jvm.ClassFile.FieldType.int)) ∈ lw_all := lw_g (lw_at lw_m10 111 rfl) rfl
theorem q2380 : (Jvm.Cond.instanceMethod ({ cls := "CardCupsModel", name := "falling", desc := "(I)J" } : Jvm.MethodName)) ∈ lw_all := lw_g (lw_at lw_m10 113 rfl) rfl
theorem q2381 : (Jvm.Cond.selects "CardCupsModel" ({ cls := "CardCupsModel", name := "falling", desc := "(I)J" } : Jvm.MethodName) ({ cls := "CardCupsModel", name := "falling", desc := "(I)J" } : Jvm.MethodName)) ∈ lw_all := lw_g (lw_at lw_m10 114 rfl) rfl
theorem q2382 : (Jvm.Cond.code ({ cls := "CardCupsModel", name := "falling", desc := "(I)J" } : Jvm.MethodName) prog_28_method_105_code (2 : Nat) (Option.some Jvm.ClassFile.FieldType.long)) ∈ lw_all := lw_g (lw_at lw_m10 115 rfl) rfl
theorem q2384 : (Jvm.Cond.instanceMethod ({ cls := "CardCupsModel", name := "seeing", desc := "(II)J" } : Jvm.MethodName)) ∈ lw_all := lw_g (lw_at lw_m10 117 rfl) rfl
theorem q2385 : (Jvm.Cond.selects "CardCupsModel" ({ cls := "CardCupsModel", name := "seeing", desc := "(II)J" } : Jvm.MethodName) ({ cls := "CardCupsModel", name := "seeing", desc := "(II)J" } : Jvm.MethodName)) ∈ lw_all := lw_g (lw_at lw_m10 118 rfl) rfl
theorem q2386 : (Jvm.Cond.code ({ cls := "CardCupsModel", name := "seeing", desc := "(II)J" } : Jvm.MethodName) prog_28_method_106_code (3 : Nat) (Option.some Jvm.ClassFile.FieldType.long)) ∈ lw_all := lw_g (lw_at lw_m10 119 rfl) rfl
theorem q2388 : (Jvm.Cond.instanceMethod ({ cls := "CardCupsModel", name := "filled", desc := "(II)J" } : Jvm.MethodName)) ∈ lw_all := lw_g (lw_at lw_m10 121 rfl) rfl
theorem q2389 : (Jvm.Cond.selects "CardCupsModel" ({ cls := "CardCupsModel", name := "filled", desc := "(II)J" } : Jvm.MethodName) ({ cls := "CardCupsModel", name := "filled", desc := "(II)J" } : Jvm.MethodName)) ∈ lw_all := lw_g (lw_at lw_m10 122 rfl) rfl
theorem q2390 : (Jvm.Cond.code ({ cls := "CardCupsModel", name := "filled", desc := "(II)J" } : Jvm.MethodName) prog_28_method_107_code (3 : Nat) (Option.some Jvm.ClassFile.FieldType.long)) ∈ lw_all := lw_g (lw_at lw_m10 123 rfl) rfl
theorem q2392 : (Jvm.Cond.instanceMethod ({ cls := "CardCupsModel", name := "fill", desc := "()I" } : Jvm.MethodName)) ∈ lw_all := lw_g (lw_at lw_m10 125 rfl) rfl
theorem q2393 : (Jvm.Cond.selects "CardCupsModel" ({ cls := "CardCupsModel", name := "fill", desc := "()I" } : Jvm.MethodName) ({ cls := "CardCupsModel", name := "fill", desc := "()I" } : Jvm.MethodName)) ∈ lw_all := lw_g (lw_at lw_m10 126 rfl) rfl
theorem q2394 : (Jvm.Cond.code ({ cls := "CardCupsModel", name := "fill", desc := "()I" } : Jvm.MethodName) prog_28_method_108_code (7 : Nat) (Option.some Jvm.ClassFile.FieldType.int)) ∈ lw_all := lw_g (lw_at lw_m10 127 rfl) rfl
theorem q2396 : (Jvm.Cond.instanceMethod ({ cls := "CardCupsModel", name := "ruled", desc := "(I)J" } : Jvm.MethodName)) ∈ lw_all := lw_g (lw_at lw_m10 129 rfl) rfl
theorem q2397 : (Jvm.Cond.selects "CardCupsModel" ({ cls := "CardCupsModel", name := "ruled", desc := "(I)J" } : Jvm.MethodName) ({ cls := "CardCupsModel", name := "ruled", desc := "(I)J" } : Jvm.MethodName)) ∈ lw_all := lw_g (lw_at lw_m10 130 rfl) rfl
theorem q2398 : (Jvm.Cond.code ({ cls := "CardCupsModel", name := "ruled", desc := "(I)J" } : Jvm.MethodName) prog_28_method_109_code (2 : Nat) (Option.some Jvm.ClassFile.FieldType.long)) ∈ lw_all := lw_g (lw_at lw_m10 131 rfl) rfl
theorem q2400 : (Jvm.Cond.instanceMethod ({ cls := "CardCupsModel", name := "swapped", desc := "(III)J" } : Jvm.MethodName)) ∈ lw_all := lw_g (lw_at lw_m10 133 rfl) rfl
theorem q2401 : (Jvm.Cond.selects "CardCupsModel" ({ cls := "CardCupsModel", name := "swapped", desc := "(III)J" } : Jvm.MethodName) ({ cls := "CardCupsModel", name := "swapped", desc := "(III)J" } : Jvm.MethodName)) ∈ lw_all := lw_g (lw_at lw_m10 134 rfl) rfl
theorem q2402 : (Jvm.Cond.code ({ cls := "CardCupsModel", name := "swapped", desc := "(III)J" } : Jvm.MethodName) prog_28_method_110_code (4 : Nat) (Option.some Jvm.ClassFile.FieldType.long)) ∈ lw_all := lw_g (lw_at lw_m10 135 rfl) rfl
theorem q2404 : (Jvm.Cond.instanceMethod ({ cls := "CardCupsModel", name := "swap", desc := "()I" } : Jvm.MethodName)) ∈ lw_all := lw_g (lw_at lw_m10 137 rfl) rfl
theorem q2405 : (Jvm.Cond.selects "CardCupsModel" ({ cls := "CardCupsModel", name := "swap", desc := "()I" } : Jvm.MethodName) ({ cls := "CardCupsModel", name := "swap", desc := "()I" } : Jvm.MethodName)) ∈ lw_all := lw_g (lw_at lw_m10 138 rfl) rfl
theorem q2406 : (Jvm.Cond.code ({ cls := "CardCupsModel", name := "swap", desc := "()I" } : Jvm.MethodName) prog_28_method_111_code (8 : Nat) (Option.some Jvm.ClassFile.FieldType.int)) ∈ lw_all := lw_g (lw_at lw_m10 139 rfl) rfl
theorem q2408 : (Jvm.Cond.instanceMethod ({ cls := "CardCupsModel", name := "day", desc := "(III)I" } : Jvm.MethodName)) ∈ lw_all := lw_g (lw_at lw_m10 141 rfl) rfl
theorem q2409 : (Jvm.Cond.selects "CardCupsModel" ({ cls := "CardCupsModel", name := "day", desc := "(III)I" } : Jvm.MethodName) ({ cls := "CardCupsModel", name := "day", desc := "(III)I" } : Jvm.MethodName)) ∈ lw_all := lw_g (lw_at lw_m10 142 rfl) rfl
theorem q2410 : (Jvm.Cond.code ({ cls := "CardCupsModel", name := "day", desc := "(III)I" } : Jvm.MethodName) prog_28_method_115_code (4 : Nat) (Option.some Jvm.ClassFile.FieldType.int)) ∈ lw_all := lw_g (lw_at lw_m10 143 rfl) rfl
theorem q2411 : (Jvm.Cond.methodLink "CardCupsModel" (532 : Nat) ({ cls := "CardCupsModel", name := "dayGoes", desc := "(II)V" } : Jvm.MethodName)) ∈ lw_all := lw_g (lw_at lw_m10 144 rfl) rfl
theorem q2412 : (Jvm.Cond.privateMethod ({ cls := "CardCupsModel", name := "dayGoes", desc := "(II)V" } : Jvm.MethodName)) ∈ lw_tbl := lw_at lw_m10 145 rfl
theorem q2413 : (Jvm.Cond.instanceMethod ({ cls := "CardCupsModel", name := "dayGoes", desc := "(II)V" } : Jvm.MethodName)) ∈ lw_all := lw_g (lw_at lw_m10 146 rfl) rfl
theorem q2414 : (Jvm.Cond.code ({ cls := "CardCupsModel", name := "dayGoes", desc := "(II)V" } : Jvm.MethodName) prog_28_method_114_code (6 : Nat) (Option.none : Option Jvm.ClassFile.FieldType)) ∈ lw_all := lw_g (lw_at lw_m10 147 rfl) rfl
theorem q2415 : (Jvm.Cond.methodLink "CardCupsModel" (517 : Nat) ({ cls := "CardCupsModel", name := "draws", desc := "(I)I" } : Jvm.MethodName)) ∈ lw_all := lw_g (lw_at lw_m10 148 rfl) rfl
theorem q2416 : (Jvm.Cond.privateMethod ({ cls := "CardCupsModel", name := "draws", desc := "(I)I" } : Jvm.MethodName)) ∈ lw_tbl := lw_at lw_m10 149 rfl
theorem q2417 : (Jvm.Cond.instanceMethod ({ cls := "CardCupsModel", name := "draws", desc := "(I)I" } : Jvm.MethodName)) ∈ lw_all := lw_g (lw_at lw_m10 150 rfl) rfl
theorem q2418 : (Jvm.Cond.code ({ cls := "CardCupsModel", name := "draws", desc := "(I)I" } : Jvm.MethodName) prog_28_method_112_code (2 : Nat) (Option.some Jvm.ClassFile.FieldType.int)) ∈ lw_all := lw_g (lw_at lw_m10 151 rfl) rfl
theorem q2419 : (Jvm.Cond.constant "CardCupsModel" (516 : Nat) (1103515245 : Int32)) ∈ lw_all := lw_g (lw_at lw_m10 152 rfl) rfl
theorem q2420 : (Jvm.Cond.methodLink "CardCupsModel" (529 : Nat) ({ cls := "CardCupsModel", name := "dayDoes", desc := "(II)V" } : Jvm.MethodName)) ∈ lw_all := lw_g (lw_at lw_m10 153 rfl) rfl
theorem q2421 : (Jvm.Cond.privateMethod ({ cls := "CardCupsModel", name := "dayDoes", desc := "(II)V" } : Jvm.MethodName)) ∈ lw_tbl := lw_at lw_m10 154 rfl
theorem q2422 : (Jvm.Cond.instanceMethod ({ cls := "CardCupsModel", name := "dayDoes", desc := "(II)V" } : Jvm.MethodName)) ∈ lw_all := lw_g (lw_at lw_m10 155 rfl) rfl
theorem q2423 : (Jvm.Cond.code ({ cls := "CardCupsModel", name := "dayDoes", desc := "(II)V" } : Jvm.MethodName) prog_28_method_113_code (5 : Nat) (Option.none : Option Jvm.ClassFile.FieldType)) ∈ lw_all := lw_g (lw_at lw_m10 156 rfl) rfl
theorem q2425 : (Jvm.Cond.instanceMethod ({ cls := "CardCupsModel", name := "span", desc := "(III)I" } : Jvm.MethodName)) ∈ lw_all := lw_g (lw_at lw_m10 158 rfl) rfl
theorem q2426 : (Jvm.Cond.selects "CardCupsModel" ({ cls := "CardCupsModel", name := "span", desc := "(III)I" } : Jvm.MethodName) ({ cls := "CardCupsModel", name := "span", desc := "(III)I" } : Jvm.MethodName)) ∈ lw_all := lw_g (lw_at lw_m10 159 rfl) rfl
theorem q2427 : (Jvm.Cond.code ({ cls := "CardCupsModel", name := "span", desc := "(III)I" } : Jvm.MethodName) prog_28_method_116_code (8 : Nat) (Option.some Jvm.ClassFile.FieldType.int)) ∈ lw_all := lw_g (lw_at lw_m10 160 rfl) rfl
theorem q2429 : (Jvm.Cond.instanceMethod ({ cls := "CardCupsModel", name := "come", desc := "(II)I" } : Jvm.MethodName)) ∈ lw_all := lw_g (lw_at lw_m10 162 rfl) rfl
theorem q2430 : (Jvm.Cond.selects "CardCupsModel" ({ cls := "CardCupsModel", name := "come", desc := "(II)I" } : Jvm.MethodName) ({ cls := "CardCupsModel", name := "come", desc := "(II)I" } : Jvm.MethodName)) ∈ lw_all := lw_g (lw_at lw_m10 163 rfl) rfl
theorem q2431 : (Jvm.Cond.code ({ cls := "CardCupsModel", name := "come", desc := "(II)I" } : Jvm.MethodName) prog_28_method_119_code (4 : Nat) (Option.some Jvm.ClassFile.FieldType.int)) ∈ lw_all := lw_g (lw_at lw_m10 164 rfl) rfl
theorem q2432 : (Jvm.Cond.methodLink "CardCupsModel" (535 : Nat) ({ cls := "CardCupsModel", name := "keepsVisits", desc := "()V" } : Jvm.MethodName)) ∈ lw_all := lw_g (lw_at lw_m10 165 rfl) rfl
theorem q2433 : (Jvm.Cond.privateMethod ({ cls := "CardCupsModel", name := "keepsVisits", desc := "()V" } : Jvm.MethodName)) ∈ lw_tbl := lw_at lw_m10 166 rfl
theorem q2434 : (Jvm.Cond.instanceMethod ({ cls := "CardCupsModel", name := "keepsVisits", desc := "()V" } : Jvm.MethodName)) ∈ lw_all := lw_g (lw_at lw_m10 167 rfl) rfl
theorem q2435 : (Jvm.Cond.code ({ cls := "CardCupsModel", name := "keepsVisits", desc := "()V" } : Jvm.MethodName) prog_28_method_117_code (2 : Nat) (Option.none : Option Jvm.ClassFile.FieldType)) ∈ lw_all := lw_g (lw_at lw_m10 168 rfl) rfl
theorem q2437 : (Jvm.Cond.instanceMethod ({ cls := "CardCupsModel", name := "skip", desc := "(I)I" } : Jvm.MethodName)) ∈ lw_all := lw_g (lw_at lw_m10 170 rfl) rfl
theorem q2438 : (Jvm.Cond.selects "CardCupsModel" ({ cls := "CardCupsModel", name := "skip", desc := "(I)I" } : Jvm.MethodName) ({ cls := "CardCupsModel", name := "skip", desc := "(I)I" } : Jvm.MethodName)) ∈ lw_all := lw_g (lw_at lw_m10 171 rfl) rfl
theorem q2439 : (Jvm.Cond.code ({ cls := "CardCupsModel", name := "skip", desc := "(I)I" } : Jvm.MethodName) prog_28_method_120_code (2 : Nat) (Option.some Jvm.ClassFile.FieldType.int)) ∈ lw_all := lw_g (lw_at lw_m10 172 rfl) rfl
theorem q2440 : (Jvm.Cond.methodLink "CardCupsModel" (538 : Nat) ({ cls := "CardCupsModel", name := "leaves", desc := "(I)V" } : Jvm.MethodName)) ∈ lw_all := lw_g (lw_at lw_m10 173 rfl) rfl
theorem q2441 : (Jvm.Cond.privateMethod ({ cls := "CardCupsModel", name := "leaves", desc := "(I)V" } : Jvm.MethodName)) ∈ lw_tbl := lw_at lw_m10 174 rfl
theorem q2442 : (Jvm.Cond.instanceMethod ({ cls := "CardCupsModel", name := "leaves", desc := "(I)V" } : Jvm.MethodName)) ∈ lw_all := lw_g (lw_at lw_m10 175 rfl) rfl
theorem q2443 : (Jvm.Cond.code ({ cls := "CardCupsModel", name := "leaves", desc := "(I)V" } : Jvm.MethodName) prog_28_method_118_code (3 : Nat) (Option.none : Option Jvm.ClassFile.FieldType)) ∈ lw_all := lw_g (lw_at lw_m10 176 rfl) rfl
theorem q2445 : (Jvm.Cond.instanceMethod ({ cls := "CardCupsModel", name := "shift", desc := "(II)I" } : Jvm.MethodName)) ∈ lw_all := lw_g (lw_at lw_m10 178 rfl) rfl
theorem q2446 : (Jvm.Cond.selects "CardCupsModel" ({ cls := "CardCupsModel", name := "shift", desc := "(II)I" } : Jvm.MethodName) ({ cls := "CardCupsModel", name := "shift", desc := "(II)I" } : Jvm.MethodName)) ∈ lw_all := lw_g (lw_at lw_m10 179 rfl) rfl
theorem q2447 : (Jvm.Cond.code ({ cls := "CardCupsModel", name := "shift", desc := "(II)I" } : Jvm.MethodName) prog_28_method_121_code (5 : Nat) (Option.some Jvm.ClassFile.FieldType.int)) ∈ lw_all := lw_g (lw_at lw_m10 180 rfl) rfl
theorem q2449 : (Jvm.Cond.instanceMethod ({ cls := "CardCupsModel", name := "teach", desc := "(II)I" } : Jvm.MethodName)) ∈ lw_all := lw_g (lw_at lw_m10 182 rfl) rfl
theorem q2450 : (Jvm.Cond.selects "CardCupsModel" ({ cls := "CardCupsModel", name := "teach", desc := "(II)I" } : Jvm.MethodName) ({ cls := "CardCupsModel", name := "teach", desc := "(II)I" } : Jvm.MethodName)) ∈ lw_all := lw_g (lw_at lw_m10 183 rfl) rfl
theorem q2451 : (Jvm.Cond.code ({ cls := "CardCupsModel", name := "teach", desc := "(II)I" } : Jvm.MethodName) prog_28_method_122_code (4 : Nat) (Option.some Jvm.ClassFile.FieldType.int)) ∈ lw_all := lw_g (lw_at lw_m10 184 rfl) rfl
theorem q2453 : (Jvm.Cond.instanceMethod ({ cls := "CardCupsModel", name := "undo", desc := "()I" } : Jvm.MethodName)) ∈ lw_all := lw_g (lw_at lw_m10 186 rfl) rfl
theorem q2454 : (Jvm.Cond.selects "CardCupsModel" ({ cls := "CardCupsModel", name := "undo", desc := "()I" } : Jvm.MethodName) ({ cls := "CardCupsModel", name := "undo", desc := "()I" } : Jvm.MethodName)) ∈ lw_all := lw_g (lw_at lw_m10 187 rfl) rfl
theorem q2455 : (Jvm.Cond.code ({ cls := "CardCupsModel", name := "undo", desc := "()I" } : Jvm.MethodName) prog_28_method_123_code (2 : Nat) (Option.some Jvm.ClassFile.FieldType.int)) ∈ lw_all := lw_g (lw_at lw_m10 188 rfl) rfl
theorem q2457 : (Jvm.Cond.instanceMethod ({ cls := "CardCupsModel", name := "image", desc := "()I" } : Jvm.MethodName)) ∈ lw_all := lw_g (lw_at lw_m10 190 rfl) rfl
theorem q2458 : (Jvm.Cond.selects "CardCupsModel" ({ cls := "CardCupsModel", name := "image", desc := "()I" } : Jvm.MethodName) ({ cls := "CardCupsModel", name := "image", desc := "()I" } : Jvm.MethodName)) ∈ lw_all := lw_g (lw_at lw_m10 191 rfl) rfl
theorem q2459 : (Jvm.Cond.code ({ cls := "CardCupsModel", name := "image", desc := "()I" } : Jvm.MethodName) prog_28_method_126_code (1 : Nat) (Option.some Jvm.ClassFile.FieldType.int)) ∈ lw_all := lw_g (lw_at lw_m10 192 rfl) rfl
theorem q2460 : (Jvm.Cond.methodLink "CardCupsModel" (545 : Nat) ({ cls := "CardCupsModel", name := "keepsAll", desc := "(IZ)V" } : Jvm.MethodName)) ∈ lw_all := lw_g (lw_at lw_m10 193 rfl) rfl
theorem q2461 : (Jvm.Cond.privateMethod ({ cls := "CardCupsModel", name := "keepsAll", desc := "(IZ)V" } : Jvm.MethodName)) ∈ lw_tbl := lw_at lw_m10 194 rfl
theorem q2462 : (Jvm.Cond.instanceMethod ({ cls := "CardCupsModel", name := "keepsAll", desc := "(IZ)V" } : Jvm.MethodName)) ∈ lw_all := lw_g (lw_at lw_m10 195 rfl) rfl
theorem q2463 : (Jvm.Cond.code ({ cls := "CardCupsModel", name := "keepsAll", desc := "(IZ)V" } : Jvm.MethodName) prog_28_method_125_code (4 : Nat) (Option.none : Option Jvm.ClassFile.FieldType)) ∈ lw_all := lw_g (lw_at lw_m10 196 rfl) rfl
theorem q2464 : (Jvm.Cond.methodLink "CardCupsModel" (541 : Nat) ({ cls := "CardCupsModel", name := "keepsRow", desc := "(I[IIZ)I" } : Jvm.MethodName)) ∈ lw_all := lw_g (lw_at lw_m10 197 rfl) rfl
theorem q2465 : (Jvm.Cond.privateMethod ({ cls := "CardCupsModel", name := "keepsRow", desc := "(I[IIZ)I" } : Jvm.MethodName)) ∈ lw_tbl := lw_at lw_m10 198 rfl
theorem q2466 : (Jvm.Cond.instanceMethod ({ cls := "CardCupsModel", name := "keepsRow", desc := "(I[IIZ)I" } : Jvm.MethodName)) ∈ lw_all := lw_g (lw_at lw_m10 199 rfl) rfl
theorem q2467 : (Jvm.Cond.code ({ cls := "CardCupsModel", name := "keepsRow", desc := "(I[IIZ)I" } : Jvm.MethodName) prog_28_method_124_code (6 : Nat) (Option.some Jvm.ClassFile.FieldType.int)) ∈ lw_all := lw_g (lw_at lw_m10 200 rfl) rfl
theorem q2469 : (Jvm.Cond.instanceMethod ({ cls := "CardCupsModel", name := "restore", desc := "()I" } : Jvm.MethodName)) ∈ lw_all := lw_g (lw_at lw_m10 202 rfl) rfl
theorem q2470 : (Jvm.Cond.selects "CardCupsModel" ({ cls := "CardCupsModel", name := "restore", desc := "()I" } : Jvm.MethodName) ({ cls := "CardCupsModel", name := "restore", desc := "()I" } : Jvm.MethodName)) ∈ lw_all := lw_g (lw_at lw_m10 203 rfl) rfl
theorem q2471 : (Jvm.Cond.code ({ cls := "CardCupsModel", name := "restore", desc := "()I" } : Jvm.MethodName) prog_28_method_127_code (1 : Nat) (Option.some Jvm.ClassFile.FieldType.int)) ∈ lw_all := lw_g (lw_at lw_m10 204 rfl) rfl
theorem q2473 : (Jvm.Cond.instanceMethod ({ cls := "CardCupsModel", name := "status", desc := "(I)I" } : Jvm.MethodName)) ∈ lw_all := lw_g (lw_at lw_m10 206 rfl) rfl
theorem q2474 : (Jvm.Cond.selects "CardCupsModel" ({ cls := "CardCupsModel", name := "status", desc := "(I)I" } : Jvm.MethodName) ({ cls := "CardCupsModel", name := "status", desc := "(I)I" } : Jvm.MethodName)) ∈ lw_all := lw_g (lw_at lw_m10 207 rfl) rfl
theorem q2475 : (Jvm.Cond.code ({ cls := "CardCupsModel", name := "status", desc := "(I)I" } : Jvm.MethodName) prog_28_method_128_code (2 : Nat) (Option.some Jvm.ClassFile.FieldType.int)) ∈ lw_all := lw_g (lw_at lw_m10 208 rfl) rfl
theorem q2477 : (Jvm.Cond.instanceMethod ({ cls := "CardCupsModel", name := "count", desc := "(I)I" } : Jvm.MethodName)) ∈ lw_all := lw_g (lw_at lw_m10 210 rfl) rfl
theorem q2478 : (Jvm.Cond.selects "CardCupsModel" ({ cls := "CardCupsModel", name := "count", desc := "(I)I" } : Jvm.MethodName) ({ cls := "CardCupsModel", name := "count", desc := "(I)I" } : Jvm.MethodName)) ∈ lw_all := lw_g (lw_at lw_m10 211 rfl) rfl
theorem q2479 : (Jvm.Cond.code ({ cls := "CardCupsModel", name := "count", desc := "(I)I" } : Jvm.MethodName) prog_28_method_129_code (2 : Nat) (Option.some Jvm.ClassFile.FieldType.int)) ∈ lw_all := lw_g (lw_at lw_m10 212 rfl) rfl
theorem q2489 : (Jvm.Cond.castable "CardCupsModel" "java/lang/Object") ∈ lw_tbl := lw_at lw_m10 222 rfl
theorem in_X9 : ∀ w ∈ wsX90, w ∈ lw_all := lw_in wsX90 [1828, 1830, 1832, 1834, 1836, 1838, 1840, 1842, 1844, 1846, 1848, 1850, 1852, 1854, 1856, 1858, 1860, 1862, 1864, 1866, 1868, 1870, 1872, 1874, 1876, 1878, 1880, 1882, 1884, 1886, 1888, 1890, 1892, 1894, 1896, 1898, 1900, 1902, 1904, 1906, 1908, 1910, 1912, 1914, 1916, 1918, 1920, 1922, 1924, 1926, 1928, 1930, 1932, 1934, 1936, 1938, 1940, 1942, 1944, 1946, 1948, 1950, 1952, 1954, 1956] (by decide +kernel) (by decide +kernel)
