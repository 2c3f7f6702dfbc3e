/-! CardCupsLaw -/
set_option maxRecDepth 100000
def RX0 : String := "CardCupsLaw"
abbrev cX0_office : ByteArray := method_3_code
def yX0_office : MethodName := ⟨RX0, "office", "(LCardCups;I[J)I"⟩
def dkwX0_office_0 : List UInt8 := [44, 3, 42, 27, 182, 0, 7, 133, 80, 167, 0, 6, 78, 4, 172, 3, 172]
abbrev dktX0_office_0 : List UInt8 := dkwX0_office_0 ++ []
theorem dksX0_office_0 : cX0_office.data.toList.drop 0 = dktX0_office_0 := by decide +kernel
theorem dX0_office_0 : decode cX0_office 0 = .ok (.aload_n 2, 1) := dk_44 (dk_at dksX0_office_0 0 rfl rfl)
theorem dX0_office_1 : decode cX0_office 1 = .ok (.iconst 0, 1) := dk_3 (dk_at dksX0_office_0 1 rfl rfl)
theorem dX0_office_2 : decode cX0_office 2 = .ok (.aload_n 0, 1) := dk_42 (dk_at dksX0_office_0 2 rfl rfl)
theorem dX0_office_3 : decode cX0_office 3 = .ok (.iload_n 1, 1) := dk_27 (dk_at dksX0_office_0 3 rfl rfl)
theorem dX0_office_4 : decode cX0_office 4 = .ok (.invokevirtual 7, 3) := dk_182 0 7 (dk_at dksX0_office_0 4 rfl rfl)
theorem dX0_office_7 : decode cX0_office 7 = .ok (.i2l, 1) := dk_133 (dk_at dksX0_office_0 7 rfl rfl)
theorem dX0_office_8 : decode cX0_office 8 = .ok (.lastore, 1) := dk_80 (dk_at dksX0_office_0 8 rfl rfl)
theorem dX0_office_9 : decode cX0_office 9 = .ok (.goto 6, 3) := dk_167 0 6 (dk_at dksX0_office_0 9 rfl rfl)
theorem dX0_office_12 : decode cX0_office 12 = .ok (.astore_n 3, 1) := dk_78 (dk_at dksX0_office_0 12 rfl rfl)
theorem dX0_office_13 : decode cX0_office 13 = .ok (.iconst 1, 1) := dk_4 (dk_at dksX0_office_0 13 rfl rfl)
theorem dX0_office_14 : decode cX0_office 14 = .ok (.ireturn, 1) := dk_172 (dk_at dksX0_office_0 14 rfl rfl)
theorem dX0_office_15 : decode cX0_office 15 = .ok (.iconst 0, 1) := dk_3 (dk_at dksX0_office_0 15 rfl rfl)
theorem dX0_office_16 : decode cX0_office 16 = .ok (.ireturn, 1) := dk_172 (dk_at dksX0_office_0 16 rfl rfl)
abbrev cX0_habit : ByteArray := method_4_code
def yX0_habit : MethodName := ⟨RX0, "habit", "(LCardCups;II[J)I"⟩
def dkwX0_habit_0 : List UInt8 := [45, 3, 42, 27, 28, 182, 0, 15, 133, 80, 167, 0, 11, 58, 4, 4, 172, 58, 4, 5, 172, 3, 172]
abbrev dktX0_habit_0 : List UInt8 := dkwX0_habit_0 ++ []
theorem dksX0_habit_0 : cX0_habit.data.toList.drop 0 = dktX0_habit_0 := by decide +kernel
theorem dX0_habit_0 : decode cX0_habit 0 = .ok (.aload_n 3, 1) := dk_45 (dk_at dksX0_habit_0 0 rfl rfl)
theorem dX0_habit_1 : decode cX0_habit 1 = .ok (.iconst 0, 1) := dk_3 (dk_at dksX0_habit_0 1 rfl rfl)
theorem dX0_habit_2 : decode cX0_habit 2 = .ok (.aload_n 0, 1) := dk_42 (dk_at dksX0_habit_0 2 rfl rfl)
theorem dX0_habit_3 : decode cX0_habit 3 = .ok (.iload_n 1, 1) := dk_27 (dk_at dksX0_habit_0 3 rfl rfl)
theorem dX0_habit_4 : decode cX0_habit 4 = .ok (.iload_n 2, 1) := dk_28 (dk_at dksX0_habit_0 4 rfl rfl)
theorem dX0_habit_5 : decode cX0_habit 5 = .ok (.invokevirtual 15, 3) := dk_182 0 15 (dk_at dksX0_habit_0 5 rfl rfl)
theorem dX0_habit_8 : decode cX0_habit 8 = .ok (.i2l, 1) := dk_133 (dk_at dksX0_habit_0 8 rfl rfl)
theorem dX0_habit_9 : decode cX0_habit 9 = .ok (.lastore, 1) := dk_80 (dk_at dksX0_habit_0 9 rfl rfl)
theorem dX0_habit_10 : decode cX0_habit 10 = .ok (.goto 11, 3) := dk_167 0 11 (dk_at dksX0_habit_0 10 rfl rfl)
theorem dX0_habit_13 : decode cX0_habit 13 = .ok (.astore 4, 2) := dk_58 4 (dk_at dksX0_habit_0 13 rfl rfl)
theorem dX0_habit_15 : decode cX0_habit 15 = .ok (.iconst 1, 1) := dk_4 (dk_at dksX0_habit_0 15 rfl rfl)
theorem dX0_habit_16 : decode cX0_habit 16 = .ok (.ireturn, 1) := dk_172 (dk_at dksX0_habit_0 16 rfl rfl)
theorem dX0_habit_17 : decode cX0_habit 17 = .ok (.astore 4, 2) := dk_58 4 (dk_at dksX0_habit_0 17 rfl rfl)
theorem dX0_habit_19 : decode cX0_habit 19 = .ok (.iconst 2, 1) := dk_5 (dk_at dksX0_habit_0 19 rfl rfl)
theorem dX0_habit_20 : decode cX0_habit 20 = .ok (.ireturn, 1) := dk_172 (dk_at dksX0_habit_0 20 rfl rfl)
theorem dX0_habit_21 : decode cX0_habit 21 = .ok (.iconst 0, 1) := dk_3 (dk_at dksX0_habit_0 21 rfl rfl)
theorem dX0_habit_22 : decode cX0_habit 22 = .ok (.ireturn, 1) := dk_172 (dk_at dksX0_habit_0 22 rfl rfl)
abbrev cX0_rule : ByteArray := method_5_code
def yX0_rule : MethodName := ⟨RX0, "rule", "(LCardCups;I[J)I"⟩
def dkwX0_rule_0 : List UInt8 := [44, 3, 42, 27, 182, 0, 21, 133, 80, 167, 0, 6, 78, 4, 172, 3, 172]
abbrev dktX0_rule_0 : List UInt8 := dkwX0_rule_0 ++ []
theorem dksX0_rule_0 : cX0_rule.data.toList.drop 0 = dktX0_rule_0 := by decide +kernel
theorem dX0_rule_0 : decode cX0_rule 0 = .ok (.aload_n 2, 1) := dk_44 (dk_at dksX0_rule_0 0 rfl rfl)
theorem dX0_rule_1 : decode cX0_rule 1 = .ok (.iconst 0, 1) := dk_3 (dk_at dksX0_rule_0 1 rfl rfl)
theorem dX0_rule_2 : decode cX0_rule 2 = .ok (.aload_n 0, 1) := dk_42 (dk_at dksX0_rule_0 2 rfl rfl)
theorem dX0_rule_3 : decode cX0_rule 3 = .ok (.iload_n 1, 1) := dk_27 (dk_at dksX0_rule_0 3 rfl rfl)
theorem dX0_rule_4 : decode cX0_rule 4 = .ok (.invokevirtual 21, 3) := dk_182 0 21 (dk_at dksX0_rule_0 4 rfl rfl)
theorem dX0_rule_7 : decode cX0_rule 7 = .ok (.i2l, 1) := dk_133 (dk_at dksX0_rule_0 7 rfl rfl)
theorem dX0_rule_8 : decode cX0_rule 8 = .ok (.lastore, 1) := dk_80 (dk_at dksX0_rule_0 8 rfl rfl)
theorem dX0_rule_9 : decode cX0_rule 9 = .ok (.goto 6, 3) := dk_167 0 6 (dk_at dksX0_rule_0 9 rfl rfl)
theorem dX0_rule_12 : decode cX0_rule 12 = .ok (.astore_n 3, 1) := dk_78 (dk_at dksX0_rule_0 12 rfl rfl)
theorem dX0_rule_13 : decode cX0_rule 13 = .ok (.iconst 1, 1) := dk_4 (dk_at dksX0_rule_0 13 rfl rfl)
theorem dX0_rule_14 : decode cX0_rule 14 = .ok (.ireturn, 1) := dk_172 (dk_at dksX0_rule_0 14 rfl rfl)
theorem dX0_rule_15 : decode cX0_rule 15 = .ok (.iconst 0, 1) := dk_3 (dk_at dksX0_rule_0 15 rfl rfl)
theorem dX0_rule_16 : decode cX0_rule 16 = .ok (.ireturn, 1) := dk_172 (dk_at dksX0_rule_0 16 rfl rfl)
abbrev cX0_book : ByteArray := method_6_code
def yX0_book : MethodName := ⟨RX0, "book", "(LCardCups;I[J)I"⟩
def dkwX0_book_0 : List UInt8 := [44, 3, 42, 27, 182, 0, 24, 133, 80, 167, 0, 6, 78, 4, 172, 3, 172]
abbrev dktX0_book_0 : List UInt8 := dkwX0_book_0 ++ []
theorem dksX0_book_0 : cX0_book.data.toList.drop 0 = dktX0_book_0 := by decide +kernel
theorem dX0_book_0 : decode cX0_book 0 = .ok (.aload_n 2, 1) := dk_44 (dk_at dksX0_book_0 0 rfl rfl)
theorem dX0_book_1 : decode cX0_book 1 = .ok (.iconst 0, 1) := dk_3 (dk_at dksX0_book_0 1 rfl rfl)
theorem dX0_book_2 : decode cX0_book 2 = .ok (.aload_n 0, 1) := dk_42 (dk_at dksX0_book_0 2 rfl rfl)
theorem dX0_book_3 : decode cX0_book 3 = .ok (.iload_n 1, 1) := dk_27 (dk_at dksX0_book_0 3 rfl rfl)
theorem dX0_book_4 : decode cX0_book 4 = .ok (.invokevirtual 24, 3) := dk_182 0 24 (dk_at dksX0_book_0 4 rfl rfl)
theorem dX0_book_7 : decode cX0_book 7 = .ok (.i2l, 1) := dk_133 (dk_at dksX0_book_0 7 rfl rfl)
theorem dX0_book_8 : decode cX0_book 8 = .ok (.lastore, 1) := dk_80 (dk_at dksX0_book_0 8 rfl rfl)
theorem dX0_book_9 : decode cX0_book 9 = .ok (.goto 6, 3) := dk_167 0 6 (dk_at dksX0_book_0 9 rfl rfl)
theorem dX0_book_12 : decode cX0_book 12 = .ok (.astore_n 3, 1) := dk_78 (dk_at dksX0_book_0 12 rfl rfl)
theorem dX0_book_13 : decode cX0_book 13 = .ok (.iconst 1, 1) := dk_4 (dk_at dksX0_book_0 13 rfl rfl)
theorem dX0_book_14 : decode cX0_book 14 = .ok (.ireturn, 1) := dk_172 (dk_at dksX0_book_0 14 rfl rfl)
theorem dX0_book_15 : decode cX0_book 15 = .ok (.iconst 0, 1) := dk_3 (dk_at dksX0_book_0 15 rfl rfl)
theorem dX0_book_16 : decode cX0_book 16 = .ok (.ireturn, 1) := dk_172 (dk_at dksX0_book_0 16 rfl rfl)
abbrev cX0_told : ByteArray := method_7_code
def yX0_told : MethodName := ⟨RX0, "told", "(LCardCups;I[J)I"⟩
def dkwX0_told_0 : List UInt8 := [44, 3, 42, 27, 182, 0, 27, 133, 80, 167, 0, 6, 78, 4, 172, 3, 172]
abbrev dktX0_told_0 : List UInt8 := dkwX0_told_0 ++ []
theorem dksX0_told_0 : cX0_told.data.toList.drop 0 = dktX0_told_0 := by decide +kernel
theorem dX0_told_0 : decode cX0_told 0 = .ok (.aload_n 2, 1) := dk_44 (dk_at dksX0_told_0 0 rfl rfl)
theorem dX0_told_1 : decode cX0_told 1 = .ok (.iconst 0, 1) := dk_3 (dk_at dksX0_told_0 1 rfl rfl)
theorem dX0_told_2 : decode cX0_told 2 = .ok (.aload_n 0, 1) := dk_42 (dk_at dksX0_told_0 2 rfl rfl)
theorem dX0_told_3 : decode cX0_told 3 = .ok (.iload_n 1, 1) := dk_27 (dk_at dksX0_told_0 3 rfl rfl)
theorem dX0_told_4 : decode cX0_told 4 = .ok (.invokevirtual 27, 3) := dk_182 0 27 (dk_at dksX0_told_0 4 rfl rfl)
theorem dX0_told_7 : decode cX0_told 7 = .ok (.i2l, 1) := dk_133 (dk_at dksX0_told_0 7 rfl rfl)
theorem dX0_told_8 : decode cX0_told 8 = .ok (.lastore, 1) := dk_80 (dk_at dksX0_told_0 8 rfl rfl)
theorem dX0_told_9 : decode cX0_told 9 = .ok (.goto 6, 3) := dk_167 0 6 (dk_at dksX0_told_0 9 rfl rfl)
theorem dX0_told_12 : decode cX0_told 12 = .ok (.astore_n 3, 1) := dk_78 (dk_at dksX0_told_0 12 rfl rfl)
theorem dX0_told_13 : decode cX0_told 13 = .ok (.iconst 1, 1) := dk_4 (dk_at dksX0_told_0 13 rfl rfl)
theorem dX0_told_14 : decode cX0_told 14 = .ok (.ireturn, 1) := dk_172 (dk_at dksX0_told_0 14 rfl rfl)
theorem dX0_told_15 : decode cX0_told 15 = .ok (.iconst 0, 1) := dk_3 (dk_at dksX0_told_0 15 rfl rfl)
theorem dX0_told_16 : decode cX0_told 16 = .ok (.ireturn, 1) := dk_172 (dk_at dksX0_told_0 16 rfl rfl)
abbrev cX0_visit : ByteArray := method_8_code
def yX0_visit : MethodName := ⟨RX0, "visit", "(LCardCups;II[J)I"⟩
def dkwX0_visit_0 : List UInt8 := [45, 3, 42, 27, 28, 182, 0, 30, 133, 80, 167, 0, 11, 58, 4, 4, 172, 58, 4, 5, 172, 3, 172]
abbrev dktX0_visit_0 : List UInt8 := dkwX0_visit_0 ++ []
theorem dksX0_visit_0 : cX0_visit.data.toList.drop 0 = dktX0_visit_0 := by decide +kernel
theorem dX0_visit_0 : decode cX0_visit 0 = .ok (.aload_n 3, 1) := dk_45 (dk_at dksX0_visit_0 0 rfl rfl)
theorem dX0_visit_1 : decode cX0_visit 1 = .ok (.iconst 0, 1) := dk_3 (dk_at dksX0_visit_0 1 rfl rfl)
theorem dX0_visit_2 : decode cX0_visit 2 = .ok (.aload_n 0, 1) := dk_42 (dk_at dksX0_visit_0 2 rfl rfl)
theorem dX0_visit_3 : decode cX0_visit 3 = .ok (.iload_n 1, 1) := dk_27 (dk_at dksX0_visit_0 3 rfl rfl)
theorem dX0_visit_4 : decode cX0_visit 4 = .ok (.iload_n 2, 1) := dk_28 (dk_at dksX0_visit_0 4 rfl rfl)
theorem dX0_visit_5 : decode cX0_visit 5 = .ok (.invokevirtual 30, 3) := dk_182 0 30 (dk_at dksX0_visit_0 5 rfl rfl)
theorem dX0_visit_8 : decode cX0_visit 8 = .ok (.i2l, 1) := dk_133 (dk_at dksX0_visit_0 8 rfl rfl)
theorem dX0_visit_9 : decode cX0_visit 9 = .ok (.lastore, 1) := dk_80 (dk_at dksX0_visit_0 9 rfl rfl)
theorem dX0_visit_10 : decode cX0_visit 10 = .ok (.goto 11, 3) := dk_167 0 11 (dk_at dksX0_visit_0 10 rfl rfl)
theorem dX0_visit_13 : decode cX0_visit 13 = .ok (.astore 4, 2) := dk_58 4 (dk_at dksX0_visit_0 13 rfl rfl)
theorem dX0_visit_15 : decode cX0_visit 15 = .ok (.iconst 1, 1) := dk_4 (dk_at dksX0_visit_0 15 rfl rfl)
theorem dX0_visit_16 : decode cX0_visit 16 = .ok (.ireturn, 1) := dk_172 (dk_at dksX0_visit_0 16 rfl rfl)
theorem dX0_visit_17 : decode cX0_visit 17 = .ok (.astore 4, 2) := dk_58 4 (dk_at dksX0_visit_0 17 rfl rfl)
theorem dX0_visit_19 : decode cX0_visit 19 = .ok (.iconst 2, 1) := dk_5 (dk_at dksX0_visit_0 19 rfl rfl)
theorem dX0_visit_20 : decode cX0_visit 20 = .ok (.ireturn, 1) := dk_172 (dk_at dksX0_visit_0 20 rfl rfl)
theorem dX0_visit_21 : decode cX0_visit 21 = .ok (.iconst 0, 1) := dk_3 (dk_at dksX0_visit_0 21 rfl rfl)
theorem dX0_visit_22 : decode cX0_visit 22 = .ok (.ireturn, 1) := dk_172 (dk_at dksX0_visit_0 22 rfl rfl)
abbrev cX0_person : ByteArray := method_9_code
def yX0_person : MethodName := ⟨RX0, "person", "(LCardCups;II[J)I"⟩
def dkwX0_person_0 : List UInt8 := [45, 3, 42, 27, 28, 182, 0, 33, 133, 80, 167, 0, 11, 58, 4, 4, 172, 58, 4, 5, 172, 3, 172]
abbrev dktX0_person_0 : List UInt8 := dkwX0_person_0 ++ []
theorem dksX0_person_0 : cX0_person.data.toList.drop 0 = dktX0_person_0 := by decide +kernel
theorem dX0_person_0 : decode cX0_person 0 = .ok (.aload_n 3, 1) := dk_45 (dk_at dksX0_person_0 0 rfl rfl)
theorem dX0_person_1 : decode cX0_person 1 = .ok (.iconst 0, 1) := dk_3 (dk_at dksX0_person_0 1 rfl rfl)
theorem dX0_person_2 : decode cX0_person 2 = .ok (.aload_n 0, 1) := dk_42 (dk_at dksX0_person_0 2 rfl rfl)
theorem dX0_person_3 : decode cX0_person 3 = .ok (.iload_n 1, 1) := dk_27 (dk_at dksX0_person_0 3 rfl rfl)
theorem dX0_person_4 : decode cX0_person 4 = .ok (.iload_n 2, 1) := dk_28 (dk_at dksX0_person_0 4 rfl rfl)
theorem dX0_person_5 : decode cX0_person 5 = .ok (.invokevirtual 33, 3) := dk_182 0 33 (dk_at dksX0_person_0 5 rfl rfl)
theorem dX0_person_8 : decode cX0_person 8 = .ok (.i2l, 1) := dk_133 (dk_at dksX0_person_0 8 rfl rfl)
theorem dX0_person_9 : decode cX0_person 9 = .ok (.lastore, 1) := dk_80 (dk_at dksX0_person_0 9 rfl rfl)
theorem dX0_person_10 : decode cX0_person 10 = .ok (.goto 11, 3) := dk_167 0 11 (dk_at dksX0_person_0 10 rfl rfl)
theorem dX0_person_13 : decode cX0_person 13 = .ok (.astore 4, 2) := dk_58 4 (dk_at dksX0_person_0 13 rfl rfl)
theorem dX0_person_15 : decode cX0_person 15 = .ok (.iconst 1, 1) := dk_4 (dk_at dksX0_person_0 15 rfl rfl)
theorem dX0_person_16 : decode cX0_person 16 = .ok (.ireturn, 1) := dk_172 (dk_at dksX0_person_0 16 rfl rfl)
theorem dX0_person_17 : decode cX0_person 17 = .ok (.astore 4, 2) := dk_58 4 (dk_at dksX0_person_0 17 rfl rfl)
theorem dX0_person_19 : decode cX0_person 19 = .ok (.iconst 2, 1) := dk_5 (dk_at dksX0_person_0 19 rfl rfl)
theorem dX0_person_20 : decode cX0_person 20 = .ok (.ireturn, 1) := dk_172 (dk_at dksX0_person_0 20 rfl rfl)
theorem dX0_person_21 : decode cX0_person 21 = .ok (.iconst 0, 1) := dk_3 (dk_at dksX0_person_0 21 rfl rfl)
theorem dX0_person_22 : decode cX0_person 22 = .ok (.ireturn, 1) := dk_172 (dk_at dksX0_person_0 22 rfl rfl)
abbrev cX0_price : ByteArray := method_10_code
def yX0_price : MethodName := ⟨RX0, "price", "(LCardCups;I[J)I"⟩
def dkwX0_price_0 : List UInt8 := [44, 3, 42, 27, 182, 0, 36, 133, 80, 167, 0, 6, 78, 4, 172, 3, 172]
abbrev dktX0_price_0 : List UInt8 := dkwX0_price_0 ++ []
theorem dksX0_price_0 : cX0_price.data.toList.drop 0 = dktX0_price_0 := by decide +kernel
theorem dX0_price_0 : decode cX0_price 0 = .ok (.aload_n 2, 1) := dk_44 (dk_at dksX0_price_0 0 rfl rfl)
theorem dX0_price_1 : decode cX0_price 1 = .ok (.iconst 0, 1) := dk_3 (dk_at dksX0_price_0 1 rfl rfl)
theorem dX0_price_2 : decode cX0_price 2 = .ok (.aload_n 0, 1) := dk_42 (dk_at dksX0_price_0 2 rfl rfl)
theorem dX0_price_3 : decode cX0_price 3 = .ok (.iload_n 1, 1) := dk_27 (dk_at dksX0_price_0 3 rfl rfl)
theorem dX0_price_4 : decode cX0_price 4 = .ok (.invokevirtual 36, 3) := dk_182 0 36 (dk_at dksX0_price_0 4 rfl rfl)
theorem dX0_price_7 : decode cX0_price 7 = .ok (.i2l, 1) := dk_133 (dk_at dksX0_price_0 7 rfl rfl)
theorem dX0_price_8 : decode cX0_price 8 = .ok (.lastore, 1) := dk_80 (dk_at dksX0_price_0 8 rfl rfl)
theorem dX0_price_9 : decode cX0_price 9 = .ok (.goto 6, 3) := dk_167 0 6 (dk_at dksX0_price_0 9 rfl rfl)
theorem dX0_price_12 : decode cX0_price 12 = .ok (.astore_n 3, 1) := dk_78 (dk_at dksX0_price_0 12 rfl rfl)
theorem dX0_price_13 : decode cX0_price 13 = .ok (.iconst 1, 1) := dk_4 (dk_at dksX0_price_0 13 rfl rfl)
theorem dX0_price_14 : decode cX0_price 14 = .ok (.ireturn, 1) := dk_172 (dk_at dksX0_price_0 14 rfl rfl)
theorem dX0_price_15 : decode cX0_price 15 = .ok (.iconst 0, 1) := dk_3 (dk_at dksX0_price_0 15 rfl rfl)
theorem dX0_price_16 : decode cX0_price 16 = .ok (.ireturn, 1) := dk_172 (dk_at dksX0_price_0 16 rfl rfl)
abbrev cX0_states : ByteArray := method_11_code
def yX0_states : MethodName := ⟨RX0, "states", "(LCardCups;I[J)I"⟩
def dkwX0_states_0 : List UInt8 := [44, 3, 42, 27, 182, 0, 39, 133, 80, 167, 0, 6, 78, 4, 172, 3, 172]
abbrev dktX0_states_0 : List UInt8 := dkwX0_states_0 ++ []
theorem dksX0_states_0 : cX0_states.data.toList.drop 0 = dktX0_states_0 := by decide +kernel
theorem dX0_states_0 : decode cX0_states 0 = .ok (.aload_n 2, 1) := dk_44 (dk_at dksX0_states_0 0 rfl rfl)
theorem dX0_states_1 : decode cX0_states 1 = .ok (.iconst 0, 1) := dk_3 (dk_at dksX0_states_0 1 rfl rfl)
theorem dX0_states_2 : decode cX0_states 2 = .ok (.aload_n 0, 1) := dk_42 (dk_at dksX0_states_0 2 rfl rfl)
theorem dX0_states_3 : decode cX0_states 3 = .ok (.iload_n 1, 1) := dk_27 (dk_at dksX0_states_0 3 rfl rfl)
theorem dX0_states_4 : decode cX0_states 4 = .ok (.invokevirtual 39, 3) := dk_182 0 39 (dk_at dksX0_states_0 4 rfl rfl)
theorem dX0_states_7 : decode cX0_states 7 = .ok (.i2l, 1) := dk_133 (dk_at dksX0_states_0 7 rfl rfl)
theorem dX0_states_8 : decode cX0_states 8 = .ok (.lastore, 1) := dk_80 (dk_at dksX0_states_0 8 rfl rfl)
theorem dX0_states_9 : decode cX0_states 9 = .ok (.goto 6, 3) := dk_167 0 6 (dk_at dksX0_states_0 9 rfl rfl)
theorem dX0_states_12 : decode cX0_states 12 = .ok (.astore_n 3, 1) := dk_78 (dk_at dksX0_states_0 12 rfl rfl)
theorem dX0_states_13 : decode cX0_states 13 = .ok (.iconst 1, 1) := dk_4 (dk_at dksX0_states_0 13 rfl rfl)
theorem dX0_states_14 : decode cX0_states 14 = .ok (.ireturn, 1) := dk_172 (dk_at dksX0_states_0 14 rfl rfl)
theorem dX0_states_15 : decode cX0_states 15 = .ok (.iconst 0, 1) := dk_3 (dk_at dksX0_states_0 15 rfl rfl)
theorem dX0_states_16 : decode cX0_states 16 = .ok (.ireturn, 1) := dk_172 (dk_at dksX0_states_0 16 rfl rfl)
abbrev cX0_likely : ByteArray := method_12_code
def yX0_likely : MethodName := ⟨RX0, "likely", "(LCardCups;II[J)I"⟩
def dkwX0_likely_0 : List UInt8 := [45, 3, 42, 27, 28, 182, 0, 42, 80, 167, 0, 11, 58, 4, 4, 172, 58, 4, 5, 172, 3, 172]
abbrev dktX0_likely_0 : List UInt8 := dkwX0_likely_0 ++ []
theorem dksX0_likely_0 : cX0_likely.data.toList.drop 0 = dktX0_likely_0 := by decide +kernel
theorem dX0_likely_0 : decode cX0_likely 0 = .ok (.aload_n 3, 1) := dk_45 (dk_at dksX0_likely_0 0 rfl rfl)
theorem dX0_likely_1 : decode cX0_likely 1 = .ok (.iconst 0, 1) := dk_3 (dk_at dksX0_likely_0 1 rfl rfl)
theorem dX0_likely_2 : decode cX0_likely 2 = .ok (.aload_n 0, 1) := dk_42 (dk_at dksX0_likely_0 2 rfl rfl)
theorem dX0_likely_3 : decode cX0_likely 3 = .ok (.iload_n 1, 1) := dk_27 (dk_at dksX0_likely_0 3 rfl rfl)
theorem dX0_likely_4 : decode cX0_likely 4 = .ok (.iload_n 2, 1) := dk_28 (dk_at dksX0_likely_0 4 rfl rfl)
theorem dX0_likely_5 : decode cX0_likely 5 = .ok (.invokevirtual 42, 3) := dk_182 0 42 (dk_at dksX0_likely_0 5 rfl rfl)
theorem dX0_likely_8 : decode cX0_likely 8 = .ok (.lastore, 1) := dk_80 (dk_at dksX0_likely_0 8 rfl rfl)
theorem dX0_likely_9 : decode cX0_likely 9 = .ok (.goto 11, 3) := dk_167 0 11 (dk_at dksX0_likely_0 9 rfl rfl)
theorem dX0_likely_12 : decode cX0_likely 12 = .ok (.astore 4, 2) := dk_58 4 (dk_at dksX0_likely_0 12 rfl rfl)
theorem dX0_likely_14 : decode cX0_likely 14 = .ok (.iconst 1, 1) := dk_4 (dk_at dksX0_likely_0 14 rfl rfl)
theorem dX0_likely_15 : decode cX0_likely 15 = .ok (.ireturn, 1) := dk_172 (dk_at dksX0_likely_0 15 rfl rfl)
theorem dX0_likely_16 : decode cX0_likely 16 = .ok (.astore 4, 2) := dk_58 4 (dk_at dksX0_likely_0 16 rfl rfl)
theorem dX0_likely_18 : decode cX0_likely 18 = .ok (.iconst 2, 1) := dk_5 (dk_at dksX0_likely_0 18 rfl rfl)
theorem dX0_likely_19 : decode cX0_likely 19 = .ok (.ireturn, 1) := dk_172 (dk_at dksX0_likely_0 19 rfl rfl)
theorem dX0_likely_20 : decode cX0_likely 20 = .ok (.iconst 0, 1) := dk_3 (dk_at dksX0_likely_0 20 rfl rfl)
theorem dX0_likely_21 : decode cX0_likely 21 = .ok (.ireturn, 1) := dk_172 (dk_at dksX0_likely_0 21 rfl rfl)
abbrev cX0_state : ByteArray := method_13_code
def yX0_state : MethodName := ⟨RX0, "state", "(LCardCups;IIII[J)I"⟩
def dkwX0_state_1 : List UInt8 := [3, 172]
abbrev dktX0_state_1 : List UInt8 := dkwX0_state_1 ++ []
def dkwX0_state_0 : List UInt8 := [25, 5, 3, 42, 27, 28, 29, 21, 4, 182, 0, 46, 80, 167, 0, 11, 58, 6, 4, 172, 58, 6, 5, 172]
abbrev dktX0_state_0 : List UInt8 := dkwX0_state_0 ++ dktX0_state_1
theorem dksX0_state_0 : cX0_state.data.toList.drop 0 = dktX0_state_0 := by decide +kernel
theorem dksX0_state_1 : cX0_state.data.toList.drop 24 = dktX0_state_1 := dk_seg dksX0_state_0 24 rfl rfl
theorem dX0_state_0 : decode cX0_state 0 = .ok (.aload 5, 2) := dk_25 5 (dk_at dksX0_state_0 0 rfl rfl)
theorem dX0_state_2 : decode cX0_state 2 = .ok (.iconst 0, 1) := dk_3 (dk_at dksX0_state_0 2 rfl rfl)
theorem dX0_state_3 : decode cX0_state 3 = .ok (.aload_n 0, 1) := dk_42 (dk_at dksX0_state_0 3 rfl rfl)
theorem dX0_state_4 : decode cX0_state 4 = .ok (.iload_n 1, 1) := dk_27 (dk_at dksX0_state_0 4 rfl rfl)
theorem dX0_state_5 : decode cX0_state 5 = .ok (.iload_n 2, 1) := dk_28 (dk_at dksX0_state_0 5 rfl rfl)
theorem dX0_state_6 : decode cX0_state 6 = .ok (.iload_n 3, 1) := dk_29 (dk_at dksX0_state_0 6 rfl rfl)
theorem dX0_state_7 : decode cX0_state 7 = .ok (.iload 4, 2) := dk_21 4 (dk_at dksX0_state_0 7 rfl rfl)
theorem dX0_state_9 : decode cX0_state 9 = .ok (.invokevirtual 46, 3) := dk_182 0 46 (dk_at dksX0_state_0 9 rfl rfl)
theorem dX0_state_12 : decode cX0_state 12 = .ok (.lastore, 1) := dk_80 (dk_at dksX0_state_0 12 rfl rfl)
theorem dX0_state_13 : decode cX0_state 13 = .ok (.goto 11, 3) := dk_167 0 11 (dk_at dksX0_state_0 13 rfl rfl)
theorem dX0_state_16 : decode cX0_state 16 = .ok (.astore 6, 2) := dk_58 6 (dk_at dksX0_state_0 16 rfl rfl)
theorem dX0_state_18 : decode cX0_state 18 = .ok (.iconst 1, 1) := dk_4 (dk_at dksX0_state_0 18 rfl rfl)
theorem dX0_state_19 : decode cX0_state 19 = .ok (.ireturn, 1) := dk_172 (dk_at dksX0_state_0 19 rfl rfl)
theorem dX0_state_20 : decode cX0_state 20 = .ok (.astore 6, 2) := dk_58 6 (dk_at dksX0_state_0 20 rfl rfl)
theorem dX0_state_22 : decode cX0_state 22 = .ok (.iconst 2, 1) := dk_5 (dk_at dksX0_state_0 22 rfl rfl)
theorem dX0_state_23 : decode cX0_state 23 = .ok (.ireturn, 1) := dk_172 (dk_at dksX0_state_0 23 rfl rfl)
theorem dX0_state_24 : decode cX0_state 24 = .ok (.iconst 0, 1) := dk_3 (dk_at dksX0_state_1 0 rfl rfl)
theorem dX0_state_25 : decode cX0_state 25 = .ok (.ireturn, 1) := dk_172 (dk_at dksX0_state_1 1 rfl rfl)
abbrev cX0_likeliest : ByteArray := method_14_code
def yX0_likeliest : MethodName := ⟨RX0, "likeliest", "(LCardCups;I[J)I"⟩
def dkwX0_likeliest_0 : List UInt8 := [44, 3, 42, 27, 182, 0, 50, 133, 80, 167, 0, 6, 78, 4, 172, 3, 172]
abbrev dktX0_likeliest_0 : List UInt8 := dkwX0_likeliest_0 ++ []
theorem dksX0_likeliest_0 : cX0_likeliest.data.toList.drop 0 = dktX0_likeliest_0 := by decide +kernel
theorem dX0_likeliest_0 : decode cX0_likeliest 0 = .ok (.aload_n 2, 1) := dk_44 (dk_at dksX0_likeliest_0 0 rfl rfl)
theorem dX0_likeliest_1 : decode cX0_likeliest 1 = .ok (.iconst 0, 1) := dk_3 (dk_at dksX0_likeliest_0 1 rfl rfl)
theorem dX0_likeliest_2 : decode cX0_likeliest 2 = .ok (.aload_n 0, 1) := dk_42 (dk_at dksX0_likeliest_0 2 rfl rfl)
theorem dX0_likeliest_3 : decode cX0_likeliest 3 = .ok (.iload_n 1, 1) := dk_27 (dk_at dksX0_likeliest_0 3 rfl rfl)
theorem dX0_likeliest_4 : decode cX0_likeliest 4 = .ok (.invokevirtual 50, 3) := dk_182 0 50 (dk_at dksX0_likeliest_0 4 rfl rfl)
theorem dX0_likeliest_7 : decode cX0_likeliest 7 = .ok (.i2l, 1) := dk_133 (dk_at dksX0_likeliest_0 7 rfl rfl)
theorem dX0_likeliest_8 : decode cX0_likeliest 8 = .ok (.lastore, 1) := dk_80 (dk_at dksX0_likeliest_0 8 rfl rfl)
theorem dX0_likeliest_9 : decode cX0_likeliest 9 = .ok (.goto 6, 3) := dk_167 0 6 (dk_at dksX0_likeliest_0 9 rfl rfl)
theorem dX0_likeliest_12 : decode cX0_likeliest 12 = .ok (.astore_n 3, 1) := dk_78 (dk_at dksX0_likeliest_0 12 rfl rfl)
theorem dX0_likeliest_13 : decode cX0_likeliest 13 = .ok (.iconst 1, 1) := dk_4 (dk_at dksX0_likeliest_0 13 rfl rfl)
theorem dX0_likeliest_14 : decode cX0_likeliest 14 = .ok (.ireturn, 1) := dk_172 (dk_at dksX0_likeliest_0 14 rfl rfl)
theorem dX0_likeliest_15 : decode cX0_likeliest 15 = .ok (.iconst 0, 1) := dk_3 (dk_at dksX0_likeliest_0 15 rfl rfl)
theorem dX0_likeliest_16 : decode cX0_likeliest 16 = .ok (.ireturn, 1) := dk_172 (dk_at dksX0_likeliest_0 16 rfl rfl)
abbrev cX0_mean : ByteArray := method_15_code
def yX0_mean : MethodName := ⟨RX0, "mean", "(LCardCups;III[J)I"⟩
def dkwX0_mean_0 : List UInt8 := [25, 4, 3, 42, 27, 28, 29, 182, 0, 53, 80, 167, 0, 11, 58, 5, 4, 172, 58, 5, 5, 172, 3, 172]
abbrev dktX0_mean_0 : List UInt8 := dkwX0_mean_0 ++ []
theorem dksX0_mean_0 : cX0_mean.data.toList.drop 0 = dktX0_mean_0 := by decide +kernel
theorem dX0_mean_0 : decode cX0_mean 0 = .ok (.aload 4, 2) := dk_25 4 (dk_at dksX0_mean_0 0 rfl rfl)
theorem dX0_mean_2 : decode cX0_mean 2 = .ok (.iconst 0, 1) := dk_3 (dk_at dksX0_mean_0 2 rfl rfl)
theorem dX0_mean_3 : decode cX0_mean 3 = .ok (.aload_n 0, 1) := dk_42 (dk_at dksX0_mean_0 3 rfl rfl)
theorem dX0_mean_4 : decode cX0_mean 4 = .ok (.iload_n 1, 1) := dk_27 (dk_at dksX0_mean_0 4 rfl rfl)
theorem dX0_mean_5 : decode cX0_mean 5 = .ok (.iload_n 2, 1) := dk_28 (dk_at dksX0_mean_0 5 rfl rfl)
theorem dX0_mean_6 : decode cX0_mean 6 = .ok (.iload_n 3, 1) := dk_29 (dk_at dksX0_mean_0 6 rfl rfl)
theorem dX0_mean_7 : decode cX0_mean 7 = .ok (.invokevirtual 53, 3) := dk_182 0 53 (dk_at dksX0_mean_0 7 rfl rfl)
theorem dX0_mean_10 : decode cX0_mean 10 = .ok (.lastore, 1) := dk_80 (dk_at dksX0_mean_0 10 rfl rfl)
theorem dX0_mean_11 : decode cX0_mean 11 = .ok (.goto 11, 3) := dk_167 0 11 (dk_at dksX0_mean_0 11 rfl rfl)
theorem dX0_mean_14 : decode cX0_mean 14 = .ok (.astore 5, 2) := dk_58 5 (dk_at dksX0_mean_0 14 rfl rfl)
theorem dX0_mean_16 : decode cX0_mean 16 = .ok (.iconst 1, 1) := dk_4 (dk_at dksX0_mean_0 16 rfl rfl)
theorem dX0_mean_17 : decode cX0_mean 17 = .ok (.ireturn, 1) := dk_172 (dk_at dksX0_mean_0 17 rfl rfl)
theorem dX0_mean_18 : decode cX0_mean 18 = .ok (.astore 5, 2) := dk_58 5 (dk_at dksX0_mean_0 18 rfl rfl)
theorem dX0_mean_20 : decode cX0_mean 20 = .ok (.iconst 2, 1) := dk_5 (dk_at dksX0_mean_0 20 rfl rfl)
theorem dX0_mean_21 : decode cX0_mean 21 = .ok (.ireturn, 1) := dk_172 (dk_at dksX0_mean_0 21 rfl rfl)
theorem dX0_mean_22 : decode cX0_mean 22 = .ok (.iconst 0, 1) := dk_3 (dk_at dksX0_mean_0 22 rfl rfl)
theorem dX0_mean_23 : decode cX0_mean 23 = .ok (.ireturn, 1) := dk_172 (dk_at dksX0_mean_0 23 rfl rfl)
abbrev cX0_often : ByteArray := method_16_code
def yX0_often : MethodName := ⟨RX0, "often", "(LCardCups;I[J)I"⟩
def dkwX0_often_0 : List UInt8 := [44, 3, 42, 27, 182, 0, 57, 80, 167, 0, 6, 78, 4, 172, 3, 172]
abbrev dktX0_often_0 : List UInt8 := dkwX0_often_0 ++ []
theorem dksX0_often_0 : cX0_often.data.toList.drop 0 = dktX0_often_0 := by decide +kernel
theorem dX0_often_0 : decode cX0_often 0 = .ok (.aload_n 2, 1) := dk_44 (dk_at dksX0_often_0 0 rfl rfl)
theorem dX0_often_1 : decode cX0_often 1 = .ok (.iconst 0, 1) := dk_3 (dk_at dksX0_often_0 1 rfl rfl)
theorem dX0_often_2 : decode cX0_often 2 = .ok (.aload_n 0, 1) := dk_42 (dk_at dksX0_often_0 2 rfl rfl)
theorem dX0_often_3 : decode cX0_often 3 = .ok (.iload_n 1, 1) := dk_27 (dk_at dksX0_often_0 3 rfl rfl)
theorem dX0_often_4 : decode cX0_often 4 = .ok (.invokevirtual 57, 3) := dk_182 0 57 (dk_at dksX0_often_0 4 rfl rfl)
theorem dX0_often_7 : decode cX0_often 7 = .ok (.lastore, 1) := dk_80 (dk_at dksX0_often_0 7 rfl rfl)
theorem dX0_often_8 : decode cX0_often 8 = .ok (.goto 6, 3) := dk_167 0 6 (dk_at dksX0_often_0 8 rfl rfl)
theorem dX0_often_11 : decode cX0_often 11 = .ok (.astore_n 3, 1) := dk_78 (dk_at dksX0_often_0 11 rfl rfl)
theorem dX0_often_12 : decode cX0_often 12 = .ok (.iconst 1, 1) := dk_4 (dk_at dksX0_often_0 12 rfl rfl)
theorem dX0_often_13 : decode cX0_often 13 = .ok (.ireturn, 1) := dk_172 (dk_at dksX0_often_0 13 rfl rfl)
theorem dX0_often_14 : decode cX0_often 14 = .ok (.iconst 0, 1) := dk_3 (dk_at dksX0_often_0 14 rfl rfl)
theorem dX0_often_15 : decode cX0_often 15 = .ok (.ireturn, 1) := dk_172 (dk_at dksX0_often_0 15 rfl rfl)
abbrev cX0_drunk : ByteArray := method_17_code
def yX0_drunk : MethodName := ⟨RX0, "drunk", "(LCardCups;II[J)I"⟩
def dkwX0_drunk_0 : List UInt8 := [45, 3, 42, 27, 28, 182, 0, 61, 80, 167, 0, 11, 58, 4, 4, 172, 58, 4, 5, 172, 3, 172]
abbrev dktX0_drunk_0 : List UInt8 := dkwX0_drunk_0 ++ []
theorem dksX0_drunk_0 : cX0_drunk.data.toList.drop 0 = dktX0_drunk_0 := by decide +kernel
theorem dX0_drunk_0 : decode cX0_drunk 0 = .ok (.aload_n 3, 1) := dk_45 (dk_at dksX0_drunk_0 0 rfl rfl)
theorem dX0_drunk_1 : decode cX0_drunk 1 = .ok (.iconst 0, 1) := dk_3 (dk_at dksX0_drunk_0 1 rfl rfl)
theorem dX0_drunk_2 : decode cX0_drunk 2 = .ok (.aload_n 0, 1) := dk_42 (dk_at dksX0_drunk_0 2 rfl rfl)
theorem dX0_drunk_3 : decode cX0_drunk 3 = .ok (.iload_n 1, 1) := dk_27 (dk_at dksX0_drunk_0 3 rfl rfl)
theorem dX0_drunk_4 : decode cX0_drunk 4 = .ok (.iload_n 2, 1) := dk_28 (dk_at dksX0_drunk_0 4 rfl rfl)
theorem dX0_drunk_5 : decode cX0_drunk 5 = .ok (.invokevirtual 61, 3) := dk_182 0 61 (dk_at dksX0_drunk_0 5 rfl rfl)
theorem dX0_drunk_8 : decode cX0_drunk 8 = .ok (.lastore, 1) := dk_80 (dk_at dksX0_drunk_0 8 rfl rfl)
theorem dX0_drunk_9 : decode cX0_drunk 9 = .ok (.goto 11, 3) := dk_167 0 11 (dk_at dksX0_drunk_0 9 rfl rfl)
theorem dX0_drunk_12 : decode cX0_drunk 12 = .ok (.astore 4, 2) := dk_58 4 (dk_at dksX0_drunk_0 12 rfl rfl)
theorem dX0_drunk_14 : decode cX0_drunk 14 = .ok (.iconst 1, 1) := dk_4 (dk_at dksX0_drunk_0 14 rfl rfl)
theorem dX0_drunk_15 : decode cX0_drunk 15 = .ok (.ireturn, 1) := dk_172 (dk_at dksX0_drunk_0 15 rfl rfl)
theorem dX0_drunk_16 : decode cX0_drunk 16 = .ok (.astore 4, 2) := dk_58 4 (dk_at dksX0_drunk_0 16 rfl rfl)
theorem dX0_drunk_18 : decode cX0_drunk 18 = .ok (.iconst 2, 1) := dk_5 (dk_at dksX0_drunk_0 18 rfl rfl)
theorem dX0_drunk_19 : decode cX0_drunk 19 = .ok (.ireturn, 1) := dk_172 (dk_at dksX0_drunk_0 19 rfl rfl)
theorem dX0_drunk_20 : decode cX0_drunk 20 = .ok (.iconst 0, 1) := dk_3 (dk_at dksX0_drunk_0 20 rfl rfl)
theorem dX0_drunk_21 : decode cX0_drunk 21 = .ok (.ireturn, 1) := dk_172 (dk_at dksX0_drunk_0 21 rfl rfl)
abbrev cX0_done : ByteArray := method_18_code
def yX0_done : MethodName := ⟨RX0, "done", "(LCardCups;II[J)I"⟩
def dkwX0_done_0 : List UInt8 := [45, 3, 42, 27, 28, 182, 0, 64, 80, 167, 0, 7, 58, 4, 4, 172, 3, 172]
abbrev dktX0_done_0 : List UInt8 := dkwX0_done_0 ++ []
theorem dksX0_done_0 : cX0_done.data.toList.drop 0 = dktX0_done_0 := by decide +kernel
theorem dX0_done_0 : decode cX0_done 0 = .ok (.aload_n 3, 1) := dk_45 (dk_at dksX0_done_0 0 rfl rfl)
theorem dX0_done_1 : decode cX0_done 1 = .ok (.iconst 0, 1) := dk_3 (dk_at dksX0_done_0 1 rfl rfl)
theorem dX0_done_2 : decode cX0_done 2 = .ok (.aload_n 0, 1) := dk_42 (dk_at dksX0_done_0 2 rfl rfl)
theorem dX0_done_3 : decode cX0_done 3 = .ok (.iload_n 1, 1) := dk_27 (dk_at dksX0_done_0 3 rfl rfl)
theorem dX0_done_4 : decode cX0_done 4 = .ok (.iload_n 2, 1) := dk_28 (dk_at dksX0_done_0 4 rfl rfl)
theorem dX0_done_5 : decode cX0_done 5 = .ok (.invokevirtual 64, 3) := dk_182 0 64 (dk_at dksX0_done_0 5 rfl rfl)
theorem dX0_done_8 : decode cX0_done 8 = .ok (.lastore, 1) := dk_80 (dk_at dksX0_done_0 8 rfl rfl)
theorem dX0_done_9 : decode cX0_done 9 = .ok (.goto 7, 3) := dk_167 0 7 (dk_at dksX0_done_0 9 rfl rfl)
theorem dX0_done_12 : decode cX0_done 12 = .ok (.astore 4, 2) := dk_58 4 (dk_at dksX0_done_0 12 rfl rfl)
theorem dX0_done_14 : decode cX0_done 14 = .ok (.iconst 1, 1) := dk_4 (dk_at dksX0_done_0 14 rfl rfl)
theorem dX0_done_15 : decode cX0_done 15 = .ok (.ireturn, 1) := dk_172 (dk_at dksX0_done_0 15 rfl rfl)
theorem dX0_done_16 : decode cX0_done 16 = .ok (.iconst 0, 1) := dk_3 (dk_at dksX0_done_0 16 rfl rfl)
theorem dX0_done_17 : decode cX0_done 17 = .ok (.ireturn, 1) := dk_172 (dk_at dksX0_done_0 17 rfl rfl)
abbrev cX0_cost : ByteArray := method_19_code
def yX0_cost : MethodName := ⟨RX0, "cost", "(LCardCups;I[J)I"⟩
def dkwX0_cost_0 : List UInt8 := [44, 3, 42, 27, 182, 0, 67, 80, 167, 0, 6, 78, 4, 172, 3, 172]
abbrev dktX0_cost_0 : List UInt8 := dkwX0_cost_0 ++ []
theorem dksX0_cost_0 : cX0_cost.data.toList.drop 0 = dktX0_cost_0 := by decide +kernel
theorem dX0_cost_0 : decode cX0_cost 0 = .ok (.aload_n 2, 1) := dk_44 (dk_at dksX0_cost_0 0 rfl rfl)
theorem dX0_cost_1 : decode cX0_cost 1 = .ok (.iconst 0, 1) := dk_3 (dk_at dksX0_cost_0 1 rfl rfl)
theorem dX0_cost_2 : decode cX0_cost 2 = .ok (.aload_n 0, 1) := dk_42 (dk_at dksX0_cost_0 2 rfl rfl)
theorem dX0_cost_3 : decode cX0_cost 3 = .ok (.iload_n 1, 1) := dk_27 (dk_at dksX0_cost_0 3 rfl rfl)
theorem dX0_cost_4 : decode cX0_cost 4 = .ok (.invokevirtual 67, 3) := dk_182 0 67 (dk_at dksX0_cost_0 4 rfl rfl)
theorem dX0_cost_7 : decode cX0_cost 7 = .ok (.lastore, 1) := dk_80 (dk_at dksX0_cost_0 7 rfl rfl)
theorem dX0_cost_8 : decode cX0_cost 8 = .ok (.goto 6, 3) := dk_167 0 6 (dk_at dksX0_cost_0 8 rfl rfl)
theorem dX0_cost_11 : decode cX0_cost 11 = .ok (.astore_n 3, 1) := dk_78 (dk_at dksX0_cost_0 11 rfl rfl)
theorem dX0_cost_12 : decode cX0_cost 12 = .ok (.iconst 1, 1) := dk_4 (dk_at dksX0_cost_0 12 rfl rfl)
theorem dX0_cost_13 : decode cX0_cost 13 = .ok (.ireturn, 1) := dk_172 (dk_at dksX0_cost_0 13 rfl rfl)
theorem dX0_cost_14 : decode cX0_cost 14 = .ok (.iconst 0, 1) := dk_3 (dk_at dksX0_cost_0 14 rfl rfl)
theorem dX0_cost_15 : decode cX0_cost 15 = .ok (.ireturn, 1) := dk_172 (dk_at dksX0_cost_0 15 rfl rfl)
abbrev cX0_fits : ByteArray := method_20_code
def yX0_fits : MethodName := ⟨RX0, "fits", "(LCardCups;I[J)I"⟩
def dkwX0_fits_0 : List UInt8 := [44, 3, 42, 27, 182, 0, 70, 80, 167, 0, 6, 78, 4, 172, 3, 172]
abbrev dktX0_fits_0 : List UInt8 := dkwX0_fits_0 ++ []
theorem dksX0_fits_0 : cX0_fits.data.toList.drop 0 = dktX0_fits_0 := by decide +kernel
theorem dX0_fits_0 : decode cX0_fits 0 = .ok (.aload_n 2, 1) := dk_44 (dk_at dksX0_fits_0 0 rfl rfl)
theorem dX0_fits_1 : decode cX0_fits 1 = .ok (.iconst 0, 1) := dk_3 (dk_at dksX0_fits_0 1 rfl rfl)
theorem dX0_fits_2 : decode cX0_fits 2 = .ok (.aload_n 0, 1) := dk_42 (dk_at dksX0_fits_0 2 rfl rfl)
theorem dX0_fits_3 : decode cX0_fits 3 = .ok (.iload_n 1, 1) := dk_27 (dk_at dksX0_fits_0 3 rfl rfl)
theorem dX0_fits_4 : decode cX0_fits 4 = .ok (.invokevirtual 70, 3) := dk_182 0 70 (dk_at dksX0_fits_0 4 rfl rfl)
theorem dX0_fits_7 : decode cX0_fits 7 = .ok (.lastore, 1) := dk_80 (dk_at dksX0_fits_0 7 rfl rfl)
theorem dX0_fits_8 : decode cX0_fits 8 = .ok (.goto 6, 3) := dk_167 0 6 (dk_at dksX0_fits_0 8 rfl rfl)
theorem dX0_fits_11 : decode cX0_fits 11 = .ok (.astore_n 3, 1) := dk_78 (dk_at dksX0_fits_0 11 rfl rfl)
theorem dX0_fits_12 : decode cX0_fits 12 = .ok (.iconst 1, 1) := dk_4 (dk_at dksX0_fits_0 12 rfl rfl)
theorem dX0_fits_13 : decode cX0_fits 13 = .ok (.ireturn, 1) := dk_172 (dk_at dksX0_fits_0 13 rfl rfl)
theorem dX0_fits_14 : decode cX0_fits 14 = .ok (.iconst 0, 1) := dk_3 (dk_at dksX0_fits_0 14 rfl rfl)
theorem dX0_fits_15 : decode cX0_fits 15 = .ok (.ireturn, 1) := dk_172 (dk_at dksX0_fits_0 15 rfl rfl)
abbrev cX0_given : ByteArray := method_21_code
def yX0_given : MethodName := ⟨RX0, "given", "(LCardCups;III[J)I"⟩
def dkwX0_given_0 : List UInt8 := [25, 4, 3, 42, 27, 28, 29, 182, 0, 73, 80, 167, 0, 11, 58, 5, 4, 172, 58, 5, 5, 172, 3, 172]
abbrev dktX0_given_0 : List UInt8 := dkwX0_given_0 ++ []
theorem dksX0_given_0 : cX0_given.data.toList.drop 0 = dktX0_given_0 := by decide +kernel
theorem dX0_given_0 : decode cX0_given 0 = .ok (.aload 4, 2) := dk_25 4 (dk_at dksX0_given_0 0 rfl rfl)
theorem dX0_given_2 : decode cX0_given 2 = .ok (.iconst 0, 1) := dk_3 (dk_at dksX0_given_0 2 rfl rfl)
theorem dX0_given_3 : decode cX0_given 3 = .ok (.aload_n 0, 1) := dk_42 (dk_at dksX0_given_0 3 rfl rfl)
theorem dX0_given_4 : decode cX0_given 4 = .ok (.iload_n 1, 1) := dk_27 (dk_at dksX0_given_0 4 rfl rfl)
theorem dX0_given_5 : decode cX0_given 5 = .ok (.iload_n 2, 1) := dk_28 (dk_at dksX0_given_0 5 rfl rfl)
theorem dX0_given_6 : decode cX0_given 6 = .ok (.iload_n 3, 1) := dk_29 (dk_at dksX0_given_0 6 rfl rfl)
theorem dX0_given_7 : decode cX0_given 7 = .ok (.invokevirtual 73, 3) := dk_182 0 73 (dk_at dksX0_given_0 7 rfl rfl)
theorem dX0_given_10 : decode cX0_given 10 = .ok (.lastore, 1) := dk_80 (dk_at dksX0_given_0 10 rfl rfl)
theorem dX0_given_11 : decode cX0_given 11 = .ok (.goto 11, 3) := dk_167 0 11 (dk_at dksX0_given_0 11 rfl rfl)
theorem dX0_given_14 : decode cX0_given 14 = .ok (.astore 5, 2) := dk_58 5 (dk_at dksX0_given_0 14 rfl rfl)
theorem dX0_given_16 : decode cX0_given 16 = .ok (.iconst 1, 1) := dk_4 (dk_at dksX0_given_0 16 rfl rfl)
theorem dX0_given_17 : decode cX0_given 17 = .ok (.ireturn, 1) := dk_172 (dk_at dksX0_given_0 17 rfl rfl)
theorem dX0_given_18 : decode cX0_given 18 = .ok (.astore 5, 2) := dk_58 5 (dk_at dksX0_given_0 18 rfl rfl)
theorem dX0_given_20 : decode cX0_given 20 = .ok (.iconst 2, 1) := dk_5 (dk_at dksX0_given_0 20 rfl rfl)
theorem dX0_given_21 : decode cX0_given 21 = .ok (.ireturn, 1) := dk_172 (dk_at dksX0_given_0 21 rfl rfl)
theorem dX0_given_22 : decode cX0_given 22 = .ok (.iconst 0, 1) := dk_3 (dk_at dksX0_given_0 22 rfl rfl)
theorem dX0_given_23 : decode cX0_given 23 = .ok (.ireturn, 1) := dk_172 (dk_at dksX0_given_0 23 rfl rfl)
abbrev cX0_best : ByteArray := method_22_code
def yX0_best : MethodName := ⟨RX0, "best", "(LCardCups;I[J)I"⟩
def dkwX0_best_0 : List UInt8 := [44, 3, 42, 27, 182, 0, 76, 133, 80, 167, 0, 6, 78, 4, 172, 3, 172]
abbrev dktX0_best_0 : List UInt8 := dkwX0_best_0 ++ []
theorem dksX0_best_0 : cX0_best.data.toList.drop 0 = dktX0_best_0 := by decide +kernel
theorem dX0_best_0 : decode cX0_best 0 = .ok (.aload_n 2, 1) := dk_44 (dk_at dksX0_best_0 0 rfl rfl)
theorem dX0_best_1 : decode cX0_best 1 = .ok (.iconst 0, 1) := dk_3 (dk_at dksX0_best_0 1 rfl rfl)
theorem dX0_best_2 : decode cX0_best 2 = .ok (.aload_n 0, 1) := dk_42 (dk_at dksX0_best_0 2 rfl rfl)
theorem dX0_best_3 : decode cX0_best 3 = .ok (.iload_n 1, 1) := dk_27 (dk_at dksX0_best_0 3 rfl rfl)
theorem dX0_best_4 : decode cX0_best 4 = .ok (.invokevirtual 76, 3) := dk_182 0 76 (dk_at dksX0_best_0 4 rfl rfl)
theorem dX0_best_7 : decode cX0_best 7 = .ok (.i2l, 1) := dk_133 (dk_at dksX0_best_0 7 rfl rfl)
theorem dX0_best_8 : decode cX0_best 8 = .ok (.lastore, 1) := dk_80 (dk_at dksX0_best_0 8 rfl rfl)
theorem dX0_best_9 : decode cX0_best 9 = .ok (.goto 6, 3) := dk_167 0 6 (dk_at dksX0_best_0 9 rfl rfl)
theorem dX0_best_12 : decode cX0_best 12 = .ok (.astore_n 3, 1) := dk_78 (dk_at dksX0_best_0 12 rfl rfl)
theorem dX0_best_13 : decode cX0_best 13 = .ok (.iconst 1, 1) := dk_4 (dk_at dksX0_best_0 13 rfl rfl)
theorem dX0_best_14 : decode cX0_best 14 = .ok (.ireturn, 1) := dk_172 (dk_at dksX0_best_0 14 rfl rfl)
theorem dX0_best_15 : decode cX0_best 15 = .ok (.iconst 0, 1) := dk_3 (dk_at dksX0_best_0 15 rfl rfl)
theorem dX0_best_16 : decode cX0_best 16 = .ok (.ireturn, 1) := dk_172 (dk_at dksX0_best_0 16 rfl rfl)
abbrev cX0_worth : ByteArray := method_23_code
def yX0_worth : MethodName := ⟨RX0, "worth", "(LCardCups;III[J)I"⟩
def dkwX0_worth_0 : List UInt8 := [25, 4, 3, 42, 27, 28, 29, 182, 0, 79, 80, 167, 0, 11, 58, 5, 4, 172, 58, 5, 5, 172, 3, 172]
abbrev dktX0_worth_0 : List UInt8 := dkwX0_worth_0 ++ []
theorem dksX0_worth_0 : cX0_worth.data.toList.drop 0 = dktX0_worth_0 := by decide +kernel
theorem dX0_worth_0 : decode cX0_worth 0 = .ok (.aload 4, 2) := dk_25 4 (dk_at dksX0_worth_0 0 rfl rfl)
theorem dX0_worth_2 : decode cX0_worth 2 = .ok (.iconst 0, 1) := dk_3 (dk_at dksX0_worth_0 2 rfl rfl)
theorem dX0_worth_3 : decode cX0_worth 3 = .ok (.aload_n 0, 1) := dk_42 (dk_at dksX0_worth_0 3 rfl rfl)
theorem dX0_worth_4 : decode cX0_worth 4 = .ok (.iload_n 1, 1) := dk_27 (dk_at dksX0_worth_0 4 rfl rfl)
theorem dX0_worth_5 : decode cX0_worth 5 = .ok (.iload_n 2, 1) := dk_28 (dk_at dksX0_worth_0 5 rfl rfl)
theorem dX0_worth_6 : decode cX0_worth 6 = .ok (.iload_n 3, 1) := dk_29 (dk_at dksX0_worth_0 6 rfl rfl)
theorem dX0_worth_7 : decode cX0_worth 7 = .ok (.invokevirtual 79, 3) := dk_182 0 79 (dk_at dksX0_worth_0 7 rfl rfl)
theorem dX0_worth_10 : decode cX0_worth 10 = .ok (.lastore, 1) := dk_80 (dk_at dksX0_worth_0 10 rfl rfl)
theorem dX0_worth_11 : decode cX0_worth 11 = .ok (.goto 11, 3) := dk_167 0 11 (dk_at dksX0_worth_0 11 rfl rfl)
theorem dX0_worth_14 : decode cX0_worth 14 = .ok (.astore 5, 2) := dk_58 5 (dk_at dksX0_worth_0 14 rfl rfl)
theorem dX0_worth_16 : decode cX0_worth 16 = .ok (.iconst 1, 1) := dk_4 (dk_at dksX0_worth_0 16 rfl rfl)
theorem dX0_worth_17 : decode cX0_worth 17 = .ok (.ireturn, 1) := dk_172 (dk_at dksX0_worth_0 17 rfl rfl)
theorem dX0_worth_18 : decode cX0_worth 18 = .ok (.astore 5, 2) := dk_58 5 (dk_at dksX0_worth_0 18 rfl rfl)
theorem dX0_worth_20 : decode cX0_worth 20 = .ok (.iconst 2, 1) := dk_5 (dk_at dksX0_worth_0 20 rfl rfl)
theorem dX0_worth_21 : decode cX0_worth 21 = .ok (.ireturn, 1) := dk_172 (dk_at dksX0_worth_0 21 rfl rfl)
theorem dX0_worth_22 : decode cX0_worth 22 = .ok (.iconst 0, 1) := dk_3 (dk_at dksX0_worth_0 22 rfl rfl)
theorem dX0_worth_23 : decode cX0_worth 23 = .ok (.ireturn, 1) := dk_172 (dk_at dksX0_worth_0 23 rfl rfl)
abbrev cX0_gain : ByteArray := method_24_code
def yX0_gain : MethodName := ⟨RX0, "gain", "(LCardCups;II[J)I"⟩
def dkwX0_gain_0 : List UInt8 := [45, 3, 42, 27, 28, 182, 0, 82, 80, 167, 0, 11, 58, 4, 4, 172, 58, 4, 5, 172, 3, 172]
abbrev dktX0_gain_0 : List UInt8 := dkwX0_gain_0 ++ []
theorem dksX0_gain_0 : cX0_gain.data.toList.drop 0 = dktX0_gain_0 := by decide +kernel
theorem dX0_gain_0 : decode cX0_gain 0 = .ok (.aload_n 3, 1) := dk_45 (dk_at dksX0_gain_0 0 rfl rfl)
theorem dX0_gain_1 : decode cX0_gain 1 = .ok (.iconst 0, 1) := dk_3 (dk_at dksX0_gain_0 1 rfl rfl)
theorem dX0_gain_2 : decode cX0_gain 2 = .ok (.aload_n 0, 1) := dk_42 (dk_at dksX0_gain_0 2 rfl rfl)
theorem dX0_gain_3 : decode cX0_gain 3 = .ok (.iload_n 1, 1) := dk_27 (dk_at dksX0_gain_0 3 rfl rfl)
theorem dX0_gain_4 : decode cX0_gain 4 = .ok (.iload_n 2, 1) := dk_28 (dk_at dksX0_gain_0 4 rfl rfl)
theorem dX0_gain_5 : decode cX0_gain 5 = .ok (.invokevirtual 82, 3) := dk_182 0 82 (dk_at dksX0_gain_0 5 rfl rfl)
theorem dX0_gain_8 : decode cX0_gain 8 = .ok (.lastore, 1) := dk_80 (dk_at dksX0_gain_0 8 rfl rfl)
theorem dX0_gain_9 : decode cX0_gain 9 = .ok (.goto 11, 3) := dk_167 0 11 (dk_at dksX0_gain_0 9 rfl rfl)
theorem dX0_gain_12 : decode cX0_gain 12 = .ok (.astore 4, 2) := dk_58 4 (dk_at dksX0_gain_0 12 rfl rfl)
theorem dX0_gain_14 : decode cX0_gain 14 = .ok (.iconst 1, 1) := dk_4 (dk_at dksX0_gain_0 14 rfl rfl)
theorem dX0_gain_15 : decode cX0_gain 15 = .ok (.ireturn, 1) := dk_172 (dk_at dksX0_gain_0 15 rfl rfl)
theorem dX0_gain_16 : decode cX0_gain 16 = .ok (.astore 4, 2) := dk_58 4 (dk_at dksX0_gain_0 16 rfl rfl)
theorem dX0_gain_18 : decode cX0_gain 18 = .ok (.iconst 2, 1) := dk_5 (dk_at dksX0_gain_0 18 rfl rfl)
theorem dX0_gain_19 : decode cX0_gain 19 = .ok (.ireturn, 1) := dk_172 (dk_at dksX0_gain_0 19 rfl rfl)
theorem dX0_gain_20 : decode cX0_gain 20 = .ok (.iconst 0, 1) := dk_3 (dk_at dksX0_gain_0 20 rfl rfl)
theorem dX0_gain_21 : decode cX0_gain 21 = .ok (.ireturn, 1) := dk_172 (dk_at dksX0_gain_0 21 rfl rfl)
abbrev cX0_without : ByteArray := method_25_code
def yX0_without : MethodName := ⟨RX0, "without", "(LCardCups;II[J)I"⟩
def dkwX0_without_0 : List UInt8 := [45, 3, 42, 27, 28, 182, 0, 85, 80, 167, 0, 11, 58, 4, 4, 172, 58, 4, 5, 172, 3, 172]
abbrev dktX0_without_0 : List UInt8 := dkwX0_without_0 ++ []
theorem dksX0_without_0 : cX0_without.data.toList.drop 0 = dktX0_without_0 := by decide +kernel
theorem dX0_without_0 : decode cX0_without 0 = .ok (.aload_n 3, 1) := dk_45 (dk_at dksX0_without_0 0 rfl rfl)
theorem dX0_without_1 : decode cX0_without 1 = .ok (.iconst 0, 1) := dk_3 (dk_at dksX0_without_0 1 rfl rfl)
theorem dX0_without_2 : decode cX0_without 2 = .ok (.aload_n 0, 1) := dk_42 (dk_at dksX0_without_0 2 rfl rfl)
theorem dX0_without_3 : decode cX0_without 3 = .ok (.iload_n 1, 1) := dk_27 (dk_at dksX0_without_0 3 rfl rfl)
theorem dX0_without_4 : decode cX0_without 4 = .ok (.iload_n 2, 1) := dk_28 (dk_at dksX0_without_0 4 rfl rfl)
theorem dX0_without_5 : decode cX0_without 5 = .ok (.invokevirtual 85, 3) := dk_182 0 85 (dk_at dksX0_without_0 5 rfl rfl)
theorem dX0_without_8 : decode cX0_without 8 = .ok (.lastore, 1) := dk_80 (dk_at dksX0_without_0 8 rfl rfl)
theorem dX0_without_9 : decode cX0_without 9 = .ok (.goto 11, 3) := dk_167 0 11 (dk_at dksX0_without_0 9 rfl rfl)
theorem dX0_without_12 : decode cX0_without 12 = .ok (.astore 4, 2) := dk_58 4 (dk_at dksX0_without_0 12 rfl rfl)
theorem dX0_without_14 : decode cX0_without 14 = .ok (.iconst 1, 1) := dk_4 (dk_at dksX0_without_0 14 rfl rfl)
theorem dX0_without_15 : decode cX0_without 15 = .ok (.ireturn, 1) := dk_172 (dk_at dksX0_without_0 15 rfl rfl)
theorem dX0_without_16 : decode cX0_without 16 = .ok (.astore 4, 2) := dk_58 4 (dk_at dksX0_without_0 16 rfl rfl)
theorem dX0_without_18 : decode cX0_without 18 = .ok (.iconst 2, 1) := dk_5 (dk_at dksX0_without_0 18 rfl rfl)
theorem dX0_without_19 : decode cX0_without 19 = .ok (.ireturn, 1) := dk_172 (dk_at dksX0_without_0 19 rfl rfl)
theorem dX0_without_20 : decode cX0_without 20 = .ok (.iconst 0, 1) := dk_3 (dk_at dksX0_without_0 20 rfl rfl)
theorem dX0_without_21 : decode cX0_without 21 = .ok (.ireturn, 1) := dk_172 (dk_at dksX0_without_0 21 rfl rfl)
abbrev cX0_falling : ByteArray := method_26_code
def yX0_falling : MethodName := ⟨RX0, "falling", "(LCardCups;I[J)I"⟩
def dkwX0_falling_0 : List UInt8 := [44, 3, 42, 27, 182, 0, 88, 80, 167, 0, 6, 78, 4, 172, 3, 172]
abbrev dktX0_falling_0 : List UInt8 := dkwX0_falling_0 ++ []
theorem dksX0_falling_0 : cX0_falling.data.toList.drop 0 = dktX0_falling_0 := by decide +kernel
theorem dX0_falling_0 : decode cX0_falling 0 = .ok (.aload_n 2, 1) := dk_44 (dk_at dksX0_falling_0 0 rfl rfl)
theorem dX0_falling_1 : decode cX0_falling 1 = .ok (.iconst 0, 1) := dk_3 (dk_at dksX0_falling_0 1 rfl rfl)
theorem dX0_falling_2 : decode cX0_falling 2 = .ok (.aload_n 0, 1) := dk_42 (dk_at dksX0_falling_0 2 rfl rfl)
theorem dX0_falling_3 : decode cX0_falling 3 = .ok (.iload_n 1, 1) := dk_27 (dk_at dksX0_falling_0 3 rfl rfl)
theorem dX0_falling_4 : decode cX0_falling 4 = .ok (.invokevirtual 88, 3) := dk_182 0 88 (dk_at dksX0_falling_0 4 rfl rfl)
theorem dX0_falling_7 : decode cX0_falling 7 = .ok (.lastore, 1) := dk_80 (dk_at dksX0_falling_0 7 rfl rfl)
theorem dX0_falling_8 : decode cX0_falling 8 = .ok (.goto 6, 3) := dk_167 0 6 (dk_at dksX0_falling_0 8 rfl rfl)
theorem dX0_falling_11 : decode cX0_falling 11 = .ok (.astore_n 3, 1) := dk_78 (dk_at dksX0_falling_0 11 rfl rfl)
theorem dX0_falling_12 : decode cX0_falling 12 = .ok (.iconst 1, 1) := dk_4 (dk_at dksX0_falling_0 12 rfl rfl)
theorem dX0_falling_13 : decode cX0_falling 13 = .ok (.ireturn, 1) := dk_172 (dk_at dksX0_falling_0 13 rfl rfl)
theorem dX0_falling_14 : decode cX0_falling 14 = .ok (.iconst 0, 1) := dk_3 (dk_at dksX0_falling_0 14 rfl rfl)
theorem dX0_falling_15 : decode cX0_falling 15 = .ok (.ireturn, 1) := dk_172 (dk_at dksX0_falling_0 15 rfl rfl)
abbrev cX0_seeing : ByteArray := method_27_code
def yX0_seeing : MethodName := ⟨RX0, "seeing", "(LCardCups;II[J)I"⟩
def dkwX0_seeing_0 : List UInt8 := [45, 3, 42, 27, 28, 182, 0, 91, 80, 167, 0, 7, 58, 4, 4, 172, 3, 172]
abbrev dktX0_seeing_0 : List UInt8 := dkwX0_seeing_0 ++ []
theorem dksX0_seeing_0 : cX0_seeing.data.toList.drop 0 = dktX0_seeing_0 := by decide +kernel
theorem dX0_seeing_0 : decode cX0_seeing 0 = .ok (.aload_n 3, 1) := dk_45 (dk_at dksX0_seeing_0 0 rfl rfl)
theorem dX0_seeing_1 : decode cX0_seeing 1 = .ok (.iconst 0, 1) := dk_3 (dk_at dksX0_seeing_0 1 rfl rfl)
theorem dX0_seeing_2 : decode cX0_seeing 2 = .ok (.aload_n 0, 1) := dk_42 (dk_at dksX0_seeing_0 2 rfl rfl)
theorem dX0_seeing_3 : decode cX0_seeing 3 = .ok (.iload_n 1, 1) := dk_27 (dk_at dksX0_seeing_0 3 rfl rfl)
theorem dX0_seeing_4 : decode cX0_seeing 4 = .ok (.iload_n 2, 1) := dk_28 (dk_at dksX0_seeing_0 4 rfl rfl)
theorem dX0_seeing_5 : decode cX0_seeing 5 = .ok (.invokevirtual 91, 3) := dk_182 0 91 (dk_at dksX0_seeing_0 5 rfl rfl)
theorem dX0_seeing_8 : decode cX0_seeing 8 = .ok (.lastore, 1) := dk_80 (dk_at dksX0_seeing_0 8 rfl rfl)
theorem dX0_seeing_9 : decode cX0_seeing 9 = .ok (.goto 7, 3) := dk_167 0 7 (dk_at dksX0_seeing_0 9 rfl rfl)
theorem dX0_seeing_12 : decode cX0_seeing 12 = .ok (.astore 4, 2) := dk_58 4 (dk_at dksX0_seeing_0 12 rfl rfl)
theorem dX0_seeing_14 : decode cX0_seeing 14 = .ok (.iconst 1, 1) := dk_4 (dk_at dksX0_seeing_0 14 rfl rfl)
theorem dX0_seeing_15 : decode cX0_seeing 15 = .ok (.ireturn, 1) := dk_172 (dk_at dksX0_seeing_0 15 rfl rfl)
theorem dX0_seeing_16 : decode cX0_seeing 16 = .ok (.iconst 0, 1) := dk_3 (dk_at dksX0_seeing_0 16 rfl rfl)
theorem dX0_seeing_17 : decode cX0_seeing 17 = .ok (.ireturn, 1) := dk_172 (dk_at dksX0_seeing_0 17 rfl rfl)
abbrev cX0_filled : ByteArray := method_28_code
def yX0_filled : MethodName := ⟨RX0, "filled", "(LCardCups;II[J)I"⟩
def dkwX0_filled_0 : List UInt8 := [45, 3, 42, 27, 28, 182, 0, 94, 80, 167, 0, 7, 58, 4, 4, 172, 3, 172]
abbrev dktX0_filled_0 : List UInt8 := dkwX0_filled_0 ++ []
theorem dksX0_filled_0 : cX0_filled.data.toList.drop 0 = dktX0_filled_0 := by decide +kernel
theorem dX0_filled_0 : decode cX0_filled 0 = .ok (.aload_n 3, 1) := dk_45 (dk_at dksX0_filled_0 0 rfl rfl)
theorem dX0_filled_1 : decode cX0_filled 1 = .ok (.iconst 0, 1) := dk_3 (dk_at dksX0_filled_0 1 rfl rfl)
theorem dX0_filled_2 : decode cX0_filled 2 = .ok (.aload_n 0, 1) := dk_42 (dk_at dksX0_filled_0 2 rfl rfl)
theorem dX0_filled_3 : decode cX0_filled 3 = .ok (.iload_n 1, 1) := dk_27 (dk_at dksX0_filled_0 3 rfl rfl)
theorem dX0_filled_4 : decode cX0_filled 4 = .ok (.iload_n 2, 1) := dk_28 (dk_at dksX0_filled_0 4 rfl rfl)
theorem dX0_filled_5 : decode cX0_filled 5 = .ok (.invokevirtual 94, 3) := dk_182 0 94 (dk_at dksX0_filled_0 5 rfl rfl)
theorem dX0_filled_8 : decode cX0_filled 8 = .ok (.lastore, 1) := dk_80 (dk_at dksX0_filled_0 8 rfl rfl)
theorem dX0_filled_9 : decode cX0_filled 9 = .ok (.goto 7, 3) := dk_167 0 7 (dk_at dksX0_filled_0 9 rfl rfl)
theorem dX0_filled_12 : decode cX0_filled 12 = .ok (.astore 4, 2) := dk_58 4 (dk_at dksX0_filled_0 12 rfl rfl)
theorem dX0_filled_14 : decode cX0_filled 14 = .ok (.iconst 1, 1) := dk_4 (dk_at dksX0_filled_0 14 rfl rfl)
theorem dX0_filled_15 : decode cX0_filled 15 = .ok (.ireturn, 1) := dk_172 (dk_at dksX0_filled_0 15 rfl rfl)
theorem dX0_filled_16 : decode cX0_filled 16 = .ok (.iconst 0, 1) := dk_3 (dk_at dksX0_filled_0 16 rfl rfl)
theorem dX0_filled_17 : decode cX0_filled 17 = .ok (.ireturn, 1) := dk_172 (dk_at dksX0_filled_0 17 rfl rfl)
abbrev cX0_ruled : ByteArray := method_29_code
def yX0_ruled : MethodName := ⟨RX0, "ruled", "(LCardCups;I[J)I"⟩
def dkwX0_ruled_0 : List UInt8 := [44, 3, 42, 27, 182, 0, 97, 80, 167, 0, 6, 78, 4, 172, 3, 172]
abbrev dktX0_ruled_0 : List UInt8 := dkwX0_ruled_0 ++ []
theorem dksX0_ruled_0 : cX0_ruled.data.toList.drop 0 = dktX0_ruled_0 := by decide +kernel
theorem dX0_ruled_0 : decode cX0_ruled 0 = .ok (.aload_n 2, 1) := dk_44 (dk_at dksX0_ruled_0 0 rfl rfl)
theorem dX0_ruled_1 : decode cX0_ruled 1 = .ok (.iconst 0, 1) := dk_3 (dk_at dksX0_ruled_0 1 rfl rfl)
theorem dX0_ruled_2 : decode cX0_ruled 2 = .ok (.aload_n 0, 1) := dk_42 (dk_at dksX0_ruled_0 2 rfl rfl)
theorem dX0_ruled_3 : decode cX0_ruled 3 = .ok (.iload_n 1, 1) := dk_27 (dk_at dksX0_ruled_0 3 rfl rfl)
theorem dX0_ruled_4 : decode cX0_ruled 4 = .ok (.invokevirtual 97, 3) := dk_182 0 97 (dk_at dksX0_ruled_0 4 rfl rfl)
theorem dX0_ruled_7 : decode cX0_ruled 7 = .ok (.lastore, 1) := dk_80 (dk_at dksX0_ruled_0 7 rfl rfl)
theorem dX0_ruled_8 : decode cX0_ruled 8 = .ok (.goto 6, 3) := dk_167 0 6 (dk_at dksX0_ruled_0 8 rfl rfl)
theorem dX0_ruled_11 : decode cX0_ruled 11 = .ok (.astore_n 3, 1) := dk_78 (dk_at dksX0_ruled_0 11 rfl rfl)
theorem dX0_ruled_12 : decode cX0_ruled 12 = .ok (.iconst 1, 1) := dk_4 (dk_at dksX0_ruled_0 12 rfl rfl)
theorem dX0_ruled_13 : decode cX0_ruled 13 = .ok (.ireturn, 1) := dk_172 (dk_at dksX0_ruled_0 13 rfl rfl)
theorem dX0_ruled_14 : decode cX0_ruled 14 = .ok (.iconst 0, 1) := dk_3 (dk_at dksX0_ruled_0 14 rfl rfl)
theorem dX0_ruled_15 : decode cX0_ruled 15 = .ok (.ireturn, 1) := dk_172 (dk_at dksX0_ruled_0 15 rfl rfl)
abbrev cX0_swapped : ByteArray := method_30_code
def yX0_swapped : MethodName := ⟨RX0, "swapped", "(LCardCups;III[J)I"⟩
def dkwX0_swapped_0 : List UInt8 := [25, 4, 3, 42, 27, 28, 29, 182, 0, 100, 80, 167, 0, 11, 58, 5, 4, 172, 58, 5, 5, 172, 3, 172]
abbrev dktX0_swapped_0 : List UInt8 := dkwX0_swapped_0 ++ []
theorem dksX0_swapped_0 : cX0_swapped.data.toList.drop 0 = dktX0_swapped_0 := by decide +kernel
theorem dX0_swapped_0 : decode cX0_swapped 0 = .ok (.aload 4, 2) := dk_25 4 (dk_at dksX0_swapped_0 0 rfl rfl)
theorem dX0_swapped_2 : decode cX0_swapped 2 = .ok (.iconst 0, 1) := dk_3 (dk_at dksX0_swapped_0 2 rfl rfl)
theorem dX0_swapped_3 : decode cX0_swapped 3 = .ok (.aload_n 0, 1) := dk_42 (dk_at dksX0_swapped_0 3 rfl rfl)
theorem dX0_swapped_4 : decode cX0_swapped 4 = .ok (.iload_n 1, 1) := dk_27 (dk_at dksX0_swapped_0 4 rfl rfl)
theorem dX0_swapped_5 : decode cX0_swapped 5 = .ok (.iload_n 2, 1) := dk_28 (dk_at dksX0_swapped_0 5 rfl rfl)
theorem dX0_swapped_6 : decode cX0_swapped 6 = .ok (.iload_n 3, 1) := dk_29 (dk_at dksX0_swapped_0 6 rfl rfl)
theorem dX0_swapped_7 : decode cX0_swapped 7 = .ok (.invokevirtual 100, 3) := dk_182 0 100 (dk_at dksX0_swapped_0 7 rfl rfl)
theorem dX0_swapped_10 : decode cX0_swapped 10 = .ok (.lastore, 1) := dk_80 (dk_at dksX0_swapped_0 10 rfl rfl)
theorem dX0_swapped_11 : decode cX0_swapped 11 = .ok (.goto 11, 3) := dk_167 0 11 (dk_at dksX0_swapped_0 11 rfl rfl)
theorem dX0_swapped_14 : decode cX0_swapped 14 = .ok (.astore 5, 2) := dk_58 5 (dk_at dksX0_swapped_0 14 rfl rfl)
theorem dX0_swapped_16 : decode cX0_swapped 16 = .ok (.iconst 1, 1) := dk_4 (dk_at dksX0_swapped_0 16 rfl rfl)
theorem dX0_swapped_17 : decode cX0_swapped 17 = .ok (.ireturn, 1) := dk_172 (dk_at dksX0_swapped_0 17 rfl rfl)
theorem dX0_swapped_18 : decode cX0_swapped 18 = .ok (.astore 5, 2) := dk_58 5 (dk_at dksX0_swapped_0 18 rfl rfl)
theorem dX0_swapped_20 : decode cX0_swapped 20 = .ok (.iconst 2, 1) := dk_5 (dk_at dksX0_swapped_0 20 rfl rfl)
theorem dX0_swapped_21 : decode cX0_swapped 21 = .ok (.ireturn, 1) := dk_172 (dk_at dksX0_swapped_0 21 rfl rfl)
theorem dX0_swapped_22 : decode cX0_swapped 22 = .ok (.iconst 0, 1) := dk_3 (dk_at dksX0_swapped_0 22 rfl rfl)
theorem dX0_swapped_23 : decode cX0_swapped 23 = .ok (.ireturn, 1) := dk_172 (dk_at dksX0_swapped_0 23 rfl rfl)
abbrev cX0_day : ByteArray := method_31_code
def yX0_day : MethodName := ⟨RX0, "day", "(LCardCups;III[J)I"⟩
def dkwX0_day_1 : List UInt8 := [172]
abbrev dktX0_day_1 : List UInt8 := dkwX0_day_1 ++ []
def dkwX0_day_0 : List UInt8 := [25, 4, 3, 42, 27, 28, 29, 182, 0, 103, 133, 80, 167, 0, 11, 58, 5, 4, 172, 58, 5, 5, 172, 3]
abbrev dktX0_day_0 : List UInt8 := dkwX0_day_0 ++ dktX0_day_1
theorem dksX0_day_0 : cX0_day.data.toList.drop 0 = dktX0_day_0 := by decide +kernel
theorem dksX0_day_1 : cX0_day.data.toList.drop 24 = dktX0_day_1 := dk_seg dksX0_day_0 24 rfl rfl
theorem dX0_day_0 : decode cX0_day 0 = .ok (.aload 4, 2) := dk_25 4 (dk_at dksX0_day_0 0 rfl rfl)
theorem dX0_day_2 : decode cX0_day 2 = .ok (.iconst 0, 1) := dk_3 (dk_at dksX0_day_0 2 rfl rfl)
theorem dX0_day_3 : decode cX0_day 3 = .ok (.aload_n 0, 1) := dk_42 (dk_at dksX0_day_0 3 rfl rfl)
theorem dX0_day_4 : decode cX0_day 4 = .ok (.iload_n 1, 1) := dk_27 (dk_at dksX0_day_0 4 rfl rfl)
theorem dX0_day_5 : decode cX0_day 5 = .ok (.iload_n 2, 1) := dk_28 (dk_at dksX0_day_0 5 rfl rfl)
theorem dX0_day_6 : decode cX0_day 6 = .ok (.iload_n 3, 1) := dk_29 (dk_at dksX0_day_0 6 rfl rfl)
theorem dX0_day_7 : decode cX0_day 7 = .ok (.invokevirtual 103, 3) := dk_182 0 103 (dk_at dksX0_day_0 7 rfl rfl)
theorem dX0_day_10 : decode cX0_day 10 = .ok (.i2l, 1) := dk_133 (dk_at dksX0_day_0 10 rfl rfl)
theorem dX0_day_11 : decode cX0_day 11 = .ok (.lastore, 1) := dk_80 (dk_at dksX0_day_0 11 rfl rfl)
theorem dX0_day_12 : decode cX0_day 12 = .ok (.goto 11, 3) := dk_167 0 11 (dk_at dksX0_day_0 12 rfl rfl)
theorem dX0_day_15 : decode cX0_day 15 = .ok (.astore 5, 2) := dk_58 5 (dk_at dksX0_day_0 15 rfl rfl)
theorem dX0_day_17 : decode cX0_day 17 = .ok (.iconst 1, 1) := dk_4 (dk_at dksX0_day_0 17 rfl rfl)
theorem dX0_day_18 : decode cX0_day 18 = .ok (.ireturn, 1) := dk_172 (dk_at dksX0_day_0 18 rfl rfl)
theorem dX0_day_19 : decode cX0_day 19 = .ok (.astore 5, 2) := dk_58 5 (dk_at dksX0_day_0 19 rfl rfl)
theorem dX0_day_21 : decode cX0_day 21 = .ok (.iconst 2, 1) := dk_5 (dk_at dksX0_day_0 21 rfl rfl)
theorem dX0_day_22 : decode cX0_day 22 = .ok (.ireturn, 1) := dk_172 (dk_at dksX0_day_0 22 rfl rfl)
theorem dX0_day_23 : decode cX0_day 23 = .ok (.iconst 0, 1) := dk_3 (dk_at dksX0_day_0 23 rfl rfl)
theorem dX0_day_24 : decode cX0_day 24 = .ok (.ireturn, 1) := dk_172 (dk_at dksX0_day_1 0 rfl rfl)
abbrev cX0_span : ByteArray := method_32_code
def yX0_span : MethodName := ⟨RX0, "span", "(LCardCups;III[J)I"⟩
def dkwX0_span_0 : List UInt8 := [25, 4, 3, 42, 27, 28, 29, 182, 0, 107, 133, 80, 167, 0, 7, 58, 5, 4, 172, 3, 172]
abbrev dktX0_span_0 : List UInt8 := dkwX0_span_0 ++ []
theorem dksX0_span_0 : cX0_span.data.toList.drop 0 = dktX0_span_0 := by decide +kernel
theorem dX0_span_0 : decode cX0_span 0 = .ok (.aload 4, 2) := dk_25 4 (dk_at dksX0_span_0 0 rfl rfl)
theorem dX0_span_2 : decode cX0_span 2 = .ok (.iconst 0, 1) := dk_3 (dk_at dksX0_span_0 2 rfl rfl)
theorem dX0_span_3 : decode cX0_span 3 = .ok (.aload_n 0, 1) := dk_42 (dk_at dksX0_span_0 3 rfl rfl)
theorem dX0_span_4 : decode cX0_span 4 = .ok (.iload_n 1, 1) := dk_27 (dk_at dksX0_span_0 4 rfl rfl)
theorem dX0_span_5 : decode cX0_span 5 = .ok (.iload_n 2, 1) := dk_28 (dk_at dksX0_span_0 5 rfl rfl)
theorem dX0_span_6 : decode cX0_span 6 = .ok (.iload_n 3, 1) := dk_29 (dk_at dksX0_span_0 6 rfl rfl)
theorem dX0_span_7 : decode cX0_span 7 = .ok (.invokevirtual 107, 3) := dk_182 0 107 (dk_at dksX0_span_0 7 rfl rfl)
theorem dX0_span_10 : decode cX0_span 10 = .ok (.i2l, 1) := dk_133 (dk_at dksX0_span_0 10 rfl rfl)
theorem dX0_span_11 : decode cX0_span 11 = .ok (.lastore, 1) := dk_80 (dk_at dksX0_span_0 11 rfl rfl)
theorem dX0_span_12 : decode cX0_span 12 = .ok (.goto 7, 3) := dk_167 0 7 (dk_at dksX0_span_0 12 rfl rfl)
theorem dX0_span_15 : decode cX0_span 15 = .ok (.astore 5, 2) := dk_58 5 (dk_at dksX0_span_0 15 rfl rfl)
theorem dX0_span_17 : decode cX0_span 17 = .ok (.iconst 1, 1) := dk_4 (dk_at dksX0_span_0 17 rfl rfl)
theorem dX0_span_18 : decode cX0_span 18 = .ok (.ireturn, 1) := dk_172 (dk_at dksX0_span_0 18 rfl rfl)
theorem dX0_span_19 : decode cX0_span 19 = .ok (.iconst 0, 1) := dk_3 (dk_at dksX0_span_0 19 rfl rfl)
theorem dX0_span_20 : decode cX0_span 20 = .ok (.ireturn, 1) := dk_172 (dk_at dksX0_span_0 20 rfl rfl)
abbrev cX0_come : ByteArray := method_33_code
def yX0_come : MethodName := ⟨RX0, "come", "(LCardCups;II[J)I"⟩
def dkwX0_come_0 : List UInt8 := [45, 3, 42, 27, 28, 182, 0, 110, 133, 80, 167, 0, 11, 58, 4, 4, 172, 58, 4, 5, 172, 3, 172]
abbrev dktX0_come_0 : List UInt8 := dkwX0_come_0 ++ []
theorem dksX0_come_0 : cX0_come.data.toList.drop 0 = dktX0_come_0 := by decide +kernel
theorem dX0_come_0 : decode cX0_come 0 = .ok (.aload_n 3, 1) := dk_45 (dk_at dksX0_come_0 0 rfl rfl)
theorem dX0_come_1 : decode cX0_come 1 = .ok (.iconst 0, 1) := dk_3 (dk_at dksX0_come_0 1 rfl rfl)
theorem dX0_come_2 : decode cX0_come 2 = .ok (.aload_n 0, 1) := dk_42 (dk_at dksX0_come_0 2 rfl rfl)
theorem dX0_come_3 : decode cX0_come 3 = .ok (.iload_n 1, 1) := dk_27 (dk_at dksX0_come_0 3 rfl rfl)
theorem dX0_come_4 : decode cX0_come 4 = .ok (.iload_n 2, 1) := dk_28 (dk_at dksX0_come_0 4 rfl rfl)
theorem dX0_come_5 : decode cX0_come 5 = .ok (.invokevirtual 110, 3) := dk_182 0 110 (dk_at dksX0_come_0 5 rfl rfl)
theorem dX0_come_8 : decode cX0_come 8 = .ok (.i2l, 1) := dk_133 (dk_at dksX0_come_0 8 rfl rfl)
theorem dX0_come_9 : decode cX0_come 9 = .ok (.lastore, 1) := dk_80 (dk_at dksX0_come_0 9 rfl rfl)
theorem dX0_come_10 : decode cX0_come 10 = .ok (.goto 11, 3) := dk_167 0 11 (dk_at dksX0_come_0 10 rfl rfl)
theorem dX0_come_13 : decode cX0_come 13 = .ok (.astore 4, 2) := dk_58 4 (dk_at dksX0_come_0 13 rfl rfl)
theorem dX0_come_15 : decode cX0_come 15 = .ok (.iconst 1, 1) := dk_4 (dk_at dksX0_come_0 15 rfl rfl)
theorem dX0_come_16 : decode cX0_come 16 = .ok (.ireturn, 1) := dk_172 (dk_at dksX0_come_0 16 rfl rfl)
theorem dX0_come_17 : decode cX0_come 17 = .ok (.astore 4, 2) := dk_58 4 (dk_at dksX0_come_0 17 rfl rfl)
theorem dX0_come_19 : decode cX0_come 19 = .ok (.iconst 2, 1) := dk_5 (dk_at dksX0_come_0 19 rfl rfl)
theorem dX0_come_20 : decode cX0_come 20 = .ok (.ireturn, 1) := dk_172 (dk_at dksX0_come_0 20 rfl rfl)
theorem dX0_come_21 : decode cX0_come 21 = .ok (.iconst 0, 1) := dk_3 (dk_at dksX0_come_0 21 rfl rfl)
theorem dX0_come_22 : decode cX0_come 22 = .ok (.ireturn, 1) := dk_172 (dk_at dksX0_come_0 22 rfl rfl)
abbrev cX0_skip : ByteArray := method_34_code
def yX0_skip : MethodName := ⟨RX0, "skip", "(LCardCups;I[J)I"⟩
def dkwX0_skip_0 : List UInt8 := [44, 3, 42, 27, 182, 0, 113, 133, 80, 167, 0, 6, 78, 4, 172, 3, 172]
abbrev dktX0_skip_0 : List UInt8 := dkwX0_skip_0 ++ []
theorem dksX0_skip_0 : cX0_skip.data.toList.drop 0 = dktX0_skip_0 := by decide +kernel
theorem dX0_skip_0 : decode cX0_skip 0 = .ok (.aload_n 2, 1) := dk_44 (dk_at dksX0_skip_0 0 rfl rfl)
theorem dX0_skip_1 : decode cX0_skip 1 = .ok (.iconst 0, 1) := dk_3 (dk_at dksX0_skip_0 1 rfl rfl)
theorem dX0_skip_2 : decode cX0_skip 2 = .ok (.aload_n 0, 1) := dk_42 (dk_at dksX0_skip_0 2 rfl rfl)
theorem dX0_skip_3 : decode cX0_skip 3 = .ok (.iload_n 1, 1) := dk_27 (dk_at dksX0_skip_0 3 rfl rfl)
theorem dX0_skip_4 : decode cX0_skip 4 = .ok (.invokevirtual 113, 3) := dk_182 0 113 (dk_at dksX0_skip_0 4 rfl rfl)
theorem dX0_skip_7 : decode cX0_skip 7 = .ok (.i2l, 1) := dk_133 (dk_at dksX0_skip_0 7 rfl rfl)
theorem dX0_skip_8 : decode cX0_skip 8 = .ok (.lastore, 1) := dk_80 (dk_at dksX0_skip_0 8 rfl rfl)
theorem dX0_skip_9 : decode cX0_skip 9 = .ok (.goto 6, 3) := dk_167 0 6 (dk_at dksX0_skip_0 9 rfl rfl)
theorem dX0_skip_12 : decode cX0_skip 12 = .ok (.astore_n 3, 1) := dk_78 (dk_at dksX0_skip_0 12 rfl rfl)
theorem dX0_skip_13 : decode cX0_skip 13 = .ok (.iconst 1, 1) := dk_4 (dk_at dksX0_skip_0 13 rfl rfl)
theorem dX0_skip_14 : decode cX0_skip 14 = .ok (.ireturn, 1) := dk_172 (dk_at dksX0_skip_0 14 rfl rfl)
theorem dX0_skip_15 : decode cX0_skip 15 = .ok (.iconst 0, 1) := dk_3 (dk_at dksX0_skip_0 15 rfl rfl)
theorem dX0_skip_16 : decode cX0_skip 16 = .ok (.ireturn, 1) := dk_172 (dk_at dksX0_skip_0 16 rfl rfl)
abbrev cX0_shift : ByteArray := method_35_code
def yX0_shift : MethodName := ⟨RX0, "shift", "(LCardCups;II[J)I"⟩
def dkwX0_shift_0 : List UInt8 := [45, 3, 42, 27, 28, 182, 0, 116, 133, 80, 167, 0, 11, 58, 4, 4, 172, 58, 4, 5, 172, 3, 172]
abbrev dktX0_shift_0 : List UInt8 := dkwX0_shift_0 ++ []
theorem dksX0_shift_0 : cX0_shift.data.toList.drop 0 = dktX0_shift_0 := by decide +kernel
theorem dX0_shift_0 : decode cX0_shift 0 = .ok (.aload_n 3, 1) := dk_45 (dk_at dksX0_shift_0 0 rfl rfl)
theorem dX0_shift_1 : decode cX0_shift 1 = .ok (.iconst 0, 1) := dk_3 (dk_at dksX0_shift_0 1 rfl rfl)
theorem dX0_shift_2 : decode cX0_shift 2 = .ok (.aload_n 0, 1) := dk_42 (dk_at dksX0_shift_0 2 rfl rfl)
theorem dX0_shift_3 : decode cX0_shift 3 = .ok (.iload_n 1, 1) := dk_27 (dk_at dksX0_shift_0 3 rfl rfl)
theorem dX0_shift_4 : decode cX0_shift 4 = .ok (.iload_n 2, 1) := dk_28 (dk_at dksX0_shift_0 4 rfl rfl)
theorem dX0_shift_5 : decode cX0_shift 5 = .ok (.invokevirtual 116, 3) := dk_182 0 116 (dk_at dksX0_shift_0 5 rfl rfl)
theorem dX0_shift_8 : decode cX0_shift 8 = .ok (.i2l, 1) := dk_133 (dk_at dksX0_shift_0 8 rfl rfl)
theorem dX0_shift_9 : decode cX0_shift 9 = .ok (.lastore, 1) := dk_80 (dk_at dksX0_shift_0 9 rfl rfl)
theorem dX0_shift_10 : decode cX0_shift 10 = .ok (.goto 11, 3) := dk_167 0 11 (dk_at dksX0_shift_0 10 rfl rfl)
theorem dX0_shift_13 : decode cX0_shift 13 = .ok (.astore 4, 2) := dk_58 4 (dk_at dksX0_shift_0 13 rfl rfl)
theorem dX0_shift_15 : decode cX0_shift 15 = .ok (.iconst 1, 1) := dk_4 (dk_at dksX0_shift_0 15 rfl rfl)
theorem dX0_shift_16 : decode cX0_shift 16 = .ok (.ireturn, 1) := dk_172 (dk_at dksX0_shift_0 16 rfl rfl)
theorem dX0_shift_17 : decode cX0_shift 17 = .ok (.astore 4, 2) := dk_58 4 (dk_at dksX0_shift_0 17 rfl rfl)
theorem dX0_shift_19 : decode cX0_shift 19 = .ok (.iconst 2, 1) := dk_5 (dk_at dksX0_shift_0 19 rfl rfl)
theorem dX0_shift_20 : decode cX0_shift 20 = .ok (.ireturn, 1) := dk_172 (dk_at dksX0_shift_0 20 rfl rfl)
theorem dX0_shift_21 : decode cX0_shift 21 = .ok (.iconst 0, 1) := dk_3 (dk_at dksX0_shift_0 21 rfl rfl)
theorem dX0_shift_22 : decode cX0_shift 22 = .ok (.ireturn, 1) := dk_172 (dk_at dksX0_shift_0 22 rfl rfl)
abbrev cX0_teach : ByteArray := method_36_code
def yX0_teach : MethodName := ⟨RX0, "teach", "(LCardCups;II[J)I"⟩
def dkwX0_teach_0 : List UInt8 := [45, 3, 42, 27, 28, 182, 0, 119, 133, 80, 167, 0, 7, 58, 4, 4, 172, 3, 172]
abbrev dktX0_teach_0 : List UInt8 := dkwX0_teach_0 ++ []
theorem dksX0_teach_0 : cX0_teach.data.toList.drop 0 = dktX0_teach_0 := by decide +kernel
theorem dX0_teach_0 : decode cX0_teach 0 = .ok (.aload_n 3, 1) := dk_45 (dk_at dksX0_teach_0 0 rfl rfl)
theorem dX0_teach_1 : decode cX0_teach 1 = .ok (.iconst 0, 1) := dk_3 (dk_at dksX0_teach_0 1 rfl rfl)
theorem dX0_teach_2 : decode cX0_teach 2 = .ok (.aload_n 0, 1) := dk_42 (dk_at dksX0_teach_0 2 rfl rfl)
theorem dX0_teach_3 : decode cX0_teach 3 = .ok (.iload_n 1, 1) := dk_27 (dk_at dksX0_teach_0 3 rfl rfl)
theorem dX0_teach_4 : decode cX0_teach 4 = .ok (.iload_n 2, 1) := dk_28 (dk_at dksX0_teach_0 4 rfl rfl)
theorem dX0_teach_5 : decode cX0_teach 5 = .ok (.invokevirtual 119, 3) := dk_182 0 119 (dk_at dksX0_teach_0 5 rfl rfl)
theorem dX0_teach_8 : decode cX0_teach 8 = .ok (.i2l, 1) := dk_133 (dk_at dksX0_teach_0 8 rfl rfl)
theorem dX0_teach_9 : decode cX0_teach 9 = .ok (.lastore, 1) := dk_80 (dk_at dksX0_teach_0 9 rfl rfl)
theorem dX0_teach_10 : decode cX0_teach 10 = .ok (.goto 7, 3) := dk_167 0 7 (dk_at dksX0_teach_0 10 rfl rfl)
theorem dX0_teach_13 : decode cX0_teach 13 = .ok (.astore 4, 2) := dk_58 4 (dk_at dksX0_teach_0 13 rfl rfl)
theorem dX0_teach_15 : decode cX0_teach 15 = .ok (.iconst 1, 1) := dk_4 (dk_at dksX0_teach_0 15 rfl rfl)
theorem dX0_teach_16 : decode cX0_teach 16 = .ok (.ireturn, 1) := dk_172 (dk_at dksX0_teach_0 16 rfl rfl)
theorem dX0_teach_17 : decode cX0_teach 17 = .ok (.iconst 0, 1) := dk_3 (dk_at dksX0_teach_0 17 rfl rfl)
theorem dX0_teach_18 : decode cX0_teach 18 = .ok (.ireturn, 1) := dk_172 (dk_at dksX0_teach_0 18 rfl rfl)
theorem q107 : (Jvm.Cond.initialized "CardCupsLaw") ∈ lw_all := lw_g (lw_at lw_m1 0 rfl) rfl
theorem q145 : (Jvm.Cond.classLink "CardCupsLaw" (8 : Nat) "CardCups") ∈ lw_all := lw_g (lw_at lw_m1 38 rfl) rfl
theorem q147 : (Jvm.Cond.methodLink "CardCupsLaw" (122 : Nat) ({ cls := "CardCups", name := "<init>", desc := "()V" } : Jvm.MethodName)) ∈ lw_all := lw_g (lw_at lw_m1 40 rfl) rfl
theorem q505 : (Jvm.Cond.methodLink "CardCupsLaw" (126 : Nat) ({ cls := "CardCups", name := "feed", desc := "(IIIII)I" } : Jvm.MethodName)) ∈ lw_all := lw_g (lw_at lw_m2 158 rfl) rfl
theorem q509 : (Jvm.Cond.methodLink "CardCupsLaw" (151 : Nat) ({ cls := "CardCups", name := "fault", desc := "()I" } : Jvm.MethodName)) ∈ lw_all := lw_g (lw_at lw_m2 162 rfl) rfl
theorem q513 : (Jvm.Cond.methodLink "CardCupsLaw" (187 : Nat) ({ cls := "CardCups", name := "since", desc := "()I" } : Jvm.MethodName)) ∈ lw_all := lw_g (lw_at lw_m2 166 rfl) rfl
theorem q767 : (Jvm.Cond.methodLink "CardCupsLaw" (218 : Nat) ({ cls := "CardCups", name := "keeper", desc := "()I" } : Jvm.MethodName)) ∈ lw_all := lw_g (lw_at lw_m3 180 rfl) rfl
theorem q775 : (Jvm.Cond.methodLink "CardCupsLaw" (222 : Nat) ({ cls := "CardCups", name := "spoiler", desc := "()I" } : Jvm.MethodName)) ∈ lw_all := lw_g (lw_at lw_m3 188 rfl) rfl
theorem q783 : (Jvm.Cond.methodLink "CardCupsLaw" (235 : Nat) ({ cls := "CardCups", name := "fill", desc := "()I" } : Jvm.MethodName)) ∈ lw_all := lw_g (lw_at lw_m3 196 rfl) rfl
theorem q791 : (Jvm.Cond.methodLink "CardCupsLaw" (245 : Nat) ({ cls := "CardCups", name := "swap", desc := "()I" } : Jvm.MethodName)) ∈ lw_all := lw_g (lw_at lw_m3 204 rfl) rfl
theorem q799 : (Jvm.Cond.methodLink "CardCupsLaw" (267 : Nat) ({ cls := "CardCups", name := "undo", desc := "()I" } : Jvm.MethodName)) ∈ lw_all := lw_g (lw_at lw_m3 212 rfl) rfl
theorem q808 : (Jvm.Cond.methodLink "CardCupsLaw" (271 : Nat) ({ cls := "CardCups", name := "image", desc := "()I" } : Jvm.MethodName)) ∈ lw_all := lw_g (lw_at lw_m3 221 rfl) rfl
theorem q812 : (Jvm.Cond.methodLink "CardCupsLaw" (275 : Nat) ({ cls := "CardCups", name := "restore", desc := "()I" } : Jvm.MethodName)) ∈ lw_all := lw_g (lw_at lw_m3 225 rfl) rfl
theorem q816 : (Jvm.Cond.methodLink "CardCupsLaw" (279 : Nat) ({ cls := "CardCups", name := "status", desc := "(I)I" } : Jvm.MethodName)) ∈ lw_all := lw_g (lw_at lw_m3 229 rfl) rfl
theorem q820 : (Jvm.Cond.methodLink "CardCupsLaw" (283 : Nat) ({ cls := "CardCups", name := "count", desc := "(I)I" } : Jvm.MethodName)) ∈ lw_all := lw_g (lw_at lw_m3 233 rfl) rfl
theorem q824 : (Jvm.Cond.methodLink "CardCupsLaw" (131 : Nat) ({ cls := "CardCupsLaw", name := "office", desc := "(LCardCups;I[J)I" } : Jvm.MethodName)) ∈ lw_all := lw_g (lw_at lw_m3 237 rfl) rfl
theorem q825 : (Jvm.Cond.static ({ cls := "CardCupsLaw", name := "office", desc := "(LCardCups;I[J)I" } : Jvm.MethodName)) ∈ lw_all := lw_g (lw_at lw_m3 238 rfl) rfl
theorem q826 : (Jvm.Cond.codeWith ({ cls := "CardCupsLaw", name := "office", desc := "(LCardCups;I[J)I" } : Jvm.MethodName) method_3_code (4 : Nat) (Option.some Jvm.ClassFile.FieldType.int) [((0 : Nat), (9 : Nat), (12 : Nat), (13 : Nat))]) ∈ lw_all := lw_g (lw_at lw_m3 239 rfl) rfl
theorem q827 : (Jvm.Cond.classLink "CardCupsLaw" (13 : Nat) "java/lang/IllegalArgumentException") ∈ lw_all := lw_g (lw_at lw_m4 0 rfl) rfl
theorem q828 : (Jvm.Cond.methodLink "CardCupsLaw" (7 : Nat) ({ cls := "CardCups", name := "office", desc := "(I)I" } : Jvm.MethodName)) ∈ lw_all := lw_g (lw_at lw_m4 1 rfl) rfl
theorem q1099 : (Jvm.Cond.methodLink "CardCupsLaw" (141 : Nat) ({ cls := "CardCupsLaw", name := "habit", desc := "(LCardCups;II[J)I" } : Jvm.MethodName)) ∈ lw_all := lw_g (lw_at lw_m5 32 rfl) rfl
theorem q1100 : (Jvm.Cond.static ({ cls := "CardCupsLaw", name := "habit", desc := "(LCardCups;II[J)I" } : Jvm.MethodName)) ∈ lw_all := lw_g (lw_at lw_m5 33 rfl) rfl
theorem q1101 : (Jvm.Cond.codeWith ({ cls := "CardCupsLaw", name := "habit", desc := "(LCardCups;II[J)I" } : Jvm.MethodName) method_4_code (5 : Nat) (Option.some Jvm.ClassFile.FieldType.int) [((0 : Nat), (10 : Nat), (13 : Nat), (19 : Nat)), ((0 : Nat), (10 : Nat), (17 : Nat), (13 : Nat))]) ∈ lw_all := lw_g (lw_at lw_m5 34 rfl) rfl
theorem q1102 : (Jvm.Cond.classLink "CardCupsLaw" (19 : Nat) "java/util/NoSuchElementException") ∈ lw_all := lw_g (lw_at lw_m5 35 rfl) rfl
theorem q1103 : (Jvm.Cond.methodLink "CardCupsLaw" (15 : Nat) ({ cls := "CardCups", name := "habit", desc := "(II)I" } : Jvm.MethodName)) ∈ lw_all := lw_g (lw_at lw_m5 36 rfl) rfl
theorem q1355 : (Jvm.Cond.methodLink "CardCupsLaw" (145 : Nat) ({ cls := "CardCupsLaw", name := "rule", desc := "(LCardCups;I[J)I" } : Jvm.MethodName)) ∈ lw_all := lw_g (lw_at lw_m6 48 rfl) rfl
theorem q1356 : (Jvm.Cond.static ({ cls := "CardCupsLaw", name := "rule", desc := "(LCardCups;I[J)I" } : Jvm.MethodName)) ∈ lw_all := lw_g (lw_at lw_m6 49 rfl) rfl
theorem q1357 : (Jvm.Cond.codeWith ({ cls := "CardCupsLaw", name := "rule", desc := "(LCardCups;I[J)I" } : Jvm.MethodName) method_5_code (4 : Nat) (Option.some Jvm.ClassFile.FieldType.int) [((0 : Nat), (9 : Nat), (12 : Nat), (13 : Nat))]) ∈ lw_all := lw_g (lw_at lw_m6 50 rfl) rfl
theorem q1358 : (Jvm.Cond.methodLink "CardCupsLaw" (21 : Nat) ({ cls := "CardCups", name := "rule", desc := "(I)I" } : Jvm.MethodName)) ∈ lw_all := lw_g (lw_at lw_m6 51 rfl) rfl
theorem q1362 : (Jvm.Cond.methodLink "CardCupsLaw" (148 : Nat) ({ cls := "CardCupsLaw", name := "book", desc := "(LCardCups;I[J)I" } : Jvm.MethodName)) ∈ lw_all := lw_g (lw_at lw_m6 55 rfl) rfl
theorem q1363 : (Jvm.Cond.static ({ cls := "CardCupsLaw", name := "book", desc := "(LCardCups;I[J)I" } : Jvm.MethodName)) ∈ lw_all := lw_g (lw_at lw_m6 56 rfl) rfl
theorem q1364 : (Jvm.Cond.codeWith ({ cls := "CardCupsLaw", name := "book", desc := "(LCardCups;I[J)I" } : Jvm.MethodName) method_6_code (4 : Nat) (Option.some Jvm.ClassFile.FieldType.int) [((0 : Nat), (9 : Nat), (12 : Nat), (13 : Nat))]) ∈ lw_all := lw_g (lw_at lw_m6 57 rfl) rfl
theorem q1365 : (Jvm.Cond.methodLink "CardCupsLaw" (24 : Nat) ({ cls := "CardCups", name := "book", desc := "(I)I" } : Jvm.MethodName)) ∈ lw_all := lw_g (lw_at lw_m6 58 rfl) rfl
theorem q1382 : (Jvm.Cond.methodLink "CardCupsLaw" (155 : Nat) ({ cls := "CardCupsLaw", name := "told", desc := "(LCardCups;I[J)I" } : Jvm.MethodName)) ∈ lw_all := lw_g (lw_at lw_m6 75 rfl) rfl
theorem q1383 : (Jvm.Cond.static ({ cls := "CardCupsLaw", name := "told", desc := "(LCardCups;I[J)I" } : Jvm.MethodName)) ∈ lw_all := lw_g (lw_at lw_m6 76 rfl) rfl
theorem q1384 : (Jvm.Cond.codeWith ({ cls := "CardCupsLaw", name := "told", desc := "(LCardCups;I[J)I" } : Jvm.MethodName) method_7_code (4 : Nat) (Option.some Jvm.ClassFile.FieldType.int) [((0 : Nat), (9 : Nat), (12 : Nat), (13 : Nat))]) ∈ lw_all := lw_g (lw_at lw_m6 77 rfl) rfl
theorem q1385 : (Jvm.Cond.methodLink "CardCupsLaw" (27 : Nat) ({ cls := "CardCups", name := "told", desc := "(I)I" } : Jvm.MethodName)) ∈ lw_all := lw_g (lw_at lw_m6 78 rfl) rfl
theorem q1389 : (Jvm.Cond.methodLink "CardCupsLaw" (158 : Nat) ({ cls := "CardCupsLaw", name := "visit", desc := "(LCardCups;II[J)I" } : Jvm.MethodName)) ∈ lw_all := lw_g (lw_at lw_m6 82 rfl) rfl
theorem q1390 : (Jvm.Cond.static ({ cls := "CardCupsLaw", name := "visit", desc := "(LCardCups;II[J)I" } : Jvm.MethodName)) ∈ lw_all := lw_g (lw_at lw_m6 83 rfl) rfl
theorem q1391 : (Jvm.Cond.codeWith ({ cls := "CardCupsLaw", name := "visit", desc := "(LCardCups;II[J)I" } : Jvm.MethodName) method_8_code (5 : Nat) (Option.some Jvm.ClassFile.FieldType.int) [((0 : Nat), (10 : Nat), (13 : Nat), (19 : Nat)), ((0 : Nat), (10 : Nat), (17 : Nat), (13 : Nat))]) ∈ lw_all := lw_g (lw_at lw_m6 84 rfl) rfl
theorem q1392 : (Jvm.Cond.methodLink "CardCupsLaw" (30 : Nat) ({ cls := "CardCups", name := "visit", desc := "(II)I" } : Jvm.MethodName)) ∈ lw_all := lw_g (lw_at lw_m6 85 rfl) rfl
theorem q1402 : (Jvm.Cond.methodLink "CardCupsLaw" (161 : Nat) ({ cls := "CardCupsLaw", name := "person", desc := "(LCardCups;II[J)I" } : Jvm.MethodName)) ∈ lw_all := lw_g (lw_at lw_m6 95 rfl) rfl
theorem q1403 : (Jvm.Cond.static ({ cls := "CardCupsLaw", name := "person", desc := "(LCardCups;II[J)I" } : Jvm.MethodName)) ∈ lw_all := lw_g (lw_at lw_m6 96 rfl) rfl
theorem q1404 : (Jvm.Cond.codeWith ({ cls := "CardCupsLaw", name := "person", desc := "(LCardCups;II[J)I" } : Jvm.MethodName) method_9_code (5 : Nat) (Option.some Jvm.ClassFile.FieldType.int) [((0 : Nat), (10 : Nat), (13 : Nat), (19 : Nat)), ((0 : Nat), (10 : Nat), (17 : Nat), (13 : Nat))]) ∈ lw_all := lw_g (lw_at lw_m6 97 rfl) rfl
theorem q1405 : (Jvm.Cond.methodLink "CardCupsLaw" (33 : Nat) ({ cls := "CardCups", name := "person", desc := "(II)I" } : Jvm.MethodName)) ∈ lw_all := lw_g (lw_at lw_m6 98 rfl) rfl
theorem q1417 : (Jvm.Cond.methodLink "CardCupsLaw" (164 : Nat) ({ cls := "CardCupsLaw", name := "price", desc := "(LCardCups;I[J)I" } : Jvm.MethodName)) ∈ lw_all := lw_g (lw_at lw_m6 110 rfl) rfl
theorem q1418 : (Jvm.Cond.static ({ cls := "CardCupsLaw", name := "price", desc := "(LCardCups;I[J)I" } : Jvm.MethodName)) ∈ lw_all := lw_g (lw_at lw_m6 111 rfl) rfl
theorem q1419 : (Jvm.Cond.codeWith ({ cls := "CardCupsLaw", name := "price", desc := "(LCardCups;I[J)I" } : Jvm.MethodName) method_10_code (4 : Nat) (Option.some Jvm.ClassFile.FieldType.int) [((0 : Nat), (9 : Nat), (12 : Nat), (13 : Nat))]) ∈ lw_all := lw_g (lw_at lw_m6 112 rfl) rfl
theorem q1420 : (Jvm.Cond.methodLink "CardCupsLaw" (36 : Nat) ({ cls := "CardCups", name := "price", desc := "(I)I" } : Jvm.MethodName)) ∈ lw_all := lw_g (lw_at lw_m6 113 rfl) rfl
theorem q1424 : (Jvm.Cond.methodLink "CardCupsLaw" (167 : Nat) ({ cls := "CardCupsLaw", name := "states", desc := "(LCardCups;I[J)I" } : Jvm.MethodName)) ∈ lw_all := lw_g (lw_at lw_m6 117 rfl) rfl
theorem q1425 : (Jvm.Cond.static ({ cls := "CardCupsLaw", name := "states", desc := "(LCardCups;I[J)I" } : Jvm.MethodName)) ∈ lw_all := lw_g (lw_at lw_m6 118 rfl) rfl
theorem q1426 : (Jvm.Cond.codeWith ({ cls := "CardCupsLaw", name := "states", desc := "(LCardCups;I[J)I" } : Jvm.MethodName) method_11_code (4 : Nat) (Option.some Jvm.ClassFile.FieldType.int) [((0 : Nat), (9 : Nat), (12 : Nat), (19 : Nat))]) ∈ lw_all := lw_g (lw_at lw_m6 119 rfl) rfl
theorem q1427 : (Jvm.Cond.methodLink "CardCupsLaw" (39 : Nat) ({ cls := "CardCups", name := "states", desc := "(I)I" } : Jvm.MethodName)) ∈ lw_all := lw_g (lw_at lw_m6 120 rfl) rfl
theorem q1435 : (Jvm.Cond.methodLink "CardCupsLaw" (170 : Nat) ({ cls := "CardCupsLaw", name := "likely", desc := "(LCardCups;II[J)I" } : Jvm.MethodName)) ∈ lw_all := lw_g (lw_at lw_m6 128 rfl) rfl
theorem q1436 : (Jvm.Cond.static ({ cls := "CardCupsLaw", name := "likely", desc := "(LCardCups;II[J)I" } : Jvm.MethodName)) ∈ lw_all := lw_g (lw_at lw_m6 129 rfl) rfl
theorem q1437 : (Jvm.Cond.codeWith ({ cls := "CardCupsLaw", name := "likely", desc := "(LCardCups;II[J)I" } : Jvm.MethodName) method_12_code (5 : Nat) (Option.some Jvm.ClassFile.FieldType.int) [((0 : Nat), (9 : Nat), (12 : Nat), (19 : Nat)), ((0 : Nat), (9 : Nat), (16 : Nat), (13 : Nat))]) ∈ lw_all := lw_g (lw_at lw_m6 130 rfl) rfl
theorem q1438 : (Jvm.Cond.methodLink "CardCupsLaw" (42 : Nat) ({ cls := "CardCups", name := "likely", desc := "(II)J" } : Jvm.MethodName)) ∈ lw_all := lw_g (lw_at lw_m6 131 rfl) rfl
theorem q1443 : (Jvm.Cond.methodLink "CardCupsLaw" (173 : Nat) ({ cls := "CardCupsLaw", name := "state", desc := "(LCardCups;IIII[J)I" } : Jvm.MethodName)) ∈ lw_all := lw_g (lw_at lw_m6 136 rfl) rfl
theorem q1444 : (Jvm.Cond.static ({ cls := "CardCupsLaw", name := "state", desc := "(LCardCups;IIII[J)I" } : Jvm.MethodName)) ∈ lw_all := lw_g (lw_at lw_m6 137 rfl) rfl
theorem q1445 : (Jvm.Cond.codeWith ({ cls := "CardCupsLaw", name := "state", desc := "(LCardCups;IIII[J)I" } : Jvm.MethodName) method_13_code (7 : Nat) (Option.some Jvm.ClassFile.FieldType.int) [((0 : Nat), (13 : Nat), (16 : Nat), (19 : Nat)), ((0 : Nat), (13 : Nat), (20 : Nat), (13 : Nat))]) ∈ lw_all := lw_g (lw_at lw_m6 138 rfl) rfl
theorem q1446 : (Jvm.Cond.methodLink "CardCupsLaw" (46 : Nat) ({ cls := "CardCups", name := "state", desc := "(IIII)J" } : Jvm.MethodName)) ∈ lw_all := lw_g (lw_at lw_m6 139 rfl) rfl
theorem q1454 : (Jvm.Cond.methodLink "CardCupsLaw" (177 : Nat) ({ cls := "CardCupsLaw", name := "likeliest", desc := "(LCardCups;I[J)I" } : Jvm.MethodName)) ∈ lw_all := lw_g (lw_at lw_m6 147 rfl) rfl
theorem q1455 : (Jvm.Cond.static ({ cls := "CardCupsLaw", name := "likeliest", desc := "(LCardCups;I[J)I" } : Jvm.MethodName)) ∈ lw_all := lw_g (lw_at lw_m6 148 rfl) rfl
theorem q1456 : (Jvm.Cond.codeWith ({ cls := "CardCupsLaw", name := "likeliest", desc := "(LCardCups;I[J)I" } : Jvm.MethodName) method_14_code (4 : Nat) (Option.some Jvm.ClassFile.FieldType.int) [((0 : Nat), (9 : Nat), (12 : Nat), (19 : Nat))]) ∈ lw_all := lw_g (lw_at lw_m6 149 rfl) rfl
theorem q1457 : (Jvm.Cond.methodLink "CardCupsLaw" (50 : Nat) ({ cls := "CardCups", name := "likeliest", desc := "(I)I" } : Jvm.MethodName)) ∈ lw_all := lw_g (lw_at lw_m6 150 rfl) rfl
theorem q1461 : (Jvm.Cond.methodLink "CardCupsLaw" (180 : Nat) ({ cls := "CardCupsLaw", name := "mean", desc := "(LCardCups;III[J)I" } : Jvm.MethodName)) ∈ lw_all := lw_g (lw_at lw_m6 154 rfl) rfl
theorem q1462 : (Jvm.Cond.static ({ cls := "CardCupsLaw", name := "mean", desc := "(LCardCups;III[J)I" } : Jvm.MethodName)) ∈ lw_all := lw_g (lw_at lw_m6 155 rfl) rfl
theorem q1463 : (Jvm.Cond.codeWith ({ cls := "CardCupsLaw", name := "mean", desc := "(LCardCups;III[J)I" } : Jvm.MethodName) method_15_code (6 : Nat) (Option.some Jvm.ClassFile.FieldType.int) [((0 : Nat), (11 : Nat), (14 : Nat), (19 : Nat)), ((0 : Nat), (11 : Nat), (18 : Nat), (13 : Nat))]) ∈ lw_all := lw_g (lw_at lw_m6 156 rfl) rfl
theorem q1464 : (Jvm.Cond.methodLink "CardCupsLaw" (53 : Nat) ({ cls := "CardCups", name := "mean", desc := "(III)J" } : Jvm.MethodName)) ∈ lw_all := lw_g (lw_at lw_m6 157 rfl) rfl
theorem q1480 : (Jvm.Cond.methodLink "CardCupsLaw" (184 : Nat) ({ cls := "CardCupsLaw", name := "often", desc := "(LCardCups;I[J)I" } : Jvm.MethodName)) ∈ lw_all := lw_g (lw_at lw_m6 173 rfl) rfl
theorem q1481 : (Jvm.Cond.static ({ cls := "CardCupsLaw", name := "often", desc := "(LCardCups;I[J)I" } : Jvm.MethodName)) ∈ lw_all := lw_g (lw_at lw_m6 174 rfl) rfl
theorem q1482 : (Jvm.Cond.codeWith ({ cls := "CardCupsLaw", name := "often", desc := "(LCardCups;I[J)I" } : Jvm.MethodName) method_16_code (4 : Nat) (Option.some Jvm.ClassFile.FieldType.int) [((0 : Nat), (8 : Nat), (11 : Nat), (13 : Nat))]) ∈ lw_all := lw_g (lw_at lw_m6 175 rfl) rfl
theorem q1483 : (Jvm.Cond.methodLink "CardCupsLaw" (57 : Nat) ({ cls := "CardCups", name := "often", desc := "(I)J" } : Jvm.MethodName)) ∈ lw_all := lw_g (lw_at lw_m6 176 rfl) rfl
theorem q1487 : (Jvm.Cond.methodLink "CardCupsLaw" (191 : Nat) ({ cls := "CardCupsLaw", name := "drunk", desc := "(LCardCups;II[J)I" } : Jvm.MethodName)) ∈ lw_all := lw_g (lw_at lw_m6 180 rfl) rfl
theorem q1488 : (Jvm.Cond.static ({ cls := "CardCupsLaw", name := "drunk", desc := "(LCardCups;II[J)I" } : Jvm.MethodName)) ∈ lw_all := lw_g (lw_at lw_m6 181 rfl) rfl
theorem q1489 : (Jvm.Cond.codeWith ({ cls := "CardCupsLaw", name := "drunk", desc := "(LCardCups;II[J)I" } : Jvm.MethodName) method_17_code (5 : Nat) (Option.some Jvm.ClassFile.FieldType.int) [((0 : Nat), (9 : Nat), (12 : Nat), (19 : Nat)), ((0 : Nat), (9 : Nat), (16 : Nat), (13 : Nat))]) ∈ lw_all := lw_g (lw_at lw_m6 182 rfl) rfl
theorem q1490 : (Jvm.Cond.methodLink "CardCupsLaw" (61 : Nat) ({ cls := "CardCups", name := "drunk", desc := "(II)J" } : Jvm.MethodName)) ∈ lw_all := lw_g (lw_at lw_m6 183 rfl) rfl
theorem q1494 : (Jvm.Cond.methodLink "CardCupsLaw" (194 : Nat) ({ cls := "CardCupsLaw", name := "done", desc := "(LCardCups;II[J)I" } : Jvm.MethodName)) ∈ lw_all := lw_g (lw_at lw_m6 187 rfl) rfl
theorem q1495 : (Jvm.Cond.static ({ cls := "CardCupsLaw", name := "done", desc := "(LCardCups;II[J)I" } : Jvm.MethodName)) ∈ lw_all := lw_g (lw_at lw_m6 188 rfl) rfl
theorem q1496 : (Jvm.Cond.codeWith ({ cls := "CardCupsLaw", name := "done", desc := "(LCardCups;II[J)I" } : Jvm.MethodName) method_18_code (5 : Nat) (Option.some Jvm.ClassFile.FieldType.int) [((0 : Nat), (9 : Nat), (12 : Nat), (13 : Nat))]) ∈ lw_all := lw_g (lw_at lw_m6 189 rfl) rfl
theorem q1497 : (Jvm.Cond.methodLink "CardCupsLaw" (64 : Nat) ({ cls := "CardCups", name := "done", desc := "(II)J" } : Jvm.MethodName)) ∈ lw_all := lw_g (lw_at lw_m6 190 rfl) rfl
theorem q1501 : (Jvm.Cond.methodLink "CardCupsLaw" (197 : Nat) ({ cls := "CardCupsLaw", name := "cost", desc := "(LCardCups;I[J)I" } : Jvm.MethodName)) ∈ lw_all := lw_g (lw_at lw_m6 194 rfl) rfl
theorem q1502 : (Jvm.Cond.static ({ cls := "CardCupsLaw", name := "cost", desc := "(LCardCups;I[J)I" } : Jvm.MethodName)) ∈ lw_all := lw_g (lw_at lw_m6 195 rfl) rfl
theorem q1503 : (Jvm.Cond.codeWith ({ cls := "CardCupsLaw", name := "cost", desc := "(LCardCups;I[J)I" } : Jvm.MethodName) method_19_code (4 : Nat) (Option.some Jvm.ClassFile.FieldType.int) [((0 : Nat), (8 : Nat), (11 : Nat), (13 : Nat))]) ∈ lw_all := lw_g (lw_at lw_m6 196 rfl) rfl
theorem q1504 : (Jvm.Cond.methodLink "CardCupsLaw" (67 : Nat) ({ cls := "CardCups", name := "cost", desc := "(I)J" } : Jvm.MethodName)) ∈ lw_all := lw_g (lw_at lw_m6 197 rfl) rfl
theorem q1508 : (Jvm.Cond.methodLink "CardCupsLaw" (200 : Nat) ({ cls := "CardCupsLaw", name := "fits", desc := "(LCardCups;I[J)I" } : Jvm.MethodName)) ∈ lw_all := lw_g (lw_at lw_m6 201 rfl) rfl
theorem q1509 : (Jvm.Cond.static ({ cls := "CardCupsLaw", name := "fits", desc := "(LCardCups;I[J)I" } : Jvm.MethodName)) ∈ lw_all := lw_g (lw_at lw_m6 202 rfl) rfl
theorem q1510 : (Jvm.Cond.codeWith ({ cls := "CardCupsLaw", name := "fits", desc := "(LCardCups;I[J)I" } : Jvm.MethodName) method_20_code (4 : Nat) (Option.some Jvm.ClassFile.FieldType.int) [((0 : Nat), (8 : Nat), (11 : Nat), (13 : Nat))]) ∈ lw_all := lw_g (lw_at lw_m6 203 rfl) rfl
theorem q1511 : (Jvm.Cond.methodLink "CardCupsLaw" (70 : Nat) ({ cls := "CardCups", name := "fits", desc := "(I)J" } : Jvm.MethodName)) ∈ lw_all := lw_g (lw_at lw_m6 204 rfl) rfl
theorem q1523 : (Jvm.Cond.methodLink "CardCupsLaw" (203 : Nat) ({ cls := "CardCupsLaw", name := "given", desc := "(LCardCups;III[J)I" } : Jvm.MethodName)) ∈ lw_all := lw_g (lw_at lw_m6 216 rfl) rfl
theorem q1524 : (Jvm.Cond.static ({ cls := "CardCupsLaw", name := "given", desc := "(LCardCups;III[J)I" } : Jvm.MethodName)) ∈ lw_all := lw_g (lw_at lw_m6 217 rfl) rfl
theorem q1525 : (Jvm.Cond.codeWith ({ cls := "CardCupsLaw", name := "given", desc := "(LCardCups;III[J)I" } : Jvm.MethodName) method_21_code (6 : Nat) (Option.some Jvm.ClassFile.FieldType.int) [((0 : Nat), (11 : Nat), (14 : Nat), (19 : Nat)), ((0 : Nat), (11 : Nat), (18 : Nat), (13 : Nat))]) ∈ lw_all := lw_g (lw_at lw_m6 218 rfl) rfl
theorem q1526 : (Jvm.Cond.methodLink "CardCupsLaw" (73 : Nat) ({ cls := "CardCups", name := "given", desc := "(III)J" } : Jvm.MethodName)) ∈ lw_all := lw_g (lw_at lw_m6 219 rfl) rfl
theorem q1538 : (Jvm.Cond.methodLink "CardCupsLaw" (206 : Nat) ({ cls := "CardCupsLaw", name := "best", desc := "(LCardCups;I[J)I" } : Jvm.MethodName)) ∈ lw_all := lw_g (lw_at lw_m6 231 rfl) rfl
theorem q1539 : (Jvm.Cond.static ({ cls := "CardCupsLaw", name := "best", desc := "(LCardCups;I[J)I" } : Jvm.MethodName)) ∈ lw_all := lw_g (lw_at lw_m6 232 rfl) rfl
theorem q1540 : (Jvm.Cond.codeWith ({ cls := "CardCupsLaw", name := "best", desc := "(LCardCups;I[J)I" } : Jvm.MethodName) method_22_code (4 : Nat) (Option.some Jvm.ClassFile.FieldType.int) [((0 : Nat), (9 : Nat), (12 : Nat), (19 : Nat))]) ∈ lw_all := lw_g (lw_at lw_m6 233 rfl) rfl
theorem q1541 : (Jvm.Cond.methodLink "CardCupsLaw" (76 : Nat) ({ cls := "CardCups", name := "best", desc := "(I)I" } : Jvm.MethodName)) ∈ lw_all := lw_g (lw_at lw_m6 234 rfl) rfl
theorem q1569 : (Jvm.Cond.methodLink "CardCupsLaw" (209 : Nat) ({ cls := "CardCupsLaw", name := "worth", desc := "(LCardCups;III[J)I" } : Jvm.MethodName)) ∈ lw_all := lw_g (lw_at lw_m7 22 rfl) rfl
theorem q1570 : (Jvm.Cond.static ({ cls := "CardCupsLaw", name := "worth", desc := "(LCardCups;III[J)I" } : Jvm.MethodName)) ∈ lw_all := lw_g (lw_at lw_m7 23 rfl) rfl
theorem q1571 : (Jvm.Cond.codeWith ({ cls := "CardCupsLaw", name := "worth", desc := "(LCardCups;III[J)I" } : Jvm.MethodName) method_23_code (6 : Nat) (Option.some Jvm.ClassFile.FieldType.int) [((0 : Nat), (11 : Nat), (14 : Nat), (19 : Nat)), ((0 : Nat), (11 : Nat), (18 : Nat), (13 : Nat))]) ∈ lw_all := lw_g (lw_at lw_m7 24 rfl) rfl
theorem q1572 : (Jvm.Cond.methodLink "CardCupsLaw" (79 : Nat) ({ cls := "CardCups", name := "worth", desc := "(III)J" } : Jvm.MethodName)) ∈ lw_all := lw_g (lw_at lw_m7 25 rfl) rfl
theorem q1576 : (Jvm.Cond.methodLink "CardCupsLaw" (212 : Nat) ({ cls := "CardCupsLaw", name := "gain", desc := "(LCardCups;II[J)I" } : Jvm.MethodName)) ∈ lw_all := lw_g (lw_at lw_m7 29 rfl) rfl
theorem q1577 : (Jvm.Cond.static ({ cls := "CardCupsLaw", name := "gain", desc := "(LCardCups;II[J)I" } : Jvm.MethodName)) ∈ lw_all := lw_g (lw_at lw_m7 30 rfl) rfl
theorem q1578 : (Jvm.Cond.codeWith ({ cls := "CardCupsLaw", name := "gain", desc := "(LCardCups;II[J)I" } : Jvm.MethodName) method_24_code (5 : Nat) (Option.some Jvm.ClassFile.FieldType.int) [((0 : Nat), (9 : Nat), (12 : Nat), (19 : Nat)), ((0 : Nat), (9 : Nat), (16 : Nat), (13 : Nat))]) ∈ lw_all := lw_g (lw_at lw_m7 31 rfl) rfl
theorem q1579 : (Jvm.Cond.methodLink "CardCupsLaw" (82 : Nat) ({ cls := "CardCups", name := "gain", desc := "(II)J" } : Jvm.MethodName)) ∈ lw_all := lw_g (lw_at lw_m7 32 rfl) rfl
theorem q1587 : (Jvm.Cond.methodLink "CardCupsLaw" (215 : Nat) ({ cls := "CardCupsLaw", name := "without", desc := "(LCardCups;II[J)I" } : Jvm.MethodName)) ∈ lw_all := lw_g (lw_at lw_m7 40 rfl) rfl
theorem q1588 : (Jvm.Cond.static ({ cls := "CardCupsLaw", name := "without", desc := "(LCardCups;II[J)I" } : Jvm.MethodName)) ∈ lw_all := lw_g (lw_at lw_m7 41 rfl) rfl
theorem q1589 : (Jvm.Cond.codeWith ({ cls := "CardCupsLaw", name := "without", desc := "(LCardCups;II[J)I" } : Jvm.MethodName) method_25_code (5 : Nat) (Option.some Jvm.ClassFile.FieldType.int) [((0 : Nat), (9 : Nat), (12 : Nat), (19 : Nat)), ((0 : Nat), (9 : Nat), (16 : Nat), (13 : Nat))]) ∈ lw_all := lw_g (lw_at lw_m7 42 rfl) rfl
theorem q1590 : (Jvm.Cond.methodLink "CardCupsLaw" (85 : Nat) ({ cls := "CardCups", name := "without", desc := "(II)J" } : Jvm.MethodName)) ∈ lw_all := lw_g (lw_at lw_m7 43 rfl) rfl
theorem q1594 : (Jvm.Cond.methodLink "CardCupsLaw" (226 : Nat) ({ cls := "CardCupsLaw", name := "falling", desc := "(LCardCups;I[J)I" } : Jvm.MethodName)) ∈ lw_all := lw_g (lw_at lw_m7 47 rfl) rfl
theorem q1595 : (Jvm.Cond.static ({ cls := "CardCupsLaw", name := "falling", desc := "(LCardCups;I[J)I" } : Jvm.MethodName)) ∈ lw_all := lw_g (lw_at lw_m7 48 rfl) rfl
theorem q1596 : (Jvm.Cond.codeWith ({ cls := "CardCupsLaw", name := "falling", desc := "(LCardCups;I[J)I" } : Jvm.MethodName) method_26_code (4 : Nat) (Option.some Jvm.ClassFile.FieldType.int) [((0 : Nat), (8 : Nat), (11 : Nat), (13 : Nat))]) ∈ lw_all := lw_g (lw_at lw_m7 49 rfl) rfl
theorem q1597 : (Jvm.Cond.methodLink "CardCupsLaw" (88 : Nat) ({ cls := "CardCups", name := "falling", desc := "(I)J" } : Jvm.MethodName)) ∈ lw_all := lw_g (lw_at lw_m7 50 rfl) rfl
theorem q1601 : (Jvm.Cond.methodLink "CardCupsLaw" (229 : Nat) ({ cls := "CardCupsLaw", name := "seeing", desc := "(LCardCups;II[J)I" } : Jvm.MethodName)) ∈ lw_all := lw_g (lw_at lw_m7 54 rfl) rfl
theorem q1602 : (Jvm.Cond.static ({ cls := "CardCupsLaw", name := "seeing", desc := "(LCardCups;II[J)I" } : Jvm.MethodName)) ∈ lw_all := lw_g (lw_at lw_m7 55 rfl) rfl
theorem q1603 : (Jvm.Cond.codeWith ({ cls := "CardCupsLaw", name := "seeing", desc := "(LCardCups;II[J)I" } : Jvm.MethodName) method_27_code (5 : Nat) (Option.some Jvm.ClassFile.FieldType.int) [((0 : Nat), (9 : Nat), (12 : Nat), (13 : Nat))]) ∈ lw_all := lw_g (lw_at lw_m7 56 rfl) rfl
theorem q1604 : (Jvm.Cond.methodLink "CardCupsLaw" (91 : Nat) ({ cls := "CardCups", name := "seeing", desc := "(II)J" } : Jvm.MethodName)) ∈ lw_all := lw_g (lw_at lw_m7 57 rfl) rfl
theorem q1608 : (Jvm.Cond.methodLink "CardCupsLaw" (232 : Nat) ({ cls := "CardCupsLaw", name := "filled", desc := "(LCardCups;II[J)I" } : Jvm.MethodName)) ∈ lw_all := lw_g (lw_at lw_m7 61 rfl) rfl
theorem q1609 : (Jvm.Cond.static ({ cls := "CardCupsLaw", name := "filled", desc := "(LCardCups;II[J)I" } : Jvm.MethodName)) ∈ lw_all := lw_g (lw_at lw_m7 62 rfl) rfl
theorem q1610 : (Jvm.Cond.codeWith ({ cls := "CardCupsLaw", name := "filled", desc := "(LCardCups;II[J)I" } : Jvm.MethodName) method_28_code (5 : Nat) (Option.some Jvm.ClassFile.FieldType.int) [((0 : Nat), (9 : Nat), (12 : Nat), (13 : Nat))]) ∈ lw_all := lw_g (lw_at lw_m7 63 rfl) rfl
theorem q1611 : (Jvm.Cond.methodLink "CardCupsLaw" (94 : Nat) ({ cls := "CardCups", name := "filled", desc := "(II)J" } : Jvm.MethodName)) ∈ lw_all := lw_g (lw_at lw_m7 64 rfl) rfl
theorem q1615 : (Jvm.Cond.methodLink "CardCupsLaw" (239 : Nat) ({ cls := "CardCupsLaw", name := "ruled", desc := "(LCardCups;I[J)I" } : Jvm.MethodName)) ∈ lw_all := lw_g (lw_at lw_m7 68 rfl) rfl
theorem q1616 : (Jvm.Cond.static ({ cls := "CardCupsLaw", name := "ruled", desc := "(LCardCups;I[J)I" } : Jvm.MethodName)) ∈ lw_all := lw_g (lw_at lw_m7 69 rfl) rfl
theorem q1617 : (Jvm.Cond.codeWith ({ cls := "CardCupsLaw", name := "ruled", desc := "(LCardCups;I[J)I" } : Jvm.MethodName) method_29_code (4 : Nat) (Option.some Jvm.ClassFile.FieldType.int) [((0 : Nat), (8 : Nat), (11 : Nat), (13 : Nat))]) ∈ lw_all := lw_g (lw_at lw_m7 70 rfl) rfl
theorem q1618 : (Jvm.Cond.methodLink "CardCupsLaw" (97 : Nat) ({ cls := "CardCups", name := "ruled", desc := "(I)J" } : Jvm.MethodName)) ∈ lw_all := lw_g (lw_at lw_m7 71 rfl) rfl
theorem q1626 : (Jvm.Cond.methodLink "CardCupsLaw" (242 : Nat) ({ cls := "CardCupsLaw", name := "swapped", desc := "(LCardCups;III[J)I" } : Jvm.MethodName)) ∈ lw_all := lw_g (lw_at lw_m7 79 rfl) rfl
theorem q1627 : (Jvm.Cond.static ({ cls := "CardCupsLaw", name := "swapped", desc := "(LCardCups;III[J)I" } : Jvm.MethodName)) ∈ lw_all := lw_g (lw_at lw_m7 80 rfl) rfl
theorem q1628 : (Jvm.Cond.codeWith ({ cls := "CardCupsLaw", name := "swapped", desc := "(LCardCups;III[J)I" } : Jvm.MethodName) method_30_code (6 : Nat) (Option.some Jvm.ClassFile.FieldType.int) [((0 : Nat), (11 : Nat), (14 : Nat), (19 : Nat)), ((0 : Nat), (11 : Nat), (18 : Nat), (13 : Nat))]) ∈ lw_all := lw_g (lw_at lw_m7 81 rfl) rfl
theorem q1629 : (Jvm.Cond.methodLink "CardCupsLaw" (100 : Nat) ({ cls := "CardCups", name := "swapped", desc := "(III)J" } : Jvm.MethodName)) ∈ lw_all := lw_g (lw_at lw_m7 82 rfl) rfl
theorem q1633 : (Jvm.Cond.methodLink "CardCupsLaw" (249 : Nat) ({ cls := "CardCupsLaw", name := "day", desc := "(LCardCups;III[J)I" } : Jvm.MethodName)) ∈ lw_all := lw_g (lw_at lw_m7 86 rfl) rfl
theorem q1634 : (Jvm.Cond.static ({ cls := "CardCupsLaw", name := "day", desc := "(LCardCups;III[J)I" } : Jvm.MethodName)) ∈ lw_all := lw_g (lw_at lw_m7 87 rfl) rfl
theorem q1635 : (Jvm.Cond.codeWith ({ cls := "CardCupsLaw", name := "day", desc := "(LCardCups;III[J)I" } : Jvm.MethodName) method_31_code (6 : Nat) (Option.some Jvm.ClassFile.FieldType.int) [((0 : Nat), (12 : Nat), (15 : Nat), (19 : Nat)), ((0 : Nat), (12 : Nat), (19 : Nat), (13 : Nat))]) ∈ lw_all := lw_g (lw_at lw_m7 88 rfl) rfl
theorem q1636 : (Jvm.Cond.methodLink "CardCupsLaw" (103 : Nat) ({ cls := "CardCups", name := "day", desc := "(III)I" } : Jvm.MethodName)) ∈ lw_all := lw_g (lw_at lw_m7 89 rfl) rfl
theorem q1693 : (Jvm.Cond.methodLink "CardCupsLaw" (252 : Nat) ({ cls := "CardCupsLaw", name := "span", desc := "(LCardCups;III[J)I" } : Jvm.MethodName)) ∈ lw_all := lw_g (lw_at lw_m7 146 rfl) rfl
theorem q1694 : (Jvm.Cond.static ({ cls := "CardCupsLaw", name := "span", desc := "(LCardCups;III[J)I" } : Jvm.MethodName)) ∈ lw_all := lw_g (lw_at lw_m7 147 rfl) rfl
theorem q1695 : (Jvm.Cond.codeWith ({ cls := "CardCupsLaw", name := "span", desc := "(LCardCups;III[J)I" } : Jvm.MethodName) method_32_code (6 : Nat) (Option.some Jvm.ClassFile.FieldType.int) [((0 : Nat), (12 : Nat), (15 : Nat), (13 : Nat))]) ∈ lw_all := lw_g (lw_at lw_m7 148 rfl) rfl
theorem q1696 : (Jvm.Cond.methodLink "CardCupsLaw" (107 : Nat) ({ cls := "CardCups", name := "span", desc := "(III)I" } : Jvm.MethodName)) ∈ lw_all := lw_g (lw_at lw_m7 149 rfl) rfl
theorem q1704 : (Jvm.Cond.methodLink "CardCupsLaw" (255 : Nat) ({ cls := "CardCupsLaw", name := "come", desc := "(LCardCups;II[J)I" } : Jvm.MethodName)) ∈ lw_all := lw_g (lw_at lw_m7 157 rfl) rfl
theorem q1705 : (Jvm.Cond.static ({ cls := "CardCupsLaw", name := "come", desc := "(LCardCups;II[J)I" } : Jvm.MethodName)) ∈ lw_all := lw_g (lw_at lw_m7 158 rfl) rfl
theorem q1706 : (Jvm.Cond.codeWith ({ cls := "CardCupsLaw", name := "come", desc := "(LCardCups;II[J)I" } : Jvm.MethodName) method_33_code (5 : Nat) (Option.some Jvm.ClassFile.FieldType.int) [((0 : Nat), (10 : Nat), (13 : Nat), (19 : Nat)), ((0 : Nat), (10 : Nat), (17 : Nat), (13 : Nat))]) ∈ lw_all := lw_g (lw_at lw_m7 159 rfl) rfl
theorem q1707 : (Jvm.Cond.methodLink "CardCupsLaw" (110 : Nat) ({ cls := "CardCups", name := "come", desc := "(II)I" } : Jvm.MethodName)) ∈ lw_all := lw_g (lw_at lw_m7 160 rfl) rfl
theorem q1716 : (Jvm.Cond.methodLink "CardCupsLaw" (258 : Nat) ({ cls := "CardCupsLaw", name := "skip", desc := "(LCardCups;I[J)I" } : Jvm.MethodName)) ∈ lw_all := lw_g (lw_at lw_m7 169 rfl) rfl
theorem q1717 : (Jvm.Cond.static ({ cls := "CardCupsLaw", name := "skip", desc := "(LCardCups;I[J)I" } : Jvm.MethodName)) ∈ lw_all := lw_g (lw_at lw_m7 170 rfl) rfl
theorem q1718 : (Jvm.Cond.codeWith ({ cls := "CardCupsLaw", name := "skip", desc := "(LCardCups;I[J)I" } : Jvm.MethodName) method_34_code (4 : Nat) (Option.some Jvm.ClassFile.FieldType.int) [((0 : Nat), (9 : Nat), (12 : Nat), (19 : Nat))]) ∈ lw_all := lw_g (lw_at lw_m7 171 rfl) rfl
theorem q1719 : (Jvm.Cond.methodLink "CardCupsLaw" (113 : Nat) ({ cls := "CardCups", name := "skip", desc := "(I)I" } : Jvm.MethodName)) ∈ lw_all := lw_g (lw_at lw_m7 172 rfl) rfl
theorem q1727 : (Jvm.Cond.methodLink "CardCupsLaw" (261 : Nat) ({ cls := "CardCupsLaw", name := "shift", desc := "(LCardCups;II[J)I" } : Jvm.MethodName)) ∈ lw_all := lw_g (lw_at lw_m7 180 rfl) rfl
theorem q1728 : (Jvm.Cond.static ({ cls := "CardCupsLaw", name := "shift", desc := "(LCardCups;II[J)I" } : Jvm.MethodName)) ∈ lw_all := lw_g (lw_at lw_m7 181 rfl) rfl
theorem q1729 : (Jvm.Cond.codeWith ({ cls := "CardCupsLaw", name := "shift", desc := "(LCardCups;II[J)I" } : Jvm.MethodName) method_35_code (5 : Nat) (Option.some Jvm.ClassFile.FieldType.int) [((0 : Nat), (10 : Nat), (13 : Nat), (19 : Nat)), ((0 : Nat), (10 : Nat), (17 : Nat), (13 : Nat))]) ∈ lw_all := lw_g (lw_at lw_m7 182 rfl) rfl
theorem q1730 : (Jvm.Cond.methodLink "CardCupsLaw" (116 : Nat) ({ cls := "CardCups", name := "shift", desc := "(II)I" } : Jvm.MethodName)) ∈ lw_all := lw_g (lw_at lw_m7 183 rfl) rfl
theorem q1734 : (Jvm.Cond.methodLink "CardCupsLaw" (264 : Nat) ({ cls := "CardCupsLaw", name := "teach", desc := "(LCardCups;II[J)I" } : Jvm.MethodName)) ∈ lw_all := lw_g (lw_at lw_m7 187 rfl) rfl
theorem q1735 : (Jvm.Cond.static ({ cls := "CardCupsLaw", name := "teach", desc := "(LCardCups;II[J)I" } : Jvm.MethodName)) ∈ lw_all := lw_g (lw_at lw_m7 188 rfl) rfl
theorem q1736 : (Jvm.Cond.codeWith ({ cls := "CardCupsLaw", name := "teach", desc := "(LCardCups;II[J)I" } : Jvm.MethodName) method_36_code (5 : Nat) (Option.some Jvm.ClassFile.FieldType.int) [((0 : Nat), (10 : Nat), (13 : Nat), (19 : Nat))]) ∈ lw_all := lw_g (lw_at lw_m7 189 rfl) rfl
theorem q1737 : (Jvm.Cond.methodLink "CardCupsLaw" (119 : Nat) ({ cls := "CardCups", name := "teach", desc := "(II)I" } : Jvm.MethodName)) ∈ lw_all := lw_g (lw_at lw_m7 190 rfl) rfl
theorem q1741 : (Jvm.Cond.methodLink "CardCupsLaw" (137 : Nat) ({ cls := "CardCupsModel", name := "thrown", desc := "()I" } : Jvm.MethodName)) ∈ lw_all := lw_g (lw_at lw_m7 194 rfl) rfl
theorem q1745 : (Jvm.Cond.classLink "CardCupsLaw" (123 : Nat) "CardCupsModel") ∈ lw_all := lw_g (lw_at lw_m7 198 rfl) rfl
theorem q1747 : (Jvm.Cond.methodLink "CardCupsLaw" (125 : Nat) ({ cls := "CardCupsModel", name := "<init>", desc := "()V" } : Jvm.MethodName)) ∈ lw_all := lw_g (lw_at lw_m7 200 rfl) rfl
theorem q1959 : (Jvm.Cond.methodLink "CardCupsLaw" (130 : Nat) ({ cls := "CardCupsModel", name := "feed", desc := "(IIIII)I" } : Jvm.MethodName)) ∈ lw_all := lw_g (lw_at lw_m8 172 rfl) rfl
theorem q1963 : (Jvm.Cond.methodLink "CardCupsLaw" (154 : Nat) ({ cls := "CardCupsModel", name := "fault", desc := "()I" } : Jvm.MethodName)) ∈ lw_all := lw_g (lw_at lw_m8 176 rfl) rfl
theorem q1967 : (Jvm.Cond.methodLink "CardCupsLaw" (136 : Nat) ({ cls := "CardCupsModel", name := "office", desc := "(I)I" } : Jvm.MethodName)) ∈ lw_all := lw_g (lw_at lw_m8 180 rfl) rfl
theorem q2051 : (Jvm.Cond.methodLink "CardCupsLaw" (144 : Nat) ({ cls := "CardCupsModel", name := "habit", desc := "(II)I" } : Jvm.MethodName)) ∈ lw_all := lw_g (lw_at lw_m9 24 rfl) rfl
theorem q2131 : (Jvm.Cond.methodLink "CardCupsLaw" (147 : Nat) ({ cls := "CardCupsModel", name := "rule", desc := "(I)I" } : Jvm.MethodName)) ∈ lw_all := lw_g (lw_at lw_m9 104 rfl) rfl
theorem q2135 : (Jvm.Cond.methodLink "CardCupsLaw" (150 : Nat) ({ cls := "CardCupsModel", name := "book", desc := "(I)I" } : Jvm.MethodName)) ∈ lw_all := lw_g (lw_at lw_m9 108 rfl) rfl
theorem q2139 : (Jvm.Cond.methodLink "CardCupsLaw" (157 : Nat) ({ cls := "CardCupsModel", name := "told", desc := "(I)I" } : Jvm.MethodName)) ∈ lw_all := lw_g (lw_at lw_m9 112 rfl) rfl
theorem q2143 : (Jvm.Cond.methodLink "CardCupsLaw" (160 : Nat) ({ cls := "CardCupsModel", name := "visit", desc := "(II)I" } : Jvm.MethodName)) ∈ lw_all := lw_g (lw_at lw_m9 116 rfl) rfl
theorem q2159 : (Jvm.Cond.methodLink "CardCupsLaw" (163 : Nat) ({ cls := "CardCupsModel", name := "person", desc := "(II)I" } : Jvm.MethodName)) ∈ lw_all := lw_g (lw_at lw_m9 132 rfl) rfl
theorem q2163 : (Jvm.Cond.methodLink "CardCupsLaw" (166 : Nat) ({ cls := "CardCupsModel", name := "price", desc := "(I)I" } : Jvm.MethodName)) ∈ lw_all := lw_g (lw_at lw_m9 136 rfl) rfl
theorem q2167 : (Jvm.Cond.methodLink "CardCupsLaw" (169 : Nat) ({ cls := "CardCupsModel", name := "states", desc := "(I)I" } : Jvm.MethodName)) ∈ lw_all := lw_g (lw_at lw_m9 140 rfl) rfl
theorem q2263 : (Jvm.Cond.methodLink "CardCupsLaw" (172 : Nat) ({ cls := "CardCupsModel", name := "likely", desc := "(II)J" } : Jvm.MethodName)) ∈ lw_all := lw_g (lw_at lw_m9 236 rfl) rfl
theorem q2267 : (Jvm.Cond.methodLink "CardCupsLaw" (176 : Nat) ({ cls := "CardCupsModel", name := "state", desc := "(IIII)J" } : Jvm.MethodName)) ∈ lw_all := lw_g (lw_at lw_m10 0 rfl) rfl
theorem q2275 : (Jvm.Cond.methodLink "CardCupsLaw" (179 : Nat) ({ cls := "CardCupsModel", name := "likeliest", desc := "(I)I" } : Jvm.MethodName)) ∈ lw_all := lw_g (lw_at lw_m10 8 rfl) rfl
theorem q2279 : (Jvm.Cond.methodLink "CardCupsLaw" (183 : Nat) ({ cls := "CardCupsModel", name := "mean", desc := "(III)J" } : Jvm.MethodName)) ∈ lw_all := lw_g (lw_at lw_m10 12 rfl) rfl
theorem q2286 : (Jvm.Cond.methodLink "CardCupsLaw" (186 : Nat) ({ cls := "CardCupsModel", name := "often", desc := "(I)J" } : Jvm.MethodName)) ∈ lw_all := lw_g (lw_at lw_m10 19 rfl) rfl
theorem q2298 : (Jvm.Cond.methodLink "CardCupsLaw" (190 : Nat) ({ cls := "CardCupsModel", name := "since", desc := "()I" } : Jvm.MethodName)) ∈ lw_all := lw_g (lw_at lw_m10 31 rfl) rfl
theorem q2303 : (Jvm.Cond.methodLink "CardCupsLaw" (193 : Nat) ({ cls := "CardCupsModel", name := "drunk", desc := "(II)J" } : Jvm.MethodName)) ∈ lw_all := lw_g (lw_at lw_m10 36 rfl) rfl
theorem q2307 : (Jvm.Cond.methodLink "CardCupsLaw" (196 : Nat) ({ cls := "CardCupsModel", name := "done", desc := "(II)J" } : Jvm.MethodName)) ∈ lw_all := lw_g (lw_at lw_m10 40 rfl) rfl
theorem q2311 : (Jvm.Cond.methodLink "CardCupsLaw" (199 : Nat) ({ cls := "CardCupsModel", name := "cost", desc := "(I)J" } : Jvm.MethodName)) ∈ lw_all := lw_g (lw_at lw_m10 44 rfl) rfl
theorem q2319 : (Jvm.Cond.methodLink "CardCupsLaw" (202 : Nat) ({ cls := "CardCupsModel", name := "fits", desc := "(I)J" } : Jvm.MethodName)) ∈ lw_all := lw_g (lw_at lw_m10 52 rfl) rfl
theorem q2327 : (Jvm.Cond.methodLink "CardCupsLaw" (205 : Nat) ({ cls := "CardCupsModel", name := "given", desc := "(III)J" } : Jvm.MethodName)) ∈ lw_all := lw_g (lw_at lw_m10 60 rfl) rfl
theorem q2339 : (Jvm.Cond.methodLink "CardCupsLaw" (208 : Nat) ({ cls := "CardCupsModel", name := "best", desc := "(I)I" } : Jvm.MethodName)) ∈ lw_all := lw_g (lw_at lw_m10 72 rfl) rfl
theorem q2351 : (Jvm.Cond.methodLink "CardCupsLaw" (211 : Nat) ({ cls := "CardCupsModel", name := "worth", desc := "(III)J" } : Jvm.MethodName)) ∈ lw_all := lw_g (lw_at lw_m10 84 rfl) rfl
theorem q2355 : (Jvm.Cond.methodLink "CardCupsLaw" (214 : Nat) ({ cls := "CardCupsModel", name := "gain", desc := "(II)J" } : Jvm.MethodName)) ∈ lw_all := lw_g (lw_at lw_m10 88 rfl) rfl
theorem q2359 : (Jvm.Cond.methodLink "CardCupsLaw" (217 : Nat) ({ cls := "CardCupsModel", name := "without", desc := "(II)J" } : Jvm.MethodName)) ∈ lw_all := lw_g (lw_at lw_m10 92 rfl) rfl
theorem q2367 : (Jvm.Cond.methodLink "CardCupsLaw" (221 : Nat) ({ cls := "CardCupsModel", name := "keeper", desc := "()I" } : Jvm.MethodName)) ∈ lw_all := lw_g (lw_at lw_m10 100 rfl) rfl
theorem q2375 : (Jvm.Cond.methodLink "CardCupsLaw" (225 : Nat) ({ cls := "CardCupsModel", name := "spoiler", desc := "()I" } : Jvm.MethodName)) ∈ lw_all := lw_g (lw_at lw_m10 108 rfl) rfl
theorem q2379 : (Jvm.Cond.methodLink "CardCupsLaw" (228 : Nat) ({ cls := "CardCupsModel", name := "falling", desc := "(I)J" } : Jvm.MethodName)) ∈ lw_all := lw_g (lw_at lw_m10 112 rfl) rfl
theorem q2383 : (Jvm.Cond.methodLink "CardCupsLaw" (231 : Nat) ({ cls := "CardCupsModel", name := "seeing", desc := "(II)J" } : Jvm.MethodName)) ∈ lw_all := lw_g (lw_at lw_m10 116 rfl) rfl
theorem q2387 : (Jvm.Cond.methodLink "CardCupsLaw" (234 : Nat) ({ cls := "CardCupsModel", name := "filled", desc := "(II)J" } : Jvm.MethodName)) ∈ lw_all := lw_g (lw_at lw_m10 120 rfl) rfl
theorem q2391 : (Jvm.Cond.methodLink "CardCupsLaw" (238 : Nat) ({ cls := "CardCupsModel", name := "fill", desc := "()I" } : Jvm.MethodName)) ∈ lw_all := lw_g (lw_at lw_m10 124 rfl) rfl
theorem q2395 : (Jvm.Cond.methodLink "CardCupsLaw" (241 : Nat) ({ cls := "CardCupsModel", name := "ruled", desc := "(I)J" } : Jvm.MethodName)) ∈ lw_all := lw_g (lw_at lw_m10 128 rfl) rfl
theorem q2399 : (Jvm.Cond.methodLink "CardCupsLaw" (244 : Nat) ({ cls := "CardCupsModel", name := "swapped", desc := "(III)J" } : Jvm.MethodName)) ∈ lw_all := lw_g (lw_at lw_m10 132 rfl) rfl
theorem q2403 : (Jvm.Cond.methodLink "CardCupsLaw" (248 : Nat) ({ cls := "CardCupsModel", name := "swap", desc := "()I" } : Jvm.MethodName)) ∈ lw_all := lw_g (lw_at lw_m10 136 rfl) rfl
theorem q2407 : (Jvm.Cond.methodLink "CardCupsLaw" (251 : Nat) ({ cls := "CardCupsModel", name := "day", desc := "(III)I" } : Jvm.MethodName)) ∈ lw_all := lw_g (lw_at lw_m10 140 rfl) rfl
theorem q2424 : (Jvm.Cond.methodLink "CardCupsLaw" (254 : Nat) ({ cls := "CardCupsModel", name := "span", desc := "(III)I" } : Jvm.MethodName)) ∈ lw_all := lw_g (lw_at lw_m10 157 rfl) rfl
theorem q2428 : (Jvm.Cond.methodLink "CardCupsLaw" (257 : Nat) ({ cls := "CardCupsModel", name := "come", desc := "(II)I" } : Jvm.MethodName)) ∈ lw_all := lw_g (lw_at lw_m10 161 rfl) rfl
theorem q2436 : (Jvm.Cond.methodLink "CardCupsLaw" (260 : Nat) ({ cls := "CardCupsModel", name := "skip", desc := "(I)I" } : Jvm.MethodName)) ∈ lw_all := lw_g (lw_at lw_m10 169 rfl) rfl
theorem q2444 : (Jvm.Cond.methodLink "CardCupsLaw" (263 : Nat) ({ cls := "CardCupsModel", name := "shift", desc := "(II)I" } : Jvm.MethodName)) ∈ lw_all := lw_g (lw_at lw_m10 177 rfl) rfl
theorem q2448 : (Jvm.Cond.methodLink "CardCupsLaw" (266 : Nat) ({ cls := "CardCupsModel", name := "teach", desc := "(II)I" } : Jvm.MethodName)) ∈ lw_all := lw_g (lw_at lw_m10 181 rfl) rfl
theorem q2452 : (Jvm.Cond.methodLink "CardCupsLaw" (270 : Nat) ({ cls := "CardCupsModel", name := "undo", desc := "()I" } : Jvm.MethodName)) ∈ lw_all := lw_g (lw_at lw_m10 185 rfl) rfl
theorem q2456 : (Jvm.Cond.methodLink "CardCupsLaw" (274 : Nat) ({ cls := "CardCupsModel", name := "image", desc := "()I" } : Jvm.MethodName)) ∈ lw_all := lw_g (lw_at lw_m10 189 rfl) rfl
theorem q2468 : (Jvm.Cond.methodLink "CardCupsLaw" (278 : Nat) ({ cls := "CardCupsModel", name := "restore", desc := "()I" } : Jvm.MethodName)) ∈ lw_all := lw_g (lw_at lw_m10 201 rfl) rfl
theorem q2472 : (Jvm.Cond.methodLink "CardCupsLaw" (282 : Nat) ({ cls := "CardCupsModel", name := "status", desc := "(I)I" } : Jvm.MethodName)) ∈ lw_all := lw_g (lw_at lw_m10 205 rfl) rfl
theorem q2476 : (Jvm.Cond.methodLink "CardCupsLaw" (286 : Nat) ({ cls := "CardCupsModel", name := "count", desc := "(I)I" } : Jvm.MethodName)) ∈ lw_all := lw_g (lw_at lw_m10 209 rfl) rfl
/-! CardCups -/
set_option maxRecDepth 100000
def RX1 : String := "CardCups"
def TX1 : u_T := fun k => match k with
  | 0 => ("CardCups", "tape", "[B", true)
  | 1 => ("CardCups", "calendar", "LCardCups$Calendar;", true)
  | 2 => ("CardCups", "changed", "[LCardCups$Calendar;", true)
  | 3 => ("CardCups", "kept", "[[LCardCups$Calendar;", true)
  | 4 => ("CardCups", "keptChanges", "[I", true)
  | 5 => ("CardCups", "refused", "[I", true)
  | 6 => ("CardCups", "habits", "[LCardCups$Habit;", true)
  | 7 => ("CardCups", "flow", "LCardCups$Flow;", true)
  | 8 => ("CardCups", "day", "LCardCups$Day;", true)
  | 9 => ("CardCups", "how", "LCardCups$How;", true)
  | 10 => ("CardCups", "office", "LCardCups$Office;", false)
  | 11 => ("CardCups", "rule", "LCardCups$Habit;", false)
  | 12 => ("CardCups", "book", "LCardCups$Book;", false)
  | 13 => ("CardCups", "fed", "I", false)
  | 14 => ("CardCups", "place", "I", false)
  | 15 => ("CardCups", "changes", "I", false)
  | _ => ("CardCups", "images", "I", false)
def tyX1 : Nat → FieldType := fun k => match k with
  | 0 => .array .byte
  | 1 => .object "CardCups$Calendar"
  | 2 => .array (.object "CardCups$Calendar")
  | 3 => .array (.array (.object "CardCups$Calendar"))
  | 4 => .array .int
  | 5 => .array .int
  | 6 => .array (.object "CardCups$Habit")
  | 7 => .object "CardCups$Flow"
  | 8 => .object "CardCups$Day"
  | 9 => .object "CardCups$How"
  | 10 => .object "CardCups$Office"
  | 11 => .object "CardCups$Habit"
  | 12 => .object "CardCups$Book"
  | 13 => .int
  | 14 => .int
  | 15 => .int
  | _ => .int
abbrev wsX10 : List Cond := u_ws RX1 TX1 17
set_option maxRecDepth 100000 in
theorem nmX1 : ∀ a, a < 17 → ∀ b, b < 17 → a ≠ b → (TX1 a).2.1 ≠ (TX1 b).2.1 := by decide +kernel
set_option maxRecDepth 100000 in
theorem tyX1_ok : ∀ k, k < 17 → parseFieldDescriptor (TX1 k).2.2.1 = some (tyX1 k) := by decide +kernel
abbrev cX1_init : ByteArray := prog_1_method_1_code
def yX1_init : MethodName := ⟨RX1, "<init>", "()V"⟩
def dkwX1_init_8 : List UInt8 := [167, 255, 232, 132, 1, 1, 167, 255, 219, 177]
abbrev dktX1_init_8 : List UInt8 := dkwX1_init_8 ++ []
def dkwX1_init_7 : List UInt8 := [16, 20, 163, 0, 24, 42, 180, 0, 26, 27, 50, 28, 187, 0, 13, 89, 183, 0, 15, 83, 132, 2, 1]
abbrev dktX1_init_7 : List UInt8 := dkwX1_init_7 ++ dktX1_init_8
def dkwX1_init_6 : List UInt8 := [187, 0, 13, 89, 183, 0, 15, 83, 132, 1, 1, 167, 255, 234, 3, 60, 27, 6, 162, 0, 38, 3, 61, 28]
abbrev dktX1_init_6 : List UInt8 := dkwX1_init_6 ++ dktX1_init_7
def dkwX1_init_5 : List UInt8 := [183, 0, 72, 181, 0, 73, 42, 2, 181, 0, 77, 3, 60, 27, 16, 20, 162, 0, 22, 42, 180, 0, 20, 27]
abbrev dktX1_init_5 : List UInt8 := dkwX1_init_5 ++ dktX1_init_6
def dkwX1_init_4 : List UInt8 := [183, 0, 58, 181, 0, 59, 42, 187, 0, 63, 89, 183, 0, 65, 181, 0, 66, 42, 187, 0, 70, 89]
abbrev dktX1_init_4 : List UInt8 := dkwX1_init_4 ++ dktX1_init_5
def dkwX1_init_3 : List UInt8 := [183, 0, 44, 181, 0, 45, 42, 187, 0, 49, 89, 183, 0, 51, 181, 0, 52, 42, 187, 0, 56, 89]
abbrev dktX1_init_3 : List UInt8 := dkwX1_init_3 ++ dktX1_init_4
def dkwX1_init_2 : List UInt8 := [181, 0, 29, 42, 5, 188, 10, 181, 0, 33, 42, 16, 6, 189, 0, 36, 181, 0, 38, 42, 187, 0, 42, 89]
abbrev dktX1_init_2 : List UInt8 := dkwX1_init_2 ++ dktX1_init_3
def dkwX1_init_1 : List UInt8 := [42, 16, 20, 189, 0, 13, 181, 0, 20, 42, 6, 16, 21, 197, 0, 24, 2, 181, 0, 26, 42, 6, 188, 10]
abbrev dktX1_init_1 : List UInt8 := dkwX1_init_1 ++ dktX1_init_2
def dkwX1_init_0 : List UInt8 := [42, 183, 0, 1, 42, 17, 2, 88, 188, 8, 181, 0, 9, 42, 187, 0, 13, 89, 183, 0, 15, 181, 0, 16]
abbrev dktX1_init_0 : List UInt8 := dkwX1_init_0 ++ dktX1_init_1
theorem dksX1_init_0 : cX1_init.data.toList.drop 0 = dktX1_init_0 := by decide +kernel
theorem dksX1_init_1 : cX1_init.data.toList.drop 24 = dktX1_init_1 := dk_seg dksX1_init_0 24 rfl rfl
theorem dksX1_init_2 : cX1_init.data.toList.drop 48 = dktX1_init_2 := dk_seg dksX1_init_1 24 rfl rfl
theorem dksX1_init_3 : cX1_init.data.toList.drop 72 = dktX1_init_3 := dk_seg dksX1_init_2 24 rfl rfl
theorem dksX1_init_4 : cX1_init.data.toList.drop 94 = dktX1_init_4 := dk_seg dksX1_init_3 22 rfl rfl
theorem dksX1_init_5 : cX1_init.data.toList.drop 116 = dktX1_init_5 := dk_seg dksX1_init_4 22 rfl rfl
theorem dksX1_init_6 : cX1_init.data.toList.drop 140 = dktX1_init_6 := dk_seg dksX1_init_5 24 rfl rfl
theorem dksX1_init_7 : cX1_init.data.toList.drop 164 = dktX1_init_7 := dk_seg dksX1_init_6 24 rfl rfl
theorem dksX1_init_8 : cX1_init.data.toList.drop 187 = dktX1_init_8 := dk_seg dksX1_init_7 23 rfl rfl
theorem dX1_init_0 : decode cX1_init 0 = .ok (.aload_n 0, 1) := dk_42 (dk_at dksX1_init_0 0 rfl rfl)
theorem dX1_init_1 : decode cX1_init 1 = .ok (.invokespecial 1, 3) := dk_183 0 1 (dk_at dksX1_init_0 1 rfl rfl)
theorem dX1_init_4 : decode cX1_init 4 = .ok (.aload_n 0, 1) := dk_42 (dk_at dksX1_init_0 4 rfl rfl)
theorem dX1_init_5 : decode cX1_init 5 = .ok (.sipush 600, 3) := dk_17 2 88 (dk_at dksX1_init_0 5 rfl rfl)
theorem dX1_init_8 : decode cX1_init 8 = .ok (.newarray .byte, 2) := dk_188_8 (dk_at dksX1_init_0 8 rfl rfl)
theorem dX1_init_10 : decode cX1_init 10 = .ok (.putfield 9, 3) := dk_181 0 9 (dk_at dksX1_init_0 10 rfl rfl)
theorem dX1_init_13 : decode cX1_init 13 = .ok (.aload_n 0, 1) := dk_42 (dk_at dksX1_init_0 13 rfl rfl)
theorem dX1_init_14 : decode cX1_init 14 = .ok (.new 13, 3) := dk_187 0 13 (dk_at dksX1_init_0 14 rfl rfl)
theorem dX1_init_17 : decode cX1_init 17 = .ok (.dup, 1) := dk_89 (dk_at dksX1_init_0 17 rfl rfl)
theorem dX1_init_18 : decode cX1_init 18 = .ok (.invokespecial 15, 3) := dk_183 0 15 (dk_at dksX1_init_0 18 rfl rfl)
theorem dX1_init_21 : decode cX1_init 21 = .ok (.putfield 16, 3) := dk_181 0 16 (dk_at dksX1_init_0 21 rfl rfl)
theorem dX1_init_24 : decode cX1_init 24 = .ok (.aload_n 0, 1) := dk_42 (dk_at dksX1_init_1 0 rfl rfl)
theorem dX1_init_25 : decode cX1_init 25 = .ok (.bipush 20, 2) := dk_16 20 (dk_at dksX1_init_1 1 rfl rfl)
theorem dX1_init_27 : decode cX1_init 27 = .ok (.anewarray 13, 3) := dk_189 0 13 (dk_at dksX1_init_1 3 rfl rfl)
theorem dX1_init_30 : decode cX1_init 30 = .ok (.putfield 20, 3) := dk_181 0 20 (dk_at dksX1_init_1 6 rfl rfl)
theorem dX1_init_33 : decode cX1_init 33 = .ok (.aload_n 0, 1) := dk_42 (dk_at dksX1_init_1 9 rfl rfl)
theorem dX1_init_34 : decode cX1_init 34 = .ok (.iconst 3, 1) := dk_6 (dk_at dksX1_init_1 10 rfl rfl)
theorem dX1_init_35 : decode cX1_init 35 = .ok (.bipush 21, 2) := dk_16 21 (dk_at dksX1_init_1 11 rfl rfl)
theorem dX1_init_37 : decode cX1_init 37 = .ok (.multianewarray 24 2, 4) := by decide +kernel
theorem dX1_init_41 : decode cX1_init 41 = .ok (.putfield 26, 3) := dk_181 0 26 (dk_at dksX1_init_1 17 rfl rfl)
theorem dX1_init_44 : decode cX1_init 44 = .ok (.aload_n 0, 1) := dk_42 (dk_at dksX1_init_1 20 rfl rfl)
theorem dX1_init_45 : decode cX1_init 45 = .ok (.iconst 3, 1) := dk_6 (dk_at dksX1_init_1 21 rfl rfl)
theorem dX1_init_46 : decode cX1_init 46 = .ok (.newarray .int, 2) := dk_188_10 (dk_at dksX1_init_1 22 rfl rfl)
theorem dX1_init_48 : decode cX1_init 48 = .ok (.putfield 29, 3) := dk_181 0 29 (dk_at dksX1_init_2 0 rfl rfl)
theorem dX1_init_51 : decode cX1_init 51 = .ok (.aload_n 0, 1) := dk_42 (dk_at dksX1_init_2 3 rfl rfl)
theorem dX1_init_52 : decode cX1_init 52 = .ok (.iconst 2, 1) := dk_5 (dk_at dksX1_init_2 4 rfl rfl)
theorem dX1_init_53 : decode cX1_init 53 = .ok (.newarray .int, 2) := dk_188_10 (dk_at dksX1_init_2 5 rfl rfl)
theorem dX1_init_55 : decode cX1_init 55 = .ok (.putfield 33, 3) := dk_181 0 33 (dk_at dksX1_init_2 7 rfl rfl)
theorem dX1_init_58 : decode cX1_init 58 = .ok (.aload_n 0, 1) := dk_42 (dk_at dksX1_init_2 10 rfl rfl)
theorem dX1_init_59 : decode cX1_init 59 = .ok (.bipush 6, 2) := dk_16 6 (dk_at dksX1_init_2 11 rfl rfl)
theorem dX1_init_61 : decode cX1_init 61 = .ok (.anewarray 36, 3) := dk_189 0 36 (dk_at dksX1_init_2 13 rfl rfl)
theorem dX1_init_64 : decode cX1_init 64 = .ok (.putfield 38, 3) := dk_181 0 38 (dk_at dksX1_init_2 16 rfl rfl)
theorem dX1_init_67 : decode cX1_init 67 = .ok (.aload_n 0, 1) := dk_42 (dk_at dksX1_init_2 19 rfl rfl)
theorem dX1_init_68 : decode cX1_init 68 = .ok (.new 42, 3) := dk_187 0 42 (dk_at dksX1_init_2 20 rfl rfl)
theorem dX1_init_71 : decode cX1_init 71 = .ok (.dup, 1) := dk_89 (dk_at dksX1_init_2 23 rfl rfl)
theorem dX1_init_72 : decode cX1_init 72 = .ok (.invokespecial 44, 3) := dk_183 0 44 (dk_at dksX1_init_3 0 rfl rfl)
theorem dX1_init_75 : decode cX1_init 75 = .ok (.putfield 45, 3) := dk_181 0 45 (dk_at dksX1_init_3 3 rfl rfl)
theorem dX1_init_78 : decode cX1_init 78 = .ok (.aload_n 0, 1) := dk_42 (dk_at dksX1_init_3 6 rfl rfl)
theorem dX1_init_79 : decode cX1_init 79 = .ok (.new 49, 3) := dk_187 0 49 (dk_at dksX1_init_3 7 rfl rfl)
theorem dX1_init_82 : decode cX1_init 82 = .ok (.dup, 1) := dk_89 (dk_at dksX1_init_3 10 rfl rfl)
theorem dX1_init_83 : decode cX1_init 83 = .ok (.invokespecial 51, 3) := dk_183 0 51 (dk_at dksX1_init_3 11 rfl rfl)
theorem dX1_init_86 : decode cX1_init 86 = .ok (.putfield 52, 3) := dk_181 0 52 (dk_at dksX1_init_3 14 rfl rfl)
theorem dX1_init_89 : decode cX1_init 89 = .ok (.aload_n 0, 1) := dk_42 (dk_at dksX1_init_3 17 rfl rfl)
theorem dX1_init_90 : decode cX1_init 90 = .ok (.new 56, 3) := dk_187 0 56 (dk_at dksX1_init_3 18 rfl rfl)
theorem dX1_init_93 : decode cX1_init 93 = .ok (.dup, 1) := dk_89 (dk_at dksX1_init_3 21 rfl rfl)
theorem dX1_init_94 : decode cX1_init 94 = .ok (.invokespecial 58, 3) := dk_183 0 58 (dk_at dksX1_init_4 0 rfl rfl)
theorem dX1_init_97 : decode cX1_init 97 = .ok (.putfield 59, 3) := dk_181 0 59 (dk_at dksX1_init_4 3 rfl rfl)
theorem dX1_init_100 : decode cX1_init 100 = .ok (.aload_n 0, 1) := dk_42 (dk_at dksX1_init_4 6 rfl rfl)
theorem dX1_init_101 : decode cX1_init 101 = .ok (.new 63, 3) := dk_187 0 63 (dk_at dksX1_init_4 7 rfl rfl)
theorem dX1_init_104 : decode cX1_init 104 = .ok (.dup, 1) := dk_89 (dk_at dksX1_init_4 10 rfl rfl)
theorem dX1_init_105 : decode cX1_init 105 = .ok (.invokespecial 65, 3) := dk_183 0 65 (dk_at dksX1_init_4 11 rfl rfl)
theorem dX1_init_108 : decode cX1_init 108 = .ok (.putfield 66, 3) := dk_181 0 66 (dk_at dksX1_init_4 14 rfl rfl)
theorem dX1_init_111 : decode cX1_init 111 = .ok (.aload_n 0, 1) := dk_42 (dk_at dksX1_init_4 17 rfl rfl)
theorem dX1_init_112 : decode cX1_init 112 = .ok (.new 70, 3) := dk_187 0 70 (dk_at dksX1_init_4 18 rfl rfl)
theorem dX1_init_115 : decode cX1_init 115 = .ok (.dup, 1) := dk_89 (dk_at dksX1_init_4 21 rfl rfl)
theorem dX1_init_116 : decode cX1_init 116 = .ok (.invokespecial 72, 3) := dk_183 0 72 (dk_at dksX1_init_5 0 rfl rfl)
theorem dX1_init_119 : decode cX1_init 119 = .ok (.putfield 73, 3) := dk_181 0 73 (dk_at dksX1_init_5 3 rfl rfl)
theorem dX1_init_122 : decode cX1_init 122 = .ok (.aload_n 0, 1) := dk_42 (dk_at dksX1_init_5 6 rfl rfl)
theorem dX1_init_123 : decode cX1_init 123 = .ok (.iconst (-1), 1) := dk_2 (dk_at dksX1_init_5 7 rfl rfl)
theorem dX1_init_124 : decode cX1_init 124 = .ok (.putfield 77, 3) := dk_181 0 77 (dk_at dksX1_init_5 8 rfl rfl)
theorem dX1_init_127 : decode cX1_init 127 = .ok (.iconst 0, 1) := dk_3 (dk_at dksX1_init_5 11 rfl rfl)
theorem dX1_init_128 : decode cX1_init 128 = .ok (.istore_n 1, 1) := dk_60 (dk_at dksX1_init_5 12 rfl rfl)
theorem dX1_init_129 : decode cX1_init 129 = .ok (.iload_n 1, 1) := dk_27 (dk_at dksX1_init_5 13 rfl rfl)
theorem dX1_init_130 : decode cX1_init 130 = .ok (.bipush 20, 2) := dk_16 20 (dk_at dksX1_init_5 14 rfl rfl)
theorem dX1_init_132 : decode cX1_init 132 = .ok (.if_icmp .ge 22, 3) := dk_162 0 22 (dk_at dksX1_init_5 16 rfl rfl)
theorem dX1_init_135 : decode cX1_init 135 = .ok (.aload_n 0, 1) := dk_42 (dk_at dksX1_init_5 19 rfl rfl)
theorem dX1_init_136 : decode cX1_init 136 = .ok (.getfield 20, 3) := dk_180 0 20 (dk_at dksX1_init_5 20 rfl rfl)
theorem dX1_init_139 : decode cX1_init 139 = .ok (.iload_n 1, 1) := dk_27 (dk_at dksX1_init_5 23 rfl rfl)
theorem dX1_init_140 : decode cX1_init 140 = .ok (.new 13, 3) := dk_187 0 13 (dk_at dksX1_init_6 0 rfl rfl)
theorem dX1_init_143 : decode cX1_init 143 = .ok (.dup, 1) := dk_89 (dk_at dksX1_init_6 3 rfl rfl)
theorem dX1_init_144 : decode cX1_init 144 = .ok (.invokespecial 15, 3) := dk_183 0 15 (dk_at dksX1_init_6 4 rfl rfl)
theorem dX1_init_147 : decode cX1_init 147 = .ok (.aastore, 1) := dk_83 (dk_at dksX1_init_6 7 rfl rfl)
theorem dX1_init_148 : decode cX1_init 148 = .ok (.iinc 1 1, 3) := dk_132 1 1 (dk_at dksX1_init_6 8 rfl rfl)
theorem dX1_init_151 : decode cX1_init 151 = .ok (.goto (-22), 3) := dk_167 255 234 (dk_at dksX1_init_6 11 rfl rfl)
theorem dX1_init_154 : decode cX1_init 154 = .ok (.iconst 0, 1) := dk_3 (dk_at dksX1_init_6 14 rfl rfl)
theorem dX1_init_155 : decode cX1_init 155 = .ok (.istore_n 1, 1) := dk_60 (dk_at dksX1_init_6 15 rfl rfl)
theorem dX1_init_156 : decode cX1_init 156 = .ok (.iload_n 1, 1) := dk_27 (dk_at dksX1_init_6 16 rfl rfl)
theorem dX1_init_157 : decode cX1_init 157 = .ok (.iconst 3, 1) := dk_6 (dk_at dksX1_init_6 17 rfl rfl)
theorem dX1_init_158 : decode cX1_init 158 = .ok (.if_icmp .ge 38, 3) := dk_162 0 38 (dk_at dksX1_init_6 18 rfl rfl)
theorem dX1_init_161 : decode cX1_init 161 = .ok (.iconst 0, 1) := dk_3 (dk_at dksX1_init_6 21 rfl rfl)
theorem dX1_init_162 : decode cX1_init 162 = .ok (.istore_n 2, 1) := dk_61 (dk_at dksX1_init_6 22 rfl rfl)
theorem dX1_init_163 : decode cX1_init 163 = .ok (.iload_n 2, 1) := dk_28 (dk_at dksX1_init_6 23 rfl rfl)
theorem dX1_init_164 : decode cX1_init 164 = .ok (.bipush 20, 2) := dk_16 20 (dk_at dksX1_init_7 0 rfl rfl)
theorem dX1_init_166 : decode cX1_init 166 = .ok (.if_icmp .gt 24, 3) := dk_163 0 24 (dk_at dksX1_init_7 2 rfl rfl)
theorem dX1_init_169 : decode cX1_init 169 = .ok (.aload_n 0, 1) := dk_42 (dk_at dksX1_init_7 5 rfl rfl)
theorem dX1_init_170 : decode cX1_init 170 = .ok (.getfield 26, 3) := dk_180 0 26 (dk_at dksX1_init_7 6 rfl rfl)
theorem dX1_init_173 : decode cX1_init 173 = .ok (.iload_n 1, 1) := dk_27 (dk_at dksX1_init_7 9 rfl rfl)
theorem dX1_init_174 : decode cX1_init 174 = .ok (.aaload, 1) := dk_50 (dk_at dksX1_init_7 10 rfl rfl)
theorem dX1_init_175 : decode cX1_init 175 = .ok (.iload_n 2, 1) := dk_28 (dk_at dksX1_init_7 11 rfl rfl)
theorem dX1_init_176 : decode cX1_init 176 = .ok (.new 13, 3) := dk_187 0 13 (dk_at dksX1_init_7 12 rfl rfl)
theorem dX1_init_179 : decode cX1_init 179 = .ok (.dup, 1) := dk_89 (dk_at dksX1_init_7 15 rfl rfl)
theorem dX1_init_180 : decode cX1_init 180 = .ok (.invokespecial 15, 3) := dk_183 0 15 (dk_at dksX1_init_7 16 rfl rfl)
theorem dX1_init_183 : decode cX1_init 183 = .ok (.aastore, 1) := dk_83 (dk_at dksX1_init_7 19 rfl rfl)
theorem dX1_init_184 : decode cX1_init 184 = .ok (.iinc 2 1, 3) := dk_132 2 1 (dk_at dksX1_init_7 20 rfl rfl)
theorem dX1_init_187 : decode cX1_init 187 = .ok (.goto (-24), 3) := dk_167 255 232 (dk_at dksX1_init_8 0 rfl rfl)
theorem dX1_init_190 : decode cX1_init 190 = .ok (.iinc 1 1, 3) := dk_132 1 1 (dk_at dksX1_init_8 3 rfl rfl)
theorem dX1_init_193 : decode cX1_init 193 = .ok (.goto (-37), 3) := dk_167 255 219 (dk_at dksX1_init_8 6 rfl rfl)
theorem dX1_init_196 : decode cX1_init 196 = .ok (.return_, 1) := dk_177 (dk_at dksX1_init_8 9 rfl rfl)
abbrev cX1_feed : ByteArray := prog_1_method_6_code
def yX1_feed : MethodName := ⟨RX1, "feed", "(IIIII)I"⟩
def dkwX1_feed_4 : List UInt8 := [180, 0, 97, 172]
abbrev dktX1_feed_4 : List UInt8 := dkwX1_feed_4 ++ []
def dkwX1_feed_3 : List UInt8 := [7, 108, 46, 16, 24, 16, 8, 21, 7, 7, 112, 104, 100, 122, 145, 84, 132, 7, 1, 167, 255, 211, 42]
abbrev dktX1_feed_3 : List UInt8 := dkwX1_feed_3 ++ dktX1_feed_4
def dkwX1_feed_2 : List UInt8 := [16, 20, 162, 0, 44, 42, 180, 0, 9, 42, 89, 180, 0, 97, 90, 4, 96, 181, 0, 97, 25, 6, 21, 7]
abbrev dktX1_feed_2 : List UInt8 := dkwX1_feed_2 ++ dktX1_feed_3
def dkwX1_feed_1 : List UInt8 := [28, 79, 89, 5, 29, 79, 89, 6, 21, 4, 79, 89, 7, 21, 5, 79, 58, 6, 3, 54, 7, 21, 7]
abbrev dktX1_feed_1 : List UInt8 := dkwX1_feed_1 ++ dktX1_feed_2
def dkwX1_feed_0 : List UInt8 := [42, 180, 0, 97, 16, 20, 96, 17, 2, 88, 164, 0, 5, 2, 172, 8, 188, 10, 89, 3, 27, 79, 89, 4]
abbrev dktX1_feed_0 : List UInt8 := dkwX1_feed_0 ++ dktX1_feed_1
theorem dksX1_feed_0 : cX1_feed.data.toList.drop 0 = dktX1_feed_0 := by decide +kernel
theorem dksX1_feed_1 : cX1_feed.data.toList.drop 24 = dktX1_feed_1 := dk_seg dksX1_feed_0 24 rfl rfl
theorem dksX1_feed_2 : cX1_feed.data.toList.drop 47 = dktX1_feed_2 := dk_seg dksX1_feed_1 23 rfl rfl
theorem dksX1_feed_3 : cX1_feed.data.toList.drop 71 = dktX1_feed_3 := dk_seg dksX1_feed_2 24 rfl rfl
theorem dksX1_feed_4 : cX1_feed.data.toList.drop 94 = dktX1_feed_4 := dk_seg dksX1_feed_3 23 rfl rfl
theorem dX1_feed_0 : decode cX1_feed 0 = .ok (.aload_n 0, 1) := dk_42 (dk_at dksX1_feed_0 0 rfl rfl)
theorem dX1_feed_1 : decode cX1_feed 1 = .ok (.getfield 97, 3) := dk_180 0 97 (dk_at dksX1_feed_0 1 rfl rfl)
theorem dX1_feed_4 : decode cX1_feed 4 = .ok (.bipush 20, 2) := dk_16 20 (dk_at dksX1_feed_0 4 rfl rfl)
theorem dX1_feed_6 : decode cX1_feed 6 = .ok (.iadd, 1) := dk_96 (dk_at dksX1_feed_0 6 rfl rfl)
theorem dX1_feed_7 : decode cX1_feed 7 = .ok (.sipush 600, 3) := dk_17 2 88 (dk_at dksX1_feed_0 7 rfl rfl)
theorem dX1_feed_10 : decode cX1_feed 10 = .ok (.if_icmp .le 5, 3) := dk_164 0 5 (dk_at dksX1_feed_0 10 rfl rfl)
theorem dX1_feed_13 : decode cX1_feed 13 = .ok (.iconst (-1), 1) := dk_2 (dk_at dksX1_feed_0 13 rfl rfl)
theorem dX1_feed_14 : decode cX1_feed 14 = .ok (.ireturn, 1) := dk_172 (dk_at dksX1_feed_0 14 rfl rfl)
theorem dX1_feed_15 : decode cX1_feed 15 = .ok (.iconst 5, 1) := dk_8 (dk_at dksX1_feed_0 15 rfl rfl)
theorem dX1_feed_16 : decode cX1_feed 16 = .ok (.newarray .int, 2) := dk_188_10 (dk_at dksX1_feed_0 16 rfl rfl)
theorem dX1_feed_18 : decode cX1_feed 18 = .ok (.dup, 1) := dk_89 (dk_at dksX1_feed_0 18 rfl rfl)
theorem dX1_feed_19 : decode cX1_feed 19 = .ok (.iconst 0, 1) := dk_3 (dk_at dksX1_feed_0 19 rfl rfl)
theorem dX1_feed_20 : decode cX1_feed 20 = .ok (.iload_n 1, 1) := dk_27 (dk_at dksX1_feed_0 20 rfl rfl)
theorem dX1_feed_21 : decode cX1_feed 21 = .ok (.iastore, 1) := dk_79 (dk_at dksX1_feed_0 21 rfl rfl)
theorem dX1_feed_22 : decode cX1_feed 22 = .ok (.dup, 1) := dk_89 (dk_at dksX1_feed_0 22 rfl rfl)
theorem dX1_feed_23 : decode cX1_feed 23 = .ok (.iconst 1, 1) := dk_4 (dk_at dksX1_feed_0 23 rfl rfl)
theorem dX1_feed_24 : decode cX1_feed 24 = .ok (.iload_n 2, 1) := dk_28 (dk_at dksX1_feed_1 0 rfl rfl)
theorem dX1_feed_25 : decode cX1_feed 25 = .ok (.iastore, 1) := dk_79 (dk_at dksX1_feed_1 1 rfl rfl)
theorem dX1_feed_26 : decode cX1_feed 26 = .ok (.dup, 1) := dk_89 (dk_at dksX1_feed_1 2 rfl rfl)
theorem dX1_feed_27 : decode cX1_feed 27 = .ok (.iconst 2, 1) := dk_5 (dk_at dksX1_feed_1 3 rfl rfl)
theorem dX1_feed_28 : decode cX1_feed 28 = .ok (.iload_n 3, 1) := dk_29 (dk_at dksX1_feed_1 4 rfl rfl)
theorem dX1_feed_29 : decode cX1_feed 29 = .ok (.iastore, 1) := dk_79 (dk_at dksX1_feed_1 5 rfl rfl)
theorem dX1_feed_30 : decode cX1_feed 30 = .ok (.dup, 1) := dk_89 (dk_at dksX1_feed_1 6 rfl rfl)
theorem dX1_feed_31 : decode cX1_feed 31 = .ok (.iconst 3, 1) := dk_6 (dk_at dksX1_feed_1 7 rfl rfl)
theorem dX1_feed_32 : decode cX1_feed 32 = .ok (.iload 4, 2) := dk_21 4 (dk_at dksX1_feed_1 8 rfl rfl)
theorem dX1_feed_34 : decode cX1_feed 34 = .ok (.iastore, 1) := dk_79 (dk_at dksX1_feed_1 10 rfl rfl)
theorem dX1_feed_35 : decode cX1_feed 35 = .ok (.dup, 1) := dk_89 (dk_at dksX1_feed_1 11 rfl rfl)
theorem dX1_feed_36 : decode cX1_feed 36 = .ok (.iconst 4, 1) := dk_7 (dk_at dksX1_feed_1 12 rfl rfl)
theorem dX1_feed_37 : decode cX1_feed 37 = .ok (.iload 5, 2) := dk_21 5 (dk_at dksX1_feed_1 13 rfl rfl)
theorem dX1_feed_39 : decode cX1_feed 39 = .ok (.iastore, 1) := dk_79 (dk_at dksX1_feed_1 15 rfl rfl)
theorem dX1_feed_40 : decode cX1_feed 40 = .ok (.astore 6, 2) := dk_58 6 (dk_at dksX1_feed_1 16 rfl rfl)
theorem dX1_feed_42 : decode cX1_feed 42 = .ok (.iconst 0, 1) := dk_3 (dk_at dksX1_feed_1 18 rfl rfl)
theorem dX1_feed_43 : decode cX1_feed 43 = .ok (.istore 7, 2) := dk_54 7 (dk_at dksX1_feed_1 19 rfl rfl)
theorem dX1_feed_45 : decode cX1_feed 45 = .ok (.iload 7, 2) := dk_21 7 (dk_at dksX1_feed_1 21 rfl rfl)
theorem dX1_feed_47 : decode cX1_feed 47 = .ok (.bipush 20, 2) := dk_16 20 (dk_at dksX1_feed_2 0 rfl rfl)
theorem dX1_feed_49 : decode cX1_feed 49 = .ok (.if_icmp .ge 44, 3) := dk_162 0 44 (dk_at dksX1_feed_2 2 rfl rfl)
theorem dX1_feed_52 : decode cX1_feed 52 = .ok (.aload_n 0, 1) := dk_42 (dk_at dksX1_feed_2 5 rfl rfl)
theorem dX1_feed_53 : decode cX1_feed 53 = .ok (.getfield 9, 3) := dk_180 0 9 (dk_at dksX1_feed_2 6 rfl rfl)
theorem dX1_feed_56 : decode cX1_feed 56 = .ok (.aload_n 0, 1) := dk_42 (dk_at dksX1_feed_2 9 rfl rfl)
theorem dX1_feed_57 : decode cX1_feed 57 = .ok (.dup, 1) := dk_89 (dk_at dksX1_feed_2 10 rfl rfl)
theorem dX1_feed_58 : decode cX1_feed 58 = .ok (.getfield 97, 3) := dk_180 0 97 (dk_at dksX1_feed_2 11 rfl rfl)
theorem dX1_feed_61 : decode cX1_feed 61 = .ok (.dup_x1, 1) := dk_90 (dk_at dksX1_feed_2 14 rfl rfl)
theorem dX1_feed_62 : decode cX1_feed 62 = .ok (.iconst 1, 1) := dk_4 (dk_at dksX1_feed_2 15 rfl rfl)
theorem dX1_feed_63 : decode cX1_feed 63 = .ok (.iadd, 1) := dk_96 (dk_at dksX1_feed_2 16 rfl rfl)
theorem dX1_feed_64 : decode cX1_feed 64 = .ok (.putfield 97, 3) := dk_181 0 97 (dk_at dksX1_feed_2 17 rfl rfl)
theorem dX1_feed_67 : decode cX1_feed 67 = .ok (.aload 6, 2) := dk_25 6 (dk_at dksX1_feed_2 20 rfl rfl)
theorem dX1_feed_69 : decode cX1_feed 69 = .ok (.iload 7, 2) := dk_21 7 (dk_at dksX1_feed_2 22 rfl rfl)
theorem dX1_feed_71 : decode cX1_feed 71 = .ok (.iconst 4, 1) := dk_7 (dk_at dksX1_feed_3 0 rfl rfl)
theorem dX1_feed_72 : decode cX1_feed 72 = .ok (.idiv, 1) := dk_108 (dk_at dksX1_feed_3 1 rfl rfl)
theorem dX1_feed_73 : decode cX1_feed 73 = .ok (.iaload, 1) := dk_46 (dk_at dksX1_feed_3 2 rfl rfl)
theorem dX1_feed_74 : decode cX1_feed 74 = .ok (.bipush 24, 2) := dk_16 24 (dk_at dksX1_feed_3 3 rfl rfl)
theorem dX1_feed_76 : decode cX1_feed 76 = .ok (.bipush 8, 2) := dk_16 8 (dk_at dksX1_feed_3 5 rfl rfl)
theorem dX1_feed_78 : decode cX1_feed 78 = .ok (.iload 7, 2) := dk_21 7 (dk_at dksX1_feed_3 7 rfl rfl)
theorem dX1_feed_80 : decode cX1_feed 80 = .ok (.iconst 4, 1) := dk_7 (dk_at dksX1_feed_3 9 rfl rfl)
theorem dX1_feed_81 : decode cX1_feed 81 = .ok (.irem, 1) := dk_112 (dk_at dksX1_feed_3 10 rfl rfl)
theorem dX1_feed_82 : decode cX1_feed 82 = .ok (.imul, 1) := dk_104 (dk_at dksX1_feed_3 11 rfl rfl)
theorem dX1_feed_83 : decode cX1_feed 83 = .ok (.isub, 1) := dk_100 (dk_at dksX1_feed_3 12 rfl rfl)
theorem dX1_feed_84 : decode cX1_feed 84 = .ok (.ishr, 1) := dk_122 (dk_at dksX1_feed_3 13 rfl rfl)
theorem dX1_feed_85 : decode cX1_feed 85 = .ok (.i2b, 1) := dk_145 (dk_at dksX1_feed_3 14 rfl rfl)
theorem dX1_feed_86 : decode cX1_feed 86 = .ok (.bastore, 1) := dk_84 (dk_at dksX1_feed_3 15 rfl rfl)
theorem dX1_feed_87 : decode cX1_feed 87 = .ok (.iinc 7 1, 3) := dk_132 7 1 (dk_at dksX1_feed_3 16 rfl rfl)
theorem dX1_feed_90 : decode cX1_feed 90 = .ok (.goto (-45), 3) := dk_167 255 211 (dk_at dksX1_feed_3 19 rfl rfl)
theorem dX1_feed_93 : decode cX1_feed 93 = .ok (.aload_n 0, 1) := dk_42 (dk_at dksX1_feed_3 22 rfl rfl)
theorem dX1_feed_94 : decode cX1_feed 94 = .ok (.getfield 97, 3) := dk_180 0 97 (dk_at dksX1_feed_4 0 rfl rfl)
theorem dX1_feed_97 : decode cX1_feed 97 = .ok (.ireturn, 1) := dk_172 (dk_at dksX1_feed_4 3 rfl rfl)
abbrev cX1_fault : ByteArray := prog_1_method_14_code
def yX1_fault : MethodName := ⟨RX1, "fault", "()I"⟩
theorem dX1_fault_0 : decode cX1_fault 0 = .ok (.aload_n 0, 1) := by decide +kernel
theorem dX1_fault_1 : decode cX1_fault 1 = .ok (.getfield 77, 3) := by decide +kernel
theorem dX1_fault_4 : decode cX1_fault 4 = .ok (.ireturn, 1) := by decide +kernel
abbrev cX1_since : ByteArray := prog_1_method_29_code
def yX1_since : MethodName := ⟨RX1, "since", "()I"⟩
def dkwX1_since_1 : List UInt8 := [182, 1, 10, 182, 1, 37, 20, 1, 41, 148, 156, 0, 5, 27, 172, 132, 1, 1, 167, 255, 218, 2, 172]
abbrev dktX1_since_1 : List UInt8 := dkwX1_since_1 ++ []
def dkwX1_since_0 : List UInt8 := [3, 60, 27, 42, 180, 0, 16, 180, 0, 91, 162, 0, 33, 42, 42, 182, 1, 3, 27, 182, 1, 6]
abbrev dktX1_since_0 : List UInt8 := dkwX1_since_0 ++ dktX1_since_1
theorem dksX1_since_0 : cX1_since.data.toList.drop 0 = dktX1_since_0 := by decide +kernel
theorem dksX1_since_1 : cX1_since.data.toList.drop 22 = dktX1_since_1 := dk_seg dksX1_since_0 22 rfl rfl
theorem dX1_since_0 : decode cX1_since 0 = .ok (.iconst 0, 1) := dk_3 (dk_at dksX1_since_0 0 rfl rfl)
theorem dX1_since_1 : decode cX1_since 1 = .ok (.istore_n 1, 1) := dk_60 (dk_at dksX1_since_0 1 rfl rfl)
theorem dX1_since_2 : decode cX1_since 2 = .ok (.iload_n 1, 1) := dk_27 (dk_at dksX1_since_0 2 rfl rfl)
theorem dX1_since_3 : decode cX1_since 3 = .ok (.aload_n 0, 1) := dk_42 (dk_at dksX1_since_0 3 rfl rfl)
theorem dX1_since_4 : decode cX1_since 4 = .ok (.getfield 16, 3) := dk_180 0 16 (dk_at dksX1_since_0 4 rfl rfl)
theorem dX1_since_7 : decode cX1_since 7 = .ok (.getfield 91, 3) := dk_180 0 91 (dk_at dksX1_since_0 7 rfl rfl)
theorem dX1_since_10 : decode cX1_since 10 = .ok (.if_icmp .ge 33, 3) := dk_162 0 33 (dk_at dksX1_since_0 10 rfl rfl)
theorem dX1_since_13 : decode cX1_since 13 = .ok (.aload_n 0, 1) := dk_42 (dk_at dksX1_since_0 13 rfl rfl)
theorem dX1_since_14 : decode cX1_since 14 = .ok (.aload_n 0, 1) := dk_42 (dk_at dksX1_since_0 14 rfl rfl)
theorem dX1_since_15 : decode cX1_since 15 = .ok (.invokevirtual 259, 3) := dk_182 1 3 (dk_at dksX1_since_0 15 rfl rfl)
theorem dX1_since_18 : decode cX1_since 18 = .ok (.iload_n 1, 1) := dk_27 (dk_at dksX1_since_0 18 rfl rfl)
theorem dX1_since_19 : decode cX1_since 19 = .ok (.invokevirtual 262, 3) := dk_182 1 6 (dk_at dksX1_since_0 19 rfl rfl)
theorem dX1_since_22 : decode cX1_since 22 = .ok (.invokevirtual 266, 3) := dk_182 1 10 (dk_at dksX1_since_1 0 rfl rfl)
theorem dX1_since_25 : decode cX1_since 25 = .ok (.invokevirtual 293, 3) := dk_182 1 37 (dk_at dksX1_since_1 3 rfl rfl)
theorem dX1_since_28 : decode cX1_since 28 = .ok (.ldc2_w 297, 3) := dk_20 1 41 (dk_at dksX1_since_1 6 rfl rfl)
theorem dX1_since_31 : decode cX1_since 31 = .ok (.lcmp, 1) := dk_148 (dk_at dksX1_since_1 9 rfl rfl)
theorem dX1_since_32 : decode cX1_since 32 = .ok (.ifCond .ge 5, 3) := dk_156 0 5 (dk_at dksX1_since_1 10 rfl rfl)
theorem dX1_since_35 : decode cX1_since 35 = .ok (.iload_n 1, 1) := dk_27 (dk_at dksX1_since_1 13 rfl rfl)
theorem dX1_since_36 : decode cX1_since 36 = .ok (.ireturn, 1) := dk_172 (dk_at dksX1_since_1 14 rfl rfl)
theorem dX1_since_37 : decode cX1_since 37 = .ok (.iinc 1 1, 3) := dk_132 1 1 (dk_at dksX1_since_1 15 rfl rfl)
theorem dX1_since_40 : decode cX1_since 40 = .ok (.goto (-38), 3) := dk_167 255 218 (dk_at dksX1_since_1 18 rfl rfl)
theorem dX1_since_43 : decode cX1_since 43 = .ok (.iconst (-1), 1) := dk_2 (dk_at dksX1_since_1 21 rfl rfl)
theorem dX1_since_44 : decode cX1_since 44 = .ok (.ireturn, 1) := dk_172 (dk_at dksX1_since_1 22 rfl rfl)
abbrev cX1_asTold : ByteArray := prog_1_method_19_code
def yX1_asTold : MethodName := ⟨RX1, "asTold", "()LCardCups$How;"⟩
def dkwX1_asTold_0 : List UInt8 := [42, 180, 0, 59, 42, 180, 0, 38, 42, 180, 0, 66, 42, 180, 0, 16, 180, 0, 91, 182, 0, 251, 176]
abbrev dktX1_asTold_0 : List UInt8 := dkwX1_asTold_0 ++ []
theorem dksX1_asTold_0 : cX1_asTold.data.toList.drop 0 = dktX1_asTold_0 := by decide +kernel
theorem dX1_asTold_0 : decode cX1_asTold 0 = .ok (.aload_n 0, 1) := dk_42 (dk_at dksX1_asTold_0 0 rfl rfl)
theorem dX1_asTold_1 : decode cX1_asTold 1 = .ok (.getfield 59, 3) := dk_180 0 59 (dk_at dksX1_asTold_0 1 rfl rfl)
theorem dX1_asTold_4 : decode cX1_asTold 4 = .ok (.aload_n 0, 1) := dk_42 (dk_at dksX1_asTold_0 4 rfl rfl)
theorem dX1_asTold_5 : decode cX1_asTold 5 = .ok (.getfield 38, 3) := dk_180 0 38 (dk_at dksX1_asTold_0 5 rfl rfl)
theorem dX1_asTold_8 : decode cX1_asTold 8 = .ok (.aload_n 0, 1) := dk_42 (dk_at dksX1_asTold_0 8 rfl rfl)
theorem dX1_asTold_9 : decode cX1_asTold 9 = .ok (.getfield 66, 3) := dk_180 0 66 (dk_at dksX1_asTold_0 9 rfl rfl)
theorem dX1_asTold_12 : decode cX1_asTold 12 = .ok (.aload_n 0, 1) := dk_42 (dk_at dksX1_asTold_0 12 rfl rfl)
theorem dX1_asTold_13 : decode cX1_asTold 13 = .ok (.getfield 16, 3) := dk_180 0 16 (dk_at dksX1_asTold_0 13 rfl rfl)
theorem dX1_asTold_16 : decode cX1_asTold 16 = .ok (.getfield 91, 3) := dk_180 0 91 (dk_at dksX1_asTold_0 16 rfl rfl)
theorem dX1_asTold_19 : decode cX1_asTold 19 = .ok (.invokevirtual 251, 3) := dk_182 0 251 (dk_at dksX1_asTold_0 19 rfl rfl)
theorem dX1_asTold_22 : decode cX1_asTold 22 = .ok (.areturn, 1) := dk_176 (dk_at dksX1_asTold_0 22 rfl rfl)
abbrev cX1_run : ByteArray := prog_1_method_20_code
def yX1_run : MethodName := ⟨RX1, "run", "(LCardCups$How;)LCardCups$Flow;"⟩
def dkwX1_run_0 : List UInt8 := [42, 180, 0, 45, 42, 180, 0, 66, 42, 180, 0, 16, 43, 182, 0, 255, 42, 180, 0, 45, 176]
abbrev dktX1_run_0 : List UInt8 := dkwX1_run_0 ++ []
theorem dksX1_run_0 : cX1_run.data.toList.drop 0 = dktX1_run_0 := by decide +kernel
theorem dX1_run_0 : decode cX1_run 0 = .ok (.aload_n 0, 1) := dk_42 (dk_at dksX1_run_0 0 rfl rfl)
theorem dX1_run_1 : decode cX1_run 1 = .ok (.getfield 45, 3) := dk_180 0 45 (dk_at dksX1_run_0 1 rfl rfl)
theorem dX1_run_4 : decode cX1_run 4 = .ok (.aload_n 0, 1) := dk_42 (dk_at dksX1_run_0 4 rfl rfl)
theorem dX1_run_5 : decode cX1_run 5 = .ok (.getfield 66, 3) := dk_180 0 66 (dk_at dksX1_run_0 5 rfl rfl)
theorem dX1_run_8 : decode cX1_run 8 = .ok (.aload_n 0, 1) := dk_42 (dk_at dksX1_run_0 8 rfl rfl)
theorem dX1_run_9 : decode cX1_run 9 = .ok (.getfield 16, 3) := dk_180 0 16 (dk_at dksX1_run_0 9 rfl rfl)
theorem dX1_run_12 : decode cX1_run 12 = .ok (.aload_n 1, 1) := dk_43 (dk_at dksX1_run_0 12 rfl rfl)
theorem dX1_run_13 : decode cX1_run 13 = .ok (.invokevirtual 255, 3) := dk_182 0 255 (dk_at dksX1_run_0 13 rfl rfl)
theorem dX1_run_16 : decode cX1_run 16 = .ok (.aload_n 0, 1) := dk_42 (dk_at dksX1_run_0 16 rfl rfl)
theorem dX1_run_17 : decode cX1_run 17 = .ok (.getfield 45, 3) := dk_180 0 45 (dk_at dksX1_run_0 17 rfl rfl)
theorem dX1_run_20 : decode cX1_run 20 = .ok (.areturn, 1) := dk_176 (dk_at dksX1_run_0 20 rfl rfl)
abbrev cX1_keeper : ByteArray := prog_1_method_40_code
def yX1_keeper : MethodName := ⟨RX1, "keeper", "()I"⟩
def dkwX1_keeper_2 : List UInt8 := [155, 0, 6, 167, 0, 9, 21, 4, 60, 22, 5, 65, 132, 4, 1, 167, 255, 202, 27, 172]
abbrev dktX1_keeper_2 : List UInt8 := dkwX1_keeper_2 ++ []
def dkwX1_keeper_1 : List UInt8 := [21, 4, 182, 1, 79, 182, 1, 10, 182, 1, 37, 55, 5, 27, 2, 159, 0, 13, 22, 5, 32, 148]
abbrev dktX1_keeper_1 : List UInt8 := dkwX1_keeper_1 ++ dktX1_keeper_2
def dkwX1_keeper_0 : List UInt8 := [2, 60, 9, 65, 3, 54, 4, 21, 4, 42, 180, 0, 66, 180, 0, 84, 162, 0, 48, 42, 42, 182, 1, 3]
abbrev dktX1_keeper_0 : List UInt8 := dkwX1_keeper_0 ++ dktX1_keeper_1
theorem dksX1_keeper_0 : cX1_keeper.data.toList.drop 0 = dktX1_keeper_0 := by decide +kernel
theorem dksX1_keeper_1 : cX1_keeper.data.toList.drop 24 = dktX1_keeper_1 := dk_seg dksX1_keeper_0 24 rfl rfl
theorem dksX1_keeper_2 : cX1_keeper.data.toList.drop 46 = dktX1_keeper_2 := dk_seg dksX1_keeper_1 22 rfl rfl
theorem dX1_keeper_0 : decode cX1_keeper 0 = .ok (.iconst (-1), 1) := dk_2 (dk_at dksX1_keeper_0 0 rfl rfl)
theorem dX1_keeper_1 : decode cX1_keeper 1 = .ok (.istore_n 1, 1) := dk_60 (dk_at dksX1_keeper_0 1 rfl rfl)
theorem dX1_keeper_2 : decode cX1_keeper 2 = .ok (.lconst 0, 1) := dk_9 (dk_at dksX1_keeper_0 2 rfl rfl)
theorem dX1_keeper_3 : decode cX1_keeper 3 = .ok (.lstore_n 2, 1) := dk_65 (dk_at dksX1_keeper_0 3 rfl rfl)
theorem dX1_keeper_4 : decode cX1_keeper 4 = .ok (.iconst 0, 1) := dk_3 (dk_at dksX1_keeper_0 4 rfl rfl)
theorem dX1_keeper_5 : decode cX1_keeper 5 = .ok (.istore 4, 2) := dk_54 4 (dk_at dksX1_keeper_0 5 rfl rfl)
theorem dX1_keeper_7 : decode cX1_keeper 7 = .ok (.iload 4, 2) := dk_21 4 (dk_at dksX1_keeper_0 7 rfl rfl)
theorem dX1_keeper_9 : decode cX1_keeper 9 = .ok (.aload_n 0, 1) := dk_42 (dk_at dksX1_keeper_0 9 rfl rfl)
theorem dX1_keeper_10 : decode cX1_keeper 10 = .ok (.getfield 66, 3) := dk_180 0 66 (dk_at dksX1_keeper_0 10 rfl rfl)
theorem dX1_keeper_13 : decode cX1_keeper 13 = .ok (.getfield 84, 3) := dk_180 0 84 (dk_at dksX1_keeper_0 13 rfl rfl)
theorem dX1_keeper_16 : decode cX1_keeper 16 = .ok (.if_icmp .ge 48, 3) := dk_162 0 48 (dk_at dksX1_keeper_0 16 rfl rfl)
theorem dX1_keeper_19 : decode cX1_keeper 19 = .ok (.aload_n 0, 1) := dk_42 (dk_at dksX1_keeper_0 19 rfl rfl)
theorem dX1_keeper_20 : decode cX1_keeper 20 = .ok (.aload_n 0, 1) := dk_42 (dk_at dksX1_keeper_0 20 rfl rfl)
theorem dX1_keeper_21 : decode cX1_keeper 21 = .ok (.invokevirtual 259, 3) := dk_182 1 3 (dk_at dksX1_keeper_0 21 rfl rfl)
theorem dX1_keeper_24 : decode cX1_keeper 24 = .ok (.iload 4, 2) := dk_21 4 (dk_at dksX1_keeper_1 0 rfl rfl)
theorem dX1_keeper_26 : decode cX1_keeper 26 = .ok (.invokevirtual 335, 3) := dk_182 1 79 (dk_at dksX1_keeper_1 2 rfl rfl)
theorem dX1_keeper_29 : decode cX1_keeper 29 = .ok (.invokevirtual 266, 3) := dk_182 1 10 (dk_at dksX1_keeper_1 5 rfl rfl)
theorem dX1_keeper_32 : decode cX1_keeper 32 = .ok (.invokevirtual 293, 3) := dk_182 1 37 (dk_at dksX1_keeper_1 8 rfl rfl)
theorem dX1_keeper_35 : decode cX1_keeper 35 = .ok (.lstore 5, 2) := dk_55 5 (dk_at dksX1_keeper_1 11 rfl rfl)
theorem dX1_keeper_37 : decode cX1_keeper 37 = .ok (.iload_n 1, 1) := dk_27 (dk_at dksX1_keeper_1 13 rfl rfl)
theorem dX1_keeper_38 : decode cX1_keeper 38 = .ok (.iconst (-1), 1) := dk_2 (dk_at dksX1_keeper_1 14 rfl rfl)
theorem dX1_keeper_39 : decode cX1_keeper 39 = .ok (.if_icmp .eq 13, 3) := dk_159 0 13 (dk_at dksX1_keeper_1 15 rfl rfl)
theorem dX1_keeper_42 : decode cX1_keeper 42 = .ok (.lload 5, 2) := dk_22 5 (dk_at dksX1_keeper_1 18 rfl rfl)
theorem dX1_keeper_44 : decode cX1_keeper 44 = .ok (.lload_n 2, 1) := dk_32 (dk_at dksX1_keeper_1 20 rfl rfl)
theorem dX1_keeper_45 : decode cX1_keeper 45 = .ok (.lcmp, 1) := dk_148 (dk_at dksX1_keeper_1 21 rfl rfl)
theorem dX1_keeper_46 : decode cX1_keeper 46 = .ok (.ifCond .lt 6, 3) := dk_155 0 6 (dk_at dksX1_keeper_2 0 rfl rfl)
theorem dX1_keeper_49 : decode cX1_keeper 49 = .ok (.goto 9, 3) := dk_167 0 9 (dk_at dksX1_keeper_2 3 rfl rfl)
theorem dX1_keeper_52 : decode cX1_keeper 52 = .ok (.iload 4, 2) := dk_21 4 (dk_at dksX1_keeper_2 6 rfl rfl)
theorem dX1_keeper_54 : decode cX1_keeper 54 = .ok (.istore_n 1, 1) := dk_60 (dk_at dksX1_keeper_2 8 rfl rfl)
theorem dX1_keeper_55 : decode cX1_keeper 55 = .ok (.lload 5, 2) := dk_22 5 (dk_at dksX1_keeper_2 9 rfl rfl)
theorem dX1_keeper_57 : decode cX1_keeper 57 = .ok (.lstore_n 2, 1) := dk_65 (dk_at dksX1_keeper_2 11 rfl rfl)
theorem dX1_keeper_58 : decode cX1_keeper 58 = .ok (.iinc 4 1, 3) := dk_132 4 1 (dk_at dksX1_keeper_2 12 rfl rfl)
theorem dX1_keeper_61 : decode cX1_keeper 61 = .ok (.goto (-54), 3) := dk_167 255 202 (dk_at dksX1_keeper_2 15 rfl rfl)
theorem dX1_keeper_64 : decode cX1_keeper 64 = .ok (.iload_n 1, 1) := dk_27 (dk_at dksX1_keeper_2 18 rfl rfl)
theorem dX1_keeper_65 : decode cX1_keeper 65 = .ok (.ireturn, 1) := dk_172 (dk_at dksX1_keeper_2 19 rfl rfl)
abbrev cX1_spoiler : ByteArray := prog_1_method_41_code
def yX1_spoiler : MethodName := ⟨RX1, "spoiler", "()I"⟩
def dkwX1_spoiler_2 : List UInt8 := [155, 0, 6, 167, 0, 9, 21, 4, 60, 22, 5, 65, 132, 4, 1, 167, 255, 202, 27, 172]
abbrev dktX1_spoiler_2 : List UInt8 := dkwX1_spoiler_2 ++ []
def dkwX1_spoiler_1 : List UInt8 := [21, 4, 182, 1, 79, 182, 1, 10, 182, 1, 54, 55, 5, 27, 2, 159, 0, 13, 22, 5, 32, 148]
abbrev dktX1_spoiler_1 : List UInt8 := dkwX1_spoiler_1 ++ dktX1_spoiler_2
def dkwX1_spoiler_0 : List UInt8 := [2, 60, 9, 65, 3, 54, 4, 21, 4, 42, 180, 0, 66, 180, 0, 84, 162, 0, 48, 42, 42, 182, 1, 3]
abbrev dktX1_spoiler_0 : List UInt8 := dkwX1_spoiler_0 ++ dktX1_spoiler_1
theorem dksX1_spoiler_0 : cX1_spoiler.data.toList.drop 0 = dktX1_spoiler_0 := by decide +kernel
theorem dksX1_spoiler_1 : cX1_spoiler.data.toList.drop 24 = dktX1_spoiler_1 := dk_seg dksX1_spoiler_0 24 rfl rfl
theorem dksX1_spoiler_2 : cX1_spoiler.data.toList.drop 46 = dktX1_spoiler_2 := dk_seg dksX1_spoiler_1 22 rfl rfl
theorem dX1_spoiler_0 : decode cX1_spoiler 0 = .ok (.iconst (-1), 1) := dk_2 (dk_at dksX1_spoiler_0 0 rfl rfl)
theorem dX1_spoiler_1 : decode cX1_spoiler 1 = .ok (.istore_n 1, 1) := dk_60 (dk_at dksX1_spoiler_0 1 rfl rfl)
theorem dX1_spoiler_2 : decode cX1_spoiler 2 = .ok (.lconst 0, 1) := dk_9 (dk_at dksX1_spoiler_0 2 rfl rfl)
theorem dX1_spoiler_3 : decode cX1_spoiler 3 = .ok (.lstore_n 2, 1) := dk_65 (dk_at dksX1_spoiler_0 3 rfl rfl)
theorem dX1_spoiler_4 : decode cX1_spoiler 4 = .ok (.iconst 0, 1) := dk_3 (dk_at dksX1_spoiler_0 4 rfl rfl)
theorem dX1_spoiler_5 : decode cX1_spoiler 5 = .ok (.istore 4, 2) := dk_54 4 (dk_at dksX1_spoiler_0 5 rfl rfl)
theorem dX1_spoiler_7 : decode cX1_spoiler 7 = .ok (.iload 4, 2) := dk_21 4 (dk_at dksX1_spoiler_0 7 rfl rfl)
theorem dX1_spoiler_9 : decode cX1_spoiler 9 = .ok (.aload_n 0, 1) := dk_42 (dk_at dksX1_spoiler_0 9 rfl rfl)
theorem dX1_spoiler_10 : decode cX1_spoiler 10 = .ok (.getfield 66, 3) := dk_180 0 66 (dk_at dksX1_spoiler_0 10 rfl rfl)
theorem dX1_spoiler_13 : decode cX1_spoiler 13 = .ok (.getfield 84, 3) := dk_180 0 84 (dk_at dksX1_spoiler_0 13 rfl rfl)
theorem dX1_spoiler_16 : decode cX1_spoiler 16 = .ok (.if_icmp .ge 48, 3) := dk_162 0 48 (dk_at dksX1_spoiler_0 16 rfl rfl)
theorem dX1_spoiler_19 : decode cX1_spoiler 19 = .ok (.aload_n 0, 1) := dk_42 (dk_at dksX1_spoiler_0 19 rfl rfl)
theorem dX1_spoiler_20 : decode cX1_spoiler 20 = .ok (.aload_n 0, 1) := dk_42 (dk_at dksX1_spoiler_0 20 rfl rfl)
theorem dX1_spoiler_21 : decode cX1_spoiler 21 = .ok (.invokevirtual 259, 3) := dk_182 1 3 (dk_at dksX1_spoiler_0 21 rfl rfl)
theorem dX1_spoiler_24 : decode cX1_spoiler 24 = .ok (.iload 4, 2) := dk_21 4 (dk_at dksX1_spoiler_1 0 rfl rfl)
theorem dX1_spoiler_26 : decode cX1_spoiler 26 = .ok (.invokevirtual 335, 3) := dk_182 1 79 (dk_at dksX1_spoiler_1 2 rfl rfl)
theorem dX1_spoiler_29 : decode cX1_spoiler 29 = .ok (.invokevirtual 266, 3) := dk_182 1 10 (dk_at dksX1_spoiler_1 5 rfl rfl)
theorem dX1_spoiler_32 : decode cX1_spoiler 32 = .ok (.invokevirtual 310, 3) := dk_182 1 54 (dk_at dksX1_spoiler_1 8 rfl rfl)
theorem dX1_spoiler_35 : decode cX1_spoiler 35 = .ok (.lstore 5, 2) := dk_55 5 (dk_at dksX1_spoiler_1 11 rfl rfl)
theorem dX1_spoiler_37 : decode cX1_spoiler 37 = .ok (.iload_n 1, 1) := dk_27 (dk_at dksX1_spoiler_1 13 rfl rfl)
theorem dX1_spoiler_38 : decode cX1_spoiler 38 = .ok (.iconst (-1), 1) := dk_2 (dk_at dksX1_spoiler_1 14 rfl rfl)
theorem dX1_spoiler_39 : decode cX1_spoiler 39 = .ok (.if_icmp .eq 13, 3) := dk_159 0 13 (dk_at dksX1_spoiler_1 15 rfl rfl)
theorem dX1_spoiler_42 : decode cX1_spoiler 42 = .ok (.lload 5, 2) := dk_22 5 (dk_at dksX1_spoiler_1 18 rfl rfl)
theorem dX1_spoiler_44 : decode cX1_spoiler 44 = .ok (.lload_n 2, 1) := dk_32 (dk_at dksX1_spoiler_1 20 rfl rfl)
theorem dX1_spoiler_45 : decode cX1_spoiler 45 = .ok (.lcmp, 1) := dk_148 (dk_at dksX1_spoiler_1 21 rfl rfl)
theorem dX1_spoiler_46 : decode cX1_spoiler 46 = .ok (.ifCond .lt 6, 3) := dk_155 0 6 (dk_at dksX1_spoiler_2 0 rfl rfl)
theorem dX1_spoiler_49 : decode cX1_spoiler 49 = .ok (.goto 9, 3) := dk_167 0 9 (dk_at dksX1_spoiler_2 3 rfl rfl)
theorem dX1_spoiler_52 : decode cX1_spoiler 52 = .ok (.iload 4, 2) := dk_21 4 (dk_at dksX1_spoiler_2 6 rfl rfl)
theorem dX1_spoiler_54 : decode cX1_spoiler 54 = .ok (.istore_n 1, 1) := dk_60 (dk_at dksX1_spoiler_2 8 rfl rfl)
theorem dX1_spoiler_55 : decode cX1_spoiler 55 = .ok (.lload 5, 2) := dk_22 5 (dk_at dksX1_spoiler_2 9 rfl rfl)
theorem dX1_spoiler_57 : decode cX1_spoiler 57 = .ok (.lstore_n 2, 1) := dk_65 (dk_at dksX1_spoiler_2 11 rfl rfl)
theorem dX1_spoiler_58 : decode cX1_spoiler 58 = .ok (.iinc 4 1, 3) := dk_132 4 1 (dk_at dksX1_spoiler_2 12 rfl rfl)
theorem dX1_spoiler_61 : decode cX1_spoiler 61 = .ok (.goto (-54), 3) := dk_167 255 202 (dk_at dksX1_spoiler_2 15 rfl rfl)
theorem dX1_spoiler_64 : decode cX1_spoiler 64 = .ok (.iload_n 1, 1) := dk_27 (dk_at dksX1_spoiler_2 18 rfl rfl)
theorem dX1_spoiler_65 : decode cX1_spoiler 65 = .ok (.ireturn, 1) := dk_172 (dk_at dksX1_spoiler_2 19 rfl rfl)
abbrev cX1_fill : ByteArray := prog_1_method_46_code
def yX1_fill : MethodName := ⟨RX1, "fill", "()I"⟩
def dkwX1_fill_2 : List UInt8 := [132, 4, 1, 167, 255, 217, 27, 172]
abbrev dktX1_fill_2 : List UInt8 := dkwX1_fill_2 ++ []
def dkwX1_fill_1 : List UInt8 := [21, 4, 182, 1, 87, 55, 5, 22, 5, 32, 148, 155, 0, 6, 167, 0, 9, 21, 4, 60, 22, 5, 65]
abbrev dktX1_fill_1 : List UInt8 := dkwX1_fill_1 ++ dktX1_fill_2
def dkwX1_fill_0 : List UInt8 := [4, 60, 42, 4, 182, 1, 87, 65, 5, 54, 4, 21, 4, 42, 180, 0, 66, 180, 0, 207, 163, 0, 33, 42]
abbrev dktX1_fill_0 : List UInt8 := dkwX1_fill_0 ++ dktX1_fill_1
theorem dksX1_fill_0 : cX1_fill.data.toList.drop 0 = dktX1_fill_0 := by decide +kernel
theorem dksX1_fill_1 : cX1_fill.data.toList.drop 24 = dktX1_fill_1 := dk_seg dksX1_fill_0 24 rfl rfl
theorem dksX1_fill_2 : cX1_fill.data.toList.drop 47 = dktX1_fill_2 := dk_seg dksX1_fill_1 23 rfl rfl
theorem dX1_fill_0 : decode cX1_fill 0 = .ok (.iconst 1, 1) := dk_4 (dk_at dksX1_fill_0 0 rfl rfl)
theorem dX1_fill_1 : decode cX1_fill 1 = .ok (.istore_n 1, 1) := dk_60 (dk_at dksX1_fill_0 1 rfl rfl)
theorem dX1_fill_2 : decode cX1_fill 2 = .ok (.aload_n 0, 1) := dk_42 (dk_at dksX1_fill_0 2 rfl rfl)
theorem dX1_fill_3 : decode cX1_fill 3 = .ok (.iconst 1, 1) := dk_4 (dk_at dksX1_fill_0 3 rfl rfl)
theorem dX1_fill_4 : decode cX1_fill 4 = .ok (.invokevirtual 343, 3) := dk_182 1 87 (dk_at dksX1_fill_0 4 rfl rfl)
theorem dX1_fill_7 : decode cX1_fill 7 = .ok (.lstore_n 2, 1) := dk_65 (dk_at dksX1_fill_0 7 rfl rfl)
theorem dX1_fill_8 : decode cX1_fill 8 = .ok (.iconst 2, 1) := dk_5 (dk_at dksX1_fill_0 8 rfl rfl)
theorem dX1_fill_9 : decode cX1_fill 9 = .ok (.istore 4, 2) := dk_54 4 (dk_at dksX1_fill_0 9 rfl rfl)
theorem dX1_fill_11 : decode cX1_fill 11 = .ok (.iload 4, 2) := dk_21 4 (dk_at dksX1_fill_0 11 rfl rfl)
theorem dX1_fill_13 : decode cX1_fill 13 = .ok (.aload_n 0, 1) := dk_42 (dk_at dksX1_fill_0 13 rfl rfl)
theorem dX1_fill_14 : decode cX1_fill 14 = .ok (.getfield 66, 3) := dk_180 0 66 (dk_at dksX1_fill_0 14 rfl rfl)
theorem dX1_fill_17 : decode cX1_fill 17 = .ok (.getfield 207, 3) := dk_180 0 207 (dk_at dksX1_fill_0 17 rfl rfl)
theorem dX1_fill_20 : decode cX1_fill 20 = .ok (.if_icmp .gt 33, 3) := dk_163 0 33 (dk_at dksX1_fill_0 20 rfl rfl)
theorem dX1_fill_23 : decode cX1_fill 23 = .ok (.aload_n 0, 1) := dk_42 (dk_at dksX1_fill_0 23 rfl rfl)
theorem dX1_fill_24 : decode cX1_fill 24 = .ok (.iload 4, 2) := dk_21 4 (dk_at dksX1_fill_1 0 rfl rfl)
theorem dX1_fill_26 : decode cX1_fill 26 = .ok (.invokevirtual 343, 3) := dk_182 1 87 (dk_at dksX1_fill_1 2 rfl rfl)
theorem dX1_fill_29 : decode cX1_fill 29 = .ok (.lstore 5, 2) := dk_55 5 (dk_at dksX1_fill_1 5 rfl rfl)
theorem dX1_fill_31 : decode cX1_fill 31 = .ok (.lload 5, 2) := dk_22 5 (dk_at dksX1_fill_1 7 rfl rfl)
theorem dX1_fill_33 : decode cX1_fill 33 = .ok (.lload_n 2, 1) := dk_32 (dk_at dksX1_fill_1 9 rfl rfl)
theorem dX1_fill_34 : decode cX1_fill 34 = .ok (.lcmp, 1) := dk_148 (dk_at dksX1_fill_1 10 rfl rfl)
theorem dX1_fill_35 : decode cX1_fill 35 = .ok (.ifCond .lt 6, 3) := dk_155 0 6 (dk_at dksX1_fill_1 11 rfl rfl)
theorem dX1_fill_38 : decode cX1_fill 38 = .ok (.goto 9, 3) := dk_167 0 9 (dk_at dksX1_fill_1 14 rfl rfl)
theorem dX1_fill_41 : decode cX1_fill 41 = .ok (.iload 4, 2) := dk_21 4 (dk_at dksX1_fill_1 17 rfl rfl)
theorem dX1_fill_43 : decode cX1_fill 43 = .ok (.istore_n 1, 1) := dk_60 (dk_at dksX1_fill_1 19 rfl rfl)
theorem dX1_fill_44 : decode cX1_fill 44 = .ok (.lload 5, 2) := dk_22 5 (dk_at dksX1_fill_1 20 rfl rfl)
theorem dX1_fill_46 : decode cX1_fill 46 = .ok (.lstore_n 2, 1) := dk_65 (dk_at dksX1_fill_1 22 rfl rfl)
theorem dX1_fill_47 : decode cX1_fill 47 = .ok (.iinc 4 1, 3) := dk_132 4 1 (dk_at dksX1_fill_2 0 rfl rfl)
theorem dX1_fill_50 : decode cX1_fill 50 = .ok (.goto (-39), 3) := dk_167 255 217 (dk_at dksX1_fill_2 3 rfl rfl)
theorem dX1_fill_53 : decode cX1_fill 53 = .ok (.iload_n 1, 1) := dk_27 (dk_at dksX1_fill_2 6 rfl rfl)
theorem dX1_fill_54 : decode cX1_fill 54 = .ok (.ireturn, 1) := dk_172 (dk_at dksX1_fill_2 7 rfl rfl)
abbrev cX1_starting : ByteArray := prog_1_method_44_code
def yX1_starting : MethodName := ⟨RX1, "starting", "(I)J"⟩
def dkwX1_starting_0 : List UInt8 := [42, 182, 1, 3, 27, 181, 1, 84, 42, 42, 180, 0, 59, 182, 1, 10, 182, 1, 54, 173]
abbrev dktX1_starting_0 : List UInt8 := dkwX1_starting_0 ++ []
theorem dksX1_starting_0 : cX1_starting.data.toList.drop 0 = dktX1_starting_0 := by decide +kernel
theorem dX1_starting_0 : decode cX1_starting 0 = .ok (.aload_n 0, 1) := dk_42 (dk_at dksX1_starting_0 0 rfl rfl)
theorem dX1_starting_1 : decode cX1_starting 1 = .ok (.invokevirtual 259, 3) := dk_182 1 3 (dk_at dksX1_starting_0 1 rfl rfl)
theorem dX1_starting_4 : decode cX1_starting 4 = .ok (.iload_n 1, 1) := dk_27 (dk_at dksX1_starting_0 4 rfl rfl)
theorem dX1_starting_5 : decode cX1_starting 5 = .ok (.putfield 340, 3) := dk_181 1 84 (dk_at dksX1_starting_0 5 rfl rfl)
theorem dX1_starting_8 : decode cX1_starting 8 = .ok (.aload_n 0, 1) := dk_42 (dk_at dksX1_starting_0 8 rfl rfl)
theorem dX1_starting_9 : decode cX1_starting 9 = .ok (.aload_n 0, 1) := dk_42 (dk_at dksX1_starting_0 9 rfl rfl)
theorem dX1_starting_10 : decode cX1_starting 10 = .ok (.getfield 59, 3) := dk_180 0 59 (dk_at dksX1_starting_0 10 rfl rfl)
theorem dX1_starting_13 : decode cX1_starting 13 = .ok (.invokevirtual 266, 3) := dk_182 1 10 (dk_at dksX1_starting_0 13 rfl rfl)
theorem dX1_starting_16 : decode cX1_starting 16 = .ok (.invokevirtual 310, 3) := dk_182 1 54 (dk_at dksX1_starting_0 16 rfl rfl)
theorem dX1_starting_19 : decode cX1_starting 19 = .ok (.lreturn, 1) := dk_173 (dk_at dksX1_starting_0 19 rfl rfl)
abbrev cX1_swap : ByteArray := prog_1_method_49_code
def yX1_swap : MethodName := ⟨RX1, "swap", "()I"⟩
def dkwX1_swap_4 : List UInt8 := [132, 4, 1, 167, 255, 175, 27, 172]
abbrev dktX1_swap_4 : List UInt8 := dkwX1_swap_4 ++ []
def dkwX1_swap_3 : List UInt8 := [155, 0, 6, 167, 0, 15, 16, 10, 21, 4, 104, 21, 5, 96, 60, 22, 6, 65, 132, 5, 1, 167, 255, 199]
abbrev dktX1_swap_3 : List UInt8 := dkwX1_swap_3 ++ dktX1_swap_4
def dkwX1_swap_2 : List UInt8 := [42, 42, 182, 1, 3, 21, 4, 21, 5, 182, 1, 94, 182, 1, 10, 182, 1, 54, 55, 6, 22, 6, 32, 148]
abbrev dktX1_swap_2 : List UInt8 := dkwX1_swap_2 ++ dktX1_swap_3
def dkwX1_swap_1 : List UInt8 := [180, 0, 84, 162, 0, 75, 21, 4, 4, 96, 54, 5, 21, 5, 42, 180, 0, 66, 180, 0, 84, 162, 0, 51]
abbrev dktX1_swap_1 : List UInt8 := dkwX1_swap_1 ++ dktX1_swap_2
def dkwX1_swap_0 : List UInt8 := [2, 60, 42, 42, 182, 1, 3, 182, 1, 10, 182, 1, 54, 65, 3, 54, 4, 21, 4, 42, 180, 0, 66]
abbrev dktX1_swap_0 : List UInt8 := dkwX1_swap_0 ++ dktX1_swap_1
theorem dksX1_swap_0 : cX1_swap.data.toList.drop 0 = dktX1_swap_0 := by decide +kernel
theorem dksX1_swap_1 : cX1_swap.data.toList.drop 23 = dktX1_swap_1 := dk_seg dksX1_swap_0 23 rfl rfl
theorem dksX1_swap_2 : cX1_swap.data.toList.drop 47 = dktX1_swap_2 := dk_seg dksX1_swap_1 24 rfl rfl
theorem dksX1_swap_3 : cX1_swap.data.toList.drop 71 = dktX1_swap_3 := dk_seg dksX1_swap_2 24 rfl rfl
theorem dksX1_swap_4 : cX1_swap.data.toList.drop 95 = dktX1_swap_4 := dk_seg dksX1_swap_3 24 rfl rfl
theorem dX1_swap_0 : decode cX1_swap 0 = .ok (.iconst (-1), 1) := dk_2 (dk_at dksX1_swap_0 0 rfl rfl)
theorem dX1_swap_1 : decode cX1_swap 1 = .ok (.istore_n 1, 1) := dk_60 (dk_at dksX1_swap_0 1 rfl rfl)
theorem dX1_swap_2 : decode cX1_swap 2 = .ok (.aload_n 0, 1) := dk_42 (dk_at dksX1_swap_0 2 rfl rfl)
theorem dX1_swap_3 : decode cX1_swap 3 = .ok (.aload_n 0, 1) := dk_42 (dk_at dksX1_swap_0 3 rfl rfl)
theorem dX1_swap_4 : decode cX1_swap 4 = .ok (.invokevirtual 259, 3) := dk_182 1 3 (dk_at dksX1_swap_0 4 rfl rfl)
theorem dX1_swap_7 : decode cX1_swap 7 = .ok (.invokevirtual 266, 3) := dk_182 1 10 (dk_at dksX1_swap_0 7 rfl rfl)
theorem dX1_swap_10 : decode cX1_swap 10 = .ok (.invokevirtual 310, 3) := dk_182 1 54 (dk_at dksX1_swap_0 10 rfl rfl)
theorem dX1_swap_13 : decode cX1_swap 13 = .ok (.lstore_n 2, 1) := dk_65 (dk_at dksX1_swap_0 13 rfl rfl)
theorem dX1_swap_14 : decode cX1_swap 14 = .ok (.iconst 0, 1) := dk_3 (dk_at dksX1_swap_0 14 rfl rfl)
theorem dX1_swap_15 : decode cX1_swap 15 = .ok (.istore 4, 2) := dk_54 4 (dk_at dksX1_swap_0 15 rfl rfl)
theorem dX1_swap_17 : decode cX1_swap 17 = .ok (.iload 4, 2) := dk_21 4 (dk_at dksX1_swap_0 17 rfl rfl)
theorem dX1_swap_19 : decode cX1_swap 19 = .ok (.aload_n 0, 1) := dk_42 (dk_at dksX1_swap_0 19 rfl rfl)
theorem dX1_swap_20 : decode cX1_swap 20 = .ok (.getfield 66, 3) := dk_180 0 66 (dk_at dksX1_swap_0 20 rfl rfl)
theorem dX1_swap_23 : decode cX1_swap 23 = .ok (.getfield 84, 3) := dk_180 0 84 (dk_at dksX1_swap_1 0 rfl rfl)
theorem dX1_swap_26 : decode cX1_swap 26 = .ok (.if_icmp .ge 75, 3) := dk_162 0 75 (dk_at dksX1_swap_1 3 rfl rfl)
theorem dX1_swap_29 : decode cX1_swap 29 = .ok (.iload 4, 2) := dk_21 4 (dk_at dksX1_swap_1 6 rfl rfl)
theorem dX1_swap_31 : decode cX1_swap 31 = .ok (.iconst 1, 1) := dk_4 (dk_at dksX1_swap_1 8 rfl rfl)
theorem dX1_swap_32 : decode cX1_swap 32 = .ok (.iadd, 1) := dk_96 (dk_at dksX1_swap_1 9 rfl rfl)
theorem dX1_swap_33 : decode cX1_swap 33 = .ok (.istore 5, 2) := dk_54 5 (dk_at dksX1_swap_1 10 rfl rfl)
theorem dX1_swap_35 : decode cX1_swap 35 = .ok (.iload 5, 2) := dk_21 5 (dk_at dksX1_swap_1 12 rfl rfl)
theorem dX1_swap_37 : decode cX1_swap 37 = .ok (.aload_n 0, 1) := dk_42 (dk_at dksX1_swap_1 14 rfl rfl)
theorem dX1_swap_38 : decode cX1_swap 38 = .ok (.getfield 66, 3) := dk_180 0 66 (dk_at dksX1_swap_1 15 rfl rfl)
theorem dX1_swap_41 : decode cX1_swap 41 = .ok (.getfield 84, 3) := dk_180 0 84 (dk_at dksX1_swap_1 18 rfl rfl)
theorem dX1_swap_44 : decode cX1_swap 44 = .ok (.if_icmp .ge 51, 3) := dk_162 0 51 (dk_at dksX1_swap_1 21 rfl rfl)
theorem dX1_swap_47 : decode cX1_swap 47 = .ok (.aload_n 0, 1) := dk_42 (dk_at dksX1_swap_2 0 rfl rfl)
theorem dX1_swap_48 : decode cX1_swap 48 = .ok (.aload_n 0, 1) := dk_42 (dk_at dksX1_swap_2 1 rfl rfl)
theorem dX1_swap_49 : decode cX1_swap 49 = .ok (.invokevirtual 259, 3) := dk_182 1 3 (dk_at dksX1_swap_2 2 rfl rfl)
theorem dX1_swap_52 : decode cX1_swap 52 = .ok (.iload 4, 2) := dk_21 4 (dk_at dksX1_swap_2 5 rfl rfl)
theorem dX1_swap_54 : decode cX1_swap 54 = .ok (.iload 5, 2) := dk_21 5 (dk_at dksX1_swap_2 7 rfl rfl)
theorem dX1_swap_56 : decode cX1_swap 56 = .ok (.invokevirtual 350, 3) := dk_182 1 94 (dk_at dksX1_swap_2 9 rfl rfl)
theorem dX1_swap_59 : decode cX1_swap 59 = .ok (.invokevirtual 266, 3) := dk_182 1 10 (dk_at dksX1_swap_2 12 rfl rfl)
theorem dX1_swap_62 : decode cX1_swap 62 = .ok (.invokevirtual 310, 3) := dk_182 1 54 (dk_at dksX1_swap_2 15 rfl rfl)
theorem dX1_swap_65 : decode cX1_swap 65 = .ok (.lstore 6, 2) := dk_55 6 (dk_at dksX1_swap_2 18 rfl rfl)
theorem dX1_swap_67 : decode cX1_swap 67 = .ok (.lload 6, 2) := dk_22 6 (dk_at dksX1_swap_2 20 rfl rfl)
theorem dX1_swap_69 : decode cX1_swap 69 = .ok (.lload_n 2, 1) := dk_32 (dk_at dksX1_swap_2 22 rfl rfl)
theorem dX1_swap_70 : decode cX1_swap 70 = .ok (.lcmp, 1) := dk_148 (dk_at dksX1_swap_2 23 rfl rfl)
theorem dX1_swap_71 : decode cX1_swap 71 = .ok (.ifCond .lt 6, 3) := dk_155 0 6 (dk_at dksX1_swap_3 0 rfl rfl)
theorem dX1_swap_74 : decode cX1_swap 74 = .ok (.goto 15, 3) := dk_167 0 15 (dk_at dksX1_swap_3 3 rfl rfl)
theorem dX1_swap_77 : decode cX1_swap 77 = .ok (.bipush 10, 2) := dk_16 10 (dk_at dksX1_swap_3 6 rfl rfl)
theorem dX1_swap_79 : decode cX1_swap 79 = .ok (.iload 4, 2) := dk_21 4 (dk_at dksX1_swap_3 8 rfl rfl)
theorem dX1_swap_81 : decode cX1_swap 81 = .ok (.imul, 1) := dk_104 (dk_at dksX1_swap_3 10 rfl rfl)
theorem dX1_swap_82 : decode cX1_swap 82 = .ok (.iload 5, 2) := dk_21 5 (dk_at dksX1_swap_3 11 rfl rfl)
theorem dX1_swap_84 : decode cX1_swap 84 = .ok (.iadd, 1) := dk_96 (dk_at dksX1_swap_3 13 rfl rfl)
theorem dX1_swap_85 : decode cX1_swap 85 = .ok (.istore_n 1, 1) := dk_60 (dk_at dksX1_swap_3 14 rfl rfl)
theorem dX1_swap_86 : decode cX1_swap 86 = .ok (.lload 6, 2) := dk_22 6 (dk_at dksX1_swap_3 15 rfl rfl)
theorem dX1_swap_88 : decode cX1_swap 88 = .ok (.lstore_n 2, 1) := dk_65 (dk_at dksX1_swap_3 17 rfl rfl)
theorem dX1_swap_89 : decode cX1_swap 89 = .ok (.iinc 5 1, 3) := dk_132 5 1 (dk_at dksX1_swap_3 18 rfl rfl)
theorem dX1_swap_92 : decode cX1_swap 92 = .ok (.goto (-57), 3) := dk_167 255 199 (dk_at dksX1_swap_3 21 rfl rfl)
theorem dX1_swap_95 : decode cX1_swap 95 = .ok (.iinc 4 1, 3) := dk_132 4 1 (dk_at dksX1_swap_4 0 rfl rfl)
theorem dX1_swap_98 : decode cX1_swap 98 = .ok (.goto (-81), 3) := dk_167 255 175 (dk_at dksX1_swap_4 3 rfl rfl)
theorem dX1_swap_101 : decode cX1_swap 101 = .ok (.iload_n 1, 1) := dk_27 (dk_at dksX1_swap_4 6 rfl rfl)
theorem dX1_swap_102 : decode cX1_swap 102 = .ok (.ireturn, 1) := dk_172 (dk_at dksX1_swap_4 7 rfl rfl)
abbrev cX1_undo : ByteArray := prog_1_method_58_code
def yX1_undo : MethodName := ⟨RX1, "undo", "()I"⟩
def dkwX1_undo_1 : List UInt8 := [90, 181, 0, 143, 50, 182, 0, 135, 87, 42, 180, 0, 143, 172]
abbrev dktX1_undo_1 : List UInt8 := dkwX1_undo_1 ++ []
def dkwX1_undo_0 : List UInt8 := [42, 180, 0, 143, 154, 0, 5, 2, 172, 42, 180, 0, 16, 42, 180, 0, 20, 42, 89, 180, 0, 143, 4, 100]
abbrev dktX1_undo_0 : List UInt8 := dkwX1_undo_0 ++ dktX1_undo_1
theorem dksX1_undo_0 : cX1_undo.data.toList.drop 0 = dktX1_undo_0 := by decide +kernel
theorem dksX1_undo_1 : cX1_undo.data.toList.drop 24 = dktX1_undo_1 := dk_seg dksX1_undo_0 24 rfl rfl
theorem dX1_undo_0 : decode cX1_undo 0 = .ok (.aload_n 0, 1) := dk_42 (dk_at dksX1_undo_0 0 rfl rfl)
theorem dX1_undo_1 : decode cX1_undo 1 = .ok (.getfield 143, 3) := dk_180 0 143 (dk_at dksX1_undo_0 1 rfl rfl)
theorem dX1_undo_4 : decode cX1_undo 4 = .ok (.ifCond .ne 5, 3) := dk_154 0 5 (dk_at dksX1_undo_0 4 rfl rfl)
theorem dX1_undo_7 : decode cX1_undo 7 = .ok (.iconst (-1), 1) := dk_2 (dk_at dksX1_undo_0 7 rfl rfl)
theorem dX1_undo_8 : decode cX1_undo 8 = .ok (.ireturn, 1) := dk_172 (dk_at dksX1_undo_0 8 rfl rfl)
theorem dX1_undo_9 : decode cX1_undo 9 = .ok (.aload_n 0, 1) := dk_42 (dk_at dksX1_undo_0 9 rfl rfl)
theorem dX1_undo_10 : decode cX1_undo 10 = .ok (.getfield 16, 3) := dk_180 0 16 (dk_at dksX1_undo_0 10 rfl rfl)
theorem dX1_undo_13 : decode cX1_undo 13 = .ok (.aload_n 0, 1) := dk_42 (dk_at dksX1_undo_0 13 rfl rfl)
theorem dX1_undo_14 : decode cX1_undo 14 = .ok (.getfield 20, 3) := dk_180 0 20 (dk_at dksX1_undo_0 14 rfl rfl)
theorem dX1_undo_17 : decode cX1_undo 17 = .ok (.aload_n 0, 1) := dk_42 (dk_at dksX1_undo_0 17 rfl rfl)
theorem dX1_undo_18 : decode cX1_undo 18 = .ok (.dup, 1) := dk_89 (dk_at dksX1_undo_0 18 rfl rfl)
theorem dX1_undo_19 : decode cX1_undo 19 = .ok (.getfield 143, 3) := dk_180 0 143 (dk_at dksX1_undo_0 19 rfl rfl)
theorem dX1_undo_22 : decode cX1_undo 22 = .ok (.iconst 1, 1) := dk_4 (dk_at dksX1_undo_0 22 rfl rfl)
theorem dX1_undo_23 : decode cX1_undo 23 = .ok (.isub, 1) := dk_100 (dk_at dksX1_undo_0 23 rfl rfl)
theorem dX1_undo_24 : decode cX1_undo 24 = .ok (.dup_x1, 1) := dk_90 (dk_at dksX1_undo_1 0 rfl rfl)
theorem dX1_undo_25 : decode cX1_undo 25 = .ok (.putfield 143, 3) := dk_181 0 143 (dk_at dksX1_undo_1 1 rfl rfl)
theorem dX1_undo_28 : decode cX1_undo 28 = .ok (.aaload, 1) := dk_50 (dk_at dksX1_undo_1 4 rfl rfl)
theorem dX1_undo_29 : decode cX1_undo 29 = .ok (.invokevirtual 135, 3) := dk_182 0 135 (dk_at dksX1_undo_1 5 rfl rfl)
theorem dX1_undo_32 : decode cX1_undo 32 = .ok (.pop, 1) := dk_87 (dk_at dksX1_undo_1 8 rfl rfl)
theorem dX1_undo_33 : decode cX1_undo 33 = .ok (.aload_n 0, 1) := dk_42 (dk_at dksX1_undo_1 9 rfl rfl)
theorem dX1_undo_34 : decode cX1_undo 34 = .ok (.getfield 143, 3) := dk_180 0 143 (dk_at dksX1_undo_1 10 rfl rfl)
theorem dX1_undo_37 : decode cX1_undo 37 = .ok (.ireturn, 1) := dk_172 (dk_at dksX1_undo_1 13 rfl rfl)
abbrev cX1_image : ByteArray := prog_1_method_59_code
def yX1_image : MethodName := ⟨RX1, "image", "()I"⟩
def dkwX1_image_3 : List UInt8 := [180, 0, 146, 42, 180, 0, 143, 79, 42, 89, 180, 0, 146, 4, 96, 90, 181, 0, 146, 172]
abbrev dktX1_image_3 : List UInt8 := dkwX1_image_3 ++ []
def dkwX1_image_2 : List UInt8 := [180, 0, 26, 42, 180, 0, 146, 50, 16, 20, 50, 42, 180, 0, 16, 182, 0, 135, 87, 42, 180, 0, 29, 42]
abbrev dktX1_image_2 : List UInt8 := dkwX1_image_2 ++ dktX1_image_3
def dkwX1_image_1 : List UInt8 := [42, 180, 0, 146, 50, 27, 50, 42, 180, 0, 20, 27, 50, 182, 0, 135, 87, 132, 1, 1, 167, 255, 224, 42]
abbrev dktX1_image_1 : List UInt8 := dkwX1_image_1 ++ dktX1_image_2
def dkwX1_image_0 : List UInt8 := [42, 180, 0, 146, 6, 160, 0, 5, 2, 172, 3, 60, 27, 42, 180, 0, 143, 162, 0, 30, 42, 180, 0, 26]
abbrev dktX1_image_0 : List UInt8 := dkwX1_image_0 ++ dktX1_image_1
theorem dksX1_image_0 : cX1_image.data.toList.drop 0 = dktX1_image_0 := by decide +kernel
theorem dksX1_image_1 : cX1_image.data.toList.drop 24 = dktX1_image_1 := dk_seg dksX1_image_0 24 rfl rfl
theorem dksX1_image_2 : cX1_image.data.toList.drop 48 = dktX1_image_2 := dk_seg dksX1_image_1 24 rfl rfl
theorem dksX1_image_3 : cX1_image.data.toList.drop 72 = dktX1_image_3 := dk_seg dksX1_image_2 24 rfl rfl
theorem dX1_image_0 : decode cX1_image 0 = .ok (.aload_n 0, 1) := dk_42 (dk_at dksX1_image_0 0 rfl rfl)
theorem dX1_image_1 : decode cX1_image 1 = .ok (.getfield 146, 3) := dk_180 0 146 (dk_at dksX1_image_0 1 rfl rfl)
theorem dX1_image_4 : decode cX1_image 4 = .ok (.iconst 3, 1) := dk_6 (dk_at dksX1_image_0 4 rfl rfl)
theorem dX1_image_5 : decode cX1_image 5 = .ok (.if_icmp .ne 5, 3) := dk_160 0 5 (dk_at dksX1_image_0 5 rfl rfl)
theorem dX1_image_8 : decode cX1_image 8 = .ok (.iconst (-1), 1) := dk_2 (dk_at dksX1_image_0 8 rfl rfl)
theorem dX1_image_9 : decode cX1_image 9 = .ok (.ireturn, 1) := dk_172 (dk_at dksX1_image_0 9 rfl rfl)
theorem dX1_image_10 : decode cX1_image 10 = .ok (.iconst 0, 1) := dk_3 (dk_at dksX1_image_0 10 rfl rfl)
theorem dX1_image_11 : decode cX1_image 11 = .ok (.istore_n 1, 1) := dk_60 (dk_at dksX1_image_0 11 rfl rfl)
theorem dX1_image_12 : decode cX1_image 12 = .ok (.iload_n 1, 1) := dk_27 (dk_at dksX1_image_0 12 rfl rfl)
theorem dX1_image_13 : decode cX1_image 13 = .ok (.aload_n 0, 1) := dk_42 (dk_at dksX1_image_0 13 rfl rfl)
theorem dX1_image_14 : decode cX1_image 14 = .ok (.getfield 143, 3) := dk_180 0 143 (dk_at dksX1_image_0 14 rfl rfl)
theorem dX1_image_17 : decode cX1_image 17 = .ok (.if_icmp .ge 30, 3) := dk_162 0 30 (dk_at dksX1_image_0 17 rfl rfl)
theorem dX1_image_20 : decode cX1_image 20 = .ok (.aload_n 0, 1) := dk_42 (dk_at dksX1_image_0 20 rfl rfl)
theorem dX1_image_21 : decode cX1_image 21 = .ok (.getfield 26, 3) := dk_180 0 26 (dk_at dksX1_image_0 21 rfl rfl)
theorem dX1_image_24 : decode cX1_image 24 = .ok (.aload_n 0, 1) := dk_42 (dk_at dksX1_image_1 0 rfl rfl)
theorem dX1_image_25 : decode cX1_image 25 = .ok (.getfield 146, 3) := dk_180 0 146 (dk_at dksX1_image_1 1 rfl rfl)
theorem dX1_image_28 : decode cX1_image 28 = .ok (.aaload, 1) := dk_50 (dk_at dksX1_image_1 4 rfl rfl)
theorem dX1_image_29 : decode cX1_image 29 = .ok (.iload_n 1, 1) := dk_27 (dk_at dksX1_image_1 5 rfl rfl)
theorem dX1_image_30 : decode cX1_image 30 = .ok (.aaload, 1) := dk_50 (dk_at dksX1_image_1 6 rfl rfl)
theorem dX1_image_31 : decode cX1_image 31 = .ok (.aload_n 0, 1) := dk_42 (dk_at dksX1_image_1 7 rfl rfl)
theorem dX1_image_32 : decode cX1_image 32 = .ok (.getfield 20, 3) := dk_180 0 20 (dk_at dksX1_image_1 8 rfl rfl)
theorem dX1_image_35 : decode cX1_image 35 = .ok (.iload_n 1, 1) := dk_27 (dk_at dksX1_image_1 11 rfl rfl)
theorem dX1_image_36 : decode cX1_image 36 = .ok (.aaload, 1) := dk_50 (dk_at dksX1_image_1 12 rfl rfl)
theorem dX1_image_37 : decode cX1_image 37 = .ok (.invokevirtual 135, 3) := dk_182 0 135 (dk_at dksX1_image_1 13 rfl rfl)
theorem dX1_image_40 : decode cX1_image 40 = .ok (.pop, 1) := dk_87 (dk_at dksX1_image_1 16 rfl rfl)
theorem dX1_image_41 : decode cX1_image 41 = .ok (.iinc 1 1, 3) := dk_132 1 1 (dk_at dksX1_image_1 17 rfl rfl)
theorem dX1_image_44 : decode cX1_image 44 = .ok (.goto (-32), 3) := dk_167 255 224 (dk_at dksX1_image_1 20 rfl rfl)
theorem dX1_image_47 : decode cX1_image 47 = .ok (.aload_n 0, 1) := dk_42 (dk_at dksX1_image_1 23 rfl rfl)
theorem dX1_image_48 : decode cX1_image 48 = .ok (.getfield 26, 3) := dk_180 0 26 (dk_at dksX1_image_2 0 rfl rfl)
theorem dX1_image_51 : decode cX1_image 51 = .ok (.aload_n 0, 1) := dk_42 (dk_at dksX1_image_2 3 rfl rfl)
theorem dX1_image_52 : decode cX1_image 52 = .ok (.getfield 146, 3) := dk_180 0 146 (dk_at dksX1_image_2 4 rfl rfl)
theorem dX1_image_55 : decode cX1_image 55 = .ok (.aaload, 1) := dk_50 (dk_at dksX1_image_2 7 rfl rfl)
theorem dX1_image_56 : decode cX1_image 56 = .ok (.bipush 20, 2) := dk_16 20 (dk_at dksX1_image_2 8 rfl rfl)
theorem dX1_image_58 : decode cX1_image 58 = .ok (.aaload, 1) := dk_50 (dk_at dksX1_image_2 10 rfl rfl)
theorem dX1_image_59 : decode cX1_image 59 = .ok (.aload_n 0, 1) := dk_42 (dk_at dksX1_image_2 11 rfl rfl)
theorem dX1_image_60 : decode cX1_image 60 = .ok (.getfield 16, 3) := dk_180 0 16 (dk_at dksX1_image_2 12 rfl rfl)
theorem dX1_image_63 : decode cX1_image 63 = .ok (.invokevirtual 135, 3) := dk_182 0 135 (dk_at dksX1_image_2 15 rfl rfl)
theorem dX1_image_66 : decode cX1_image 66 = .ok (.pop, 1) := dk_87 (dk_at dksX1_image_2 18 rfl rfl)
theorem dX1_image_67 : decode cX1_image 67 = .ok (.aload_n 0, 1) := dk_42 (dk_at dksX1_image_2 19 rfl rfl)
theorem dX1_image_68 : decode cX1_image 68 = .ok (.getfield 29, 3) := dk_180 0 29 (dk_at dksX1_image_2 20 rfl rfl)
theorem dX1_image_71 : decode cX1_image 71 = .ok (.aload_n 0, 1) := dk_42 (dk_at dksX1_image_2 23 rfl rfl)
theorem dX1_image_72 : decode cX1_image 72 = .ok (.getfield 146, 3) := dk_180 0 146 (dk_at dksX1_image_3 0 rfl rfl)
theorem dX1_image_75 : decode cX1_image 75 = .ok (.aload_n 0, 1) := dk_42 (dk_at dksX1_image_3 3 rfl rfl)
theorem dX1_image_76 : decode cX1_image 76 = .ok (.getfield 143, 3) := dk_180 0 143 (dk_at dksX1_image_3 4 rfl rfl)
theorem dX1_image_79 : decode cX1_image 79 = .ok (.iastore, 1) := dk_79 (dk_at dksX1_image_3 7 rfl rfl)
theorem dX1_image_80 : decode cX1_image 80 = .ok (.aload_n 0, 1) := dk_42 (dk_at dksX1_image_3 8 rfl rfl)
theorem dX1_image_81 : decode cX1_image 81 = .ok (.dup, 1) := dk_89 (dk_at dksX1_image_3 9 rfl rfl)
theorem dX1_image_82 : decode cX1_image 82 = .ok (.getfield 146, 3) := dk_180 0 146 (dk_at dksX1_image_3 10 rfl rfl)
theorem dX1_image_85 : decode cX1_image 85 = .ok (.iconst 1, 1) := dk_4 (dk_at dksX1_image_3 13 rfl rfl)
theorem dX1_image_86 : decode cX1_image 86 = .ok (.iadd, 1) := dk_96 (dk_at dksX1_image_3 14 rfl rfl)
theorem dX1_image_87 : decode cX1_image 87 = .ok (.dup_x1, 1) := dk_90 (dk_at dksX1_image_3 15 rfl rfl)
theorem dX1_image_88 : decode cX1_image 88 = .ok (.putfield 146, 3) := dk_181 0 146 (dk_at dksX1_image_3 16 rfl rfl)
theorem dX1_image_91 : decode cX1_image 91 = .ok (.ireturn, 1) := dk_172 (dk_at dksX1_image_3 19 rfl rfl)
abbrev cX1_restore : ByteArray := prog_1_method_60_code
def yX1_restore : MethodName := ⟨RX1, "restore", "()I"⟩
def dkwX1_restore_3 : List UInt8 := [180, 0, 16, 42, 180, 0, 26, 42, 180, 0, 146, 50, 16, 20, 50, 182, 0, 135, 87, 42, 180, 0, 146, 172]
abbrev dktX1_restore_3 : List UInt8 := dkwX1_restore_3 ++ []
def dkwX1_restore_2 : List UInt8 := [42, 180, 0, 26, 42, 180, 0, 146, 50, 27, 50, 182, 0, 135, 87, 132, 1, 1, 167, 255, 224, 42]
abbrev dktX1_restore_2 : List UInt8 := dkwX1_restore_2 ++ dktX1_restore_3
def dkwX1_restore_1 : List UInt8 := [42, 180, 0, 146, 46, 181, 0, 143, 3, 60, 27, 42, 180, 0, 143, 162, 0, 30, 42, 180, 0, 20, 27, 50]
abbrev dktX1_restore_1 : List UInt8 := dkwX1_restore_1 ++ dktX1_restore_2
def dkwX1_restore_0 : List UInt8 := [42, 180, 0, 146, 154, 0, 5, 2, 172, 42, 89, 180, 0, 146, 4, 100, 181, 0, 146, 42, 42, 180, 0, 29]
abbrev dktX1_restore_0 : List UInt8 := dkwX1_restore_0 ++ dktX1_restore_1
theorem dksX1_restore_0 : cX1_restore.data.toList.drop 0 = dktX1_restore_0 := by decide +kernel
theorem dksX1_restore_1 : cX1_restore.data.toList.drop 24 = dktX1_restore_1 := dk_seg dksX1_restore_0 24 rfl rfl
theorem dksX1_restore_2 : cX1_restore.data.toList.drop 48 = dktX1_restore_2 := dk_seg dksX1_restore_1 24 rfl rfl
theorem dksX1_restore_3 : cX1_restore.data.toList.drop 70 = dktX1_restore_3 := dk_seg dksX1_restore_2 22 rfl rfl
theorem dX1_restore_0 : decode cX1_restore 0 = .ok (.aload_n 0, 1) := dk_42 (dk_at dksX1_restore_0 0 rfl rfl)
theorem dX1_restore_1 : decode cX1_restore 1 = .ok (.getfield 146, 3) := dk_180 0 146 (dk_at dksX1_restore_0 1 rfl rfl)
theorem dX1_restore_4 : decode cX1_restore 4 = .ok (.ifCond .ne 5, 3) := dk_154 0 5 (dk_at dksX1_restore_0 4 rfl rfl)
theorem dX1_restore_7 : decode cX1_restore 7 = .ok (.iconst (-1), 1) := dk_2 (dk_at dksX1_restore_0 7 rfl rfl)
theorem dX1_restore_8 : decode cX1_restore 8 = .ok (.ireturn, 1) := dk_172 (dk_at dksX1_restore_0 8 rfl rfl)
theorem dX1_restore_9 : decode cX1_restore 9 = .ok (.aload_n 0, 1) := dk_42 (dk_at dksX1_restore_0 9 rfl rfl)
theorem dX1_restore_10 : decode cX1_restore 10 = .ok (.dup, 1) := dk_89 (dk_at dksX1_restore_0 10 rfl rfl)
theorem dX1_restore_11 : decode cX1_restore 11 = .ok (.getfield 146, 3) := dk_180 0 146 (dk_at dksX1_restore_0 11 rfl rfl)
theorem dX1_restore_14 : decode cX1_restore 14 = .ok (.iconst 1, 1) := dk_4 (dk_at dksX1_restore_0 14 rfl rfl)
theorem dX1_restore_15 : decode cX1_restore 15 = .ok (.isub, 1) := dk_100 (dk_at dksX1_restore_0 15 rfl rfl)
theorem dX1_restore_16 : decode cX1_restore 16 = .ok (.putfield 146, 3) := dk_181 0 146 (dk_at dksX1_restore_0 16 rfl rfl)
theorem dX1_restore_19 : decode cX1_restore 19 = .ok (.aload_n 0, 1) := dk_42 (dk_at dksX1_restore_0 19 rfl rfl)
theorem dX1_restore_20 : decode cX1_restore 20 = .ok (.aload_n 0, 1) := dk_42 (dk_at dksX1_restore_0 20 rfl rfl)
theorem dX1_restore_21 : decode cX1_restore 21 = .ok (.getfield 29, 3) := dk_180 0 29 (dk_at dksX1_restore_0 21 rfl rfl)
theorem dX1_restore_24 : decode cX1_restore 24 = .ok (.aload_n 0, 1) := dk_42 (dk_at dksX1_restore_1 0 rfl rfl)
theorem dX1_restore_25 : decode cX1_restore 25 = .ok (.getfield 146, 3) := dk_180 0 146 (dk_at dksX1_restore_1 1 rfl rfl)
theorem dX1_restore_28 : decode cX1_restore 28 = .ok (.iaload, 1) := dk_46 (dk_at dksX1_restore_1 4 rfl rfl)
theorem dX1_restore_29 : decode cX1_restore 29 = .ok (.putfield 143, 3) := dk_181 0 143 (dk_at dksX1_restore_1 5 rfl rfl)
theorem dX1_restore_32 : decode cX1_restore 32 = .ok (.iconst 0, 1) := dk_3 (dk_at dksX1_restore_1 8 rfl rfl)
theorem dX1_restore_33 : decode cX1_restore 33 = .ok (.istore_n 1, 1) := dk_60 (dk_at dksX1_restore_1 9 rfl rfl)
theorem dX1_restore_34 : decode cX1_restore 34 = .ok (.iload_n 1, 1) := dk_27 (dk_at dksX1_restore_1 10 rfl rfl)
theorem dX1_restore_35 : decode cX1_restore 35 = .ok (.aload_n 0, 1) := dk_42 (dk_at dksX1_restore_1 11 rfl rfl)
theorem dX1_restore_36 : decode cX1_restore 36 = .ok (.getfield 143, 3) := dk_180 0 143 (dk_at dksX1_restore_1 12 rfl rfl)
theorem dX1_restore_39 : decode cX1_restore 39 = .ok (.if_icmp .ge 30, 3) := dk_162 0 30 (dk_at dksX1_restore_1 15 rfl rfl)
theorem dX1_restore_42 : decode cX1_restore 42 = .ok (.aload_n 0, 1) := dk_42 (dk_at dksX1_restore_1 18 rfl rfl)
theorem dX1_restore_43 : decode cX1_restore 43 = .ok (.getfield 20, 3) := dk_180 0 20 (dk_at dksX1_restore_1 19 rfl rfl)
theorem dX1_restore_46 : decode cX1_restore 46 = .ok (.iload_n 1, 1) := dk_27 (dk_at dksX1_restore_1 22 rfl rfl)
theorem dX1_restore_47 : decode cX1_restore 47 = .ok (.aaload, 1) := dk_50 (dk_at dksX1_restore_1 23 rfl rfl)
theorem dX1_restore_48 : decode cX1_restore 48 = .ok (.aload_n 0, 1) := dk_42 (dk_at dksX1_restore_2 0 rfl rfl)
theorem dX1_restore_49 : decode cX1_restore 49 = .ok (.getfield 26, 3) := dk_180 0 26 (dk_at dksX1_restore_2 1 rfl rfl)
theorem dX1_restore_52 : decode cX1_restore 52 = .ok (.aload_n 0, 1) := dk_42 (dk_at dksX1_restore_2 4 rfl rfl)
theorem dX1_restore_53 : decode cX1_restore 53 = .ok (.getfield 146, 3) := dk_180 0 146 (dk_at dksX1_restore_2 5 rfl rfl)
theorem dX1_restore_56 : decode cX1_restore 56 = .ok (.aaload, 1) := dk_50 (dk_at dksX1_restore_2 8 rfl rfl)
theorem dX1_restore_57 : decode cX1_restore 57 = .ok (.iload_n 1, 1) := dk_27 (dk_at dksX1_restore_2 9 rfl rfl)
theorem dX1_restore_58 : decode cX1_restore 58 = .ok (.aaload, 1) := dk_50 (dk_at dksX1_restore_2 10 rfl rfl)
theorem dX1_restore_59 : decode cX1_restore 59 = .ok (.invokevirtual 135, 3) := dk_182 0 135 (dk_at dksX1_restore_2 11 rfl rfl)
theorem dX1_restore_62 : decode cX1_restore 62 = .ok (.pop, 1) := dk_87 (dk_at dksX1_restore_2 14 rfl rfl)
theorem dX1_restore_63 : decode cX1_restore 63 = .ok (.iinc 1 1, 3) := dk_132 1 1 (dk_at dksX1_restore_2 15 rfl rfl)
theorem dX1_restore_66 : decode cX1_restore 66 = .ok (.goto (-32), 3) := dk_167 255 224 (dk_at dksX1_restore_2 18 rfl rfl)
theorem dX1_restore_69 : decode cX1_restore 69 = .ok (.aload_n 0, 1) := dk_42 (dk_at dksX1_restore_2 21 rfl rfl)
theorem dX1_restore_70 : decode cX1_restore 70 = .ok (.getfield 16, 3) := dk_180 0 16 (dk_at dksX1_restore_3 0 rfl rfl)
theorem dX1_restore_73 : decode cX1_restore 73 = .ok (.aload_n 0, 1) := dk_42 (dk_at dksX1_restore_3 3 rfl rfl)
theorem dX1_restore_74 : decode cX1_restore 74 = .ok (.getfield 26, 3) := dk_180 0 26 (dk_at dksX1_restore_3 4 rfl rfl)
theorem dX1_restore_77 : decode cX1_restore 77 = .ok (.aload_n 0, 1) := dk_42 (dk_at dksX1_restore_3 7 rfl rfl)
theorem dX1_restore_78 : decode cX1_restore 78 = .ok (.getfield 146, 3) := dk_180 0 146 (dk_at dksX1_restore_3 8 rfl rfl)
theorem dX1_restore_81 : decode cX1_restore 81 = .ok (.aaload, 1) := dk_50 (dk_at dksX1_restore_3 11 rfl rfl)
theorem dX1_restore_82 : decode cX1_restore 82 = .ok (.bipush 20, 2) := dk_16 20 (dk_at dksX1_restore_3 12 rfl rfl)
theorem dX1_restore_84 : decode cX1_restore 84 = .ok (.aaload, 1) := dk_50 (dk_at dksX1_restore_3 14 rfl rfl)
theorem dX1_restore_85 : decode cX1_restore 85 = .ok (.invokevirtual 135, 3) := dk_182 0 135 (dk_at dksX1_restore_3 15 rfl rfl)
theorem dX1_restore_88 : decode cX1_restore 88 = .ok (.pop, 1) := dk_87 (dk_at dksX1_restore_3 18 rfl rfl)
theorem dX1_restore_89 : decode cX1_restore 89 = .ok (.aload_n 0, 1) := dk_42 (dk_at dksX1_restore_3 19 rfl rfl)
theorem dX1_restore_90 : decode cX1_restore 90 = .ok (.getfield 146, 3) := dk_180 0 146 (dk_at dksX1_restore_3 20 rfl rfl)
theorem dX1_restore_93 : decode cX1_restore 93 = .ok (.ireturn, 1) := dk_172 (dk_at dksX1_restore_3 23 rfl rfl)
abbrev cX1_status : ByteArray := prog_1_method_61_code
def yX1_status : MethodName := ⟨RX1, "status", "(I)I"⟩
def dkwX1_status_0 : List UInt8 := [27, 155, 0, 8, 27, 4, 164, 0, 7, 2, 167, 0, 9, 42, 180, 0, 33, 27, 46, 172]
abbrev dktX1_status_0 : List UInt8 := dkwX1_status_0 ++ []
theorem dksX1_status_0 : cX1_status.data.toList.drop 0 = dktX1_status_0 := by decide +kernel
theorem dX1_status_0 : decode cX1_status 0 = .ok (.iload_n 1, 1) := dk_27 (dk_at dksX1_status_0 0 rfl rfl)
theorem dX1_status_1 : decode cX1_status 1 = .ok (.ifCond .lt 8, 3) := dk_155 0 8 (dk_at dksX1_status_0 1 rfl rfl)
theorem dX1_status_4 : decode cX1_status 4 = .ok (.iload_n 1, 1) := dk_27 (dk_at dksX1_status_0 4 rfl rfl)
theorem dX1_status_5 : decode cX1_status 5 = .ok (.iconst 1, 1) := dk_4 (dk_at dksX1_status_0 5 rfl rfl)
theorem dX1_status_6 : decode cX1_status 6 = .ok (.if_icmp .le 7, 3) := dk_164 0 7 (dk_at dksX1_status_0 6 rfl rfl)
theorem dX1_status_9 : decode cX1_status 9 = .ok (.iconst (-1), 1) := dk_2 (dk_at dksX1_status_0 9 rfl rfl)
theorem dX1_status_10 : decode cX1_status 10 = .ok (.goto 9, 3) := dk_167 0 9 (dk_at dksX1_status_0 10 rfl rfl)
theorem dX1_status_13 : decode cX1_status 13 = .ok (.aload_n 0, 1) := dk_42 (dk_at dksX1_status_0 13 rfl rfl)
theorem dX1_status_14 : decode cX1_status 14 = .ok (.getfield 33, 3) := dk_180 0 33 (dk_at dksX1_status_0 14 rfl rfl)
theorem dX1_status_17 : decode cX1_status 17 = .ok (.iload_n 1, 1) := dk_27 (dk_at dksX1_status_0 17 rfl rfl)
theorem dX1_status_18 : decode cX1_status 18 = .ok (.iaload, 1) := dk_46 (dk_at dksX1_status_0 18 rfl rfl)
theorem dX1_status_19 : decode cX1_status 19 = .ok (.ireturn, 1) := dk_172 (dk_at dksX1_status_0 19 rfl rfl)
abbrev cX1_count : ByteArray := prog_1_method_62_code
def yX1_count : MethodName := ⟨RX1, "count", "(I)I"⟩
def dkwX1_count_1 : List UInt8 := [5, 160, 0, 10, 42, 180, 0, 143, 167, 0, 4, 2, 172]
abbrev dktX1_count_1 : List UInt8 := dkwX1_count_1 ++ []
def dkwX1_count_0 : List UInt8 := [27, 154, 0, 10, 42, 180, 0, 146, 167, 0, 28, 27, 4, 160, 0, 10, 42, 180, 0, 97, 167, 0, 16, 27]
abbrev dktX1_count_0 : List UInt8 := dkwX1_count_0 ++ dktX1_count_1
theorem dksX1_count_0 : cX1_count.data.toList.drop 0 = dktX1_count_0 := by decide +kernel
theorem dksX1_count_1 : cX1_count.data.toList.drop 24 = dktX1_count_1 := dk_seg dksX1_count_0 24 rfl rfl
theorem dX1_count_0 : decode cX1_count 0 = .ok (.iload_n 1, 1) := dk_27 (dk_at dksX1_count_0 0 rfl rfl)
theorem dX1_count_1 : decode cX1_count 1 = .ok (.ifCond .ne 10, 3) := dk_154 0 10 (dk_at dksX1_count_0 1 rfl rfl)
theorem dX1_count_4 : decode cX1_count 4 = .ok (.aload_n 0, 1) := dk_42 (dk_at dksX1_count_0 4 rfl rfl)
theorem dX1_count_5 : decode cX1_count 5 = .ok (.getfield 146, 3) := dk_180 0 146 (dk_at dksX1_count_0 5 rfl rfl)
theorem dX1_count_8 : decode cX1_count 8 = .ok (.goto 28, 3) := dk_167 0 28 (dk_at dksX1_count_0 8 rfl rfl)
theorem dX1_count_11 : decode cX1_count 11 = .ok (.iload_n 1, 1) := dk_27 (dk_at dksX1_count_0 11 rfl rfl)
theorem dX1_count_12 : decode cX1_count 12 = .ok (.iconst 1, 1) := dk_4 (dk_at dksX1_count_0 12 rfl rfl)
theorem dX1_count_13 : decode cX1_count 13 = .ok (.if_icmp .ne 10, 3) := dk_160 0 10 (dk_at dksX1_count_0 13 rfl rfl)
theorem dX1_count_16 : decode cX1_count 16 = .ok (.aload_n 0, 1) := dk_42 (dk_at dksX1_count_0 16 rfl rfl)
theorem dX1_count_17 : decode cX1_count 17 = .ok (.getfield 97, 3) := dk_180 0 97 (dk_at dksX1_count_0 17 rfl rfl)
theorem dX1_count_20 : decode cX1_count 20 = .ok (.goto 16, 3) := dk_167 0 16 (dk_at dksX1_count_0 20 rfl rfl)
theorem dX1_count_23 : decode cX1_count 23 = .ok (.iload_n 1, 1) := dk_27 (dk_at dksX1_count_0 23 rfl rfl)
theorem dX1_count_24 : decode cX1_count 24 = .ok (.iconst 2, 1) := dk_5 (dk_at dksX1_count_1 0 rfl rfl)
theorem dX1_count_25 : decode cX1_count 25 = .ok (.if_icmp .ne 10, 3) := dk_160 0 10 (dk_at dksX1_count_1 1 rfl rfl)
theorem dX1_count_28 : decode cX1_count 28 = .ok (.aload_n 0, 1) := dk_42 (dk_at dksX1_count_1 4 rfl rfl)
theorem dX1_count_29 : decode cX1_count 29 = .ok (.getfield 143, 3) := dk_180 0 143 (dk_at dksX1_count_1 5 rfl rfl)
theorem dX1_count_32 : decode cX1_count 32 = .ok (.goto 4, 3) := dk_167 0 4 (dk_at dksX1_count_1 8 rfl rfl)
theorem dX1_count_35 : decode cX1_count 35 = .ok (.iconst (-1), 1) := dk_2 (dk_at dksX1_count_1 11 rfl rfl)
theorem dX1_count_36 : decode cX1_count 36 = .ok (.ireturn, 1) := dk_172 (dk_at dksX1_count_1 12 rfl rfl)
abbrev cX1_office : ByteArray := prog_1_method_9_code
def yX1_office : MethodName := ⟨RX1, "office", "(I)I"⟩
def dkwX1_office_4 : List UInt8 := [42, 3, 181, 0, 143, 42, 3, 181, 0, 146, 42, 180, 0, 16, 180, 0, 91, 172]
abbrev dktX1_office_4 : List UInt8 := dkwX1_office_4 ++ []
def dkwX1_office_3 : List UInt8 := [1, 83, 132, 3, 1, 167, 255, 240, 42, 1, 181, 0, 139, 42, 187, 0, 70, 89, 183, 0, 72, 181, 0, 73]
abbrev dktX1_office_3 : List UInt8 := dkwX1_office_3 ++ dktX1_office_4
def dkwX1_office_2 : List UInt8 := [180, 0, 16, 44, 180, 0, 134, 182, 0, 135, 87, 3, 62, 29, 16, 6, 162, 0, 16, 42, 180, 0, 38, 29]
abbrev dktX1_office_2 : List UInt8 := dkwX1_office_2 ++ dktX1_office_3
def dkwX1_office_1 : List UInt8 := [182, 0, 126, 167, 0, 10, 78, 42, 45, 182, 0, 129, 172, 42, 44, 180, 0, 133, 181, 0, 66, 42]
abbrev dktX1_office_1 : List UInt8 := dkwX1_office_1 ++ dktX1_office_2
def dkwX1_office_0 : List UInt8 := [42, 27, 3, 42, 180, 0, 97, 182, 0, 113, 187, 0, 117, 89, 42, 27, 182, 0, 119, 183, 0, 123, 77, 44]
abbrev dktX1_office_0 : List UInt8 := dkwX1_office_0 ++ dktX1_office_1
theorem dksX1_office_0 : cX1_office.data.toList.drop 0 = dktX1_office_0 := by decide +kernel
theorem dksX1_office_1 : cX1_office.data.toList.drop 24 = dktX1_office_1 := dk_seg dksX1_office_0 24 rfl rfl
theorem dksX1_office_2 : cX1_office.data.toList.drop 46 = dktX1_office_2 := dk_seg dksX1_office_1 22 rfl rfl
theorem dksX1_office_3 : cX1_office.data.toList.drop 70 = dktX1_office_3 := dk_seg dksX1_office_2 24 rfl rfl
theorem dksX1_office_4 : cX1_office.data.toList.drop 94 = dktX1_office_4 := dk_seg dksX1_office_3 24 rfl rfl
theorem dX1_office_0 : decode cX1_office 0 = .ok (.aload_n 0, 1) := dk_42 (dk_at dksX1_office_0 0 rfl rfl)
theorem dX1_office_1 : decode cX1_office 1 = .ok (.iload_n 1, 1) := dk_27 (dk_at dksX1_office_0 1 rfl rfl)
theorem dX1_office_2 : decode cX1_office 2 = .ok (.iconst 0, 1) := dk_3 (dk_at dksX1_office_0 2 rfl rfl)
theorem dX1_office_3 : decode cX1_office 3 = .ok (.aload_n 0, 1) := dk_42 (dk_at dksX1_office_0 3 rfl rfl)
theorem dX1_office_4 : decode cX1_office 4 = .ok (.getfield 97, 3) := dk_180 0 97 (dk_at dksX1_office_0 4 rfl rfl)
theorem dX1_office_7 : decode cX1_office 7 = .ok (.invokevirtual 113, 3) := dk_182 0 113 (dk_at dksX1_office_0 7 rfl rfl)
theorem dX1_office_10 : decode cX1_office 10 = .ok (.new 117, 3) := dk_187 0 117 (dk_at dksX1_office_0 10 rfl rfl)
theorem dX1_office_13 : decode cX1_office 13 = .ok (.dup, 1) := dk_89 (dk_at dksX1_office_0 13 rfl rfl)
theorem dX1_office_14 : decode cX1_office 14 = .ok (.aload_n 0, 1) := dk_42 (dk_at dksX1_office_0 14 rfl rfl)
theorem dX1_office_15 : decode cX1_office 15 = .ok (.iload_n 1, 1) := dk_27 (dk_at dksX1_office_0 15 rfl rfl)
theorem dX1_office_16 : decode cX1_office 16 = .ok (.invokevirtual 119, 3) := dk_182 0 119 (dk_at dksX1_office_0 16 rfl rfl)
theorem dX1_office_19 : decode cX1_office 19 = .ok (.invokespecial 123, 3) := dk_183 0 123 (dk_at dksX1_office_0 19 rfl rfl)
theorem dX1_office_22 : decode cX1_office 22 = .ok (.astore_n 2, 1) := dk_77 (dk_at dksX1_office_0 22 rfl rfl)
theorem dX1_office_23 : decode cX1_office 23 = .ok (.aload_n 2, 1) := dk_44 (dk_at dksX1_office_0 23 rfl rfl)
theorem dX1_office_24 : decode cX1_office 24 = .ok (.invokevirtual 126, 3) := dk_182 0 126 (dk_at dksX1_office_1 0 rfl rfl)
theorem dX1_office_27 : decode cX1_office 27 = .ok (.goto 10, 3) := dk_167 0 10 (dk_at dksX1_office_1 3 rfl rfl)
theorem dX1_office_30 : decode cX1_office 30 = .ok (.astore_n 3, 1) := dk_78 (dk_at dksX1_office_1 6 rfl rfl)
theorem dX1_office_31 : decode cX1_office 31 = .ok (.aload_n 0, 1) := dk_42 (dk_at dksX1_office_1 7 rfl rfl)
theorem dX1_office_32 : decode cX1_office 32 = .ok (.aload_n 3, 1) := dk_45 (dk_at dksX1_office_1 8 rfl rfl)
theorem dX1_office_33 : decode cX1_office 33 = .ok (.invokevirtual 129, 3) := dk_182 0 129 (dk_at dksX1_office_1 9 rfl rfl)
theorem dX1_office_36 : decode cX1_office 36 = .ok (.ireturn, 1) := dk_172 (dk_at dksX1_office_1 12 rfl rfl)
theorem dX1_office_37 : decode cX1_office 37 = .ok (.aload_n 0, 1) := dk_42 (dk_at dksX1_office_1 13 rfl rfl)
theorem dX1_office_38 : decode cX1_office 38 = .ok (.aload_n 2, 1) := dk_44 (dk_at dksX1_office_1 14 rfl rfl)
theorem dX1_office_39 : decode cX1_office 39 = .ok (.getfield 133, 3) := dk_180 0 133 (dk_at dksX1_office_1 15 rfl rfl)
theorem dX1_office_42 : decode cX1_office 42 = .ok (.putfield 66, 3) := dk_181 0 66 (dk_at dksX1_office_1 18 rfl rfl)
theorem dX1_office_45 : decode cX1_office 45 = .ok (.aload_n 0, 1) := dk_42 (dk_at dksX1_office_1 21 rfl rfl)
theorem dX1_office_46 : decode cX1_office 46 = .ok (.getfield 16, 3) := dk_180 0 16 (dk_at dksX1_office_2 0 rfl rfl)
theorem dX1_office_49 : decode cX1_office 49 = .ok (.aload_n 2, 1) := dk_44 (dk_at dksX1_office_2 3 rfl rfl)
theorem dX1_office_50 : decode cX1_office 50 = .ok (.getfield 134, 3) := dk_180 0 134 (dk_at dksX1_office_2 4 rfl rfl)
theorem dX1_office_53 : decode cX1_office 53 = .ok (.invokevirtual 135, 3) := dk_182 0 135 (dk_at dksX1_office_2 7 rfl rfl)
theorem dX1_office_56 : decode cX1_office 56 = .ok (.pop, 1) := dk_87 (dk_at dksX1_office_2 10 rfl rfl)
theorem dX1_office_57 : decode cX1_office 57 = .ok (.iconst 0, 1) := dk_3 (dk_at dksX1_office_2 11 rfl rfl)
theorem dX1_office_58 : decode cX1_office 58 = .ok (.istore_n 3, 1) := dk_62 (dk_at dksX1_office_2 12 rfl rfl)
theorem dX1_office_59 : decode cX1_office 59 = .ok (.iload_n 3, 1) := dk_29 (dk_at dksX1_office_2 13 rfl rfl)
theorem dX1_office_60 : decode cX1_office 60 = .ok (.bipush 6, 2) := dk_16 6 (dk_at dksX1_office_2 14 rfl rfl)
theorem dX1_office_62 : decode cX1_office 62 = .ok (.if_icmp .ge 16, 3) := dk_162 0 16 (dk_at dksX1_office_2 16 rfl rfl)
theorem dX1_office_65 : decode cX1_office 65 = .ok (.aload_n 0, 1) := dk_42 (dk_at dksX1_office_2 19 rfl rfl)
theorem dX1_office_66 : decode cX1_office 66 = .ok (.getfield 38, 3) := dk_180 0 38 (dk_at dksX1_office_2 20 rfl rfl)
theorem dX1_office_69 : decode cX1_office 69 = .ok (.iload_n 3, 1) := dk_29 (dk_at dksX1_office_2 23 rfl rfl)
theorem dX1_office_70 : decode cX1_office 70 = .ok (.aconst_null, 1) := dk_1 (dk_at dksX1_office_3 0 rfl rfl)
theorem dX1_office_71 : decode cX1_office 71 = .ok (.aastore, 1) := dk_83 (dk_at dksX1_office_3 1 rfl rfl)
theorem dX1_office_72 : decode cX1_office 72 = .ok (.iinc 3 1, 3) := dk_132 3 1 (dk_at dksX1_office_3 2 rfl rfl)
theorem dX1_office_75 : decode cX1_office 75 = .ok (.goto (-16), 3) := dk_167 255 240 (dk_at dksX1_office_3 5 rfl rfl)
theorem dX1_office_78 : decode cX1_office 78 = .ok (.aload_n 0, 1) := dk_42 (dk_at dksX1_office_3 8 rfl rfl)
theorem dX1_office_79 : decode cX1_office 79 = .ok (.aconst_null, 1) := dk_1 (dk_at dksX1_office_3 9 rfl rfl)
theorem dX1_office_80 : decode cX1_office 80 = .ok (.putfield 139, 3) := dk_181 0 139 (dk_at dksX1_office_3 10 rfl rfl)
theorem dX1_office_83 : decode cX1_office 83 = .ok (.aload_n 0, 1) := dk_42 (dk_at dksX1_office_3 13 rfl rfl)
theorem dX1_office_84 : decode cX1_office 84 = .ok (.new 70, 3) := dk_187 0 70 (dk_at dksX1_office_3 14 rfl rfl)
theorem dX1_office_87 : decode cX1_office 87 = .ok (.dup, 1) := dk_89 (dk_at dksX1_office_3 17 rfl rfl)
theorem dX1_office_88 : decode cX1_office 88 = .ok (.invokespecial 72, 3) := dk_183 0 72 (dk_at dksX1_office_3 18 rfl rfl)
theorem dX1_office_91 : decode cX1_office 91 = .ok (.putfield 73, 3) := dk_181 0 73 (dk_at dksX1_office_3 21 rfl rfl)
theorem dX1_office_94 : decode cX1_office 94 = .ok (.aload_n 0, 1) := dk_42 (dk_at dksX1_office_4 0 rfl rfl)
theorem dX1_office_95 : decode cX1_office 95 = .ok (.iconst 0, 1) := dk_3 (dk_at dksX1_office_4 1 rfl rfl)
theorem dX1_office_96 : decode cX1_office 96 = .ok (.putfield 143, 3) := dk_181 0 143 (dk_at dksX1_office_4 2 rfl rfl)
theorem dX1_office_99 : decode cX1_office 99 = .ok (.aload_n 0, 1) := dk_42 (dk_at dksX1_office_4 5 rfl rfl)
theorem dX1_office_100 : decode cX1_office 100 = .ok (.iconst 0, 1) := dk_3 (dk_at dksX1_office_4 6 rfl rfl)
theorem dX1_office_101 : decode cX1_office 101 = .ok (.putfield 146, 3) := dk_181 0 146 (dk_at dksX1_office_4 7 rfl rfl)
theorem dX1_office_104 : decode cX1_office 104 = .ok (.aload_n 0, 1) := dk_42 (dk_at dksX1_office_4 10 rfl rfl)
theorem dX1_office_105 : decode cX1_office 105 = .ok (.getfield 16, 3) := dk_180 0 16 (dk_at dksX1_office_4 11 rfl rfl)
theorem dX1_office_108 : decode cX1_office 108 = .ok (.getfield 91, 3) := dk_180 0 91 (dk_at dksX1_office_4 14 rfl rfl)
theorem dX1_office_111 : decode cX1_office 111 = .ok (.ireturn, 1) := dk_172 (dk_at dksX1_office_4 17 rfl rfl)
abbrev cX1_within : ByteArray := prog_1_method_5_code
def yX1_within : MethodName := ⟨RX1, "within", "(III)V"⟩
def dkwX1_within_1 : List UInt8 := [89, 183, 0, 96, 191]
abbrev dktX1_within_1 : List UInt8 := dkwX1_within_1 ++ []
def dkwX1_within_0 : List UInt8 := [27, 28, 161, 0, 9, 27, 29, 163, 0, 4, 177, 42, 180, 0, 33, 4, 92, 46, 4, 96, 79, 187, 0, 94]
abbrev dktX1_within_0 : List UInt8 := dkwX1_within_0 ++ dktX1_within_1
theorem dksX1_within_0 : cX1_within.data.toList.drop 0 = dktX1_within_0 := by decide +kernel
theorem dksX1_within_1 : cX1_within.data.toList.drop 24 = dktX1_within_1 := dk_seg dksX1_within_0 24 rfl rfl
theorem dX1_within_0 : decode cX1_within 0 = .ok (.iload_n 1, 1) := dk_27 (dk_at dksX1_within_0 0 rfl rfl)
theorem dX1_within_1 : decode cX1_within 1 = .ok (.iload_n 2, 1) := dk_28 (dk_at dksX1_within_0 1 rfl rfl)
theorem dX1_within_2 : decode cX1_within 2 = .ok (.if_icmp .lt 9, 3) := dk_161 0 9 (dk_at dksX1_within_0 2 rfl rfl)
theorem dX1_within_5 : decode cX1_within 5 = .ok (.iload_n 1, 1) := dk_27 (dk_at dksX1_within_0 5 rfl rfl)
theorem dX1_within_6 : decode cX1_within 6 = .ok (.iload_n 3, 1) := dk_29 (dk_at dksX1_within_0 6 rfl rfl)
theorem dX1_within_7 : decode cX1_within 7 = .ok (.if_icmp .gt 4, 3) := dk_163 0 4 (dk_at dksX1_within_0 7 rfl rfl)
theorem dX1_within_10 : decode cX1_within 10 = .ok (.return_, 1) := dk_177 (dk_at dksX1_within_0 10 rfl rfl)
theorem dX1_within_11 : decode cX1_within 11 = .ok (.aload_n 0, 1) := dk_42 (dk_at dksX1_within_0 11 rfl rfl)
theorem dX1_within_12 : decode cX1_within 12 = .ok (.getfield 33, 3) := dk_180 0 33 (dk_at dksX1_within_0 12 rfl rfl)
theorem dX1_within_15 : decode cX1_within 15 = .ok (.iconst 1, 1) := dk_4 (dk_at dksX1_within_0 15 rfl rfl)
theorem dX1_within_16 : decode cX1_within 16 = .ok (.dup2, 1) := dk_92 (dk_at dksX1_within_0 16 rfl rfl)
theorem dX1_within_17 : decode cX1_within 17 = .ok (.iaload, 1) := dk_46 (dk_at dksX1_within_0 17 rfl rfl)
theorem dX1_within_18 : decode cX1_within 18 = .ok (.iconst 1, 1) := dk_4 (dk_at dksX1_within_0 18 rfl rfl)
theorem dX1_within_19 : decode cX1_within 19 = .ok (.iadd, 1) := dk_96 (dk_at dksX1_within_0 19 rfl rfl)
theorem dX1_within_20 : decode cX1_within 20 = .ok (.iastore, 1) := dk_79 (dk_at dksX1_within_0 20 rfl rfl)
theorem dX1_within_21 : decode cX1_within 21 = .ok (.new 94, 3) := dk_187 0 94 (dk_at dksX1_within_0 21 rfl rfl)
theorem dX1_within_24 : decode cX1_within 24 = .ok (.dup, 1) := dk_89 (dk_at dksX1_within_1 0 rfl rfl)
theorem dX1_within_25 : decode cX1_within 25 = .ok (.invokespecial 96, 3) := dk_183 0 96 (dk_at dksX1_within_1 1 rfl rfl)
theorem dX1_within_28 : decode cX1_within 28 = .ok (.athrow, 1) := dk_191 (dk_at dksX1_within_1 4 rfl rfl)
abbrev cX1_reader : ByteArray := prog_1_method_7_code
def yX1_reader : MethodName := ⟨RX1, "reader", "(I)LCardCups$Reader;"⟩
def dkwX1_reader_0 : List UInt8 := [42, 3, 181, 0, 97, 42, 2, 181, 0, 77, 187, 0, 100, 89, 42, 180, 0, 9, 27, 183, 0, 102, 176]
abbrev dktX1_reader_0 : List UInt8 := dkwX1_reader_0 ++ []
theorem dksX1_reader_0 : cX1_reader.data.toList.drop 0 = dktX1_reader_0 := by decide +kernel
theorem dX1_reader_0 : decode cX1_reader 0 = .ok (.aload_n 0, 1) := dk_42 (dk_at dksX1_reader_0 0 rfl rfl)
theorem dX1_reader_1 : decode cX1_reader 1 = .ok (.iconst 0, 1) := dk_3 (dk_at dksX1_reader_0 1 rfl rfl)
theorem dX1_reader_2 : decode cX1_reader 2 = .ok (.putfield 97, 3) := dk_181 0 97 (dk_at dksX1_reader_0 2 rfl rfl)
theorem dX1_reader_5 : decode cX1_reader 5 = .ok (.aload_n 0, 1) := dk_42 (dk_at dksX1_reader_0 5 rfl rfl)
theorem dX1_reader_6 : decode cX1_reader 6 = .ok (.iconst (-1), 1) := dk_2 (dk_at dksX1_reader_0 6 rfl rfl)
theorem dX1_reader_7 : decode cX1_reader 7 = .ok (.putfield 77, 3) := dk_181 0 77 (dk_at dksX1_reader_0 7 rfl rfl)
theorem dX1_reader_10 : decode cX1_reader 10 = .ok (.new 100, 3) := dk_187 0 100 (dk_at dksX1_reader_0 10 rfl rfl)
theorem dX1_reader_13 : decode cX1_reader 13 = .ok (.dup, 1) := dk_89 (dk_at dksX1_reader_0 13 rfl rfl)
theorem dX1_reader_14 : decode cX1_reader 14 = .ok (.aload_n 0, 1) := dk_42 (dk_at dksX1_reader_0 14 rfl rfl)
theorem dX1_reader_15 : decode cX1_reader 15 = .ok (.getfield 9, 3) := dk_180 0 9 (dk_at dksX1_reader_0 15 rfl rfl)
theorem dX1_reader_18 : decode cX1_reader 18 = .ok (.iload_n 1, 1) := dk_27 (dk_at dksX1_reader_0 18 rfl rfl)
theorem dX1_reader_19 : decode cX1_reader 19 = .ok (.invokespecial 102, 3) := dk_183 0 102 (dk_at dksX1_reader_0 19 rfl rfl)
theorem dX1_reader_22 : decode cX1_reader 22 = .ok (.areturn, 1) := dk_176 (dk_at dksX1_reader_0 22 rfl rfl)
abbrev cX1_faulty : ByteArray := prog_1_method_8_code
def yX1_faulty : MethodName := ⟨RX1, "faulty", "(LCardCups$Wrong;)I"⟩
def dkwX1_faulty_0 : List UInt8 := [42, 43, 180, 0, 105, 181, 0, 77, 43, 180, 0, 110, 16, 10, 100, 172]
abbrev dktX1_faulty_0 : List UInt8 := dkwX1_faulty_0 ++ []
theorem dksX1_faulty_0 : cX1_faulty.data.toList.drop 0 = dktX1_faulty_0 := by decide +kernel
theorem dX1_faulty_0 : decode cX1_faulty 0 = .ok (.aload_n 0, 1) := dk_42 (dk_at dksX1_faulty_0 0 rfl rfl)
theorem dX1_faulty_1 : decode cX1_faulty 1 = .ok (.aload_n 1, 1) := dk_43 (dk_at dksX1_faulty_0 1 rfl rfl)
theorem dX1_faulty_2 : decode cX1_faulty 2 = .ok (.getfield 105, 3) := dk_180 0 105 (dk_at dksX1_faulty_0 2 rfl rfl)
theorem dX1_faulty_5 : decode cX1_faulty 5 = .ok (.putfield 77, 3) := dk_181 0 77 (dk_at dksX1_faulty_0 5 rfl rfl)
theorem dX1_faulty_8 : decode cX1_faulty 8 = .ok (.aload_n 1, 1) := dk_43 (dk_at dksX1_faulty_0 8 rfl rfl)
theorem dX1_faulty_9 : decode cX1_faulty 9 = .ok (.getfield 110, 3) := dk_180 0 110 (dk_at dksX1_faulty_0 9 rfl rfl)
theorem dX1_faulty_12 : decode cX1_faulty 12 = .ok (.bipush 10, 2) := dk_16 10 (dk_at dksX1_faulty_0 12 rfl rfl)
theorem dX1_faulty_14 : decode cX1_faulty 14 = .ok (.isub, 1) := dk_100 (dk_at dksX1_faulty_0 14 rfl rfl)
theorem dX1_faulty_15 : decode cX1_faulty 15 = .ok (.ireturn, 1) := dk_172 (dk_at dksX1_faulty_0 15 rfl rfl)
abbrev cX1_habit : ByteArray := prog_1_method_10_code
def yX1_habit : MethodName := ⟨RX1, "habit", "(II)I"⟩
def dkwX1_habit_2 : List UInt8 := [42, 45, 182, 0, 129, 172, 42, 180, 0, 38, 27, 50, 180, 0, 165, 172]
abbrev dktX1_habit_2 : List UInt8 := dkwX1_habit_2 ++ []
def dkwX1_habit_1 : List UInt8 := [180, 0, 38, 27, 187, 0, 159, 89, 42, 28, 182, 0, 119, 183, 0, 161, 182, 0, 162, 83, 167, 0, 10, 78]
abbrev dktX1_habit_1 : List UInt8 := dkwX1_habit_1 ++ dktX1_habit_2
def dkwX1_habit_0 : List UInt8 := [42, 27, 182, 0, 149, 42, 28, 3, 42, 180, 0, 97, 17, 0, 150, 184, 0, 153, 182, 0, 113, 42]
abbrev dktX1_habit_0 : List UInt8 := dkwX1_habit_0 ++ dktX1_habit_1
theorem dksX1_habit_0 : cX1_habit.data.toList.drop 0 = dktX1_habit_0 := by decide +kernel
theorem dksX1_habit_1 : cX1_habit.data.toList.drop 22 = dktX1_habit_1 := dk_seg dksX1_habit_0 22 rfl rfl
theorem dksX1_habit_2 : cX1_habit.data.toList.drop 46 = dktX1_habit_2 := dk_seg dksX1_habit_1 24 rfl rfl
theorem dX1_habit_0 : decode cX1_habit 0 = .ok (.aload_n 0, 1) := dk_42 (dk_at dksX1_habit_0 0 rfl rfl)
theorem dX1_habit_1 : decode cX1_habit 1 = .ok (.iload_n 1, 1) := dk_27 (dk_at dksX1_habit_0 1 rfl rfl)
theorem dX1_habit_2 : decode cX1_habit 2 = .ok (.invokevirtual 149, 3) := dk_182 0 149 (dk_at dksX1_habit_0 2 rfl rfl)
theorem dX1_habit_5 : decode cX1_habit 5 = .ok (.aload_n 0, 1) := dk_42 (dk_at dksX1_habit_0 5 rfl rfl)
theorem dX1_habit_6 : decode cX1_habit 6 = .ok (.iload_n 2, 1) := dk_28 (dk_at dksX1_habit_0 6 rfl rfl)
theorem dX1_habit_7 : decode cX1_habit 7 = .ok (.iconst 0, 1) := dk_3 (dk_at dksX1_habit_0 7 rfl rfl)
theorem dX1_habit_8 : decode cX1_habit 8 = .ok (.aload_n 0, 1) := dk_42 (dk_at dksX1_habit_0 8 rfl rfl)
theorem dX1_habit_9 : decode cX1_habit 9 = .ok (.getfield 97, 3) := dk_180 0 97 (dk_at dksX1_habit_0 9 rfl rfl)
theorem dX1_habit_12 : decode cX1_habit 12 = .ok (.sipush 150, 3) := dk_17 0 150 (dk_at dksX1_habit_0 12 rfl rfl)
theorem dX1_habit_15 : decode cX1_habit 15 = .ok (.invokestatic 153, 3) := dk_184 0 153 (dk_at dksX1_habit_0 15 rfl rfl)
theorem dX1_habit_18 : decode cX1_habit 18 = .ok (.invokevirtual 113, 3) := dk_182 0 113 (dk_at dksX1_habit_0 18 rfl rfl)
theorem dX1_habit_21 : decode cX1_habit 21 = .ok (.aload_n 0, 1) := dk_42 (dk_at dksX1_habit_0 21 rfl rfl)
theorem dX1_habit_22 : decode cX1_habit 22 = .ok (.getfield 38, 3) := dk_180 0 38 (dk_at dksX1_habit_1 0 rfl rfl)
theorem dX1_habit_25 : decode cX1_habit 25 = .ok (.iload_n 1, 1) := dk_27 (dk_at dksX1_habit_1 3 rfl rfl)
theorem dX1_habit_26 : decode cX1_habit 26 = .ok (.new 159, 3) := dk_187 0 159 (dk_at dksX1_habit_1 4 rfl rfl)
theorem dX1_habit_29 : decode cX1_habit 29 = .ok (.dup, 1) := dk_89 (dk_at dksX1_habit_1 7 rfl rfl)
theorem dX1_habit_30 : decode cX1_habit 30 = .ok (.aload_n 0, 1) := dk_42 (dk_at dksX1_habit_1 8 rfl rfl)
theorem dX1_habit_31 : decode cX1_habit 31 = .ok (.iload_n 2, 1) := dk_28 (dk_at dksX1_habit_1 9 rfl rfl)
theorem dX1_habit_32 : decode cX1_habit 32 = .ok (.invokevirtual 119, 3) := dk_182 0 119 (dk_at dksX1_habit_1 10 rfl rfl)
theorem dX1_habit_35 : decode cX1_habit 35 = .ok (.invokespecial 161, 3) := dk_183 0 161 (dk_at dksX1_habit_1 13 rfl rfl)
theorem dX1_habit_38 : decode cX1_habit 38 = .ok (.invokevirtual 162, 3) := dk_182 0 162 (dk_at dksX1_habit_1 16 rfl rfl)
theorem dX1_habit_41 : decode cX1_habit 41 = .ok (.aastore, 1) := dk_83 (dk_at dksX1_habit_1 19 rfl rfl)
theorem dX1_habit_42 : decode cX1_habit 42 = .ok (.goto 10, 3) := dk_167 0 10 (dk_at dksX1_habit_1 20 rfl rfl)
theorem dX1_habit_45 : decode cX1_habit 45 = .ok (.astore_n 3, 1) := dk_78 (dk_at dksX1_habit_1 23 rfl rfl)
theorem dX1_habit_46 : decode cX1_habit 46 = .ok (.aload_n 0, 1) := dk_42 (dk_at dksX1_habit_2 0 rfl rfl)
theorem dX1_habit_47 : decode cX1_habit 47 = .ok (.aload_n 3, 1) := dk_45 (dk_at dksX1_habit_2 1 rfl rfl)
theorem dX1_habit_48 : decode cX1_habit 48 = .ok (.invokevirtual 129, 3) := dk_182 0 129 (dk_at dksX1_habit_2 2 rfl rfl)
theorem dX1_habit_51 : decode cX1_habit 51 = .ok (.ireturn, 1) := dk_172 (dk_at dksX1_habit_2 5 rfl rfl)
theorem dX1_habit_52 : decode cX1_habit 52 = .ok (.aload_n 0, 1) := dk_42 (dk_at dksX1_habit_2 6 rfl rfl)
theorem dX1_habit_53 : decode cX1_habit 53 = .ok (.getfield 38, 3) := dk_180 0 38 (dk_at dksX1_habit_2 7 rfl rfl)
theorem dX1_habit_56 : decode cX1_habit 56 = .ok (.iload_n 1, 1) := dk_27 (dk_at dksX1_habit_2 10 rfl rfl)
theorem dX1_habit_57 : decode cX1_habit 57 = .ok (.aaload, 1) := dk_50 (dk_at dksX1_habit_2 11 rfl rfl)
theorem dX1_habit_58 : decode cX1_habit 58 = .ok (.getfield 165, 3) := dk_180 0 165 (dk_at dksX1_habit_2 12 rfl rfl)
theorem dX1_habit_61 : decode cX1_habit 61 = .ok (.ireturn, 1) := dk_172 (dk_at dksX1_habit_2 15 rfl rfl)
abbrev cX1_personOf : ByteArray := prog_1_method_3_code
def yX1_personOf : MethodName := ⟨RX1, "personOf", "(I)V"⟩
def dkwX1_personOf_0 : List UInt8 := [42, 27, 42, 180, 0, 66, 180, 0, 84, 182, 0, 87, 177]
abbrev dktX1_personOf_0 : List UInt8 := dkwX1_personOf_0 ++ []
theorem dksX1_personOf_0 : cX1_personOf.data.toList.drop 0 = dktX1_personOf_0 := by decide +kernel
theorem dX1_personOf_0 : decode cX1_personOf 0 = .ok (.aload_n 0, 1) := dk_42 (dk_at dksX1_personOf_0 0 rfl rfl)
theorem dX1_personOf_1 : decode cX1_personOf 1 = .ok (.iload_n 1, 1) := dk_27 (dk_at dksX1_personOf_0 1 rfl rfl)
theorem dX1_personOf_2 : decode cX1_personOf 2 = .ok (.aload_n 0, 1) := dk_42 (dk_at dksX1_personOf_0 2 rfl rfl)
theorem dX1_personOf_3 : decode cX1_personOf 3 = .ok (.getfield 66, 3) := dk_180 0 66 (dk_at dksX1_personOf_0 3 rfl rfl)
theorem dX1_personOf_6 : decode cX1_personOf 6 = .ok (.getfield 84, 3) := dk_180 0 84 (dk_at dksX1_personOf_0 6 rfl rfl)
theorem dX1_personOf_9 : decode cX1_personOf 9 = .ok (.invokevirtual 87, 3) := dk_182 0 87 (dk_at dksX1_personOf_0 9 rfl rfl)
theorem dX1_personOf_12 : decode cX1_personOf 12 = .ok (.return_, 1) := dk_177 (dk_at dksX1_personOf_0 12 rfl rfl)
abbrev cX1_isThere : ByteArray := prog_1_method_2_code
def yX1_isThere : MethodName := ⟨RX1, "isThere", "(II)V"⟩
def dkwX1_isThere_1 : List UInt8 := [183, 0, 83, 191]
abbrev dktX1_isThere_1 : List UInt8 := dkwX1_isThere_1 ++ []
def dkwX1_isThere_0 : List UInt8 := [27, 155, 0, 9, 27, 28, 162, 0, 4, 177, 42, 180, 0, 33, 3, 92, 46, 4, 96, 79, 187, 0, 81, 89]
abbrev dktX1_isThere_0 : List UInt8 := dkwX1_isThere_0 ++ dktX1_isThere_1
theorem dksX1_isThere_0 : cX1_isThere.data.toList.drop 0 = dktX1_isThere_0 := by decide +kernel
theorem dksX1_isThere_1 : cX1_isThere.data.toList.drop 24 = dktX1_isThere_1 := dk_seg dksX1_isThere_0 24 rfl rfl
theorem dX1_isThere_0 : decode cX1_isThere 0 = .ok (.iload_n 1, 1) := dk_27 (dk_at dksX1_isThere_0 0 rfl rfl)
theorem dX1_isThere_1 : decode cX1_isThere 1 = .ok (.ifCond .lt 9, 3) := dk_155 0 9 (dk_at dksX1_isThere_0 1 rfl rfl)
theorem dX1_isThere_4 : decode cX1_isThere 4 = .ok (.iload_n 1, 1) := dk_27 (dk_at dksX1_isThere_0 4 rfl rfl)
theorem dX1_isThere_5 : decode cX1_isThere 5 = .ok (.iload_n 2, 1) := dk_28 (dk_at dksX1_isThere_0 5 rfl rfl)
theorem dX1_isThere_6 : decode cX1_isThere 6 = .ok (.if_icmp .ge 4, 3) := dk_162 0 4 (dk_at dksX1_isThere_0 6 rfl rfl)
theorem dX1_isThere_9 : decode cX1_isThere 9 = .ok (.return_, 1) := dk_177 (dk_at dksX1_isThere_0 9 rfl rfl)
theorem dX1_isThere_10 : decode cX1_isThere 10 = .ok (.aload_n 0, 1) := dk_42 (dk_at dksX1_isThere_0 10 rfl rfl)
theorem dX1_isThere_11 : decode cX1_isThere 11 = .ok (.getfield 33, 3) := dk_180 0 33 (dk_at dksX1_isThere_0 11 rfl rfl)
theorem dX1_isThere_14 : decode cX1_isThere 14 = .ok (.iconst 0, 1) := dk_3 (dk_at dksX1_isThere_0 14 rfl rfl)
theorem dX1_isThere_15 : decode cX1_isThere 15 = .ok (.dup2, 1) := dk_92 (dk_at dksX1_isThere_0 15 rfl rfl)
theorem dX1_isThere_16 : decode cX1_isThere 16 = .ok (.iaload, 1) := dk_46 (dk_at dksX1_isThere_0 16 rfl rfl)
theorem dX1_isThere_17 : decode cX1_isThere 17 = .ok (.iconst 1, 1) := dk_4 (dk_at dksX1_isThere_0 17 rfl rfl)
theorem dX1_isThere_18 : decode cX1_isThere 18 = .ok (.iadd, 1) := dk_96 (dk_at dksX1_isThere_0 18 rfl rfl)
theorem dX1_isThere_19 : decode cX1_isThere 19 = .ok (.iastore, 1) := dk_79 (dk_at dksX1_isThere_0 19 rfl rfl)
theorem dX1_isThere_20 : decode cX1_isThere 20 = .ok (.new 81, 3) := dk_187 0 81 (dk_at dksX1_isThere_0 20 rfl rfl)
theorem dX1_isThere_23 : decode cX1_isThere 23 = .ok (.dup, 1) := dk_89 (dk_at dksX1_isThere_0 23 rfl rfl)
theorem dX1_isThere_24 : decode cX1_isThere 24 = .ok (.invokespecial 83, 3) := dk_183 0 83 (dk_at dksX1_isThere_1 0 rfl rfl)
theorem dX1_isThere_27 : decode cX1_isThere 27 = .ok (.athrow, 1) := dk_191 (dk_at dksX1_isThere_1 3 rfl rfl)
abbrev cX1_rule : ByteArray := prog_1_method_11_code
def yX1_rule : MethodName := ⟨RX1, "rule", "(I)I"⟩
def dkwX1_rule_2 : List UInt8 := [180, 0, 139, 180, 0, 165, 172]
abbrev dktX1_rule_2 : List UInt8 := dkwX1_rule_2 ++ []
def dkwX1_rule_1 : List UInt8 := [182, 0, 119, 183, 0, 161, 182, 0, 162, 181, 0, 139, 167, 0, 10, 77, 42, 44, 182, 0, 129, 172, 42]
abbrev dktX1_rule_1 : List UInt8 := dkwX1_rule_1 ++ dktX1_rule_2
def dkwX1_rule_0 : List UInt8 := [42, 27, 3, 42, 180, 0, 97, 17, 0, 150, 184, 0, 153, 182, 0, 113, 42, 187, 0, 159, 89, 42, 27]
abbrev dktX1_rule_0 : List UInt8 := dkwX1_rule_0 ++ dktX1_rule_1
theorem dksX1_rule_0 : cX1_rule.data.toList.drop 0 = dktX1_rule_0 := by decide +kernel
theorem dksX1_rule_1 : cX1_rule.data.toList.drop 23 = dktX1_rule_1 := dk_seg dksX1_rule_0 23 rfl rfl
theorem dksX1_rule_2 : cX1_rule.data.toList.drop 46 = dktX1_rule_2 := dk_seg dksX1_rule_1 23 rfl rfl
theorem dX1_rule_0 : decode cX1_rule 0 = .ok (.aload_n 0, 1) := dk_42 (dk_at dksX1_rule_0 0 rfl rfl)
theorem dX1_rule_1 : decode cX1_rule 1 = .ok (.iload_n 1, 1) := dk_27 (dk_at dksX1_rule_0 1 rfl rfl)
theorem dX1_rule_2 : decode cX1_rule 2 = .ok (.iconst 0, 1) := dk_3 (dk_at dksX1_rule_0 2 rfl rfl)
theorem dX1_rule_3 : decode cX1_rule 3 = .ok (.aload_n 0, 1) := dk_42 (dk_at dksX1_rule_0 3 rfl rfl)
theorem dX1_rule_4 : decode cX1_rule 4 = .ok (.getfield 97, 3) := dk_180 0 97 (dk_at dksX1_rule_0 4 rfl rfl)
theorem dX1_rule_7 : decode cX1_rule 7 = .ok (.sipush 150, 3) := dk_17 0 150 (dk_at dksX1_rule_0 7 rfl rfl)
theorem dX1_rule_10 : decode cX1_rule 10 = .ok (.invokestatic 153, 3) := dk_184 0 153 (dk_at dksX1_rule_0 10 rfl rfl)
theorem dX1_rule_13 : decode cX1_rule 13 = .ok (.invokevirtual 113, 3) := dk_182 0 113 (dk_at dksX1_rule_0 13 rfl rfl)
theorem dX1_rule_16 : decode cX1_rule 16 = .ok (.aload_n 0, 1) := dk_42 (dk_at dksX1_rule_0 16 rfl rfl)
theorem dX1_rule_17 : decode cX1_rule 17 = .ok (.new 159, 3) := dk_187 0 159 (dk_at dksX1_rule_0 17 rfl rfl)
theorem dX1_rule_20 : decode cX1_rule 20 = .ok (.dup, 1) := dk_89 (dk_at dksX1_rule_0 20 rfl rfl)
theorem dX1_rule_21 : decode cX1_rule 21 = .ok (.aload_n 0, 1) := dk_42 (dk_at dksX1_rule_0 21 rfl rfl)
theorem dX1_rule_22 : decode cX1_rule 22 = .ok (.iload_n 1, 1) := dk_27 (dk_at dksX1_rule_0 22 rfl rfl)
theorem dX1_rule_23 : decode cX1_rule 23 = .ok (.invokevirtual 119, 3) := dk_182 0 119 (dk_at dksX1_rule_1 0 rfl rfl)
theorem dX1_rule_26 : decode cX1_rule 26 = .ok (.invokespecial 161, 3) := dk_183 0 161 (dk_at dksX1_rule_1 3 rfl rfl)
theorem dX1_rule_29 : decode cX1_rule 29 = .ok (.invokevirtual 162, 3) := dk_182 0 162 (dk_at dksX1_rule_1 6 rfl rfl)
theorem dX1_rule_32 : decode cX1_rule 32 = .ok (.putfield 139, 3) := dk_181 0 139 (dk_at dksX1_rule_1 9 rfl rfl)
theorem dX1_rule_35 : decode cX1_rule 35 = .ok (.goto 10, 3) := dk_167 0 10 (dk_at dksX1_rule_1 12 rfl rfl)
theorem dX1_rule_38 : decode cX1_rule 38 = .ok (.astore_n 2, 1) := dk_77 (dk_at dksX1_rule_1 15 rfl rfl)
theorem dX1_rule_39 : decode cX1_rule 39 = .ok (.aload_n 0, 1) := dk_42 (dk_at dksX1_rule_1 16 rfl rfl)
theorem dX1_rule_40 : decode cX1_rule 40 = .ok (.aload_n 2, 1) := dk_44 (dk_at dksX1_rule_1 17 rfl rfl)
theorem dX1_rule_41 : decode cX1_rule 41 = .ok (.invokevirtual 129, 3) := dk_182 0 129 (dk_at dksX1_rule_1 18 rfl rfl)
theorem dX1_rule_44 : decode cX1_rule 44 = .ok (.ireturn, 1) := dk_172 (dk_at dksX1_rule_1 21 rfl rfl)
theorem dX1_rule_45 : decode cX1_rule 45 = .ok (.aload_n 0, 1) := dk_42 (dk_at dksX1_rule_1 22 rfl rfl)
theorem dX1_rule_46 : decode cX1_rule 46 = .ok (.getfield 139, 3) := dk_180 0 139 (dk_at dksX1_rule_2 0 rfl rfl)
theorem dX1_rule_49 : decode cX1_rule 49 = .ok (.getfield 165, 3) := dk_180 0 165 (dk_at dksX1_rule_2 3 rfl rfl)
theorem dX1_rule_52 : decode cX1_rule 52 = .ok (.ireturn, 1) := dk_172 (dk_at dksX1_rule_2 6 rfl rfl)
abbrev cX1_book : ByteArray := prog_1_method_12_code
def yX1_book : MethodName := ⟨RX1, "book", "(I)I"⟩
def dkwX1_book_2 : List UInt8 := [167, 0, 10, 78, 42, 45, 182, 0, 129, 172, 42, 44, 181, 0, 73, 44, 180, 0, 174, 172]
abbrev dktX1_book_2 : List UInt8 := dkwX1_book_2 ++ []
def dkwX1_book_1 : List UInt8 := [42, 27, 182, 0, 119, 78, 45, 182, 0, 166, 2, 159, 0, 12, 42, 45, 44, 182, 0, 170, 167, 255, 242]
abbrev dktX1_book_1 : List UInt8 := dkwX1_book_1 ++ dktX1_book_2
def dkwX1_book_0 : List UInt8 := [42, 27, 3, 42, 180, 0, 97, 17, 0, 150, 184, 0, 153, 182, 0, 113, 187, 0, 70, 89, 183, 0, 72, 77]
abbrev dktX1_book_0 : List UInt8 := dkwX1_book_0 ++ dktX1_book_1
theorem dksX1_book_0 : cX1_book.data.toList.drop 0 = dktX1_book_0 := by decide +kernel
theorem dksX1_book_1 : cX1_book.data.toList.drop 24 = dktX1_book_1 := dk_seg dksX1_book_0 24 rfl rfl
theorem dksX1_book_2 : cX1_book.data.toList.drop 47 = dktX1_book_2 := dk_seg dksX1_book_1 23 rfl rfl
theorem dX1_book_0 : decode cX1_book 0 = .ok (.aload_n 0, 1) := dk_42 (dk_at dksX1_book_0 0 rfl rfl)
theorem dX1_book_1 : decode cX1_book 1 = .ok (.iload_n 1, 1) := dk_27 (dk_at dksX1_book_0 1 rfl rfl)
theorem dX1_book_2 : decode cX1_book 2 = .ok (.iconst 0, 1) := dk_3 (dk_at dksX1_book_0 2 rfl rfl)
theorem dX1_book_3 : decode cX1_book 3 = .ok (.aload_n 0, 1) := dk_42 (dk_at dksX1_book_0 3 rfl rfl)
theorem dX1_book_4 : decode cX1_book 4 = .ok (.getfield 97, 3) := dk_180 0 97 (dk_at dksX1_book_0 4 rfl rfl)
theorem dX1_book_7 : decode cX1_book 7 = .ok (.sipush 150, 3) := dk_17 0 150 (dk_at dksX1_book_0 7 rfl rfl)
theorem dX1_book_10 : decode cX1_book 10 = .ok (.invokestatic 153, 3) := dk_184 0 153 (dk_at dksX1_book_0 10 rfl rfl)
theorem dX1_book_13 : decode cX1_book 13 = .ok (.invokevirtual 113, 3) := dk_182 0 113 (dk_at dksX1_book_0 13 rfl rfl)
theorem dX1_book_16 : decode cX1_book 16 = .ok (.new 70, 3) := dk_187 0 70 (dk_at dksX1_book_0 16 rfl rfl)
theorem dX1_book_19 : decode cX1_book 19 = .ok (.dup, 1) := dk_89 (dk_at dksX1_book_0 19 rfl rfl)
theorem dX1_book_20 : decode cX1_book 20 = .ok (.invokespecial 72, 3) := dk_183 0 72 (dk_at dksX1_book_0 20 rfl rfl)
theorem dX1_book_23 : decode cX1_book 23 = .ok (.astore_n 2, 1) := dk_77 (dk_at dksX1_book_0 23 rfl rfl)
theorem dX1_book_24 : decode cX1_book 24 = .ok (.aload_n 0, 1) := dk_42 (dk_at dksX1_book_1 0 rfl rfl)
theorem dX1_book_25 : decode cX1_book 25 = .ok (.iload_n 1, 1) := dk_27 (dk_at dksX1_book_1 1 rfl rfl)
theorem dX1_book_26 : decode cX1_book 26 = .ok (.invokevirtual 119, 3) := dk_182 0 119 (dk_at dksX1_book_1 2 rfl rfl)
theorem dX1_book_29 : decode cX1_book 29 = .ok (.astore_n 3, 1) := dk_78 (dk_at dksX1_book_1 5 rfl rfl)
theorem dX1_book_30 : decode cX1_book 30 = .ok (.aload_n 3, 1) := dk_45 (dk_at dksX1_book_1 6 rfl rfl)
theorem dX1_book_31 : decode cX1_book 31 = .ok (.invokevirtual 166, 3) := dk_182 0 166 (dk_at dksX1_book_1 7 rfl rfl)
theorem dX1_book_34 : decode cX1_book 34 = .ok (.iconst (-1), 1) := dk_2 (dk_at dksX1_book_1 10 rfl rfl)
theorem dX1_book_35 : decode cX1_book 35 = .ok (.if_icmp .eq 12, 3) := dk_159 0 12 (dk_at dksX1_book_1 11 rfl rfl)
theorem dX1_book_38 : decode cX1_book 38 = .ok (.aload_n 0, 1) := dk_42 (dk_at dksX1_book_1 14 rfl rfl)
theorem dX1_book_39 : decode cX1_book 39 = .ok (.aload_n 3, 1) := dk_45 (dk_at dksX1_book_1 15 rfl rfl)
theorem dX1_book_40 : decode cX1_book 40 = .ok (.aload_n 2, 1) := dk_44 (dk_at dksX1_book_1 16 rfl rfl)
theorem dX1_book_41 : decode cX1_book 41 = .ok (.invokevirtual 170, 3) := dk_182 0 170 (dk_at dksX1_book_1 17 rfl rfl)
theorem dX1_book_44 : decode cX1_book 44 = .ok (.goto (-14), 3) := dk_167 255 242 (dk_at dksX1_book_1 20 rfl rfl)
theorem dX1_book_47 : decode cX1_book 47 = .ok (.goto 10, 3) := dk_167 0 10 (dk_at dksX1_book_2 0 rfl rfl)
theorem dX1_book_50 : decode cX1_book 50 = .ok (.astore_n 3, 1) := dk_78 (dk_at dksX1_book_2 3 rfl rfl)
theorem dX1_book_51 : decode cX1_book 51 = .ok (.aload_n 0, 1) := dk_42 (dk_at dksX1_book_2 4 rfl rfl)
theorem dX1_book_52 : decode cX1_book 52 = .ok (.aload_n 3, 1) := dk_45 (dk_at dksX1_book_2 5 rfl rfl)
theorem dX1_book_53 : decode cX1_book 53 = .ok (.invokevirtual 129, 3) := dk_182 0 129 (dk_at dksX1_book_2 6 rfl rfl)
theorem dX1_book_56 : decode cX1_book 56 = .ok (.ireturn, 1) := dk_172 (dk_at dksX1_book_2 9 rfl rfl)
theorem dX1_book_57 : decode cX1_book 57 = .ok (.aload_n 0, 1) := dk_42 (dk_at dksX1_book_2 10 rfl rfl)
theorem dX1_book_58 : decode cX1_book 58 = .ok (.aload_n 2, 1) := dk_44 (dk_at dksX1_book_2 11 rfl rfl)
theorem dX1_book_59 : decode cX1_book 59 = .ok (.putfield 73, 3) := dk_181 0 73 (dk_at dksX1_book_2 12 rfl rfl)
theorem dX1_book_62 : decode cX1_book 62 = .ok (.aload_n 2, 1) := dk_44 (dk_at dksX1_book_2 15 rfl rfl)
theorem dX1_book_63 : decode cX1_book 63 = .ok (.getfield 174, 3) := dk_180 0 174 (dk_at dksX1_book_2 16 rfl rfl)
theorem dX1_book_66 : decode cX1_book 66 = .ok (.ireturn, 1) := dk_172 (dk_at dksX1_book_2 19 rfl rfl)
abbrev cX1_line : ByteArray := prog_1_method_13_code
def yX1_line : MethodName := ⟨RX1, "line", "(LCardCups$Reader;LCardCups$Book;)V"⟩
def dkwX1_line_6 : List UInt8 := [79, 43, 16, 59, 182, 0, 203, 44, 89, 180, 0, 174, 4, 96, 181, 0, 174, 177]
abbrev dktX1_line_6 : List UInt8 := dkwX1_line_6 ++ []
def dkwX1_line_5 : List UInt8 := [21, 5, 43, 3, 44, 180, 0, 187, 21, 5, 46, 5, 160, 0, 8, 16, 12, 167, 0, 4, 4, 182, 0, 179]
abbrev dktX1_line_5 : List UInt8 := dkwX1_line_5 ++ dktX1_line_6
def dkwX1_line_4 : List UInt8 := [182, 0, 192, 154, 0, 16, 187, 0, 106, 89, 4, 43, 182, 0, 177, 183, 0, 182, 191, 44, 180, 0, 200]
abbrev dktX1_line_4 : List UInt8 := dkwX1_line_4 ++ dktX1_line_5
def dkwX1_line_3 : List UInt8 := [153, 0, 7, 4, 167, 0, 4, 5, 79, 44, 180, 0, 187, 21, 5, 46, 5, 160, 0, 25, 43, 18, 198]
abbrev dktX1_line_3 : List UInt8 := dkwX1_line_3 ++ dktX1_line_4
def dkwX1_line_2 : List UInt8 := [180, 0, 187, 21, 5, 43, 18, 190, 182, 0, 192, 153, 0, 7, 3, 167, 0, 17, 43, 18, 196, 182, 0, 192]
abbrev dktX1_line_2 : List UInt8 := dkwX1_line_2 ++ dktX1_line_3
def dkwX1_line_1 : List UInt8 := [160, 0, 13, 187, 0, 106, 89, 6, 29, 183, 0, 182, 191, 44, 180, 0, 184, 21, 5, 21, 4, 79, 44]
abbrev dktX1_line_1 : List UInt8 := dkwX1_line_1 ++ dktX1_line_2
def dkwX1_line_0 : List UInt8 := [43, 182, 0, 177, 62, 43, 3, 16, 23, 182, 0, 179, 54, 4, 44, 180, 0, 174, 54, 5, 21, 5, 16, 10]
abbrev dktX1_line_0 : List UInt8 := dkwX1_line_0 ++ dktX1_line_1
theorem dksX1_line_0 : cX1_line.data.toList.drop 0 = dktX1_line_0 := by decide +kernel
theorem dksX1_line_1 : cX1_line.data.toList.drop 24 = dktX1_line_1 := dk_seg dksX1_line_0 24 rfl rfl
theorem dksX1_line_2 : cX1_line.data.toList.drop 47 = dktX1_line_2 := dk_seg dksX1_line_1 23 rfl rfl
theorem dksX1_line_3 : cX1_line.data.toList.drop 71 = dktX1_line_3 := dk_seg dksX1_line_2 24 rfl rfl
theorem dksX1_line_4 : cX1_line.data.toList.drop 94 = dktX1_line_4 := dk_seg dksX1_line_3 23 rfl rfl
theorem dksX1_line_5 : cX1_line.data.toList.drop 117 = dktX1_line_5 := dk_seg dksX1_line_4 23 rfl rfl
theorem dksX1_line_6 : cX1_line.data.toList.drop 141 = dktX1_line_6 := dk_seg dksX1_line_5 24 rfl rfl
theorem dX1_line_0 : decode cX1_line 0 = .ok (.aload_n 1, 1) := dk_43 (dk_at dksX1_line_0 0 rfl rfl)
theorem dX1_line_1 : decode cX1_line 1 = .ok (.invokevirtual 177, 3) := dk_182 0 177 (dk_at dksX1_line_0 1 rfl rfl)
theorem dX1_line_4 : decode cX1_line 4 = .ok (.istore_n 3, 1) := dk_62 (dk_at dksX1_line_0 4 rfl rfl)
theorem dX1_line_5 : decode cX1_line 5 = .ok (.aload_n 1, 1) := dk_43 (dk_at dksX1_line_0 5 rfl rfl)
theorem dX1_line_6 : decode cX1_line 6 = .ok (.iconst 0, 1) := dk_3 (dk_at dksX1_line_0 6 rfl rfl)
theorem dX1_line_7 : decode cX1_line 7 = .ok (.bipush 23, 2) := dk_16 23 (dk_at dksX1_line_0 7 rfl rfl)
theorem dX1_line_9 : decode cX1_line 9 = .ok (.invokevirtual 179, 3) := dk_182 0 179 (dk_at dksX1_line_0 9 rfl rfl)
theorem dX1_line_12 : decode cX1_line 12 = .ok (.istore 4, 2) := dk_54 4 (dk_at dksX1_line_0 12 rfl rfl)
theorem dX1_line_14 : decode cX1_line 14 = .ok (.aload_n 2, 1) := dk_44 (dk_at dksX1_line_0 14 rfl rfl)
theorem dX1_line_15 : decode cX1_line 15 = .ok (.getfield 174, 3) := dk_180 0 174 (dk_at dksX1_line_0 15 rfl rfl)
theorem dX1_line_18 : decode cX1_line 18 = .ok (.istore 5, 2) := dk_54 5 (dk_at dksX1_line_0 18 rfl rfl)
theorem dX1_line_20 : decode cX1_line 20 = .ok (.iload 5, 2) := dk_21 5 (dk_at dksX1_line_0 20 rfl rfl)
theorem dX1_line_22 : decode cX1_line 22 = .ok (.bipush 10, 2) := dk_16 10 (dk_at dksX1_line_0 22 rfl rfl)
theorem dX1_line_24 : decode cX1_line 24 = .ok (.if_icmp .ne 13, 3) := dk_160 0 13 (dk_at dksX1_line_1 0 rfl rfl)
theorem dX1_line_27 : decode cX1_line 27 = .ok (.new 106, 3) := dk_187 0 106 (dk_at dksX1_line_1 3 rfl rfl)
theorem dX1_line_30 : decode cX1_line 30 = .ok (.dup, 1) := dk_89 (dk_at dksX1_line_1 6 rfl rfl)
theorem dX1_line_31 : decode cX1_line 31 = .ok (.iconst 3, 1) := dk_6 (dk_at dksX1_line_1 7 rfl rfl)
theorem dX1_line_32 : decode cX1_line 32 = .ok (.iload_n 3, 1) := dk_29 (dk_at dksX1_line_1 8 rfl rfl)
theorem dX1_line_33 : decode cX1_line 33 = .ok (.invokespecial 182, 3) := dk_183 0 182 (dk_at dksX1_line_1 9 rfl rfl)
theorem dX1_line_36 : decode cX1_line 36 = .ok (.athrow, 1) := dk_191 (dk_at dksX1_line_1 12 rfl rfl)
theorem dX1_line_37 : decode cX1_line 37 = .ok (.aload_n 2, 1) := dk_44 (dk_at dksX1_line_1 13 rfl rfl)
theorem dX1_line_38 : decode cX1_line 38 = .ok (.getfield 184, 3) := dk_180 0 184 (dk_at dksX1_line_1 14 rfl rfl)
theorem dX1_line_41 : decode cX1_line 41 = .ok (.iload 5, 2) := dk_21 5 (dk_at dksX1_line_1 17 rfl rfl)
theorem dX1_line_43 : decode cX1_line 43 = .ok (.iload 4, 2) := dk_21 4 (dk_at dksX1_line_1 19 rfl rfl)
theorem dX1_line_45 : decode cX1_line 45 = .ok (.iastore, 1) := dk_79 (dk_at dksX1_line_1 21 rfl rfl)
theorem dX1_line_46 : decode cX1_line 46 = .ok (.aload_n 2, 1) := dk_44 (dk_at dksX1_line_1 22 rfl rfl)
theorem dX1_line_47 : decode cX1_line 47 = .ok (.getfield 187, 3) := dk_180 0 187 (dk_at dksX1_line_2 0 rfl rfl)
theorem dX1_line_50 : decode cX1_line 50 = .ok (.iload 5, 2) := dk_21 5 (dk_at dksX1_line_2 3 rfl rfl)
theorem dX1_line_52 : decode cX1_line 52 = .ok (.aload_n 1, 1) := dk_43 (dk_at dksX1_line_2 5 rfl rfl)
theorem dX1_line_53 : decode cX1_line 53 = .ok (.ldc 190, 2) := dk_18 190 (dk_at dksX1_line_2 6 rfl rfl)
theorem dX1_line_55 : decode cX1_line 55 = .ok (.invokevirtual 192, 3) := dk_182 0 192 (dk_at dksX1_line_2 8 rfl rfl)
theorem dX1_line_58 : decode cX1_line 58 = .ok (.ifCond .eq 7, 3) := dk_153 0 7 (dk_at dksX1_line_2 11 rfl rfl)
theorem dX1_line_61 : decode cX1_line 61 = .ok (.iconst 0, 1) := dk_3 (dk_at dksX1_line_2 14 rfl rfl)
theorem dX1_line_62 : decode cX1_line 62 = .ok (.goto 17, 3) := dk_167 0 17 (dk_at dksX1_line_2 15 rfl rfl)
theorem dX1_line_65 : decode cX1_line 65 = .ok (.aload_n 1, 1) := dk_43 (dk_at dksX1_line_2 18 rfl rfl)
theorem dX1_line_66 : decode cX1_line 66 = .ok (.ldc 196, 2) := dk_18 196 (dk_at dksX1_line_2 19 rfl rfl)
theorem dX1_line_68 : decode cX1_line 68 = .ok (.invokevirtual 192, 3) := dk_182 0 192 (dk_at dksX1_line_2 21 rfl rfl)
theorem dX1_line_71 : decode cX1_line 71 = .ok (.ifCond .eq 7, 3) := dk_153 0 7 (dk_at dksX1_line_3 0 rfl rfl)
theorem dX1_line_74 : decode cX1_line 74 = .ok (.iconst 1, 1) := dk_4 (dk_at dksX1_line_3 3 rfl rfl)
theorem dX1_line_75 : decode cX1_line 75 = .ok (.goto 4, 3) := dk_167 0 4 (dk_at dksX1_line_3 4 rfl rfl)
theorem dX1_line_78 : decode cX1_line 78 = .ok (.iconst 2, 1) := dk_5 (dk_at dksX1_line_3 7 rfl rfl)
theorem dX1_line_79 : decode cX1_line 79 = .ok (.iastore, 1) := dk_79 (dk_at dksX1_line_3 8 rfl rfl)
theorem dX1_line_80 : decode cX1_line 80 = .ok (.aload_n 2, 1) := dk_44 (dk_at dksX1_line_3 9 rfl rfl)
theorem dX1_line_81 : decode cX1_line 81 = .ok (.getfield 187, 3) := dk_180 0 187 (dk_at dksX1_line_3 10 rfl rfl)
theorem dX1_line_84 : decode cX1_line 84 = .ok (.iload 5, 2) := dk_21 5 (dk_at dksX1_line_3 13 rfl rfl)
theorem dX1_line_86 : decode cX1_line 86 = .ok (.iaload, 1) := dk_46 (dk_at dksX1_line_3 15 rfl rfl)
theorem dX1_line_87 : decode cX1_line 87 = .ok (.iconst 2, 1) := dk_5 (dk_at dksX1_line_3 16 rfl rfl)
theorem dX1_line_88 : decode cX1_line 88 = .ok (.if_icmp .ne 25, 3) := dk_160 0 25 (dk_at dksX1_line_3 17 rfl rfl)
theorem dX1_line_91 : decode cX1_line 91 = .ok (.aload_n 1, 1) := dk_43 (dk_at dksX1_line_3 20 rfl rfl)
theorem dX1_line_92 : decode cX1_line 92 = .ok (.ldc 198, 2) := dk_18 198 (dk_at dksX1_line_3 21 rfl rfl)
theorem dX1_line_94 : decode cX1_line 94 = .ok (.invokevirtual 192, 3) := dk_182 0 192 (dk_at dksX1_line_4 0 rfl rfl)
theorem dX1_line_97 : decode cX1_line 97 = .ok (.ifCond .ne 16, 3) := dk_154 0 16 (dk_at dksX1_line_4 3 rfl rfl)
theorem dX1_line_100 : decode cX1_line 100 = .ok (.new 106, 3) := dk_187 0 106 (dk_at dksX1_line_4 6 rfl rfl)
theorem dX1_line_103 : decode cX1_line 103 = .ok (.dup, 1) := dk_89 (dk_at dksX1_line_4 9 rfl rfl)
theorem dX1_line_104 : decode cX1_line 104 = .ok (.iconst 1, 1) := dk_4 (dk_at dksX1_line_4 10 rfl rfl)
theorem dX1_line_105 : decode cX1_line 105 = .ok (.aload_n 1, 1) := dk_43 (dk_at dksX1_line_4 11 rfl rfl)
theorem dX1_line_106 : decode cX1_line 106 = .ok (.invokevirtual 177, 3) := dk_182 0 177 (dk_at dksX1_line_4 12 rfl rfl)
theorem dX1_line_109 : decode cX1_line 109 = .ok (.invokespecial 182, 3) := dk_183 0 182 (dk_at dksX1_line_4 15 rfl rfl)
theorem dX1_line_112 : decode cX1_line 112 = .ok (.athrow, 1) := dk_191 (dk_at dksX1_line_4 18 rfl rfl)
theorem dX1_line_113 : decode cX1_line 113 = .ok (.aload_n 2, 1) := dk_44 (dk_at dksX1_line_4 19 rfl rfl)
theorem dX1_line_114 : decode cX1_line 114 = .ok (.getfield 200, 3) := dk_180 0 200 (dk_at dksX1_line_4 20 rfl rfl)
theorem dX1_line_117 : decode cX1_line 117 = .ok (.iload 5, 2) := dk_21 5 (dk_at dksX1_line_5 0 rfl rfl)
theorem dX1_line_119 : decode cX1_line 119 = .ok (.aload_n 1, 1) := dk_43 (dk_at dksX1_line_5 2 rfl rfl)
theorem dX1_line_120 : decode cX1_line 120 = .ok (.iconst 0, 1) := dk_3 (dk_at dksX1_line_5 3 rfl rfl)
theorem dX1_line_121 : decode cX1_line 121 = .ok (.aload_n 2, 1) := dk_44 (dk_at dksX1_line_5 4 rfl rfl)
theorem dX1_line_122 : decode cX1_line 122 = .ok (.getfield 187, 3) := dk_180 0 187 (dk_at dksX1_line_5 5 rfl rfl)
theorem dX1_line_125 : decode cX1_line 125 = .ok (.iload 5, 2) := dk_21 5 (dk_at dksX1_line_5 8 rfl rfl)
theorem dX1_line_127 : decode cX1_line 127 = .ok (.iaload, 1) := dk_46 (dk_at dksX1_line_5 10 rfl rfl)
theorem dX1_line_128 : decode cX1_line 128 = .ok (.iconst 2, 1) := dk_5 (dk_at dksX1_line_5 11 rfl rfl)
theorem dX1_line_129 : decode cX1_line 129 = .ok (.if_icmp .ne 8, 3) := dk_160 0 8 (dk_at dksX1_line_5 12 rfl rfl)
theorem dX1_line_132 : decode cX1_line 132 = .ok (.bipush 12, 2) := dk_16 12 (dk_at dksX1_line_5 15 rfl rfl)
theorem dX1_line_134 : decode cX1_line 134 = .ok (.goto 4, 3) := dk_167 0 4 (dk_at dksX1_line_5 17 rfl rfl)
theorem dX1_line_137 : decode cX1_line 137 = .ok (.iconst 1, 1) := dk_4 (dk_at dksX1_line_5 20 rfl rfl)
theorem dX1_line_138 : decode cX1_line 138 = .ok (.invokevirtual 179, 3) := dk_182 0 179 (dk_at dksX1_line_5 21 rfl rfl)
theorem dX1_line_141 : decode cX1_line 141 = .ok (.iastore, 1) := dk_79 (dk_at dksX1_line_6 0 rfl rfl)
theorem dX1_line_142 : decode cX1_line 142 = .ok (.aload_n 1, 1) := dk_43 (dk_at dksX1_line_6 1 rfl rfl)
theorem dX1_line_143 : decode cX1_line 143 = .ok (.bipush 59, 2) := dk_16 59 (dk_at dksX1_line_6 2 rfl rfl)
theorem dX1_line_145 : decode cX1_line 145 = .ok (.invokevirtual 203, 3) := dk_182 0 203 (dk_at dksX1_line_6 4 rfl rfl)
theorem dX1_line_148 : decode cX1_line 148 = .ok (.aload_n 2, 1) := dk_44 (dk_at dksX1_line_6 7 rfl rfl)
theorem dX1_line_149 : decode cX1_line 149 = .ok (.dup, 1) := dk_89 (dk_at dksX1_line_6 8 rfl rfl)
theorem dX1_line_150 : decode cX1_line 150 = .ok (.getfield 174, 3) := dk_180 0 174 (dk_at dksX1_line_6 9 rfl rfl)
theorem dX1_line_153 : decode cX1_line 153 = .ok (.iconst 1, 1) := dk_4 (dk_at dksX1_line_6 12 rfl rfl)
theorem dX1_line_154 : decode cX1_line 154 = .ok (.iadd, 1) := dk_96 (dk_at dksX1_line_6 13 rfl rfl)
theorem dX1_line_155 : decode cX1_line 155 = .ok (.putfield 174, 3) := dk_181 0 174 (dk_at dksX1_line_6 14 rfl rfl)
theorem dX1_line_158 : decode cX1_line 158 = .ok (.return_, 1) := dk_177 (dk_at dksX1_line_6 17 rfl rfl)
abbrev cX1_told : ByteArray := prog_1_method_15_code
def yX1_told : MethodName := ⟨RX1, "told", "(I)I"⟩
def dkwX1_told_5 : List UInt8 := [42, 180, 0, 73, 180, 0, 174, 172]
abbrev dktX1_told_5 : List UInt8 := dkwX1_told_5 ++ []
def dkwX1_told_4 : List UInt8 := [42, 180, 0, 66, 180, 0, 223, 172, 42, 180, 0, 66, 180, 0, 84, 172, 42, 180, 0, 16, 180, 0, 91, 172]
abbrev dktX1_told_4 : List UInt8 := dkwX1_told_4 ++ dktX1_told_5
def dkwX1_told_3 : List UInt8 := [42, 180, 0, 66, 180, 0, 216, 172, 42, 180, 0, 66, 180, 0, 218, 172, 42, 180, 0, 66, 180, 0, 221, 172]
abbrev dktX1_told_3 : List UInt8 := dkwX1_told_3 ++ dktX1_told_4
def dkwX1_told_2 : List UInt8 := [42, 180, 0, 66, 180, 0, 207, 172, 42, 180, 0, 66, 180, 0, 210, 172, 42, 180, 0, 66, 180, 0, 213, 172]
abbrev dktX1_told_2 : List UInt8 := dkwX1_told_2 ++ dktX1_told_3
def dkwX1_told_1 : List UInt8 := [170, 0, 0, 0, 0, 0, 123, 0, 0, 0, 0, 0, 0, 0, 8, 0, 0, 0, 51, 0, 0, 0, 59, 0, 0, 0, 67, 0, 0, 0, 75, 0, 0, 0, 83, 0, 0, 0, 91, 0, 0, 0, 99, 0, 0, 0, 107, 0, 0, 0, 115]
abbrev dktX1_told_1 : List UInt8 := dkwX1_told_1 ++ dktX1_told_2
def dkwX1_told_0 : List UInt8 := [42, 27, 3, 16, 9, 182, 0, 113, 27]
abbrev dktX1_told_0 : List UInt8 := dkwX1_told_0 ++ dktX1_told_1
theorem dksX1_told_0 : cX1_told.data.toList.drop 0 = dktX1_told_0 := by decide +kernel
theorem dksX1_told_1 : cX1_told.data.toList.drop 9 = dktX1_told_1 := dk_seg dksX1_told_0 9 rfl rfl
theorem dksX1_told_2 : cX1_told.data.toList.drop 60 = dktX1_told_2 := dk_seg dksX1_told_1 51 rfl rfl
theorem dksX1_told_3 : cX1_told.data.toList.drop 84 = dktX1_told_3 := dk_seg dksX1_told_2 24 rfl rfl
theorem dksX1_told_4 : cX1_told.data.toList.drop 108 = dktX1_told_4 := dk_seg dksX1_told_3 24 rfl rfl
theorem dksX1_told_5 : cX1_told.data.toList.drop 132 = dktX1_told_5 := dk_seg dksX1_told_4 24 rfl rfl
theorem dX1_told_0 : decode cX1_told 0 = .ok (.aload_n 0, 1) := dk_42 (dk_at dksX1_told_0 0 rfl rfl)
theorem dX1_told_1 : decode cX1_told 1 = .ok (.iload_n 1, 1) := dk_27 (dk_at dksX1_told_0 1 rfl rfl)
theorem dX1_told_2 : decode cX1_told 2 = .ok (.iconst 0, 1) := dk_3 (dk_at dksX1_told_0 2 rfl rfl)
theorem dX1_told_3 : decode cX1_told 3 = .ok (.bipush 9, 2) := dk_16 9 (dk_at dksX1_told_0 3 rfl rfl)
theorem dX1_told_5 : decode cX1_told 5 = .ok (.invokevirtual 113, 3) := dk_182 0 113 (dk_at dksX1_told_0 5 rfl rfl)
theorem dX1_told_8 : decode cX1_told 8 = .ok (.iload_n 1, 1) := dk_27 (dk_at dksX1_told_0 8 rfl rfl)
theorem dX1_told_9 : decode cX1_told 9 = .ok (.tableswitch 123 0 8 #[51, 59, 67, 75, 83, 91, 99, 107, 115], 51) := by decide +kernel
theorem dX1_told_60 : decode cX1_told 60 = .ok (.aload_n 0, 1) := dk_42 (dk_at dksX1_told_2 0 rfl rfl)
theorem dX1_told_61 : decode cX1_told 61 = .ok (.getfield 66, 3) := dk_180 0 66 (dk_at dksX1_told_2 1 rfl rfl)
theorem dX1_told_64 : decode cX1_told 64 = .ok (.getfield 207, 3) := dk_180 0 207 (dk_at dksX1_told_2 4 rfl rfl)
theorem dX1_told_67 : decode cX1_told 67 = .ok (.ireturn, 1) := dk_172 (dk_at dksX1_told_2 7 rfl rfl)
theorem dX1_told_68 : decode cX1_told 68 = .ok (.aload_n 0, 1) := dk_42 (dk_at dksX1_told_2 8 rfl rfl)
theorem dX1_told_69 : decode cX1_told 69 = .ok (.getfield 66, 3) := dk_180 0 66 (dk_at dksX1_told_2 9 rfl rfl)
theorem dX1_told_72 : decode cX1_told 72 = .ok (.getfield 210, 3) := dk_180 0 210 (dk_at dksX1_told_2 12 rfl rfl)
theorem dX1_told_75 : decode cX1_told 75 = .ok (.ireturn, 1) := dk_172 (dk_at dksX1_told_2 15 rfl rfl)
theorem dX1_told_76 : decode cX1_told 76 = .ok (.aload_n 0, 1) := dk_42 (dk_at dksX1_told_2 16 rfl rfl)
theorem dX1_told_77 : decode cX1_told 77 = .ok (.getfield 66, 3) := dk_180 0 66 (dk_at dksX1_told_2 17 rfl rfl)
theorem dX1_told_80 : decode cX1_told 80 = .ok (.getfield 213, 3) := dk_180 0 213 (dk_at dksX1_told_2 20 rfl rfl)
theorem dX1_told_83 : decode cX1_told 83 = .ok (.ireturn, 1) := dk_172 (dk_at dksX1_told_2 23 rfl rfl)
theorem dX1_told_84 : decode cX1_told 84 = .ok (.aload_n 0, 1) := dk_42 (dk_at dksX1_told_3 0 rfl rfl)
theorem dX1_told_85 : decode cX1_told 85 = .ok (.getfield 66, 3) := dk_180 0 66 (dk_at dksX1_told_3 1 rfl rfl)
theorem dX1_told_88 : decode cX1_told 88 = .ok (.getfield 216, 3) := dk_180 0 216 (dk_at dksX1_told_3 4 rfl rfl)
theorem dX1_told_91 : decode cX1_told 91 = .ok (.ireturn, 1) := dk_172 (dk_at dksX1_told_3 7 rfl rfl)
theorem dX1_told_92 : decode cX1_told 92 = .ok (.aload_n 0, 1) := dk_42 (dk_at dksX1_told_3 8 rfl rfl)
theorem dX1_told_93 : decode cX1_told 93 = .ok (.getfield 66, 3) := dk_180 0 66 (dk_at dksX1_told_3 9 rfl rfl)
theorem dX1_told_96 : decode cX1_told 96 = .ok (.getfield 218, 3) := dk_180 0 218 (dk_at dksX1_told_3 12 rfl rfl)
theorem dX1_told_99 : decode cX1_told 99 = .ok (.ireturn, 1) := dk_172 (dk_at dksX1_told_3 15 rfl rfl)
theorem dX1_told_100 : decode cX1_told 100 = .ok (.aload_n 0, 1) := dk_42 (dk_at dksX1_told_3 16 rfl rfl)
theorem dX1_told_101 : decode cX1_told 101 = .ok (.getfield 66, 3) := dk_180 0 66 (dk_at dksX1_told_3 17 rfl rfl)
theorem dX1_told_104 : decode cX1_told 104 = .ok (.getfield 221, 3) := dk_180 0 221 (dk_at dksX1_told_3 20 rfl rfl)
theorem dX1_told_107 : decode cX1_told 107 = .ok (.ireturn, 1) := dk_172 (dk_at dksX1_told_3 23 rfl rfl)
theorem dX1_told_108 : decode cX1_told 108 = .ok (.aload_n 0, 1) := dk_42 (dk_at dksX1_told_4 0 rfl rfl)
theorem dX1_told_109 : decode cX1_told 109 = .ok (.getfield 66, 3) := dk_180 0 66 (dk_at dksX1_told_4 1 rfl rfl)
theorem dX1_told_112 : decode cX1_told 112 = .ok (.getfield 223, 3) := dk_180 0 223 (dk_at dksX1_told_4 4 rfl rfl)
theorem dX1_told_115 : decode cX1_told 115 = .ok (.ireturn, 1) := dk_172 (dk_at dksX1_told_4 7 rfl rfl)
theorem dX1_told_116 : decode cX1_told 116 = .ok (.aload_n 0, 1) := dk_42 (dk_at dksX1_told_4 8 rfl rfl)
theorem dX1_told_117 : decode cX1_told 117 = .ok (.getfield 66, 3) := dk_180 0 66 (dk_at dksX1_told_4 9 rfl rfl)
theorem dX1_told_120 : decode cX1_told 120 = .ok (.getfield 84, 3) := dk_180 0 84 (dk_at dksX1_told_4 12 rfl rfl)
theorem dX1_told_123 : decode cX1_told 123 = .ok (.ireturn, 1) := dk_172 (dk_at dksX1_told_4 15 rfl rfl)
theorem dX1_told_124 : decode cX1_told 124 = .ok (.aload_n 0, 1) := dk_42 (dk_at dksX1_told_4 16 rfl rfl)
theorem dX1_told_125 : decode cX1_told 125 = .ok (.getfield 16, 3) := dk_180 0 16 (dk_at dksX1_told_4 17 rfl rfl)
theorem dX1_told_128 : decode cX1_told 128 = .ok (.getfield 91, 3) := dk_180 0 91 (dk_at dksX1_told_4 20 rfl rfl)
theorem dX1_told_131 : decode cX1_told 131 = .ok (.ireturn, 1) := dk_172 (dk_at dksX1_told_4 23 rfl rfl)
theorem dX1_told_132 : decode cX1_told 132 = .ok (.aload_n 0, 1) := dk_42 (dk_at dksX1_told_5 0 rfl rfl)
theorem dX1_told_133 : decode cX1_told 133 = .ok (.getfield 73, 3) := dk_180 0 73 (dk_at dksX1_told_5 1 rfl rfl)
theorem dX1_told_136 : decode cX1_told 136 = .ok (.getfield 174, 3) := dk_180 0 174 (dk_at dksX1_told_5 4 rfl rfl)
theorem dX1_told_139 : decode cX1_told 139 = .ok (.ireturn, 1) := dk_172 (dk_at dksX1_told_5 7 rfl rfl)
abbrev cX1_visit : ByteArray := prog_1_method_16_code
def yX1_visit : MethodName := ⟨RX1, "visit", "(II)I"⟩
def dkwX1_visit_3 : List UInt8 := [27, 182, 0, 235, 172, 42, 180, 0, 16, 27, 182, 0, 239, 172]
abbrev dktX1_visit_3 : List UInt8 := dkwX1_visit_3 ++ []
def dkwX1_visit_2 : List UInt8 := [42, 180, 0, 16, 180, 0, 229, 27, 46, 172, 42, 180, 0, 16, 180, 0, 232, 27, 46, 172, 42, 180, 0, 16]
abbrev dktX1_visit_2 : List UInt8 := dkwX1_visit_2 ++ dktX1_visit_3
def dkwX1_visit_1 : List UInt8 := [170, 0, 0, 0, 0, 0, 56, 0, 0, 0, 0, 0, 0, 0, 2, 0, 0, 0, 27, 0, 0, 0, 37, 0, 0, 0, 47]
abbrev dktX1_visit_1 : List UInt8 := dkwX1_visit_1 ++ dktX1_visit_2
def dkwX1_visit_0 : List UInt8 := [42, 27, 182, 0, 226, 42, 28, 3, 6, 182, 0, 113, 28]
abbrev dktX1_visit_0 : List UInt8 := dkwX1_visit_0 ++ dktX1_visit_1
theorem dksX1_visit_0 : cX1_visit.data.toList.drop 0 = dktX1_visit_0 := by decide +kernel
theorem dksX1_visit_1 : cX1_visit.data.toList.drop 13 = dktX1_visit_1 := dk_seg dksX1_visit_0 13 rfl rfl
theorem dksX1_visit_2 : cX1_visit.data.toList.drop 40 = dktX1_visit_2 := dk_seg dksX1_visit_1 27 rfl rfl
theorem dksX1_visit_3 : cX1_visit.data.toList.drop 64 = dktX1_visit_3 := dk_seg dksX1_visit_2 24 rfl rfl
theorem dX1_visit_0 : decode cX1_visit 0 = .ok (.aload_n 0, 1) := dk_42 (dk_at dksX1_visit_0 0 rfl rfl)
theorem dX1_visit_1 : decode cX1_visit 1 = .ok (.iload_n 1, 1) := dk_27 (dk_at dksX1_visit_0 1 rfl rfl)
theorem dX1_visit_2 : decode cX1_visit 2 = .ok (.invokevirtual 226, 3) := dk_182 0 226 (dk_at dksX1_visit_0 2 rfl rfl)
theorem dX1_visit_5 : decode cX1_visit 5 = .ok (.aload_n 0, 1) := dk_42 (dk_at dksX1_visit_0 5 rfl rfl)
theorem dX1_visit_6 : decode cX1_visit 6 = .ok (.iload_n 2, 1) := dk_28 (dk_at dksX1_visit_0 6 rfl rfl)
theorem dX1_visit_7 : decode cX1_visit 7 = .ok (.iconst 0, 1) := dk_3 (dk_at dksX1_visit_0 7 rfl rfl)
theorem dX1_visit_8 : decode cX1_visit 8 = .ok (.iconst 3, 1) := dk_6 (dk_at dksX1_visit_0 8 rfl rfl)
theorem dX1_visit_9 : decode cX1_visit 9 = .ok (.invokevirtual 113, 3) := dk_182 0 113 (dk_at dksX1_visit_0 9 rfl rfl)
theorem dX1_visit_12 : decode cX1_visit 12 = .ok (.iload_n 2, 1) := dk_28 (dk_at dksX1_visit_0 12 rfl rfl)
theorem dX1_visit_13 : decode cX1_visit 13 = .ok (.tableswitch 56 0 2 #[27, 37, 47], 27) := by decide +kernel
theorem dX1_visit_40 : decode cX1_visit 40 = .ok (.aload_n 0, 1) := dk_42 (dk_at dksX1_visit_2 0 rfl rfl)
theorem dX1_visit_41 : decode cX1_visit 41 = .ok (.getfield 16, 3) := dk_180 0 16 (dk_at dksX1_visit_2 1 rfl rfl)
theorem dX1_visit_44 : decode cX1_visit 44 = .ok (.getfield 229, 3) := dk_180 0 229 (dk_at dksX1_visit_2 4 rfl rfl)
theorem dX1_visit_47 : decode cX1_visit 47 = .ok (.iload_n 1, 1) := dk_27 (dk_at dksX1_visit_2 7 rfl rfl)
theorem dX1_visit_48 : decode cX1_visit 48 = .ok (.iaload, 1) := dk_46 (dk_at dksX1_visit_2 8 rfl rfl)
theorem dX1_visit_49 : decode cX1_visit 49 = .ok (.ireturn, 1) := dk_172 (dk_at dksX1_visit_2 9 rfl rfl)
theorem dX1_visit_50 : decode cX1_visit 50 = .ok (.aload_n 0, 1) := dk_42 (dk_at dksX1_visit_2 10 rfl rfl)
theorem dX1_visit_51 : decode cX1_visit 51 = .ok (.getfield 16, 3) := dk_180 0 16 (dk_at dksX1_visit_2 11 rfl rfl)
theorem dX1_visit_54 : decode cX1_visit 54 = .ok (.getfield 232, 3) := dk_180 0 232 (dk_at dksX1_visit_2 14 rfl rfl)
theorem dX1_visit_57 : decode cX1_visit 57 = .ok (.iload_n 1, 1) := dk_27 (dk_at dksX1_visit_2 17 rfl rfl)
theorem dX1_visit_58 : decode cX1_visit 58 = .ok (.iaload, 1) := dk_46 (dk_at dksX1_visit_2 18 rfl rfl)
theorem dX1_visit_59 : decode cX1_visit 59 = .ok (.ireturn, 1) := dk_172 (dk_at dksX1_visit_2 19 rfl rfl)
theorem dX1_visit_60 : decode cX1_visit 60 = .ok (.aload_n 0, 1) := dk_42 (dk_at dksX1_visit_2 20 rfl rfl)
theorem dX1_visit_61 : decode cX1_visit 61 = .ok (.getfield 16, 3) := dk_180 0 16 (dk_at dksX1_visit_2 21 rfl rfl)
theorem dX1_visit_64 : decode cX1_visit 64 = .ok (.iload_n 1, 1) := dk_27 (dk_at dksX1_visit_3 0 rfl rfl)
theorem dX1_visit_65 : decode cX1_visit 65 = .ok (.invokevirtual 235, 3) := dk_182 0 235 (dk_at dksX1_visit_3 1 rfl rfl)
theorem dX1_visit_68 : decode cX1_visit 68 = .ok (.ireturn, 1) := dk_172 (dk_at dksX1_visit_3 4 rfl rfl)
theorem dX1_visit_69 : decode cX1_visit 69 = .ok (.aload_n 0, 1) := dk_42 (dk_at dksX1_visit_3 5 rfl rfl)
theorem dX1_visit_70 : decode cX1_visit 70 = .ok (.getfield 16, 3) := dk_180 0 16 (dk_at dksX1_visit_3 6 rfl rfl)
theorem dX1_visit_73 : decode cX1_visit 73 = .ok (.iload_n 1, 1) := dk_27 (dk_at dksX1_visit_3 9 rfl rfl)
theorem dX1_visit_74 : decode cX1_visit 74 = .ok (.invokevirtual 239, 3) := dk_182 0 239 (dk_at dksX1_visit_3 10 rfl rfl)
theorem dX1_visit_77 : decode cX1_visit 77 = .ok (.ireturn, 1) := dk_172 (dk_at dksX1_visit_3 13 rfl rfl)
abbrev cX1_visitOf : ByteArray := prog_1_method_4_code
def yX1_visitOf : MethodName := ⟨RX1, "visitOf", "(I)V"⟩
def dkwX1_visitOf_0 : List UInt8 := [42, 27, 42, 180, 0, 16, 180, 0, 91, 182, 0, 87, 177]
abbrev dktX1_visitOf_0 : List UInt8 := dkwX1_visitOf_0 ++ []
theorem dksX1_visitOf_0 : cX1_visitOf.data.toList.drop 0 = dktX1_visitOf_0 := by decide +kernel
theorem dX1_visitOf_0 : decode cX1_visitOf 0 = .ok (.aload_n 0, 1) := dk_42 (dk_at dksX1_visitOf_0 0 rfl rfl)
theorem dX1_visitOf_1 : decode cX1_visitOf 1 = .ok (.iload_n 1, 1) := dk_27 (dk_at dksX1_visitOf_0 1 rfl rfl)
theorem dX1_visitOf_2 : decode cX1_visitOf 2 = .ok (.aload_n 0, 1) := dk_42 (dk_at dksX1_visitOf_0 2 rfl rfl)
theorem dX1_visitOf_3 : decode cX1_visitOf 3 = .ok (.getfield 16, 3) := dk_180 0 16 (dk_at dksX1_visitOf_0 3 rfl rfl)
theorem dX1_visitOf_6 : decode cX1_visitOf 6 = .ok (.getfield 91, 3) := dk_180 0 91 (dk_at dksX1_visitOf_0 6 rfl rfl)
theorem dX1_visitOf_9 : decode cX1_visitOf 9 = .ok (.invokevirtual 87, 3) := dk_182 0 87 (dk_at dksX1_visitOf_0 9 rfl rfl)
theorem dX1_visitOf_12 : decode cX1_visitOf 12 = .ok (.return_, 1) := dk_177 (dk_at dksX1_visitOf_0 12 rfl rfl)
abbrev cX1_person : ByteArray := prog_1_method_17_code
def yX1_person : MethodName := ⟨RX1, "person", "(II)I"⟩
def dkwX1_person_2 : List UInt8 := [180, 0, 16, 27, 182, 0, 242, 167, 0, 11, 42, 180, 0, 16, 27, 182, 0, 245, 172]
abbrev dktX1_person_2 : List UInt8 := dkwX1_person_2 ++ []
def dkwX1_person_1 : List UInt8 := [199, 0, 7, 3, 167, 0, 12, 42, 180, 0, 38, 27, 50, 180, 0, 165, 172, 28, 4, 160, 0, 14, 42]
abbrev dktX1_person_1 : List UInt8 := dkwX1_person_1 ++ dktX1_person_2
def dkwX1_person_0 : List UInt8 := [42, 27, 182, 0, 149, 42, 28, 3, 5, 182, 0, 113, 28, 154, 0, 26, 42, 180, 0, 38, 27, 50]
abbrev dktX1_person_0 : List UInt8 := dkwX1_person_0 ++ dktX1_person_1
theorem dksX1_person_0 : cX1_person.data.toList.drop 0 = dktX1_person_0 := by decide +kernel
theorem dksX1_person_1 : cX1_person.data.toList.drop 22 = dktX1_person_1 := dk_seg dksX1_person_0 22 rfl rfl
theorem dksX1_person_2 : cX1_person.data.toList.drop 45 = dktX1_person_2 := dk_seg dksX1_person_1 23 rfl rfl
theorem dX1_person_0 : decode cX1_person 0 = .ok (.aload_n 0, 1) := dk_42 (dk_at dksX1_person_0 0 rfl rfl)
theorem dX1_person_1 : decode cX1_person 1 = .ok (.iload_n 1, 1) := dk_27 (dk_at dksX1_person_0 1 rfl rfl)
theorem dX1_person_2 : decode cX1_person 2 = .ok (.invokevirtual 149, 3) := dk_182 0 149 (dk_at dksX1_person_0 2 rfl rfl)
theorem dX1_person_5 : decode cX1_person 5 = .ok (.aload_n 0, 1) := dk_42 (dk_at dksX1_person_0 5 rfl rfl)
theorem dX1_person_6 : decode cX1_person 6 = .ok (.iload_n 2, 1) := dk_28 (dk_at dksX1_person_0 6 rfl rfl)
theorem dX1_person_7 : decode cX1_person 7 = .ok (.iconst 0, 1) := dk_3 (dk_at dksX1_person_0 7 rfl rfl)
theorem dX1_person_8 : decode cX1_person 8 = .ok (.iconst 2, 1) := dk_5 (dk_at dksX1_person_0 8 rfl rfl)
theorem dX1_person_9 : decode cX1_person 9 = .ok (.invokevirtual 113, 3) := dk_182 0 113 (dk_at dksX1_person_0 9 rfl rfl)
theorem dX1_person_12 : decode cX1_person 12 = .ok (.iload_n 2, 1) := dk_28 (dk_at dksX1_person_0 12 rfl rfl)
theorem dX1_person_13 : decode cX1_person 13 = .ok (.ifCond .ne 26, 3) := dk_154 0 26 (dk_at dksX1_person_0 13 rfl rfl)
theorem dX1_person_16 : decode cX1_person 16 = .ok (.aload_n 0, 1) := dk_42 (dk_at dksX1_person_0 16 rfl rfl)
theorem dX1_person_17 : decode cX1_person 17 = .ok (.getfield 38, 3) := dk_180 0 38 (dk_at dksX1_person_0 17 rfl rfl)
theorem dX1_person_20 : decode cX1_person 20 = .ok (.iload_n 1, 1) := dk_27 (dk_at dksX1_person_0 20 rfl rfl)
theorem dX1_person_21 : decode cX1_person 21 = .ok (.aaload, 1) := dk_50 (dk_at dksX1_person_0 21 rfl rfl)
theorem dX1_person_22 : decode cX1_person 22 = .ok (.ifnonnull 7, 3) := dk_199 0 7 (dk_at dksX1_person_1 0 rfl rfl)
theorem dX1_person_25 : decode cX1_person 25 = .ok (.iconst 0, 1) := dk_3 (dk_at dksX1_person_1 3 rfl rfl)
theorem dX1_person_26 : decode cX1_person 26 = .ok (.goto 12, 3) := dk_167 0 12 (dk_at dksX1_person_1 4 rfl rfl)
theorem dX1_person_29 : decode cX1_person 29 = .ok (.aload_n 0, 1) := dk_42 (dk_at dksX1_person_1 7 rfl rfl)
theorem dX1_person_30 : decode cX1_person 30 = .ok (.getfield 38, 3) := dk_180 0 38 (dk_at dksX1_person_1 8 rfl rfl)
theorem dX1_person_33 : decode cX1_person 33 = .ok (.iload_n 1, 1) := dk_27 (dk_at dksX1_person_1 11 rfl rfl)
theorem dX1_person_34 : decode cX1_person 34 = .ok (.aaload, 1) := dk_50 (dk_at dksX1_person_1 12 rfl rfl)
theorem dX1_person_35 : decode cX1_person 35 = .ok (.getfield 165, 3) := dk_180 0 165 (dk_at dksX1_person_1 13 rfl rfl)
theorem dX1_person_38 : decode cX1_person 38 = .ok (.ireturn, 1) := dk_172 (dk_at dksX1_person_1 16 rfl rfl)
theorem dX1_person_39 : decode cX1_person 39 = .ok (.iload_n 2, 1) := dk_28 (dk_at dksX1_person_1 17 rfl rfl)
theorem dX1_person_40 : decode cX1_person 40 = .ok (.iconst 1, 1) := dk_4 (dk_at dksX1_person_1 18 rfl rfl)
theorem dX1_person_41 : decode cX1_person 41 = .ok (.if_icmp .ne 14, 3) := dk_160 0 14 (dk_at dksX1_person_1 19 rfl rfl)
theorem dX1_person_44 : decode cX1_person 44 = .ok (.aload_n 0, 1) := dk_42 (dk_at dksX1_person_1 22 rfl rfl)
theorem dX1_person_45 : decode cX1_person 45 = .ok (.getfield 16, 3) := dk_180 0 16 (dk_at dksX1_person_2 0 rfl rfl)
theorem dX1_person_48 : decode cX1_person 48 = .ok (.iload_n 1, 1) := dk_27 (dk_at dksX1_person_2 3 rfl rfl)
theorem dX1_person_49 : decode cX1_person 49 = .ok (.invokevirtual 242, 3) := dk_182 0 242 (dk_at dksX1_person_2 4 rfl rfl)
theorem dX1_person_52 : decode cX1_person 52 = .ok (.goto 11, 3) := dk_167 0 11 (dk_at dksX1_person_2 7 rfl rfl)
theorem dX1_person_55 : decode cX1_person 55 = .ok (.aload_n 0, 1) := dk_42 (dk_at dksX1_person_2 10 rfl rfl)
theorem dX1_person_56 : decode cX1_person 56 = .ok (.getfield 16, 3) := dk_180 0 16 (dk_at dksX1_person_2 11 rfl rfl)
theorem dX1_person_59 : decode cX1_person 59 = .ok (.iload_n 1, 1) := dk_27 (dk_at dksX1_person_2 14 rfl rfl)
theorem dX1_person_60 : decode cX1_person 60 = .ok (.invokevirtual 245, 3) := dk_182 0 245 (dk_at dksX1_person_2 15 rfl rfl)
theorem dX1_person_63 : decode cX1_person 63 = .ok (.ireturn, 1) := dk_172 (dk_at dksX1_person_2 18 rfl rfl)
abbrev cX1_price : ByteArray := prog_1_method_18_code
def yX1_price : MethodName := ⟨RX1, "price", "(I)I"⟩
def dkwX1_price_0 : List UInt8 := [42, 27, 3, 7, 182, 0, 113, 42, 180, 0, 66, 180, 0, 248, 27, 46, 172]
abbrev dktX1_price_0 : List UInt8 := dkwX1_price_0 ++ []
theorem dksX1_price_0 : cX1_price.data.toList.drop 0 = dktX1_price_0 := by decide +kernel
theorem dX1_price_0 : decode cX1_price 0 = .ok (.aload_n 0, 1) := dk_42 (dk_at dksX1_price_0 0 rfl rfl)
theorem dX1_price_1 : decode cX1_price 1 = .ok (.iload_n 1, 1) := dk_27 (dk_at dksX1_price_0 1 rfl rfl)
theorem dX1_price_2 : decode cX1_price 2 = .ok (.iconst 0, 1) := dk_3 (dk_at dksX1_price_0 2 rfl rfl)
theorem dX1_price_3 : decode cX1_price 3 = .ok (.iconst 4, 1) := dk_7 (dk_at dksX1_price_0 3 rfl rfl)
theorem dX1_price_4 : decode cX1_price 4 = .ok (.invokevirtual 113, 3) := dk_182 0 113 (dk_at dksX1_price_0 4 rfl rfl)
theorem dX1_price_7 : decode cX1_price 7 = .ok (.aload_n 0, 1) := dk_42 (dk_at dksX1_price_0 7 rfl rfl)
theorem dX1_price_8 : decode cX1_price 8 = .ok (.getfield 66, 3) := dk_180 0 66 (dk_at dksX1_price_0 8 rfl rfl)
theorem dX1_price_11 : decode cX1_price 11 = .ok (.getfield 248, 3) := dk_180 0 248 (dk_at dksX1_price_0 11 rfl rfl)
theorem dX1_price_14 : decode cX1_price 14 = .ok (.iload_n 1, 1) := dk_27 (dk_at dksX1_price_0 14 rfl rfl)
theorem dX1_price_15 : decode cX1_price 15 = .ok (.iaload, 1) := dk_46 (dk_at dksX1_price_0 15 rfl rfl)
theorem dX1_price_16 : decode cX1_price 16 = .ok (.ireturn, 1) := dk_172 (dk_at dksX1_price_0 16 rfl rfl)
abbrev cX1_states : ByteArray := prog_1_method_23_code
def yX1_states : MethodName := ⟨RX1, "states", "(I)I"⟩
def dkwX1_states_0 : List UInt8 := [42, 27, 182, 0, 226, 42, 42, 182, 1, 3, 27, 182, 1, 6, 182, 1, 10, 182, 1, 14, 172]
abbrev dktX1_states_0 : List UInt8 := dkwX1_states_0 ++ []
theorem dksX1_states_0 : cX1_states.data.toList.drop 0 = dktX1_states_0 := by decide +kernel
theorem dX1_states_0 : decode cX1_states 0 = .ok (.aload_n 0, 1) := dk_42 (dk_at dksX1_states_0 0 rfl rfl)
theorem dX1_states_1 : decode cX1_states 1 = .ok (.iload_n 1, 1) := dk_27 (dk_at dksX1_states_0 1 rfl rfl)
theorem dX1_states_2 : decode cX1_states 2 = .ok (.invokevirtual 226, 3) := dk_182 0 226 (dk_at dksX1_states_0 2 rfl rfl)
theorem dX1_states_5 : decode cX1_states 5 = .ok (.aload_n 0, 1) := dk_42 (dk_at dksX1_states_0 5 rfl rfl)
theorem dX1_states_6 : decode cX1_states 6 = .ok (.aload_n 0, 1) := dk_42 (dk_at dksX1_states_0 6 rfl rfl)
theorem dX1_states_7 : decode cX1_states 7 = .ok (.invokevirtual 259, 3) := dk_182 1 3 (dk_at dksX1_states_0 7 rfl rfl)
theorem dX1_states_10 : decode cX1_states 10 = .ok (.iload_n 1, 1) := dk_27 (dk_at dksX1_states_0 10 rfl rfl)
theorem dX1_states_11 : decode cX1_states 11 = .ok (.invokevirtual 262, 3) := dk_182 1 6 (dk_at dksX1_states_0 11 rfl rfl)
theorem dX1_states_14 : decode cX1_states 14 = .ok (.invokevirtual 266, 3) := dk_182 1 10 (dk_at dksX1_states_0 14 rfl rfl)
theorem dX1_states_17 : decode cX1_states 17 = .ok (.invokevirtual 270, 3) := dk_182 1 14 (dk_at dksX1_states_0 17 rfl rfl)
theorem dX1_states_20 : decode cX1_states 20 = .ok (.ireturn, 1) := dk_172 (dk_at dksX1_states_0 20 rfl rfl)
abbrev cX1_likely : ByteArray := prog_1_method_24_code
def yX1_likely : MethodName := ⟨RX1, "likely", "(II)J"⟩
def dkwX1_likely_1 : List UInt8 := [28, 27, 182, 1, 16, 173]
abbrev dktX1_likely_1 : List UInt8 := dkwX1_likely_1 ++ []
def dkwX1_likely_0 : List UInt8 := [42, 27, 182, 0, 226, 42, 28, 3, 8, 182, 0, 113, 42, 42, 182, 1, 3, 27, 182, 1, 6, 182, 1, 10]
abbrev dktX1_likely_0 : List UInt8 := dkwX1_likely_0 ++ dktX1_likely_1
theorem dksX1_likely_0 : cX1_likely.data.toList.drop 0 = dktX1_likely_0 := by decide +kernel
theorem dksX1_likely_1 : cX1_likely.data.toList.drop 24 = dktX1_likely_1 := dk_seg dksX1_likely_0 24 rfl rfl
theorem dX1_likely_0 : decode cX1_likely 0 = .ok (.aload_n 0, 1) := dk_42 (dk_at dksX1_likely_0 0 rfl rfl)
theorem dX1_likely_1 : decode cX1_likely 1 = .ok (.iload_n 1, 1) := dk_27 (dk_at dksX1_likely_0 1 rfl rfl)
theorem dX1_likely_2 : decode cX1_likely 2 = .ok (.invokevirtual 226, 3) := dk_182 0 226 (dk_at dksX1_likely_0 2 rfl rfl)
theorem dX1_likely_5 : decode cX1_likely 5 = .ok (.aload_n 0, 1) := dk_42 (dk_at dksX1_likely_0 5 rfl rfl)
theorem dX1_likely_6 : decode cX1_likely 6 = .ok (.iload_n 2, 1) := dk_28 (dk_at dksX1_likely_0 6 rfl rfl)
theorem dX1_likely_7 : decode cX1_likely 7 = .ok (.iconst 0, 1) := dk_3 (dk_at dksX1_likely_0 7 rfl rfl)
theorem dX1_likely_8 : decode cX1_likely 8 = .ok (.iconst 5, 1) := dk_8 (dk_at dksX1_likely_0 8 rfl rfl)
theorem dX1_likely_9 : decode cX1_likely 9 = .ok (.invokevirtual 113, 3) := dk_182 0 113 (dk_at dksX1_likely_0 9 rfl rfl)
theorem dX1_likely_12 : decode cX1_likely 12 = .ok (.aload_n 0, 1) := dk_42 (dk_at dksX1_likely_0 12 rfl rfl)
theorem dX1_likely_13 : decode cX1_likely 13 = .ok (.aload_n 0, 1) := dk_42 (dk_at dksX1_likely_0 13 rfl rfl)
theorem dX1_likely_14 : decode cX1_likely 14 = .ok (.invokevirtual 259, 3) := dk_182 1 3 (dk_at dksX1_likely_0 14 rfl rfl)
theorem dX1_likely_17 : decode cX1_likely 17 = .ok (.iload_n 1, 1) := dk_27 (dk_at dksX1_likely_0 17 rfl rfl)
theorem dX1_likely_18 : decode cX1_likely 18 = .ok (.invokevirtual 262, 3) := dk_182 1 6 (dk_at dksX1_likely_0 18 rfl rfl)
theorem dX1_likely_21 : decode cX1_likely 21 = .ok (.invokevirtual 266, 3) := dk_182 1 10 (dk_at dksX1_likely_0 21 rfl rfl)
theorem dX1_likely_24 : decode cX1_likely 24 = .ok (.iload_n 2, 1) := dk_28 (dk_at dksX1_likely_1 0 rfl rfl)
theorem dX1_likely_25 : decode cX1_likely 25 = .ok (.iload_n 1, 1) := dk_27 (dk_at dksX1_likely_1 1 rfl rfl)
theorem dX1_likely_26 : decode cX1_likely 26 = .ok (.invokevirtual 272, 3) := dk_182 1 16 (dk_at dksX1_likely_1 2 rfl rfl)
theorem dX1_likely_29 : decode cX1_likely 29 = .ok (.lreturn, 1) := dk_173 (dk_at dksX1_likely_1 5 rfl rfl)
abbrev cX1_state : ByteArray := prog_1_method_25_code
def yX1_state : MethodName := ⟨RX1, "state", "(IIII)J"⟩
def dkwX1_state_2 : List UInt8 := [173]
abbrev dktX1_state_2 : List UInt8 := dkwX1_state_2 ++ []
def dkwX1_state_1 : List UInt8 := [3, 4, 182, 0, 113, 42, 42, 182, 1, 3, 27, 182, 1, 6, 182, 1, 10, 28, 29, 21, 4, 182, 1, 20]
abbrev dktX1_state_1 : List UInt8 := dkwX1_state_1 ++ dktX1_state_2
def dkwX1_state_0 : List UInt8 := [42, 27, 182, 0, 226, 42, 28, 3, 16, 12, 182, 0, 113, 42, 29, 3, 16, 12, 182, 0, 113, 42, 21, 4]
abbrev dktX1_state_0 : List UInt8 := dkwX1_state_0 ++ dktX1_state_1
theorem dksX1_state_0 : cX1_state.data.toList.drop 0 = dktX1_state_0 := by decide +kernel
theorem dksX1_state_1 : cX1_state.data.toList.drop 24 = dktX1_state_1 := dk_seg dksX1_state_0 24 rfl rfl
theorem dksX1_state_2 : cX1_state.data.toList.drop 48 = dktX1_state_2 := dk_seg dksX1_state_1 24 rfl rfl
theorem dX1_state_0 : decode cX1_state 0 = .ok (.aload_n 0, 1) := dk_42 (dk_at dksX1_state_0 0 rfl rfl)
theorem dX1_state_1 : decode cX1_state 1 = .ok (.iload_n 1, 1) := dk_27 (dk_at dksX1_state_0 1 rfl rfl)
theorem dX1_state_2 : decode cX1_state 2 = .ok (.invokevirtual 226, 3) := dk_182 0 226 (dk_at dksX1_state_0 2 rfl rfl)
theorem dX1_state_5 : decode cX1_state 5 = .ok (.aload_n 0, 1) := dk_42 (dk_at dksX1_state_0 5 rfl rfl)
theorem dX1_state_6 : decode cX1_state 6 = .ok (.iload_n 2, 1) := dk_28 (dk_at dksX1_state_0 6 rfl rfl)
theorem dX1_state_7 : decode cX1_state 7 = .ok (.iconst 0, 1) := dk_3 (dk_at dksX1_state_0 7 rfl rfl)
theorem dX1_state_8 : decode cX1_state 8 = .ok (.bipush 12, 2) := dk_16 12 (dk_at dksX1_state_0 8 rfl rfl)
theorem dX1_state_10 : decode cX1_state 10 = .ok (.invokevirtual 113, 3) := dk_182 0 113 (dk_at dksX1_state_0 10 rfl rfl)
theorem dX1_state_13 : decode cX1_state 13 = .ok (.aload_n 0, 1) := dk_42 (dk_at dksX1_state_0 13 rfl rfl)
theorem dX1_state_14 : decode cX1_state 14 = .ok (.iload_n 3, 1) := dk_29 (dk_at dksX1_state_0 14 rfl rfl)
theorem dX1_state_15 : decode cX1_state 15 = .ok (.iconst 0, 1) := dk_3 (dk_at dksX1_state_0 15 rfl rfl)
theorem dX1_state_16 : decode cX1_state 16 = .ok (.bipush 12, 2) := dk_16 12 (dk_at dksX1_state_0 16 rfl rfl)
theorem dX1_state_18 : decode cX1_state 18 = .ok (.invokevirtual 113, 3) := dk_182 0 113 (dk_at dksX1_state_0 18 rfl rfl)
theorem dX1_state_21 : decode cX1_state 21 = .ok (.aload_n 0, 1) := dk_42 (dk_at dksX1_state_0 21 rfl rfl)
theorem dX1_state_22 : decode cX1_state 22 = .ok (.iload 4, 2) := dk_21 4 (dk_at dksX1_state_0 22 rfl rfl)
theorem dX1_state_24 : decode cX1_state 24 = .ok (.iconst 0, 1) := dk_3 (dk_at dksX1_state_1 0 rfl rfl)
theorem dX1_state_25 : decode cX1_state 25 = .ok (.iconst 1, 1) := dk_4 (dk_at dksX1_state_1 1 rfl rfl)
theorem dX1_state_26 : decode cX1_state 26 = .ok (.invokevirtual 113, 3) := dk_182 0 113 (dk_at dksX1_state_1 2 rfl rfl)
theorem dX1_state_29 : decode cX1_state 29 = .ok (.aload_n 0, 1) := dk_42 (dk_at dksX1_state_1 5 rfl rfl)
theorem dX1_state_30 : decode cX1_state 30 = .ok (.aload_n 0, 1) := dk_42 (dk_at dksX1_state_1 6 rfl rfl)
theorem dX1_state_31 : decode cX1_state 31 = .ok (.invokevirtual 259, 3) := dk_182 1 3 (dk_at dksX1_state_1 7 rfl rfl)
theorem dX1_state_34 : decode cX1_state 34 = .ok (.iload_n 1, 1) := dk_27 (dk_at dksX1_state_1 10 rfl rfl)
theorem dX1_state_35 : decode cX1_state 35 = .ok (.invokevirtual 262, 3) := dk_182 1 6 (dk_at dksX1_state_1 11 rfl rfl)
theorem dX1_state_38 : decode cX1_state 38 = .ok (.invokevirtual 266, 3) := dk_182 1 10 (dk_at dksX1_state_1 14 rfl rfl)
theorem dX1_state_41 : decode cX1_state 41 = .ok (.iload_n 2, 1) := dk_28 (dk_at dksX1_state_1 17 rfl rfl)
theorem dX1_state_42 : decode cX1_state 42 = .ok (.iload_n 3, 1) := dk_29 (dk_at dksX1_state_1 18 rfl rfl)
theorem dX1_state_43 : decode cX1_state 43 = .ok (.iload 4, 2) := dk_21 4 (dk_at dksX1_state_1 19 rfl rfl)
theorem dX1_state_45 : decode cX1_state 45 = .ok (.invokevirtual 276, 3) := dk_182 1 20 (dk_at dksX1_state_1 21 rfl rfl)
theorem dX1_state_48 : decode cX1_state 48 = .ok (.lreturn, 1) := dk_173 (dk_at dksX1_state_2 0 rfl rfl)
abbrev cX1_likeliest : ByteArray := prog_1_method_26_code
def yX1_likeliest : MethodName := ⟨RX1, "likeliest", "(I)I"⟩
def dkwX1_likeliest_4 : List UInt8 := [167, 255, 189, 28, 172]
abbrev dktX1_likeliest_4 : List UInt8 := dkwX1_likeliest_4 ++ []
def dkwX1_likeliest_3 : List UInt8 := [167, 0, 15, 16, 100, 21, 5, 104, 21, 6, 96, 61, 22, 7, 66, 132, 6, 1, 167, 255, 205, 132, 5, 1]
abbrev dktX1_likeliest_3 : List UInt8 := dkwX1_likeliest_3 ++ dktX1_likeliest_4
def dkwX1_likeliest_2 : List UInt8 := [21, 5, 21, 6, 5, 108, 21, 6, 5, 112, 182, 1, 20, 55, 7, 22, 7, 33, 148, 157, 0, 6]
abbrev dktX1_likeliest_2 : List UInt8 := dkwX1_likeliest_2 ++ dktX1_likeliest_3
def dkwX1_likeliest_1 : List UInt8 := [54, 5, 21, 5, 16, 12, 163, 0, 66, 3, 54, 6, 21, 6, 16, 25, 163, 0, 50, 42, 180, 0, 45]
abbrev dktX1_likeliest_1 : List UInt8 := dkwX1_likeliest_1 ++ dktX1_likeliest_2
def dkwX1_likeliest_0 : List UInt8 := [42, 27, 182, 0, 226, 42, 42, 182, 1, 3, 27, 182, 1, 6, 182, 1, 10, 87, 2, 61, 9, 66, 3]
abbrev dktX1_likeliest_0 : List UInt8 := dkwX1_likeliest_0 ++ dktX1_likeliest_1
theorem dksX1_likeliest_0 : cX1_likeliest.data.toList.drop 0 = dktX1_likeliest_0 := by decide +kernel
theorem dksX1_likeliest_1 : cX1_likeliest.data.toList.drop 23 = dktX1_likeliest_1 := dk_seg dksX1_likeliest_0 23 rfl rfl
theorem dksX1_likeliest_2 : cX1_likeliest.data.toList.drop 46 = dktX1_likeliest_2 := dk_seg dksX1_likeliest_1 23 rfl rfl
theorem dksX1_likeliest_3 : cX1_likeliest.data.toList.drop 68 = dktX1_likeliest_3 := dk_seg dksX1_likeliest_2 22 rfl rfl
theorem dksX1_likeliest_4 : cX1_likeliest.data.toList.drop 92 = dktX1_likeliest_4 := dk_seg dksX1_likeliest_3 24 rfl rfl
theorem dX1_likeliest_0 : decode cX1_likeliest 0 = .ok (.aload_n 0, 1) := dk_42 (dk_at dksX1_likeliest_0 0 rfl rfl)
theorem dX1_likeliest_1 : decode cX1_likeliest 1 = .ok (.iload_n 1, 1) := dk_27 (dk_at dksX1_likeliest_0 1 rfl rfl)
theorem dX1_likeliest_2 : decode cX1_likeliest 2 = .ok (.invokevirtual 226, 3) := dk_182 0 226 (dk_at dksX1_likeliest_0 2 rfl rfl)
theorem dX1_likeliest_5 : decode cX1_likeliest 5 = .ok (.aload_n 0, 1) := dk_42 (dk_at dksX1_likeliest_0 5 rfl rfl)
theorem dX1_likeliest_6 : decode cX1_likeliest 6 = .ok (.aload_n 0, 1) := dk_42 (dk_at dksX1_likeliest_0 6 rfl rfl)
theorem dX1_likeliest_7 : decode cX1_likeliest 7 = .ok (.invokevirtual 259, 3) := dk_182 1 3 (dk_at dksX1_likeliest_0 7 rfl rfl)
theorem dX1_likeliest_10 : decode cX1_likeliest 10 = .ok (.iload_n 1, 1) := dk_27 (dk_at dksX1_likeliest_0 10 rfl rfl)
theorem dX1_likeliest_11 : decode cX1_likeliest 11 = .ok (.invokevirtual 262, 3) := dk_182 1 6 (dk_at dksX1_likeliest_0 11 rfl rfl)
theorem dX1_likeliest_14 : decode cX1_likeliest 14 = .ok (.invokevirtual 266, 3) := dk_182 1 10 (dk_at dksX1_likeliest_0 14 rfl rfl)
theorem dX1_likeliest_17 : decode cX1_likeliest 17 = .ok (.pop, 1) := dk_87 (dk_at dksX1_likeliest_0 17 rfl rfl)
theorem dX1_likeliest_18 : decode cX1_likeliest 18 = .ok (.iconst (-1), 1) := dk_2 (dk_at dksX1_likeliest_0 18 rfl rfl)
theorem dX1_likeliest_19 : decode cX1_likeliest 19 = .ok (.istore_n 2, 1) := dk_61 (dk_at dksX1_likeliest_0 19 rfl rfl)
theorem dX1_likeliest_20 : decode cX1_likeliest 20 = .ok (.lconst 0, 1) := dk_9 (dk_at dksX1_likeliest_0 20 rfl rfl)
theorem dX1_likeliest_21 : decode cX1_likeliest 21 = .ok (.lstore_n 3, 1) := dk_66 (dk_at dksX1_likeliest_0 21 rfl rfl)
theorem dX1_likeliest_22 : decode cX1_likeliest 22 = .ok (.iconst 0, 1) := dk_3 (dk_at dksX1_likeliest_0 22 rfl rfl)
theorem dX1_likeliest_23 : decode cX1_likeliest 23 = .ok (.istore 5, 2) := dk_54 5 (dk_at dksX1_likeliest_1 0 rfl rfl)
theorem dX1_likeliest_25 : decode cX1_likeliest 25 = .ok (.iload 5, 2) := dk_21 5 (dk_at dksX1_likeliest_1 2 rfl rfl)
theorem dX1_likeliest_27 : decode cX1_likeliest 27 = .ok (.bipush 12, 2) := dk_16 12 (dk_at dksX1_likeliest_1 4 rfl rfl)
theorem dX1_likeliest_29 : decode cX1_likeliest 29 = .ok (.if_icmp .gt 66, 3) := dk_163 0 66 (dk_at dksX1_likeliest_1 6 rfl rfl)
theorem dX1_likeliest_32 : decode cX1_likeliest 32 = .ok (.iconst 0, 1) := dk_3 (dk_at dksX1_likeliest_1 9 rfl rfl)
theorem dX1_likeliest_33 : decode cX1_likeliest 33 = .ok (.istore 6, 2) := dk_54 6 (dk_at dksX1_likeliest_1 10 rfl rfl)
theorem dX1_likeliest_35 : decode cX1_likeliest 35 = .ok (.iload 6, 2) := dk_21 6 (dk_at dksX1_likeliest_1 12 rfl rfl)
theorem dX1_likeliest_37 : decode cX1_likeliest 37 = .ok (.bipush 25, 2) := dk_16 25 (dk_at dksX1_likeliest_1 14 rfl rfl)
theorem dX1_likeliest_39 : decode cX1_likeliest 39 = .ok (.if_icmp .gt 50, 3) := dk_163 0 50 (dk_at dksX1_likeliest_1 16 rfl rfl)
theorem dX1_likeliest_42 : decode cX1_likeliest 42 = .ok (.aload_n 0, 1) := dk_42 (dk_at dksX1_likeliest_1 19 rfl rfl)
theorem dX1_likeliest_43 : decode cX1_likeliest 43 = .ok (.getfield 45, 3) := dk_180 0 45 (dk_at dksX1_likeliest_1 20 rfl rfl)
theorem dX1_likeliest_46 : decode cX1_likeliest 46 = .ok (.iload 5, 2) := dk_21 5 (dk_at dksX1_likeliest_2 0 rfl rfl)
theorem dX1_likeliest_48 : decode cX1_likeliest 48 = .ok (.iload 6, 2) := dk_21 6 (dk_at dksX1_likeliest_2 2 rfl rfl)
theorem dX1_likeliest_50 : decode cX1_likeliest 50 = .ok (.iconst 2, 1) := dk_5 (dk_at dksX1_likeliest_2 4 rfl rfl)
theorem dX1_likeliest_51 : decode cX1_likeliest 51 = .ok (.idiv, 1) := dk_108 (dk_at dksX1_likeliest_2 5 rfl rfl)
theorem dX1_likeliest_52 : decode cX1_likeliest 52 = .ok (.iload 6, 2) := dk_21 6 (dk_at dksX1_likeliest_2 6 rfl rfl)
theorem dX1_likeliest_54 : decode cX1_likeliest 54 = .ok (.iconst 2, 1) := dk_5 (dk_at dksX1_likeliest_2 8 rfl rfl)
theorem dX1_likeliest_55 : decode cX1_likeliest 55 = .ok (.irem, 1) := dk_112 (dk_at dksX1_likeliest_2 9 rfl rfl)
theorem dX1_likeliest_56 : decode cX1_likeliest 56 = .ok (.invokevirtual 276, 3) := dk_182 1 20 (dk_at dksX1_likeliest_2 10 rfl rfl)
theorem dX1_likeliest_59 : decode cX1_likeliest 59 = .ok (.lstore 7, 2) := dk_55 7 (dk_at dksX1_likeliest_2 13 rfl rfl)
theorem dX1_likeliest_61 : decode cX1_likeliest 61 = .ok (.lload 7, 2) := dk_22 7 (dk_at dksX1_likeliest_2 15 rfl rfl)
theorem dX1_likeliest_63 : decode cX1_likeliest 63 = .ok (.lload_n 3, 1) := dk_33 (dk_at dksX1_likeliest_2 17 rfl rfl)
theorem dX1_likeliest_64 : decode cX1_likeliest 64 = .ok (.lcmp, 1) := dk_148 (dk_at dksX1_likeliest_2 18 rfl rfl)
theorem dX1_likeliest_65 : decode cX1_likeliest 65 = .ok (.ifCond .gt 6, 3) := dk_157 0 6 (dk_at dksX1_likeliest_2 19 rfl rfl)
theorem dX1_likeliest_68 : decode cX1_likeliest 68 = .ok (.goto 15, 3) := dk_167 0 15 (dk_at dksX1_likeliest_3 0 rfl rfl)
theorem dX1_likeliest_71 : decode cX1_likeliest 71 = .ok (.bipush 100, 2) := dk_16 100 (dk_at dksX1_likeliest_3 3 rfl rfl)
theorem dX1_likeliest_73 : decode cX1_likeliest 73 = .ok (.iload 5, 2) := dk_21 5 (dk_at dksX1_likeliest_3 5 rfl rfl)
theorem dX1_likeliest_75 : decode cX1_likeliest 75 = .ok (.imul, 1) := dk_104 (dk_at dksX1_likeliest_3 7 rfl rfl)
theorem dX1_likeliest_76 : decode cX1_likeliest 76 = .ok (.iload 6, 2) := dk_21 6 (dk_at dksX1_likeliest_3 8 rfl rfl)
theorem dX1_likeliest_78 : decode cX1_likeliest 78 = .ok (.iadd, 1) := dk_96 (dk_at dksX1_likeliest_3 10 rfl rfl)
theorem dX1_likeliest_79 : decode cX1_likeliest 79 = .ok (.istore_n 2, 1) := dk_61 (dk_at dksX1_likeliest_3 11 rfl rfl)
theorem dX1_likeliest_80 : decode cX1_likeliest 80 = .ok (.lload 7, 2) := dk_22 7 (dk_at dksX1_likeliest_3 12 rfl rfl)
theorem dX1_likeliest_82 : decode cX1_likeliest 82 = .ok (.lstore_n 3, 1) := dk_66 (dk_at dksX1_likeliest_3 14 rfl rfl)
theorem dX1_likeliest_83 : decode cX1_likeliest 83 = .ok (.iinc 6 1, 3) := dk_132 6 1 (dk_at dksX1_likeliest_3 15 rfl rfl)
theorem dX1_likeliest_86 : decode cX1_likeliest 86 = .ok (.goto (-51), 3) := dk_167 255 205 (dk_at dksX1_likeliest_3 18 rfl rfl)
theorem dX1_likeliest_89 : decode cX1_likeliest 89 = .ok (.iinc 5 1, 3) := dk_132 5 1 (dk_at dksX1_likeliest_3 21 rfl rfl)
theorem dX1_likeliest_92 : decode cX1_likeliest 92 = .ok (.goto (-67), 3) := dk_167 255 189 (dk_at dksX1_likeliest_4 0 rfl rfl)
theorem dX1_likeliest_95 : decode cX1_likeliest 95 = .ok (.iload_n 2, 1) := dk_28 (dk_at dksX1_likeliest_4 3 rfl rfl)
theorem dX1_likeliest_96 : decode cX1_likeliest 96 = .ok (.ireturn, 1) := dk_172 (dk_at dksX1_likeliest_4 4 rfl rfl)
abbrev cX1_mean : ByteArray := prog_1_method_27_code
def yX1_mean : MethodName := ⟨RX1, "mean", "(III)J"⟩
def dkwX1_mean_1 : List UInt8 := [182, 1, 6, 182, 1, 10, 28, 182, 1, 27, 20, 1, 31, 29, 184, 1, 33, 173]
abbrev dktX1_mean_1 : List UInt8 := dkwX1_mean_1 ++ []
def dkwX1_mean_0 : List UInt8 := [42, 27, 182, 0, 226, 42, 28, 3, 4, 182, 0, 113, 42, 29, 182, 1, 24, 42, 42, 182, 1, 3, 27]
abbrev dktX1_mean_0 : List UInt8 := dkwX1_mean_0 ++ dktX1_mean_1
theorem dksX1_mean_0 : cX1_mean.data.toList.drop 0 = dktX1_mean_0 := by decide +kernel
theorem dksX1_mean_1 : cX1_mean.data.toList.drop 23 = dktX1_mean_1 := dk_seg dksX1_mean_0 23 rfl rfl
theorem dX1_mean_0 : decode cX1_mean 0 = .ok (.aload_n 0, 1) := dk_42 (dk_at dksX1_mean_0 0 rfl rfl)
theorem dX1_mean_1 : decode cX1_mean 1 = .ok (.iload_n 1, 1) := dk_27 (dk_at dksX1_mean_0 1 rfl rfl)
theorem dX1_mean_2 : decode cX1_mean 2 = .ok (.invokevirtual 226, 3) := dk_182 0 226 (dk_at dksX1_mean_0 2 rfl rfl)
theorem dX1_mean_5 : decode cX1_mean 5 = .ok (.aload_n 0, 1) := dk_42 (dk_at dksX1_mean_0 5 rfl rfl)
theorem dX1_mean_6 : decode cX1_mean 6 = .ok (.iload_n 2, 1) := dk_28 (dk_at dksX1_mean_0 6 rfl rfl)
theorem dX1_mean_7 : decode cX1_mean 7 = .ok (.iconst 0, 1) := dk_3 (dk_at dksX1_mean_0 7 rfl rfl)
theorem dX1_mean_8 : decode cX1_mean 8 = .ok (.iconst 1, 1) := dk_4 (dk_at dksX1_mean_0 8 rfl rfl)
theorem dX1_mean_9 : decode cX1_mean 9 = .ok (.invokevirtual 113, 3) := dk_182 0 113 (dk_at dksX1_mean_0 9 rfl rfl)
theorem dX1_mean_12 : decode cX1_mean 12 = .ok (.aload_n 0, 1) := dk_42 (dk_at dksX1_mean_0 12 rfl rfl)
theorem dX1_mean_13 : decode cX1_mean 13 = .ok (.iload_n 3, 1) := dk_29 (dk_at dksX1_mean_0 13 rfl rfl)
theorem dX1_mean_14 : decode cX1_mean 14 = .ok (.invokevirtual 280, 3) := dk_182 1 24 (dk_at dksX1_mean_0 14 rfl rfl)
theorem dX1_mean_17 : decode cX1_mean 17 = .ok (.aload_n 0, 1) := dk_42 (dk_at dksX1_mean_0 17 rfl rfl)
theorem dX1_mean_18 : decode cX1_mean 18 = .ok (.aload_n 0, 1) := dk_42 (dk_at dksX1_mean_0 18 rfl rfl)
theorem dX1_mean_19 : decode cX1_mean 19 = .ok (.invokevirtual 259, 3) := dk_182 1 3 (dk_at dksX1_mean_0 19 rfl rfl)
theorem dX1_mean_22 : decode cX1_mean 22 = .ok (.iload_n 1, 1) := dk_27 (dk_at dksX1_mean_0 22 rfl rfl)
theorem dX1_mean_23 : decode cX1_mean 23 = .ok (.invokevirtual 262, 3) := dk_182 1 6 (dk_at dksX1_mean_1 0 rfl rfl)
theorem dX1_mean_26 : decode cX1_mean 26 = .ok (.invokevirtual 266, 3) := dk_182 1 10 (dk_at dksX1_mean_1 3 rfl rfl)
theorem dX1_mean_29 : decode cX1_mean 29 = .ok (.iload_n 2, 1) := dk_28 (dk_at dksX1_mean_1 6 rfl rfl)
theorem dX1_mean_30 : decode cX1_mean 30 = .ok (.invokevirtual 283, 3) := dk_182 1 27 (dk_at dksX1_mean_1 7 rfl rfl)
theorem dX1_mean_33 : decode cX1_mean 33 = .ok (.ldc2_w 287, 3) := dk_20 1 31 (dk_at dksX1_mean_1 10 rfl rfl)
theorem dX1_mean_36 : decode cX1_mean 36 = .ok (.iload_n 3, 1) := dk_29 (dk_at dksX1_mean_1 13 rfl rfl)
theorem dX1_mean_37 : decode cX1_mean 37 = .ok (.invokestatic 289, 3) := dk_184 1 33 (dk_at dksX1_mean_1 14 rfl rfl)
theorem dX1_mean_40 : decode cX1_mean 40 = .ok (.lreturn, 1) := dk_173 (dk_at dksX1_mean_1 17 rfl rfl)
abbrev cX1_partOf : ByteArray := prog_1_method_22_code
def yX1_partOf : MethodName := ⟨RX1, "partOf", "(I)V"⟩
def dkwX1_partOf_0 : List UInt8 := [42, 27, 3, 4, 182, 0, 113, 177]
abbrev dktX1_partOf_0 : List UInt8 := dkwX1_partOf_0 ++ []
theorem dksX1_partOf_0 : cX1_partOf.data.toList.drop 0 = dktX1_partOf_0 := by decide +kernel
theorem dX1_partOf_0 : decode cX1_partOf 0 = .ok (.aload_n 0, 1) := dk_42 (dk_at dksX1_partOf_0 0 rfl rfl)
theorem dX1_partOf_1 : decode cX1_partOf 1 = .ok (.iload_n 1, 1) := dk_27 (dk_at dksX1_partOf_0 1 rfl rfl)
theorem dX1_partOf_2 : decode cX1_partOf 2 = .ok (.iconst 0, 1) := dk_3 (dk_at dksX1_partOf_0 2 rfl rfl)
theorem dX1_partOf_3 : decode cX1_partOf 3 = .ok (.iconst 1, 1) := dk_4 (dk_at dksX1_partOf_0 3 rfl rfl)
theorem dX1_partOf_4 : decode cX1_partOf 4 = .ok (.invokevirtual 113, 3) := dk_182 0 113 (dk_at dksX1_partOf_0 4 rfl rfl)
theorem dX1_partOf_7 : decode cX1_partOf 7 = .ok (.return_, 1) := dk_177 (dk_at dksX1_partOf_0 7 rfl rfl)
abbrev cX1_part : ByteArray := prog_1_method_21_code
def yX1_part : MethodName := ⟨RX1, "part", "(JJI)J"⟩
def dkwX1_part_1 : List UInt8 := [22, 9, 55, 7, 167, 255, 234, 21, 4, 154, 0, 10, 30, 22, 5, 109, 167, 0, 7, 32, 22, 5, 109, 173]
abbrev dktX1_part_1 : List UInt8 := dkwX1_part_1 ++ []
def dkwX1_part_0 : List UInt8 := [32, 55, 5, 30, 55, 7, 22, 7, 9, 148, 153, 0, 21, 22, 5, 22, 7, 113, 55, 9, 22, 7, 55, 5]
abbrev dktX1_part_0 : List UInt8 := dkwX1_part_0 ++ dktX1_part_1
theorem dksX1_part_0 : cX1_part.data.toList.drop 0 = dktX1_part_0 := by decide +kernel
theorem dksX1_part_1 : cX1_part.data.toList.drop 24 = dktX1_part_1 := dk_seg dksX1_part_0 24 rfl rfl
theorem dX1_part_0 : decode cX1_part 0 = .ok (.lload_n 2, 1) := dk_32 (dk_at dksX1_part_0 0 rfl rfl)
theorem dX1_part_1 : decode cX1_part 1 = .ok (.lstore 5, 2) := dk_55 5 (dk_at dksX1_part_0 1 rfl rfl)
theorem dX1_part_3 : decode cX1_part 3 = .ok (.lload_n 0, 1) := dk_30 (dk_at dksX1_part_0 3 rfl rfl)
theorem dX1_part_4 : decode cX1_part 4 = .ok (.lstore 7, 2) := dk_55 7 (dk_at dksX1_part_0 4 rfl rfl)
theorem dX1_part_6 : decode cX1_part 6 = .ok (.lload 7, 2) := dk_22 7 (dk_at dksX1_part_0 6 rfl rfl)
theorem dX1_part_8 : decode cX1_part 8 = .ok (.lconst 0, 1) := dk_9 (dk_at dksX1_part_0 8 rfl rfl)
theorem dX1_part_9 : decode cX1_part 9 = .ok (.lcmp, 1) := dk_148 (dk_at dksX1_part_0 9 rfl rfl)
theorem dX1_part_10 : decode cX1_part 10 = .ok (.ifCond .eq 21, 3) := dk_153 0 21 (dk_at dksX1_part_0 10 rfl rfl)
theorem dX1_part_13 : decode cX1_part 13 = .ok (.lload 5, 2) := dk_22 5 (dk_at dksX1_part_0 13 rfl rfl)
theorem dX1_part_15 : decode cX1_part 15 = .ok (.lload 7, 2) := dk_22 7 (dk_at dksX1_part_0 15 rfl rfl)
theorem dX1_part_17 : decode cX1_part 17 = .ok (.lrem, 1) := dk_113 (dk_at dksX1_part_0 17 rfl rfl)
theorem dX1_part_18 : decode cX1_part 18 = .ok (.lstore 9, 2) := dk_55 9 (dk_at dksX1_part_0 18 rfl rfl)
theorem dX1_part_20 : decode cX1_part 20 = .ok (.lload 7, 2) := dk_22 7 (dk_at dksX1_part_0 20 rfl rfl)
theorem dX1_part_22 : decode cX1_part 22 = .ok (.lstore 5, 2) := dk_55 5 (dk_at dksX1_part_0 22 rfl rfl)
theorem dX1_part_24 : decode cX1_part 24 = .ok (.lload 9, 2) := dk_22 9 (dk_at dksX1_part_1 0 rfl rfl)
theorem dX1_part_26 : decode cX1_part 26 = .ok (.lstore 7, 2) := dk_55 7 (dk_at dksX1_part_1 2 rfl rfl)
theorem dX1_part_28 : decode cX1_part 28 = .ok (.goto (-22), 3) := dk_167 255 234 (dk_at dksX1_part_1 4 rfl rfl)
theorem dX1_part_31 : decode cX1_part 31 = .ok (.iload 4, 2) := dk_21 4 (dk_at dksX1_part_1 7 rfl rfl)
theorem dX1_part_33 : decode cX1_part 33 = .ok (.ifCond .ne 10, 3) := dk_154 0 10 (dk_at dksX1_part_1 9 rfl rfl)
theorem dX1_part_36 : decode cX1_part 36 = .ok (.lload_n 0, 1) := dk_30 (dk_at dksX1_part_1 12 rfl rfl)
theorem dX1_part_37 : decode cX1_part 37 = .ok (.lload 5, 2) := dk_22 5 (dk_at dksX1_part_1 13 rfl rfl)
theorem dX1_part_39 : decode cX1_part 39 = .ok (.ldiv, 1) := dk_109 (dk_at dksX1_part_1 15 rfl rfl)
theorem dX1_part_40 : decode cX1_part 40 = .ok (.goto 7, 3) := dk_167 0 7 (dk_at dksX1_part_1 16 rfl rfl)
theorem dX1_part_43 : decode cX1_part 43 = .ok (.lload_n 2, 1) := dk_32 (dk_at dksX1_part_1 19 rfl rfl)
theorem dX1_part_44 : decode cX1_part 44 = .ok (.lload 5, 2) := dk_22 5 (dk_at dksX1_part_1 20 rfl rfl)
theorem dX1_part_46 : decode cX1_part 46 = .ok (.ldiv, 1) := dk_109 (dk_at dksX1_part_1 22 rfl rfl)
theorem dX1_part_47 : decode cX1_part 47 = .ok (.lreturn, 1) := dk_173 (dk_at dksX1_part_1 23 rfl rfl)
abbrev cX1_often : ByteArray := prog_1_method_28_code
def yX1_often : MethodName := ⟨RX1, "often", "(I)J"⟩
def dkwX1_often_3 : List UInt8 := [180, 0, 91, 133, 105, 27, 184, 1, 33, 173]
abbrev dktX1_often_3 : List UInt8 := dkwX1_often_3 ++ []
def dkwX1_often_2 : List UInt8 := [180, 0, 16, 180, 0, 91, 154, 0, 8, 27, 133, 167, 0, 20, 32, 20, 1, 31, 42, 180, 0, 16]
abbrev dktX1_often_2 : List UInt8 := dkwX1_often_2 ++ dktX1_often_3
def dkwX1_often_1 : List UInt8 := [42, 182, 1, 3, 21, 4, 182, 1, 6, 182, 1, 10, 182, 1, 37, 97, 65, 132, 4, 1, 167, 255, 222, 42]
abbrev dktX1_often_1 : List UInt8 := dkwX1_often_1 ++ dktX1_often_2
def dkwX1_often_0 : List UInt8 := [42, 27, 182, 1, 24, 9, 65, 3, 54, 4, 21, 4, 42, 180, 0, 16, 180, 0, 91, 162, 0, 28, 32, 42]
abbrev dktX1_often_0 : List UInt8 := dkwX1_often_0 ++ dktX1_often_1
theorem dksX1_often_0 : cX1_often.data.toList.drop 0 = dktX1_often_0 := by decide +kernel
theorem dksX1_often_1 : cX1_often.data.toList.drop 24 = dktX1_often_1 := dk_seg dksX1_often_0 24 rfl rfl
theorem dksX1_often_2 : cX1_often.data.toList.drop 48 = dktX1_often_2 := dk_seg dksX1_often_1 24 rfl rfl
theorem dksX1_often_3 : cX1_often.data.toList.drop 70 = dktX1_often_3 := dk_seg dksX1_often_2 22 rfl rfl
theorem dX1_often_0 : decode cX1_often 0 = .ok (.aload_n 0, 1) := dk_42 (dk_at dksX1_often_0 0 rfl rfl)
theorem dX1_often_1 : decode cX1_often 1 = .ok (.iload_n 1, 1) := dk_27 (dk_at dksX1_often_0 1 rfl rfl)
theorem dX1_often_2 : decode cX1_often 2 = .ok (.invokevirtual 280, 3) := dk_182 1 24 (dk_at dksX1_often_0 2 rfl rfl)
theorem dX1_often_5 : decode cX1_often 5 = .ok (.lconst 0, 1) := dk_9 (dk_at dksX1_often_0 5 rfl rfl)
theorem dX1_often_6 : decode cX1_often 6 = .ok (.lstore_n 2, 1) := dk_65 (dk_at dksX1_often_0 6 rfl rfl)
theorem dX1_often_7 : decode cX1_often 7 = .ok (.iconst 0, 1) := dk_3 (dk_at dksX1_often_0 7 rfl rfl)
theorem dX1_often_8 : decode cX1_often 8 = .ok (.istore 4, 2) := dk_54 4 (dk_at dksX1_often_0 8 rfl rfl)
theorem dX1_often_10 : decode cX1_often 10 = .ok (.iload 4, 2) := dk_21 4 (dk_at dksX1_often_0 10 rfl rfl)
theorem dX1_often_12 : decode cX1_often 12 = .ok (.aload_n 0, 1) := dk_42 (dk_at dksX1_often_0 12 rfl rfl)
theorem dX1_often_13 : decode cX1_often 13 = .ok (.getfield 16, 3) := dk_180 0 16 (dk_at dksX1_often_0 13 rfl rfl)
theorem dX1_often_16 : decode cX1_often 16 = .ok (.getfield 91, 3) := dk_180 0 91 (dk_at dksX1_often_0 16 rfl rfl)
theorem dX1_often_19 : decode cX1_often 19 = .ok (.if_icmp .ge 28, 3) := dk_162 0 28 (dk_at dksX1_often_0 19 rfl rfl)
theorem dX1_often_22 : decode cX1_often 22 = .ok (.lload_n 2, 1) := dk_32 (dk_at dksX1_often_0 22 rfl rfl)
theorem dX1_often_23 : decode cX1_often 23 = .ok (.aload_n 0, 1) := dk_42 (dk_at dksX1_often_0 23 rfl rfl)
theorem dX1_often_24 : decode cX1_often 24 = .ok (.aload_n 0, 1) := dk_42 (dk_at dksX1_often_1 0 rfl rfl)
theorem dX1_often_25 : decode cX1_often 25 = .ok (.invokevirtual 259, 3) := dk_182 1 3 (dk_at dksX1_often_1 1 rfl rfl)
theorem dX1_often_28 : decode cX1_often 28 = .ok (.iload 4, 2) := dk_21 4 (dk_at dksX1_often_1 4 rfl rfl)
theorem dX1_often_30 : decode cX1_often 30 = .ok (.invokevirtual 262, 3) := dk_182 1 6 (dk_at dksX1_often_1 6 rfl rfl)
theorem dX1_often_33 : decode cX1_often 33 = .ok (.invokevirtual 266, 3) := dk_182 1 10 (dk_at dksX1_often_1 9 rfl rfl)
theorem dX1_often_36 : decode cX1_often 36 = .ok (.invokevirtual 293, 3) := dk_182 1 37 (dk_at dksX1_often_1 12 rfl rfl)
theorem dX1_often_39 : decode cX1_often 39 = .ok (.ladd, 1) := dk_97 (dk_at dksX1_often_1 15 rfl rfl)
theorem dX1_often_40 : decode cX1_often 40 = .ok (.lstore_n 2, 1) := dk_65 (dk_at dksX1_often_1 16 rfl rfl)
theorem dX1_often_41 : decode cX1_often 41 = .ok (.iinc 4 1, 3) := dk_132 4 1 (dk_at dksX1_often_1 17 rfl rfl)
theorem dX1_often_44 : decode cX1_often 44 = .ok (.goto (-34), 3) := dk_167 255 222 (dk_at dksX1_often_1 20 rfl rfl)
theorem dX1_often_47 : decode cX1_often 47 = .ok (.aload_n 0, 1) := dk_42 (dk_at dksX1_often_1 23 rfl rfl)
theorem dX1_often_48 : decode cX1_often 48 = .ok (.getfield 16, 3) := dk_180 0 16 (dk_at dksX1_often_2 0 rfl rfl)
theorem dX1_often_51 : decode cX1_often 51 = .ok (.getfield 91, 3) := dk_180 0 91 (dk_at dksX1_often_2 3 rfl rfl)
theorem dX1_often_54 : decode cX1_often 54 = .ok (.ifCond .ne 8, 3) := dk_154 0 8 (dk_at dksX1_often_2 6 rfl rfl)
theorem dX1_often_57 : decode cX1_often 57 = .ok (.iload_n 1, 1) := dk_27 (dk_at dksX1_often_2 9 rfl rfl)
theorem dX1_often_58 : decode cX1_often 58 = .ok (.i2l, 1) := dk_133 (dk_at dksX1_often_2 10 rfl rfl)
theorem dX1_often_59 : decode cX1_often 59 = .ok (.goto 20, 3) := dk_167 0 20 (dk_at dksX1_often_2 11 rfl rfl)
theorem dX1_often_62 : decode cX1_often 62 = .ok (.lload_n 2, 1) := dk_32 (dk_at dksX1_often_2 14 rfl rfl)
theorem dX1_often_63 : decode cX1_often 63 = .ok (.ldc2_w 287, 3) := dk_20 1 31 (dk_at dksX1_often_2 15 rfl rfl)
theorem dX1_often_66 : decode cX1_often 66 = .ok (.aload_n 0, 1) := dk_42 (dk_at dksX1_often_2 18 rfl rfl)
theorem dX1_often_67 : decode cX1_often 67 = .ok (.getfield 16, 3) := dk_180 0 16 (dk_at dksX1_often_2 19 rfl rfl)
theorem dX1_often_70 : decode cX1_often 70 = .ok (.getfield 91, 3) := dk_180 0 91 (dk_at dksX1_often_3 0 rfl rfl)
theorem dX1_often_73 : decode cX1_often 73 = .ok (.i2l, 1) := dk_133 (dk_at dksX1_often_3 3 rfl rfl)
theorem dX1_often_74 : decode cX1_often 74 = .ok (.lmul, 1) := dk_105 (dk_at dksX1_often_3 4 rfl rfl)
theorem dX1_often_75 : decode cX1_often 75 = .ok (.iload_n 1, 1) := dk_27 (dk_at dksX1_often_3 5 rfl rfl)
theorem dX1_often_76 : decode cX1_often 76 = .ok (.invokestatic 289, 3) := dk_184 1 33 (dk_at dksX1_often_3 6 rfl rfl)
theorem dX1_often_79 : decode cX1_often 79 = .ok (.lreturn, 1) := dk_173 (dk_at dksX1_often_3 9 rfl rfl)
abbrev cX1_drunk : ByteArray := prog_1_method_30_code
def yX1_drunk : MethodName := ⟨RX1, "drunk", "(II)J"⟩
def dkwX1_drunk_1 : List UInt8 := [20, 1, 31, 28, 184, 1, 33, 173]
abbrev dktX1_drunk_1 : List UInt8 := dkwX1_drunk_1 ++ []
def dkwX1_drunk_0 : List UInt8 := [42, 27, 182, 0, 149, 42, 28, 182, 1, 24, 42, 42, 182, 1, 3, 182, 1, 10, 180, 1, 43, 27, 47]
abbrev dktX1_drunk_0 : List UInt8 := dkwX1_drunk_0 ++ dktX1_drunk_1
theorem dksX1_drunk_0 : cX1_drunk.data.toList.drop 0 = dktX1_drunk_0 := by decide +kernel
theorem dksX1_drunk_1 : cX1_drunk.data.toList.drop 23 = dktX1_drunk_1 := dk_seg dksX1_drunk_0 23 rfl rfl
theorem dX1_drunk_0 : decode cX1_drunk 0 = .ok (.aload_n 0, 1) := dk_42 (dk_at dksX1_drunk_0 0 rfl rfl)
theorem dX1_drunk_1 : decode cX1_drunk 1 = .ok (.iload_n 1, 1) := dk_27 (dk_at dksX1_drunk_0 1 rfl rfl)
theorem dX1_drunk_2 : decode cX1_drunk 2 = .ok (.invokevirtual 149, 3) := dk_182 0 149 (dk_at dksX1_drunk_0 2 rfl rfl)
theorem dX1_drunk_5 : decode cX1_drunk 5 = .ok (.aload_n 0, 1) := dk_42 (dk_at dksX1_drunk_0 5 rfl rfl)
theorem dX1_drunk_6 : decode cX1_drunk 6 = .ok (.iload_n 2, 1) := dk_28 (dk_at dksX1_drunk_0 6 rfl rfl)
theorem dX1_drunk_7 : decode cX1_drunk 7 = .ok (.invokevirtual 280, 3) := dk_182 1 24 (dk_at dksX1_drunk_0 7 rfl rfl)
theorem dX1_drunk_10 : decode cX1_drunk 10 = .ok (.aload_n 0, 1) := dk_42 (dk_at dksX1_drunk_0 10 rfl rfl)
theorem dX1_drunk_11 : decode cX1_drunk 11 = .ok (.aload_n 0, 1) := dk_42 (dk_at dksX1_drunk_0 11 rfl rfl)
theorem dX1_drunk_12 : decode cX1_drunk 12 = .ok (.invokevirtual 259, 3) := dk_182 1 3 (dk_at dksX1_drunk_0 12 rfl rfl)
theorem dX1_drunk_15 : decode cX1_drunk 15 = .ok (.invokevirtual 266, 3) := dk_182 1 10 (dk_at dksX1_drunk_0 15 rfl rfl)
theorem dX1_drunk_18 : decode cX1_drunk 18 = .ok (.getfield 299, 3) := dk_180 1 43 (dk_at dksX1_drunk_0 18 rfl rfl)
theorem dX1_drunk_21 : decode cX1_drunk 21 = .ok (.iload_n 1, 1) := dk_27 (dk_at dksX1_drunk_0 21 rfl rfl)
theorem dX1_drunk_22 : decode cX1_drunk 22 = .ok (.laload, 1) := dk_47 (dk_at dksX1_drunk_0 22 rfl rfl)
theorem dX1_drunk_23 : decode cX1_drunk 23 = .ok (.ldc2_w 287, 3) := dk_20 1 31 (dk_at dksX1_drunk_1 0 rfl rfl)
theorem dX1_drunk_26 : decode cX1_drunk 26 = .ok (.iload_n 2, 1) := dk_28 (dk_at dksX1_drunk_1 3 rfl rfl)
theorem dX1_drunk_27 : decode cX1_drunk 27 = .ok (.invokestatic 289, 3) := dk_184 1 33 (dk_at dksX1_drunk_1 4 rfl rfl)
theorem dX1_drunk_30 : decode cX1_drunk 30 = .ok (.lreturn, 1) := dk_173 (dk_at dksX1_drunk_1 7 rfl rfl)
abbrev cX1_done : ByteArray := prog_1_method_31_code
def yX1_done : MethodName := ⟨RX1, "done", "(II)J"⟩
def dkwX1_done_2 : List UInt8 := [184, 1, 33, 173]
abbrev dktX1_done_2 : List UInt8 := dkwX1_done_2 ++ []
def dkwX1_done_1 : List UInt8 := [154, 0, 13, 42, 180, 0, 45, 180, 1, 47, 167, 0, 10, 42, 180, 0, 45, 180, 1, 51, 20, 1, 31, 28]
abbrev dktX1_done_1 : List UInt8 := dkwX1_done_1 ++ dktX1_done_2
def dkwX1_done_0 : List UInt8 := [42, 27, 3, 4, 182, 0, 113, 42, 28, 182, 1, 24, 42, 42, 182, 1, 3, 182, 1, 10, 87, 27]
abbrev dktX1_done_0 : List UInt8 := dkwX1_done_0 ++ dktX1_done_1
theorem dksX1_done_0 : cX1_done.data.toList.drop 0 = dktX1_done_0 := by decide +kernel
theorem dksX1_done_1 : cX1_done.data.toList.drop 22 = dktX1_done_1 := dk_seg dksX1_done_0 22 rfl rfl
theorem dksX1_done_2 : cX1_done.data.toList.drop 46 = dktX1_done_2 := dk_seg dksX1_done_1 24 rfl rfl
theorem dX1_done_0 : decode cX1_done 0 = .ok (.aload_n 0, 1) := dk_42 (dk_at dksX1_done_0 0 rfl rfl)
theorem dX1_done_1 : decode cX1_done 1 = .ok (.iload_n 1, 1) := dk_27 (dk_at dksX1_done_0 1 rfl rfl)
theorem dX1_done_2 : decode cX1_done 2 = .ok (.iconst 0, 1) := dk_3 (dk_at dksX1_done_0 2 rfl rfl)
theorem dX1_done_3 : decode cX1_done 3 = .ok (.iconst 1, 1) := dk_4 (dk_at dksX1_done_0 3 rfl rfl)
theorem dX1_done_4 : decode cX1_done 4 = .ok (.invokevirtual 113, 3) := dk_182 0 113 (dk_at dksX1_done_0 4 rfl rfl)
theorem dX1_done_7 : decode cX1_done 7 = .ok (.aload_n 0, 1) := dk_42 (dk_at dksX1_done_0 7 rfl rfl)
theorem dX1_done_8 : decode cX1_done 8 = .ok (.iload_n 2, 1) := dk_28 (dk_at dksX1_done_0 8 rfl rfl)
theorem dX1_done_9 : decode cX1_done 9 = .ok (.invokevirtual 280, 3) := dk_182 1 24 (dk_at dksX1_done_0 9 rfl rfl)
theorem dX1_done_12 : decode cX1_done 12 = .ok (.aload_n 0, 1) := dk_42 (dk_at dksX1_done_0 12 rfl rfl)
theorem dX1_done_13 : decode cX1_done 13 = .ok (.aload_n 0, 1) := dk_42 (dk_at dksX1_done_0 13 rfl rfl)
theorem dX1_done_14 : decode cX1_done 14 = .ok (.invokevirtual 259, 3) := dk_182 1 3 (dk_at dksX1_done_0 14 rfl rfl)
theorem dX1_done_17 : decode cX1_done 17 = .ok (.invokevirtual 266, 3) := dk_182 1 10 (dk_at dksX1_done_0 17 rfl rfl)
theorem dX1_done_20 : decode cX1_done 20 = .ok (.pop, 1) := dk_87 (dk_at dksX1_done_0 20 rfl rfl)
theorem dX1_done_21 : decode cX1_done 21 = .ok (.iload_n 1, 1) := dk_27 (dk_at dksX1_done_0 21 rfl rfl)
theorem dX1_done_22 : decode cX1_done 22 = .ok (.ifCond .ne 13, 3) := dk_154 0 13 (dk_at dksX1_done_1 0 rfl rfl)
theorem dX1_done_25 : decode cX1_done 25 = .ok (.aload_n 0, 1) := dk_42 (dk_at dksX1_done_1 3 rfl rfl)
theorem dX1_done_26 : decode cX1_done 26 = .ok (.getfield 45, 3) := dk_180 0 45 (dk_at dksX1_done_1 4 rfl rfl)
theorem dX1_done_29 : decode cX1_done 29 = .ok (.getfield 303, 3) := dk_180 1 47 (dk_at dksX1_done_1 7 rfl rfl)
theorem dX1_done_32 : decode cX1_done 32 = .ok (.goto 10, 3) := dk_167 0 10 (dk_at dksX1_done_1 10 rfl rfl)
theorem dX1_done_35 : decode cX1_done 35 = .ok (.aload_n 0, 1) := dk_42 (dk_at dksX1_done_1 13 rfl rfl)
theorem dX1_done_36 : decode cX1_done 36 = .ok (.getfield 45, 3) := dk_180 0 45 (dk_at dksX1_done_1 14 rfl rfl)
theorem dX1_done_39 : decode cX1_done 39 = .ok (.getfield 307, 3) := dk_180 1 51 (dk_at dksX1_done_1 17 rfl rfl)
theorem dX1_done_42 : decode cX1_done 42 = .ok (.ldc2_w 287, 3) := dk_20 1 31 (dk_at dksX1_done_1 20 rfl rfl)
theorem dX1_done_45 : decode cX1_done 45 = .ok (.iload_n 2, 1) := dk_28 (dk_at dksX1_done_1 23 rfl rfl)
theorem dX1_done_46 : decode cX1_done 46 = .ok (.invokestatic 289, 3) := dk_184 1 33 (dk_at dksX1_done_2 0 rfl rfl)
theorem dX1_done_49 : decode cX1_done 49 = .ok (.lreturn, 1) := dk_173 (dk_at dksX1_done_2 3 rfl rfl)
abbrev cX1_cost : ByteArray := prog_1_method_32_code
def yX1_cost : MethodName := ⟨RX1, "cost", "(I)J"⟩
def dkwX1_cost_0 : List UInt8 := [42, 27, 182, 1, 24, 42, 42, 182, 1, 3, 182, 1, 10, 182, 1, 54, 20, 1, 31, 27, 184, 1, 33, 173]
abbrev dktX1_cost_0 : List UInt8 := dkwX1_cost_0 ++ []
theorem dksX1_cost_0 : cX1_cost.data.toList.drop 0 = dktX1_cost_0 := by decide +kernel
theorem dX1_cost_0 : decode cX1_cost 0 = .ok (.aload_n 0, 1) := dk_42 (dk_at dksX1_cost_0 0 rfl rfl)
theorem dX1_cost_1 : decode cX1_cost 1 = .ok (.iload_n 1, 1) := dk_27 (dk_at dksX1_cost_0 1 rfl rfl)
theorem dX1_cost_2 : decode cX1_cost 2 = .ok (.invokevirtual 280, 3) := dk_182 1 24 (dk_at dksX1_cost_0 2 rfl rfl)
theorem dX1_cost_5 : decode cX1_cost 5 = .ok (.aload_n 0, 1) := dk_42 (dk_at dksX1_cost_0 5 rfl rfl)
theorem dX1_cost_6 : decode cX1_cost 6 = .ok (.aload_n 0, 1) := dk_42 (dk_at dksX1_cost_0 6 rfl rfl)
theorem dX1_cost_7 : decode cX1_cost 7 = .ok (.invokevirtual 259, 3) := dk_182 1 3 (dk_at dksX1_cost_0 7 rfl rfl)
theorem dX1_cost_10 : decode cX1_cost 10 = .ok (.invokevirtual 266, 3) := dk_182 1 10 (dk_at dksX1_cost_0 10 rfl rfl)
theorem dX1_cost_13 : decode cX1_cost 13 = .ok (.invokevirtual 310, 3) := dk_182 1 54 (dk_at dksX1_cost_0 13 rfl rfl)
theorem dX1_cost_16 : decode cX1_cost 16 = .ok (.ldc2_w 287, 3) := dk_20 1 31 (dk_at dksX1_cost_0 16 rfl rfl)
theorem dX1_cost_19 : decode cX1_cost 19 = .ok (.iload_n 1, 1) := dk_27 (dk_at dksX1_cost_0 19 rfl rfl)
theorem dX1_cost_20 : decode cX1_cost 20 = .ok (.invokestatic 289, 3) := dk_184 1 33 (dk_at dksX1_cost_0 20 rfl rfl)
theorem dX1_cost_23 : decode cX1_cost 23 = .ok (.lreturn, 1) := dk_173 (dk_at dksX1_cost_0 23 rfl rfl)
abbrev cX1_fits : ByteArray := prog_1_method_33_code
def yX1_fits : MethodName := ⟨RX1, "fits", "(I)J"⟩
def dkwX1_fits_1 : List UInt8 := [20, 1, 31, 27, 184, 1, 33, 173]
abbrev dktX1_fits_1 : List UInt8 := dkwX1_fits_1 ++ []
def dkwX1_fits_0 : List UInt8 := [42, 27, 182, 1, 24, 42, 42, 182, 1, 3, 42, 180, 0, 73, 182, 1, 57, 182, 1, 10, 182, 1, 61]
abbrev dktX1_fits_0 : List UInt8 := dkwX1_fits_0 ++ dktX1_fits_1
theorem dksX1_fits_0 : cX1_fits.data.toList.drop 0 = dktX1_fits_0 := by decide +kernel
theorem dksX1_fits_1 : cX1_fits.data.toList.drop 23 = dktX1_fits_1 := dk_seg dksX1_fits_0 23 rfl rfl
theorem dX1_fits_0 : decode cX1_fits 0 = .ok (.aload_n 0, 1) := dk_42 (dk_at dksX1_fits_0 0 rfl rfl)
theorem dX1_fits_1 : decode cX1_fits 1 = .ok (.iload_n 1, 1) := dk_27 (dk_at dksX1_fits_0 1 rfl rfl)
theorem dX1_fits_2 : decode cX1_fits 2 = .ok (.invokevirtual 280, 3) := dk_182 1 24 (dk_at dksX1_fits_0 2 rfl rfl)
theorem dX1_fits_5 : decode cX1_fits 5 = .ok (.aload_n 0, 1) := dk_42 (dk_at dksX1_fits_0 5 rfl rfl)
theorem dX1_fits_6 : decode cX1_fits 6 = .ok (.aload_n 0, 1) := dk_42 (dk_at dksX1_fits_0 6 rfl rfl)
theorem dX1_fits_7 : decode cX1_fits 7 = .ok (.invokevirtual 259, 3) := dk_182 1 3 (dk_at dksX1_fits_0 7 rfl rfl)
theorem dX1_fits_10 : decode cX1_fits 10 = .ok (.aload_n 0, 1) := dk_42 (dk_at dksX1_fits_0 10 rfl rfl)
theorem dX1_fits_11 : decode cX1_fits 11 = .ok (.getfield 73, 3) := dk_180 0 73 (dk_at dksX1_fits_0 11 rfl rfl)
theorem dX1_fits_14 : decode cX1_fits 14 = .ok (.invokevirtual 313, 3) := dk_182 1 57 (dk_at dksX1_fits_0 14 rfl rfl)
theorem dX1_fits_17 : decode cX1_fits 17 = .ok (.invokevirtual 266, 3) := dk_182 1 10 (dk_at dksX1_fits_0 17 rfl rfl)
theorem dX1_fits_20 : decode cX1_fits 20 = .ok (.invokevirtual 317, 3) := dk_182 1 61 (dk_at dksX1_fits_0 20 rfl rfl)
theorem dX1_fits_23 : decode cX1_fits 23 = .ok (.ldc2_w 287, 3) := dk_20 1 31 (dk_at dksX1_fits_1 0 rfl rfl)
theorem dX1_fits_26 : decode cX1_fits 26 = .ok (.iload_n 1, 1) := dk_27 (dk_at dksX1_fits_1 3 rfl rfl)
theorem dX1_fits_27 : decode cX1_fits 27 = .ok (.invokestatic 289, 3) := dk_184 1 33 (dk_at dksX1_fits_1 4 rfl rfl)
theorem dX1_fits_30 : decode cX1_fits 30 = .ok (.lreturn, 1) := dk_173 (dk_at dksX1_fits_1 7 rfl rfl)
abbrev cX1_given : ByteArray := prog_1_method_35_code
def yX1_given : MethodName := ⟨RX1, "given", "(III)J"⟩
def dkwX1_given_2 : List UInt8 := [182, 1, 16, 22, 4, 29, 184, 1, 33, 173]
abbrev dktX1_given_2 : List UInt8 := dkwX1_given_2 ++ []
def dkwX1_given_1 : List UInt8 := [182, 1, 61, 55, 4, 22, 4, 9, 148, 154, 0, 8, 29, 133, 167, 0, 18, 42, 180, 0, 45, 28, 27]
abbrev dktX1_given_1 : List UInt8 := dkwX1_given_1 ++ dktX1_given_2
def dkwX1_given_0 : List UInt8 := [42, 27, 182, 0, 226, 42, 28, 3, 8, 182, 0, 113, 42, 29, 182, 1, 24, 42, 27, 182, 1, 67]
abbrev dktX1_given_0 : List UInt8 := dkwX1_given_0 ++ dktX1_given_1
theorem dksX1_given_0 : cX1_given.data.toList.drop 0 = dktX1_given_0 := by decide +kernel
theorem dksX1_given_1 : cX1_given.data.toList.drop 22 = dktX1_given_1 := dk_seg dksX1_given_0 22 rfl rfl
theorem dksX1_given_2 : cX1_given.data.toList.drop 45 = dktX1_given_2 := dk_seg dksX1_given_1 23 rfl rfl
theorem dX1_given_0 : decode cX1_given 0 = .ok (.aload_n 0, 1) := dk_42 (dk_at dksX1_given_0 0 rfl rfl)
theorem dX1_given_1 : decode cX1_given 1 = .ok (.iload_n 1, 1) := dk_27 (dk_at dksX1_given_0 1 rfl rfl)
theorem dX1_given_2 : decode cX1_given 2 = .ok (.invokevirtual 226, 3) := dk_182 0 226 (dk_at dksX1_given_0 2 rfl rfl)
theorem dX1_given_5 : decode cX1_given 5 = .ok (.aload_n 0, 1) := dk_42 (dk_at dksX1_given_0 5 rfl rfl)
theorem dX1_given_6 : decode cX1_given 6 = .ok (.iload_n 2, 1) := dk_28 (dk_at dksX1_given_0 6 rfl rfl)
theorem dX1_given_7 : decode cX1_given 7 = .ok (.iconst 0, 1) := dk_3 (dk_at dksX1_given_0 7 rfl rfl)
theorem dX1_given_8 : decode cX1_given 8 = .ok (.iconst 5, 1) := dk_8 (dk_at dksX1_given_0 8 rfl rfl)
theorem dX1_given_9 : decode cX1_given 9 = .ok (.invokevirtual 113, 3) := dk_182 0 113 (dk_at dksX1_given_0 9 rfl rfl)
theorem dX1_given_12 : decode cX1_given 12 = .ok (.aload_n 0, 1) := dk_42 (dk_at dksX1_given_0 12 rfl rfl)
theorem dX1_given_13 : decode cX1_given 13 = .ok (.iload_n 3, 1) := dk_29 (dk_at dksX1_given_0 13 rfl rfl)
theorem dX1_given_14 : decode cX1_given 14 = .ok (.invokevirtual 280, 3) := dk_182 1 24 (dk_at dksX1_given_0 14 rfl rfl)
theorem dX1_given_17 : decode cX1_given 17 = .ok (.aload_n 0, 1) := dk_42 (dk_at dksX1_given_0 17 rfl rfl)
theorem dX1_given_18 : decode cX1_given 18 = .ok (.iload_n 1, 1) := dk_27 (dk_at dksX1_given_0 18 rfl rfl)
theorem dX1_given_19 : decode cX1_given 19 = .ok (.invokevirtual 323, 3) := dk_182 1 67 (dk_at dksX1_given_0 19 rfl rfl)
theorem dX1_given_22 : decode cX1_given 22 = .ok (.invokevirtual 317, 3) := dk_182 1 61 (dk_at dksX1_given_1 0 rfl rfl)
theorem dX1_given_25 : decode cX1_given 25 = .ok (.lstore 4, 2) := dk_55 4 (dk_at dksX1_given_1 3 rfl rfl)
theorem dX1_given_27 : decode cX1_given 27 = .ok (.lload 4, 2) := dk_22 4 (dk_at dksX1_given_1 5 rfl rfl)
theorem dX1_given_29 : decode cX1_given 29 = .ok (.lconst 0, 1) := dk_9 (dk_at dksX1_given_1 7 rfl rfl)
theorem dX1_given_30 : decode cX1_given 30 = .ok (.lcmp, 1) := dk_148 (dk_at dksX1_given_1 8 rfl rfl)
theorem dX1_given_31 : decode cX1_given 31 = .ok (.ifCond .ne 8, 3) := dk_154 0 8 (dk_at dksX1_given_1 9 rfl rfl)
theorem dX1_given_34 : decode cX1_given 34 = .ok (.iload_n 3, 1) := dk_29 (dk_at dksX1_given_1 12 rfl rfl)
theorem dX1_given_35 : decode cX1_given 35 = .ok (.i2l, 1) := dk_133 (dk_at dksX1_given_1 13 rfl rfl)
theorem dX1_given_36 : decode cX1_given 36 = .ok (.goto 18, 3) := dk_167 0 18 (dk_at dksX1_given_1 14 rfl rfl)
theorem dX1_given_39 : decode cX1_given 39 = .ok (.aload_n 0, 1) := dk_42 (dk_at dksX1_given_1 17 rfl rfl)
theorem dX1_given_40 : decode cX1_given 40 = .ok (.getfield 45, 3) := dk_180 0 45 (dk_at dksX1_given_1 18 rfl rfl)
theorem dX1_given_43 : decode cX1_given 43 = .ok (.iload_n 2, 1) := dk_28 (dk_at dksX1_given_1 21 rfl rfl)
theorem dX1_given_44 : decode cX1_given 44 = .ok (.iload_n 1, 1) := dk_27 (dk_at dksX1_given_1 22 rfl rfl)
theorem dX1_given_45 : decode cX1_given 45 = .ok (.invokevirtual 272, 3) := dk_182 1 16 (dk_at dksX1_given_2 0 rfl rfl)
theorem dX1_given_48 : decode cX1_given 48 = .ok (.lload 4, 2) := dk_22 4 (dk_at dksX1_given_2 3 rfl rfl)
theorem dX1_given_50 : decode cX1_given 50 = .ok (.iload_n 3, 1) := dk_29 (dk_at dksX1_given_2 5 rfl rfl)
theorem dX1_given_51 : decode cX1_given 51 = .ok (.invokestatic 289, 3) := dk_184 1 33 (dk_at dksX1_given_2 6 rfl rfl)
theorem dX1_given_54 : decode cX1_given 54 = .ok (.lreturn, 1) := dk_173 (dk_at dksX1_given_2 9 rfl rfl)
abbrev cX1_begun : ByteArray := prog_1_method_34_code
def yX1_begun : MethodName := ⟨RX1, "begun", "(I)LCardCups$Flow;"⟩
def dkwX1_begun_0 : List UInt8 := [42, 42, 182, 1, 3, 27, 182, 1, 6, 42, 180, 0, 73, 182, 1, 57, 182, 1, 64, 182, 1, 10, 176]
abbrev dktX1_begun_0 : List UInt8 := dkwX1_begun_0 ++ []
theorem dksX1_begun_0 : cX1_begun.data.toList.drop 0 = dktX1_begun_0 := by decide +kernel
theorem dX1_begun_0 : decode cX1_begun 0 = .ok (.aload_n 0, 1) := dk_42 (dk_at dksX1_begun_0 0 rfl rfl)
theorem dX1_begun_1 : decode cX1_begun 1 = .ok (.aload_n 0, 1) := dk_42 (dk_at dksX1_begun_0 1 rfl rfl)
theorem dX1_begun_2 : decode cX1_begun 2 = .ok (.invokevirtual 259, 3) := dk_182 1 3 (dk_at dksX1_begun_0 2 rfl rfl)
theorem dX1_begun_5 : decode cX1_begun 5 = .ok (.iload_n 1, 1) := dk_27 (dk_at dksX1_begun_0 5 rfl rfl)
theorem dX1_begun_6 : decode cX1_begun 6 = .ok (.invokevirtual 262, 3) := dk_182 1 6 (dk_at dksX1_begun_0 6 rfl rfl)
theorem dX1_begun_9 : decode cX1_begun 9 = .ok (.aload_n 0, 1) := dk_42 (dk_at dksX1_begun_0 9 rfl rfl)
theorem dX1_begun_10 : decode cX1_begun 10 = .ok (.getfield 73, 3) := dk_180 0 73 (dk_at dksX1_begun_0 10 rfl rfl)
theorem dX1_begun_13 : decode cX1_begun 13 = .ok (.invokevirtual 313, 3) := dk_182 1 57 (dk_at dksX1_begun_0 13 rfl rfl)
theorem dX1_begun_16 : decode cX1_begun 16 = .ok (.invokevirtual 320, 3) := dk_182 1 64 (dk_at dksX1_begun_0 16 rfl rfl)
theorem dX1_begun_19 : decode cX1_begun 19 = .ok (.invokevirtual 266, 3) := dk_182 1 10 (dk_at dksX1_begun_0 19 rfl rfl)
theorem dX1_begun_22 : decode cX1_begun 22 = .ok (.areturn, 1) := dk_176 (dk_at dksX1_begun_0 22 rfl rfl)
abbrev cX1_best : ByteArray := prog_1_method_36_code
def yX1_best : MethodName := ⟨RX1, "best", "(I)I"⟩
def dkwX1_best_2 : List UInt8 := [156, 0, 5, 29, 61, 132, 3, 1, 167, 255, 226, 28, 172]
abbrev dktX1_best_2 : List UInt8 := dkwX1_best_2 ++ []
def dkwX1_best_1 : List UInt8 := [29, 7, 162, 0, 31, 42, 180, 0, 45, 29, 182, 1, 70, 42, 180, 0, 45, 28, 182, 1, 70, 148]
abbrev dktX1_best_1 : List UInt8 := dkwX1_best_1 ++ dktX1_best_2
def dkwX1_best_0 : List UInt8 := [42, 27, 182, 0, 226, 42, 27, 182, 1, 67, 182, 1, 61, 9, 148, 154, 0, 5, 2, 172, 3, 61, 4, 62]
abbrev dktX1_best_0 : List UInt8 := dkwX1_best_0 ++ dktX1_best_1
theorem dksX1_best_0 : cX1_best.data.toList.drop 0 = dktX1_best_0 := by decide +kernel
theorem dksX1_best_1 : cX1_best.data.toList.drop 24 = dktX1_best_1 := dk_seg dksX1_best_0 24 rfl rfl
theorem dksX1_best_2 : cX1_best.data.toList.drop 46 = dktX1_best_2 := dk_seg dksX1_best_1 22 rfl rfl
theorem dX1_best_0 : decode cX1_best 0 = .ok (.aload_n 0, 1) := dk_42 (dk_at dksX1_best_0 0 rfl rfl)
theorem dX1_best_1 : decode cX1_best 1 = .ok (.iload_n 1, 1) := dk_27 (dk_at dksX1_best_0 1 rfl rfl)
theorem dX1_best_2 : decode cX1_best 2 = .ok (.invokevirtual 226, 3) := dk_182 0 226 (dk_at dksX1_best_0 2 rfl rfl)
theorem dX1_best_5 : decode cX1_best 5 = .ok (.aload_n 0, 1) := dk_42 (dk_at dksX1_best_0 5 rfl rfl)
theorem dX1_best_6 : decode cX1_best 6 = .ok (.iload_n 1, 1) := dk_27 (dk_at dksX1_best_0 6 rfl rfl)
theorem dX1_best_7 : decode cX1_best 7 = .ok (.invokevirtual 323, 3) := dk_182 1 67 (dk_at dksX1_best_0 7 rfl rfl)
theorem dX1_best_10 : decode cX1_best 10 = .ok (.invokevirtual 317, 3) := dk_182 1 61 (dk_at dksX1_best_0 10 rfl rfl)
theorem dX1_best_13 : decode cX1_best 13 = .ok (.lconst 0, 1) := dk_9 (dk_at dksX1_best_0 13 rfl rfl)
theorem dX1_best_14 : decode cX1_best 14 = .ok (.lcmp, 1) := dk_148 (dk_at dksX1_best_0 14 rfl rfl)
theorem dX1_best_15 : decode cX1_best 15 = .ok (.ifCond .ne 5, 3) := dk_154 0 5 (dk_at dksX1_best_0 15 rfl rfl)
theorem dX1_best_18 : decode cX1_best 18 = .ok (.iconst (-1), 1) := dk_2 (dk_at dksX1_best_0 18 rfl rfl)
theorem dX1_best_19 : decode cX1_best 19 = .ok (.ireturn, 1) := dk_172 (dk_at dksX1_best_0 19 rfl rfl)
theorem dX1_best_20 : decode cX1_best 20 = .ok (.iconst 0, 1) := dk_3 (dk_at dksX1_best_0 20 rfl rfl)
theorem dX1_best_21 : decode cX1_best 21 = .ok (.istore_n 2, 1) := dk_61 (dk_at dksX1_best_0 21 rfl rfl)
theorem dX1_best_22 : decode cX1_best 22 = .ok (.iconst 1, 1) := dk_4 (dk_at dksX1_best_0 22 rfl rfl)
theorem dX1_best_23 : decode cX1_best 23 = .ok (.istore_n 3, 1) := dk_62 (dk_at dksX1_best_0 23 rfl rfl)
theorem dX1_best_24 : decode cX1_best 24 = .ok (.iload_n 3, 1) := dk_29 (dk_at dksX1_best_1 0 rfl rfl)
theorem dX1_best_25 : decode cX1_best 25 = .ok (.iconst 4, 1) := dk_7 (dk_at dksX1_best_1 1 rfl rfl)
theorem dX1_best_26 : decode cX1_best 26 = .ok (.if_icmp .ge 31, 3) := dk_162 0 31 (dk_at dksX1_best_1 2 rfl rfl)
theorem dX1_best_29 : decode cX1_best 29 = .ok (.aload_n 0, 1) := dk_42 (dk_at dksX1_best_1 5 rfl rfl)
theorem dX1_best_30 : decode cX1_best 30 = .ok (.getfield 45, 3) := dk_180 0 45 (dk_at dksX1_best_1 6 rfl rfl)
theorem dX1_best_33 : decode cX1_best 33 = .ok (.iload_n 3, 1) := dk_29 (dk_at dksX1_best_1 9 rfl rfl)
theorem dX1_best_34 : decode cX1_best 34 = .ok (.invokevirtual 326, 3) := dk_182 1 70 (dk_at dksX1_best_1 10 rfl rfl)
theorem dX1_best_37 : decode cX1_best 37 = .ok (.aload_n 0, 1) := dk_42 (dk_at dksX1_best_1 13 rfl rfl)
theorem dX1_best_38 : decode cX1_best 38 = .ok (.getfield 45, 3) := dk_180 0 45 (dk_at dksX1_best_1 14 rfl rfl)
theorem dX1_best_41 : decode cX1_best 41 = .ok (.iload_n 2, 1) := dk_28 (dk_at dksX1_best_1 17 rfl rfl)
theorem dX1_best_42 : decode cX1_best 42 = .ok (.invokevirtual 326, 3) := dk_182 1 70 (dk_at dksX1_best_1 18 rfl rfl)
theorem dX1_best_45 : decode cX1_best 45 = .ok (.lcmp, 1) := dk_148 (dk_at dksX1_best_1 21 rfl rfl)
theorem dX1_best_46 : decode cX1_best 46 = .ok (.ifCond .ge 5, 3) := dk_156 0 5 (dk_at dksX1_best_2 0 rfl rfl)
theorem dX1_best_49 : decode cX1_best 49 = .ok (.iload_n 3, 1) := dk_29 (dk_at dksX1_best_2 3 rfl rfl)
theorem dX1_best_50 : decode cX1_best 50 = .ok (.istore_n 2, 1) := dk_61 (dk_at dksX1_best_2 4 rfl rfl)
theorem dX1_best_51 : decode cX1_best 51 = .ok (.iinc 3 1, 3) := dk_132 3 1 (dk_at dksX1_best_2 5 rfl rfl)
theorem dX1_best_54 : decode cX1_best 54 = .ok (.goto (-30), 3) := dk_167 255 226 (dk_at dksX1_best_2 8 rfl rfl)
theorem dX1_best_57 : decode cX1_best 57 = .ok (.iload_n 2, 1) := dk_28 (dk_at dksX1_best_2 11 rfl rfl)
theorem dX1_best_58 : decode cX1_best 58 = .ok (.ireturn, 1) := dk_172 (dk_at dksX1_best_2 12 rfl rfl)
abbrev cX1_worth : ByteArray := prog_1_method_37_code
def yX1_worth : MethodName := ⟨RX1, "worth", "(III)J"⟩
def dkwX1_worth_2 : List UInt8 := [182, 1, 70, 22, 4, 29, 184, 1, 33, 173]
abbrev dktX1_worth_2 : List UInt8 := dkwX1_worth_2 ++ []
def dkwX1_worth_1 : List UInt8 := [182, 1, 61, 55, 4, 22, 4, 9, 148, 154, 0, 8, 29, 133, 167, 0, 17, 42, 180, 0, 45, 28]
abbrev dktX1_worth_1 : List UInt8 := dkwX1_worth_1 ++ dktX1_worth_2
def dkwX1_worth_0 : List UInt8 := [42, 27, 182, 0, 226, 42, 28, 3, 6, 182, 0, 113, 42, 29, 182, 1, 24, 42, 27, 182, 1, 67]
abbrev dktX1_worth_0 : List UInt8 := dkwX1_worth_0 ++ dktX1_worth_1
theorem dksX1_worth_0 : cX1_worth.data.toList.drop 0 = dktX1_worth_0 := by decide +kernel
theorem dksX1_worth_1 : cX1_worth.data.toList.drop 22 = dktX1_worth_1 := dk_seg dksX1_worth_0 22 rfl rfl
theorem dksX1_worth_2 : cX1_worth.data.toList.drop 44 = dktX1_worth_2 := dk_seg dksX1_worth_1 22 rfl rfl
theorem dX1_worth_0 : decode cX1_worth 0 = .ok (.aload_n 0, 1) := dk_42 (dk_at dksX1_worth_0 0 rfl rfl)
theorem dX1_worth_1 : decode cX1_worth 1 = .ok (.iload_n 1, 1) := dk_27 (dk_at dksX1_worth_0 1 rfl rfl)
theorem dX1_worth_2 : decode cX1_worth 2 = .ok (.invokevirtual 226, 3) := dk_182 0 226 (dk_at dksX1_worth_0 2 rfl rfl)
theorem dX1_worth_5 : decode cX1_worth 5 = .ok (.aload_n 0, 1) := dk_42 (dk_at dksX1_worth_0 5 rfl rfl)
theorem dX1_worth_6 : decode cX1_worth 6 = .ok (.iload_n 2, 1) := dk_28 (dk_at dksX1_worth_0 6 rfl rfl)
theorem dX1_worth_7 : decode cX1_worth 7 = .ok (.iconst 0, 1) := dk_3 (dk_at dksX1_worth_0 7 rfl rfl)
theorem dX1_worth_8 : decode cX1_worth 8 = .ok (.iconst 3, 1) := dk_6 (dk_at dksX1_worth_0 8 rfl rfl)
theorem dX1_worth_9 : decode cX1_worth 9 = .ok (.invokevirtual 113, 3) := dk_182 0 113 (dk_at dksX1_worth_0 9 rfl rfl)
theorem dX1_worth_12 : decode cX1_worth 12 = .ok (.aload_n 0, 1) := dk_42 (dk_at dksX1_worth_0 12 rfl rfl)
theorem dX1_worth_13 : decode cX1_worth 13 = .ok (.iload_n 3, 1) := dk_29 (dk_at dksX1_worth_0 13 rfl rfl)
theorem dX1_worth_14 : decode cX1_worth 14 = .ok (.invokevirtual 280, 3) := dk_182 1 24 (dk_at dksX1_worth_0 14 rfl rfl)
theorem dX1_worth_17 : decode cX1_worth 17 = .ok (.aload_n 0, 1) := dk_42 (dk_at dksX1_worth_0 17 rfl rfl)
theorem dX1_worth_18 : decode cX1_worth 18 = .ok (.iload_n 1, 1) := dk_27 (dk_at dksX1_worth_0 18 rfl rfl)
theorem dX1_worth_19 : decode cX1_worth 19 = .ok (.invokevirtual 323, 3) := dk_182 1 67 (dk_at dksX1_worth_0 19 rfl rfl)
theorem dX1_worth_22 : decode cX1_worth 22 = .ok (.invokevirtual 317, 3) := dk_182 1 61 (dk_at dksX1_worth_1 0 rfl rfl)
theorem dX1_worth_25 : decode cX1_worth 25 = .ok (.lstore 4, 2) := dk_55 4 (dk_at dksX1_worth_1 3 rfl rfl)
theorem dX1_worth_27 : decode cX1_worth 27 = .ok (.lload 4, 2) := dk_22 4 (dk_at dksX1_worth_1 5 rfl rfl)
theorem dX1_worth_29 : decode cX1_worth 29 = .ok (.lconst 0, 1) := dk_9 (dk_at dksX1_worth_1 7 rfl rfl)
theorem dX1_worth_30 : decode cX1_worth 30 = .ok (.lcmp, 1) := dk_148 (dk_at dksX1_worth_1 8 rfl rfl)
theorem dX1_worth_31 : decode cX1_worth 31 = .ok (.ifCond .ne 8, 3) := dk_154 0 8 (dk_at dksX1_worth_1 9 rfl rfl)
theorem dX1_worth_34 : decode cX1_worth 34 = .ok (.iload_n 3, 1) := dk_29 (dk_at dksX1_worth_1 12 rfl rfl)
theorem dX1_worth_35 : decode cX1_worth 35 = .ok (.i2l, 1) := dk_133 (dk_at dksX1_worth_1 13 rfl rfl)
theorem dX1_worth_36 : decode cX1_worth 36 = .ok (.goto 17, 3) := dk_167 0 17 (dk_at dksX1_worth_1 14 rfl rfl)
theorem dX1_worth_39 : decode cX1_worth 39 = .ok (.aload_n 0, 1) := dk_42 (dk_at dksX1_worth_1 17 rfl rfl)
theorem dX1_worth_40 : decode cX1_worth 40 = .ok (.getfield 45, 3) := dk_180 0 45 (dk_at dksX1_worth_1 18 rfl rfl)
theorem dX1_worth_43 : decode cX1_worth 43 = .ok (.iload_n 2, 1) := dk_28 (dk_at dksX1_worth_1 21 rfl rfl)
theorem dX1_worth_44 : decode cX1_worth 44 = .ok (.invokevirtual 326, 3) := dk_182 1 70 (dk_at dksX1_worth_2 0 rfl rfl)
theorem dX1_worth_47 : decode cX1_worth 47 = .ok (.lload 4, 2) := dk_22 4 (dk_at dksX1_worth_2 3 rfl rfl)
theorem dX1_worth_49 : decode cX1_worth 49 = .ok (.iload_n 3, 1) := dk_29 (dk_at dksX1_worth_2 5 rfl rfl)
theorem dX1_worth_50 : decode cX1_worth 50 = .ok (.invokestatic 289, 3) := dk_184 1 33 (dk_at dksX1_worth_2 6 rfl rfl)
theorem dX1_worth_53 : decode cX1_worth 53 = .ok (.lreturn, 1) := dk_173 (dk_at dksX1_worth_2 9 rfl rfl)
abbrev cX1_gain : ByteArray := prog_1_method_38_code
def yX1_gain : MethodName := ⟨RX1, "gain", "(II)J"⟩
def dkwX1_gain_2 : List UInt8 := [182, 1, 70, 184, 1, 73, 42, 180, 0, 45, 5, 182, 1, 70, 101, 184, 1, 76, 33, 28, 184, 1, 33, 173]
abbrev dktX1_gain_2 : List UInt8 := dkwX1_gain_2 ++ []
def dkwX1_gain_1 : List UInt8 := [154, 0, 8, 28, 133, 167, 0, 40, 9, 42, 180, 0, 45, 3, 182, 1, 70, 42, 180, 0, 45, 4]
abbrev dktX1_gain_1 : List UInt8 := dkwX1_gain_1 ++ dktX1_gain_2
def dkwX1_gain_0 : List UInt8 := [42, 27, 182, 0, 226, 42, 28, 182, 1, 24, 42, 27, 182, 1, 67, 182, 1, 61, 66, 33, 9, 148]
abbrev dktX1_gain_0 : List UInt8 := dkwX1_gain_0 ++ dktX1_gain_1
theorem dksX1_gain_0 : cX1_gain.data.toList.drop 0 = dktX1_gain_0 := by decide +kernel
theorem dksX1_gain_1 : cX1_gain.data.toList.drop 22 = dktX1_gain_1 := dk_seg dksX1_gain_0 22 rfl rfl
theorem dksX1_gain_2 : cX1_gain.data.toList.drop 44 = dktX1_gain_2 := dk_seg dksX1_gain_1 22 rfl rfl
theorem dX1_gain_0 : decode cX1_gain 0 = .ok (.aload_n 0, 1) := dk_42 (dk_at dksX1_gain_0 0 rfl rfl)
theorem dX1_gain_1 : decode cX1_gain 1 = .ok (.iload_n 1, 1) := dk_27 (dk_at dksX1_gain_0 1 rfl rfl)
theorem dX1_gain_2 : decode cX1_gain 2 = .ok (.invokevirtual 226, 3) := dk_182 0 226 (dk_at dksX1_gain_0 2 rfl rfl)
theorem dX1_gain_5 : decode cX1_gain 5 = .ok (.aload_n 0, 1) := dk_42 (dk_at dksX1_gain_0 5 rfl rfl)
theorem dX1_gain_6 : decode cX1_gain 6 = .ok (.iload_n 2, 1) := dk_28 (dk_at dksX1_gain_0 6 rfl rfl)
theorem dX1_gain_7 : decode cX1_gain 7 = .ok (.invokevirtual 280, 3) := dk_182 1 24 (dk_at dksX1_gain_0 7 rfl rfl)
theorem dX1_gain_10 : decode cX1_gain 10 = .ok (.aload_n 0, 1) := dk_42 (dk_at dksX1_gain_0 10 rfl rfl)
theorem dX1_gain_11 : decode cX1_gain 11 = .ok (.iload_n 1, 1) := dk_27 (dk_at dksX1_gain_0 11 rfl rfl)
theorem dX1_gain_12 : decode cX1_gain 12 = .ok (.invokevirtual 323, 3) := dk_182 1 67 (dk_at dksX1_gain_0 12 rfl rfl)
theorem dX1_gain_15 : decode cX1_gain 15 = .ok (.invokevirtual 317, 3) := dk_182 1 61 (dk_at dksX1_gain_0 15 rfl rfl)
theorem dX1_gain_18 : decode cX1_gain 18 = .ok (.lstore_n 3, 1) := dk_66 (dk_at dksX1_gain_0 18 rfl rfl)
theorem dX1_gain_19 : decode cX1_gain 19 = .ok (.lload_n 3, 1) := dk_33 (dk_at dksX1_gain_0 19 rfl rfl)
theorem dX1_gain_20 : decode cX1_gain 20 = .ok (.lconst 0, 1) := dk_9 (dk_at dksX1_gain_0 20 rfl rfl)
theorem dX1_gain_21 : decode cX1_gain 21 = .ok (.lcmp, 1) := dk_148 (dk_at dksX1_gain_0 21 rfl rfl)
theorem dX1_gain_22 : decode cX1_gain 22 = .ok (.ifCond .ne 8, 3) := dk_154 0 8 (dk_at dksX1_gain_1 0 rfl rfl)
theorem dX1_gain_25 : decode cX1_gain 25 = .ok (.iload_n 2, 1) := dk_28 (dk_at dksX1_gain_1 3 rfl rfl)
theorem dX1_gain_26 : decode cX1_gain 26 = .ok (.i2l, 1) := dk_133 (dk_at dksX1_gain_1 4 rfl rfl)
theorem dX1_gain_27 : decode cX1_gain 27 = .ok (.goto 40, 3) := dk_167 0 40 (dk_at dksX1_gain_1 5 rfl rfl)
theorem dX1_gain_30 : decode cX1_gain 30 = .ok (.lconst 0, 1) := dk_9 (dk_at dksX1_gain_1 8 rfl rfl)
theorem dX1_gain_31 : decode cX1_gain 31 = .ok (.aload_n 0, 1) := dk_42 (dk_at dksX1_gain_1 9 rfl rfl)
theorem dX1_gain_32 : decode cX1_gain 32 = .ok (.getfield 45, 3) := dk_180 0 45 (dk_at dksX1_gain_1 10 rfl rfl)
theorem dX1_gain_35 : decode cX1_gain 35 = .ok (.iconst 0, 1) := dk_3 (dk_at dksX1_gain_1 13 rfl rfl)
theorem dX1_gain_36 : decode cX1_gain 36 = .ok (.invokevirtual 326, 3) := dk_182 1 70 (dk_at dksX1_gain_1 14 rfl rfl)
theorem dX1_gain_39 : decode cX1_gain 39 = .ok (.aload_n 0, 1) := dk_42 (dk_at dksX1_gain_1 17 rfl rfl)
theorem dX1_gain_40 : decode cX1_gain 40 = .ok (.getfield 45, 3) := dk_180 0 45 (dk_at dksX1_gain_1 18 rfl rfl)
theorem dX1_gain_43 : decode cX1_gain 43 = .ok (.iconst 1, 1) := dk_4 (dk_at dksX1_gain_1 21 rfl rfl)
theorem dX1_gain_44 : decode cX1_gain 44 = .ok (.invokevirtual 326, 3) := dk_182 1 70 (dk_at dksX1_gain_2 0 rfl rfl)
theorem dX1_gain_47 : decode cX1_gain 47 = .ok (.invokestatic 329, 3) := dk_184 1 73 (dk_at dksX1_gain_2 3 rfl rfl)
theorem dX1_gain_50 : decode cX1_gain 50 = .ok (.aload_n 0, 1) := dk_42 (dk_at dksX1_gain_2 6 rfl rfl)
theorem dX1_gain_51 : decode cX1_gain 51 = .ok (.getfield 45, 3) := dk_180 0 45 (dk_at dksX1_gain_2 7 rfl rfl)
theorem dX1_gain_54 : decode cX1_gain 54 = .ok (.iconst 2, 1) := dk_5 (dk_at dksX1_gain_2 10 rfl rfl)
theorem dX1_gain_55 : decode cX1_gain 55 = .ok (.invokevirtual 326, 3) := dk_182 1 70 (dk_at dksX1_gain_2 11 rfl rfl)
theorem dX1_gain_58 : decode cX1_gain 58 = .ok (.lsub, 1) := dk_101 (dk_at dksX1_gain_2 14 rfl rfl)
theorem dX1_gain_59 : decode cX1_gain 59 = .ok (.invokestatic 332, 3) := dk_184 1 76 (dk_at dksX1_gain_2 15 rfl rfl)
theorem dX1_gain_62 : decode cX1_gain 62 = .ok (.lload_n 3, 1) := dk_33 (dk_at dksX1_gain_2 18 rfl rfl)
theorem dX1_gain_63 : decode cX1_gain 63 = .ok (.iload_n 2, 1) := dk_28 (dk_at dksX1_gain_2 19 rfl rfl)
theorem dX1_gain_64 : decode cX1_gain 64 = .ok (.invokestatic 289, 3) := dk_184 1 33 (dk_at dksX1_gain_2 20 rfl rfl)
theorem dX1_gain_67 : decode cX1_gain 67 = .ok (.lreturn, 1) := dk_173 (dk_at dksX1_gain_2 23 rfl rfl)
abbrev cX1_without : ByteArray := prog_1_method_39_code
def yX1_without : MethodName := ⟨RX1, "without", "(II)J"⟩
def dkwX1_without_2 : List UInt8 := [20, 1, 31, 109, 173]
abbrev dktX1_without_2 : List UInt8 := dkwX1_without_2 ++ []
def dkwX1_without_1 : List UInt8 := [87, 28, 154, 0, 13, 42, 180, 0, 45, 182, 1, 37, 167, 0, 14, 42, 180, 0, 45, 182, 1, 54]
abbrev dktX1_without_1 : List UInt8 := dkwX1_without_1 ++ dktX1_without_2
def dkwX1_without_0 : List UInt8 := [42, 27, 182, 0, 149, 42, 28, 3, 4, 182, 0, 113, 42, 42, 182, 1, 3, 27, 182, 1, 79, 182, 1, 10]
abbrev dktX1_without_0 : List UInt8 := dkwX1_without_0 ++ dktX1_without_1
theorem dksX1_without_0 : cX1_without.data.toList.drop 0 = dktX1_without_0 := by decide +kernel
theorem dksX1_without_1 : cX1_without.data.toList.drop 24 = dktX1_without_1 := dk_seg dksX1_without_0 24 rfl rfl
theorem dksX1_without_2 : cX1_without.data.toList.drop 46 = dktX1_without_2 := dk_seg dksX1_without_1 22 rfl rfl
theorem dX1_without_0 : decode cX1_without 0 = .ok (.aload_n 0, 1) := dk_42 (dk_at dksX1_without_0 0 rfl rfl)
theorem dX1_without_1 : decode cX1_without 1 = .ok (.iload_n 1, 1) := dk_27 (dk_at dksX1_without_0 1 rfl rfl)
theorem dX1_without_2 : decode cX1_without 2 = .ok (.invokevirtual 149, 3) := dk_182 0 149 (dk_at dksX1_without_0 2 rfl rfl)
theorem dX1_without_5 : decode cX1_without 5 = .ok (.aload_n 0, 1) := dk_42 (dk_at dksX1_without_0 5 rfl rfl)
theorem dX1_without_6 : decode cX1_without 6 = .ok (.iload_n 2, 1) := dk_28 (dk_at dksX1_without_0 6 rfl rfl)
theorem dX1_without_7 : decode cX1_without 7 = .ok (.iconst 0, 1) := dk_3 (dk_at dksX1_without_0 7 rfl rfl)
theorem dX1_without_8 : decode cX1_without 8 = .ok (.iconst 1, 1) := dk_4 (dk_at dksX1_without_0 8 rfl rfl)
theorem dX1_without_9 : decode cX1_without 9 = .ok (.invokevirtual 113, 3) := dk_182 0 113 (dk_at dksX1_without_0 9 rfl rfl)
theorem dX1_without_12 : decode cX1_without 12 = .ok (.aload_n 0, 1) := dk_42 (dk_at dksX1_without_0 12 rfl rfl)
theorem dX1_without_13 : decode cX1_without 13 = .ok (.aload_n 0, 1) := dk_42 (dk_at dksX1_without_0 13 rfl rfl)
theorem dX1_without_14 : decode cX1_without 14 = .ok (.invokevirtual 259, 3) := dk_182 1 3 (dk_at dksX1_without_0 14 rfl rfl)
theorem dX1_without_17 : decode cX1_without 17 = .ok (.iload_n 1, 1) := dk_27 (dk_at dksX1_without_0 17 rfl rfl)
theorem dX1_without_18 : decode cX1_without 18 = .ok (.invokevirtual 335, 3) := dk_182 1 79 (dk_at dksX1_without_0 18 rfl rfl)
theorem dX1_without_21 : decode cX1_without 21 = .ok (.invokevirtual 266, 3) := dk_182 1 10 (dk_at dksX1_without_0 21 rfl rfl)
theorem dX1_without_24 : decode cX1_without 24 = .ok (.pop, 1) := dk_87 (dk_at dksX1_without_1 0 rfl rfl)
theorem dX1_without_25 : decode cX1_without 25 = .ok (.iload_n 2, 1) := dk_28 (dk_at dksX1_without_1 1 rfl rfl)
theorem dX1_without_26 : decode cX1_without 26 = .ok (.ifCond .ne 13, 3) := dk_154 0 13 (dk_at dksX1_without_1 2 rfl rfl)
theorem dX1_without_29 : decode cX1_without 29 = .ok (.aload_n 0, 1) := dk_42 (dk_at dksX1_without_1 5 rfl rfl)
theorem dX1_without_30 : decode cX1_without 30 = .ok (.getfield 45, 3) := dk_180 0 45 (dk_at dksX1_without_1 6 rfl rfl)
theorem dX1_without_33 : decode cX1_without 33 = .ok (.invokevirtual 293, 3) := dk_182 1 37 (dk_at dksX1_without_1 9 rfl rfl)
theorem dX1_without_36 : decode cX1_without 36 = .ok (.goto 14, 3) := dk_167 0 14 (dk_at dksX1_without_1 12 rfl rfl)
theorem dX1_without_39 : decode cX1_without 39 = .ok (.aload_n 0, 1) := dk_42 (dk_at dksX1_without_1 15 rfl rfl)
theorem dX1_without_40 : decode cX1_without 40 = .ok (.getfield 45, 3) := dk_180 0 45 (dk_at dksX1_without_1 16 rfl rfl)
theorem dX1_without_43 : decode cX1_without 43 = .ok (.invokevirtual 310, 3) := dk_182 1 54 (dk_at dksX1_without_1 19 rfl rfl)
theorem dX1_without_46 : decode cX1_without 46 = .ok (.ldc2_w 287, 3) := dk_20 1 31 (dk_at dksX1_without_2 0 rfl rfl)
theorem dX1_without_49 : decode cX1_without 49 = .ok (.ldiv, 1) := dk_109 (dk_at dksX1_without_2 3 rfl rfl)
theorem dX1_without_50 : decode cX1_without 50 = .ok (.lreturn, 1) := dk_173 (dk_at dksX1_without_2 4 rfl rfl)
abbrev cX1_falling : ByteArray := prog_1_method_42_code
def yX1_falling : MethodName := ⟨RX1, "falling", "(I)J"⟩
def dkwX1_falling_1 : List UInt8 := [182, 1, 37, 173]
abbrev dktX1_falling_1 : List UInt8 := dkwX1_falling_1 ++ []
def dkwX1_falling_0 : List UInt8 := [42, 27, 3, 16, 16, 182, 0, 113, 42, 182, 1, 3, 27, 181, 1, 82, 42, 42, 180, 0, 59, 182, 1, 10]
abbrev dktX1_falling_0 : List UInt8 := dkwX1_falling_0 ++ dktX1_falling_1
theorem dksX1_falling_0 : cX1_falling.data.toList.drop 0 = dktX1_falling_0 := by decide +kernel
theorem dksX1_falling_1 : cX1_falling.data.toList.drop 24 = dktX1_falling_1 := dk_seg dksX1_falling_0 24 rfl rfl
theorem dX1_falling_0 : decode cX1_falling 0 = .ok (.aload_n 0, 1) := dk_42 (dk_at dksX1_falling_0 0 rfl rfl)
theorem dX1_falling_1 : decode cX1_falling 1 = .ok (.iload_n 1, 1) := dk_27 (dk_at dksX1_falling_0 1 rfl rfl)
theorem dX1_falling_2 : decode cX1_falling 2 = .ok (.iconst 0, 1) := dk_3 (dk_at dksX1_falling_0 2 rfl rfl)
theorem dX1_falling_3 : decode cX1_falling 3 = .ok (.bipush 16, 2) := dk_16 16 (dk_at dksX1_falling_0 3 rfl rfl)
theorem dX1_falling_5 : decode cX1_falling 5 = .ok (.invokevirtual 113, 3) := dk_182 0 113 (dk_at dksX1_falling_0 5 rfl rfl)
theorem dX1_falling_8 : decode cX1_falling 8 = .ok (.aload_n 0, 1) := dk_42 (dk_at dksX1_falling_0 8 rfl rfl)
theorem dX1_falling_9 : decode cX1_falling 9 = .ok (.invokevirtual 259, 3) := dk_182 1 3 (dk_at dksX1_falling_0 9 rfl rfl)
theorem dX1_falling_12 : decode cX1_falling 12 = .ok (.iload_n 1, 1) := dk_27 (dk_at dksX1_falling_0 12 rfl rfl)
theorem dX1_falling_13 : decode cX1_falling 13 = .ok (.putfield 338, 3) := dk_181 1 82 (dk_at dksX1_falling_0 13 rfl rfl)
theorem dX1_falling_16 : decode cX1_falling 16 = .ok (.aload_n 0, 1) := dk_42 (dk_at dksX1_falling_0 16 rfl rfl)
theorem dX1_falling_17 : decode cX1_falling 17 = .ok (.aload_n 0, 1) := dk_42 (dk_at dksX1_falling_0 17 rfl rfl)
theorem dX1_falling_18 : decode cX1_falling 18 = .ok (.getfield 59, 3) := dk_180 0 59 (dk_at dksX1_falling_0 18 rfl rfl)
theorem dX1_falling_21 : decode cX1_falling 21 = .ok (.invokevirtual 266, 3) := dk_182 1 10 (dk_at dksX1_falling_0 21 rfl rfl)
theorem dX1_falling_24 : decode cX1_falling 24 = .ok (.invokevirtual 293, 3) := dk_182 1 37 (dk_at dksX1_falling_1 0 rfl rfl)
theorem dX1_falling_27 : decode cX1_falling 27 = .ok (.lreturn, 1) := dk_173 (dk_at dksX1_falling_1 3 rfl rfl)
abbrev cX1_seeing : ByteArray := prog_1_method_43_code
def yX1_seeing : MethodName := ⟨RX1, "seeing", "(II)J"⟩
def dkwX1_seeing_1 : List UInt8 := [180, 0, 59, 182, 1, 10, 182, 1, 54, 20, 1, 31, 28, 184, 1, 33, 173]
abbrev dktX1_seeing_1 : List UInt8 := dkwX1_seeing_1 ++ []
def dkwX1_seeing_0 : List UInt8 := [42, 27, 3, 16, 16, 182, 0, 113, 42, 28, 182, 1, 24, 42, 182, 1, 3, 27, 181, 1, 83, 42, 42]
abbrev dktX1_seeing_0 : List UInt8 := dkwX1_seeing_0 ++ dktX1_seeing_1
theorem dksX1_seeing_0 : cX1_seeing.data.toList.drop 0 = dktX1_seeing_0 := by decide +kernel
theorem dksX1_seeing_1 : cX1_seeing.data.toList.drop 23 = dktX1_seeing_1 := dk_seg dksX1_seeing_0 23 rfl rfl
theorem dX1_seeing_0 : decode cX1_seeing 0 = .ok (.aload_n 0, 1) := dk_42 (dk_at dksX1_seeing_0 0 rfl rfl)
theorem dX1_seeing_1 : decode cX1_seeing 1 = .ok (.iload_n 1, 1) := dk_27 (dk_at dksX1_seeing_0 1 rfl rfl)
theorem dX1_seeing_2 : decode cX1_seeing 2 = .ok (.iconst 0, 1) := dk_3 (dk_at dksX1_seeing_0 2 rfl rfl)
theorem dX1_seeing_3 : decode cX1_seeing 3 = .ok (.bipush 16, 2) := dk_16 16 (dk_at dksX1_seeing_0 3 rfl rfl)
theorem dX1_seeing_5 : decode cX1_seeing 5 = .ok (.invokevirtual 113, 3) := dk_182 0 113 (dk_at dksX1_seeing_0 5 rfl rfl)
theorem dX1_seeing_8 : decode cX1_seeing 8 = .ok (.aload_n 0, 1) := dk_42 (dk_at dksX1_seeing_0 8 rfl rfl)
theorem dX1_seeing_9 : decode cX1_seeing 9 = .ok (.iload_n 2, 1) := dk_28 (dk_at dksX1_seeing_0 9 rfl rfl)
theorem dX1_seeing_10 : decode cX1_seeing 10 = .ok (.invokevirtual 280, 3) := dk_182 1 24 (dk_at dksX1_seeing_0 10 rfl rfl)
theorem dX1_seeing_13 : decode cX1_seeing 13 = .ok (.aload_n 0, 1) := dk_42 (dk_at dksX1_seeing_0 13 rfl rfl)
theorem dX1_seeing_14 : decode cX1_seeing 14 = .ok (.invokevirtual 259, 3) := dk_182 1 3 (dk_at dksX1_seeing_0 14 rfl rfl)
theorem dX1_seeing_17 : decode cX1_seeing 17 = .ok (.iload_n 1, 1) := dk_27 (dk_at dksX1_seeing_0 17 rfl rfl)
theorem dX1_seeing_18 : decode cX1_seeing 18 = .ok (.putfield 339, 3) := dk_181 1 83 (dk_at dksX1_seeing_0 18 rfl rfl)
theorem dX1_seeing_21 : decode cX1_seeing 21 = .ok (.aload_n 0, 1) := dk_42 (dk_at dksX1_seeing_0 21 rfl rfl)
theorem dX1_seeing_22 : decode cX1_seeing 22 = .ok (.aload_n 0, 1) := dk_42 (dk_at dksX1_seeing_0 22 rfl rfl)
theorem dX1_seeing_23 : decode cX1_seeing 23 = .ok (.getfield 59, 3) := dk_180 0 59 (dk_at dksX1_seeing_1 0 rfl rfl)
theorem dX1_seeing_26 : decode cX1_seeing 26 = .ok (.invokevirtual 266, 3) := dk_182 1 10 (dk_at dksX1_seeing_1 3 rfl rfl)
theorem dX1_seeing_29 : decode cX1_seeing 29 = .ok (.invokevirtual 310, 3) := dk_182 1 54 (dk_at dksX1_seeing_1 6 rfl rfl)
theorem dX1_seeing_32 : decode cX1_seeing 32 = .ok (.ldc2_w 287, 3) := dk_20 1 31 (dk_at dksX1_seeing_1 9 rfl rfl)
theorem dX1_seeing_35 : decode cX1_seeing 35 = .ok (.iload_n 2, 1) := dk_28 (dk_at dksX1_seeing_1 12 rfl rfl)
theorem dX1_seeing_36 : decode cX1_seeing 36 = .ok (.invokestatic 289, 3) := dk_184 1 33 (dk_at dksX1_seeing_1 13 rfl rfl)
theorem dX1_seeing_39 : decode cX1_seeing 39 = .ok (.lreturn, 1) := dk_173 (dk_at dksX1_seeing_1 16 rfl rfl)
abbrev cX1_filled : ByteArray := prog_1_method_45_code
def yX1_filled : MethodName := ⟨RX1, "filled", "(II)J"⟩
def dkwX1_filled_1 : List UInt8 := [184, 1, 33, 173]
abbrev dktX1_filled_1 : List UInt8 := dkwX1_filled_1 ++ []
def dkwX1_filled_0 : List UInt8 := [42, 27, 4, 16, 12, 182, 0, 113, 42, 28, 182, 1, 24, 42, 27, 182, 1, 87, 20, 1, 31, 28]
abbrev dktX1_filled_0 : List UInt8 := dkwX1_filled_0 ++ dktX1_filled_1
theorem dksX1_filled_0 : cX1_filled.data.toList.drop 0 = dktX1_filled_0 := by decide +kernel
theorem dksX1_filled_1 : cX1_filled.data.toList.drop 22 = dktX1_filled_1 := dk_seg dksX1_filled_0 22 rfl rfl
theorem dX1_filled_0 : decode cX1_filled 0 = .ok (.aload_n 0, 1) := dk_42 (dk_at dksX1_filled_0 0 rfl rfl)
theorem dX1_filled_1 : decode cX1_filled 1 = .ok (.iload_n 1, 1) := dk_27 (dk_at dksX1_filled_0 1 rfl rfl)
theorem dX1_filled_2 : decode cX1_filled 2 = .ok (.iconst 1, 1) := dk_4 (dk_at dksX1_filled_0 2 rfl rfl)
theorem dX1_filled_3 : decode cX1_filled 3 = .ok (.bipush 12, 2) := dk_16 12 (dk_at dksX1_filled_0 3 rfl rfl)
theorem dX1_filled_5 : decode cX1_filled 5 = .ok (.invokevirtual 113, 3) := dk_182 0 113 (dk_at dksX1_filled_0 5 rfl rfl)
theorem dX1_filled_8 : decode cX1_filled 8 = .ok (.aload_n 0, 1) := dk_42 (dk_at dksX1_filled_0 8 rfl rfl)
theorem dX1_filled_9 : decode cX1_filled 9 = .ok (.iload_n 2, 1) := dk_28 (dk_at dksX1_filled_0 9 rfl rfl)
theorem dX1_filled_10 : decode cX1_filled 10 = .ok (.invokevirtual 280, 3) := dk_182 1 24 (dk_at dksX1_filled_0 10 rfl rfl)
theorem dX1_filled_13 : decode cX1_filled 13 = .ok (.aload_n 0, 1) := dk_42 (dk_at dksX1_filled_0 13 rfl rfl)
theorem dX1_filled_14 : decode cX1_filled 14 = .ok (.iload_n 1, 1) := dk_27 (dk_at dksX1_filled_0 14 rfl rfl)
theorem dX1_filled_15 : decode cX1_filled 15 = .ok (.invokevirtual 343, 3) := dk_182 1 87 (dk_at dksX1_filled_0 15 rfl rfl)
theorem dX1_filled_18 : decode cX1_filled 18 = .ok (.ldc2_w 287, 3) := dk_20 1 31 (dk_at dksX1_filled_0 18 rfl rfl)
theorem dX1_filled_21 : decode cX1_filled 21 = .ok (.iload_n 2, 1) := dk_28 (dk_at dksX1_filled_0 21 rfl rfl)
theorem dX1_filled_22 : decode cX1_filled 22 = .ok (.invokestatic 289, 3) := dk_184 1 33 (dk_at dksX1_filled_1 0 rfl rfl)
theorem dX1_filled_25 : decode cX1_filled 25 = .ok (.lreturn, 1) := dk_173 (dk_at dksX1_filled_1 3 rfl rfl)
abbrev cX1_ruled : ByteArray := prog_1_method_47_code
def yX1_ruled : MethodName := ⟨RX1, "ruled", "(I)J"⟩
def dkwX1_ruled_2 : List UInt8 := [173]
abbrev dktX1_ruled_2 : List UInt8 := dkwX1_ruled_2 ++ []
def dkwX1_ruled_1 : List UInt8 := [154, 0, 13, 42, 180, 0, 45, 182, 1, 37, 167, 0, 14, 42, 180, 0, 45, 182, 1, 54, 20, 1, 31, 109]
abbrev dktX1_ruled_1 : List UInt8 := dkwX1_ruled_1 ++ dktX1_ruled_2
def dkwX1_ruled_0 : List UInt8 := [42, 27, 3, 4, 182, 0, 113, 42, 42, 182, 1, 3, 42, 180, 0, 139, 182, 1, 90, 182, 1, 10, 87, 27]
abbrev dktX1_ruled_0 : List UInt8 := dkwX1_ruled_0 ++ dktX1_ruled_1
theorem dksX1_ruled_0 : cX1_ruled.data.toList.drop 0 = dktX1_ruled_0 := by decide +kernel
theorem dksX1_ruled_1 : cX1_ruled.data.toList.drop 24 = dktX1_ruled_1 := dk_seg dksX1_ruled_0 24 rfl rfl
theorem dksX1_ruled_2 : cX1_ruled.data.toList.drop 48 = dktX1_ruled_2 := dk_seg dksX1_ruled_1 24 rfl rfl
theorem dX1_ruled_0 : decode cX1_ruled 0 = .ok (.aload_n 0, 1) := dk_42 (dk_at dksX1_ruled_0 0 rfl rfl)
theorem dX1_ruled_1 : decode cX1_ruled 1 = .ok (.iload_n 1, 1) := dk_27 (dk_at dksX1_ruled_0 1 rfl rfl)
theorem dX1_ruled_2 : decode cX1_ruled 2 = .ok (.iconst 0, 1) := dk_3 (dk_at dksX1_ruled_0 2 rfl rfl)
theorem dX1_ruled_3 : decode cX1_ruled 3 = .ok (.iconst 1, 1) := dk_4 (dk_at dksX1_ruled_0 3 rfl rfl)
theorem dX1_ruled_4 : decode cX1_ruled 4 = .ok (.invokevirtual 113, 3) := dk_182 0 113 (dk_at dksX1_ruled_0 4 rfl rfl)
theorem dX1_ruled_7 : decode cX1_ruled 7 = .ok (.aload_n 0, 1) := dk_42 (dk_at dksX1_ruled_0 7 rfl rfl)
theorem dX1_ruled_8 : decode cX1_ruled 8 = .ok (.aload_n 0, 1) := dk_42 (dk_at dksX1_ruled_0 8 rfl rfl)
theorem dX1_ruled_9 : decode cX1_ruled 9 = .ok (.invokevirtual 259, 3) := dk_182 1 3 (dk_at dksX1_ruled_0 9 rfl rfl)
theorem dX1_ruled_12 : decode cX1_ruled 12 = .ok (.aload_n 0, 1) := dk_42 (dk_at dksX1_ruled_0 12 rfl rfl)
theorem dX1_ruled_13 : decode cX1_ruled 13 = .ok (.getfield 139, 3) := dk_180 0 139 (dk_at dksX1_ruled_0 13 rfl rfl)
theorem dX1_ruled_16 : decode cX1_ruled 16 = .ok (.invokevirtual 346, 3) := dk_182 1 90 (dk_at dksX1_ruled_0 16 rfl rfl)
theorem dX1_ruled_19 : decode cX1_ruled 19 = .ok (.invokevirtual 266, 3) := dk_182 1 10 (dk_at dksX1_ruled_0 19 rfl rfl)
theorem dX1_ruled_22 : decode cX1_ruled 22 = .ok (.pop, 1) := dk_87 (dk_at dksX1_ruled_0 22 rfl rfl)
theorem dX1_ruled_23 : decode cX1_ruled 23 = .ok (.iload_n 1, 1) := dk_27 (dk_at dksX1_ruled_0 23 rfl rfl)
theorem dX1_ruled_24 : decode cX1_ruled 24 = .ok (.ifCond .ne 13, 3) := dk_154 0 13 (dk_at dksX1_ruled_1 0 rfl rfl)
theorem dX1_ruled_27 : decode cX1_ruled 27 = .ok (.aload_n 0, 1) := dk_42 (dk_at dksX1_ruled_1 3 rfl rfl)
theorem dX1_ruled_28 : decode cX1_ruled 28 = .ok (.getfield 45, 3) := dk_180 0 45 (dk_at dksX1_ruled_1 4 rfl rfl)
theorem dX1_ruled_31 : decode cX1_ruled 31 = .ok (.invokevirtual 293, 3) := dk_182 1 37 (dk_at dksX1_ruled_1 7 rfl rfl)
theorem dX1_ruled_34 : decode cX1_ruled 34 = .ok (.goto 14, 3) := dk_167 0 14 (dk_at dksX1_ruled_1 10 rfl rfl)
theorem dX1_ruled_37 : decode cX1_ruled 37 = .ok (.aload_n 0, 1) := dk_42 (dk_at dksX1_ruled_1 13 rfl rfl)
theorem dX1_ruled_38 : decode cX1_ruled 38 = .ok (.getfield 45, 3) := dk_180 0 45 (dk_at dksX1_ruled_1 14 rfl rfl)
theorem dX1_ruled_41 : decode cX1_ruled 41 = .ok (.invokevirtual 310, 3) := dk_182 1 54 (dk_at dksX1_ruled_1 17 rfl rfl)
theorem dX1_ruled_44 : decode cX1_ruled 44 = .ok (.ldc2_w 287, 3) := dk_20 1 31 (dk_at dksX1_ruled_1 20 rfl rfl)
theorem dX1_ruled_47 : decode cX1_ruled 47 = .ok (.ldiv, 1) := dk_109 (dk_at dksX1_ruled_1 23 rfl rfl)
theorem dX1_ruled_48 : decode cX1_ruled 48 = .ok (.lreturn, 1) := dk_173 (dk_at dksX1_ruled_2 0 rfl rfl)
abbrev cX1_swapped : ByteArray := prog_1_method_48_code
def yX1_swapped : MethodName := ⟨RX1, "swapped", "(III)J"⟩
def dkwX1_swapped_2 : List UInt8 := [20, 1, 31, 29, 184, 1, 33, 173]
abbrev dktX1_swapped_2 : List UInt8 := dkwX1_swapped_2 ++ []
def dkwX1_swapped_1 : List UInt8 := [182, 0, 113, 42, 29, 182, 1, 24, 42, 42, 182, 1, 3, 27, 28, 182, 1, 94, 182, 1, 10, 182, 1, 54]
abbrev dktX1_swapped_1 : List UInt8 := dkwX1_swapped_1 ++ dktX1_swapped_2
def dkwX1_swapped_0 : List UInt8 := [42, 27, 182, 0, 149, 42, 28, 182, 0, 149, 42, 27, 28, 160, 0, 7, 4, 167, 0, 4, 3, 3, 3]
abbrev dktX1_swapped_0 : List UInt8 := dkwX1_swapped_0 ++ dktX1_swapped_1
theorem dksX1_swapped_0 : cX1_swapped.data.toList.drop 0 = dktX1_swapped_0 := by decide +kernel
theorem dksX1_swapped_1 : cX1_swapped.data.toList.drop 23 = dktX1_swapped_1 := dk_seg dksX1_swapped_0 23 rfl rfl
theorem dksX1_swapped_2 : cX1_swapped.data.toList.drop 47 = dktX1_swapped_2 := dk_seg dksX1_swapped_1 24 rfl rfl
theorem dX1_swapped_0 : decode cX1_swapped 0 = .ok (.aload_n 0, 1) := dk_42 (dk_at dksX1_swapped_0 0 rfl rfl)
theorem dX1_swapped_1 : decode cX1_swapped 1 = .ok (.iload_n 1, 1) := dk_27 (dk_at dksX1_swapped_0 1 rfl rfl)
theorem dX1_swapped_2 : decode cX1_swapped 2 = .ok (.invokevirtual 149, 3) := dk_182 0 149 (dk_at dksX1_swapped_0 2 rfl rfl)
theorem dX1_swapped_5 : decode cX1_swapped 5 = .ok (.aload_n 0, 1) := dk_42 (dk_at dksX1_swapped_0 5 rfl rfl)
theorem dX1_swapped_6 : decode cX1_swapped 6 = .ok (.iload_n 2, 1) := dk_28 (dk_at dksX1_swapped_0 6 rfl rfl)
theorem dX1_swapped_7 : decode cX1_swapped 7 = .ok (.invokevirtual 149, 3) := dk_182 0 149 (dk_at dksX1_swapped_0 7 rfl rfl)
theorem dX1_swapped_10 : decode cX1_swapped 10 = .ok (.aload_n 0, 1) := dk_42 (dk_at dksX1_swapped_0 10 rfl rfl)
theorem dX1_swapped_11 : decode cX1_swapped 11 = .ok (.iload_n 1, 1) := dk_27 (dk_at dksX1_swapped_0 11 rfl rfl)
theorem dX1_swapped_12 : decode cX1_swapped 12 = .ok (.iload_n 2, 1) := dk_28 (dk_at dksX1_swapped_0 12 rfl rfl)
theorem dX1_swapped_13 : decode cX1_swapped 13 = .ok (.if_icmp .ne 7, 3) := dk_160 0 7 (dk_at dksX1_swapped_0 13 rfl rfl)
theorem dX1_swapped_16 : decode cX1_swapped 16 = .ok (.iconst 1, 1) := dk_4 (dk_at dksX1_swapped_0 16 rfl rfl)
theorem dX1_swapped_17 : decode cX1_swapped 17 = .ok (.goto 4, 3) := dk_167 0 4 (dk_at dksX1_swapped_0 17 rfl rfl)
theorem dX1_swapped_20 : decode cX1_swapped 20 = .ok (.iconst 0, 1) := dk_3 (dk_at dksX1_swapped_0 20 rfl rfl)
theorem dX1_swapped_21 : decode cX1_swapped 21 = .ok (.iconst 0, 1) := dk_3 (dk_at dksX1_swapped_0 21 rfl rfl)
theorem dX1_swapped_22 : decode cX1_swapped 22 = .ok (.iconst 0, 1) := dk_3 (dk_at dksX1_swapped_0 22 rfl rfl)
theorem dX1_swapped_23 : decode cX1_swapped 23 = .ok (.invokevirtual 113, 3) := dk_182 0 113 (dk_at dksX1_swapped_1 0 rfl rfl)
theorem dX1_swapped_26 : decode cX1_swapped 26 = .ok (.aload_n 0, 1) := dk_42 (dk_at dksX1_swapped_1 3 rfl rfl)
theorem dX1_swapped_27 : decode cX1_swapped 27 = .ok (.iload_n 3, 1) := dk_29 (dk_at dksX1_swapped_1 4 rfl rfl)
theorem dX1_swapped_28 : decode cX1_swapped 28 = .ok (.invokevirtual 280, 3) := dk_182 1 24 (dk_at dksX1_swapped_1 5 rfl rfl)
theorem dX1_swapped_31 : decode cX1_swapped 31 = .ok (.aload_n 0, 1) := dk_42 (dk_at dksX1_swapped_1 8 rfl rfl)
theorem dX1_swapped_32 : decode cX1_swapped 32 = .ok (.aload_n 0, 1) := dk_42 (dk_at dksX1_swapped_1 9 rfl rfl)
theorem dX1_swapped_33 : decode cX1_swapped 33 = .ok (.invokevirtual 259, 3) := dk_182 1 3 (dk_at dksX1_swapped_1 10 rfl rfl)
theorem dX1_swapped_36 : decode cX1_swapped 36 = .ok (.iload_n 1, 1) := dk_27 (dk_at dksX1_swapped_1 13 rfl rfl)
theorem dX1_swapped_37 : decode cX1_swapped 37 = .ok (.iload_n 2, 1) := dk_28 (dk_at dksX1_swapped_1 14 rfl rfl)
theorem dX1_swapped_38 : decode cX1_swapped 38 = .ok (.invokevirtual 350, 3) := dk_182 1 94 (dk_at dksX1_swapped_1 15 rfl rfl)
theorem dX1_swapped_41 : decode cX1_swapped 41 = .ok (.invokevirtual 266, 3) := dk_182 1 10 (dk_at dksX1_swapped_1 18 rfl rfl)
theorem dX1_swapped_44 : decode cX1_swapped 44 = .ok (.invokevirtual 310, 3) := dk_182 1 54 (dk_at dksX1_swapped_1 21 rfl rfl)
theorem dX1_swapped_47 : decode cX1_swapped 47 = .ok (.ldc2_w 287, 3) := dk_20 1 31 (dk_at dksX1_swapped_2 0 rfl rfl)
theorem dX1_swapped_50 : decode cX1_swapped 50 = .ok (.iload_n 3, 1) := dk_29 (dk_at dksX1_swapped_2 3 rfl rfl)
theorem dX1_swapped_51 : decode cX1_swapped 51 = .ok (.invokestatic 289, 3) := dk_184 1 33 (dk_at dksX1_swapped_2 4 rfl rfl)
theorem dX1_swapped_54 : decode cX1_swapped 54 = .ok (.lreturn, 1) := dk_173 (dk_at dksX1_swapped_2 7 rfl rfl)
abbrev cX1_day : ByteArray := prog_1_method_51_code
def yX1_day : MethodName := ⟨RX1, "day", "(III)I"⟩
def dkwX1_day_5 : List UInt8 := [180, 1, 120, 4, 100, 172]
abbrev dktX1_day_5 : List UInt8 := dkwX1_day_5 ++ []
def dkwX1_day_4 : List UInt8 := [180, 1, 114, 172, 42, 180, 0, 52, 180, 1, 116, 172, 42, 180, 0, 52, 180, 1, 118, 172, 25, 4]
abbrev dktX1_day_4 : List UInt8 := dkwX1_day_4 ++ dktX1_day_5
def dkwX1_day_3 : List UInt8 := [25, 4, 180, 1, 109, 172, 25, 4, 180, 1, 112, 172, 25, 4, 180, 1, 113, 172, 42, 180, 0, 52]
abbrev dktX1_day_3 : List UInt8 := dkwX1_day_3 ++ dktX1_day_4
def dkwX1_day_2 : List UInt8 := [170, 0, 0, 0, 0, 0, 81, 0, 0, 0, 0, 0, 0, 0, 5, 0, 0, 0, 39, 0, 0, 0, 45, 0, 0, 0, 51, 0, 0, 0, 57, 0, 0, 0, 65, 0, 0, 0, 73]
abbrev dktX1_day_2 : List UInt8 := dkwX1_day_2 ++ dktX1_day_3
def dkwX1_day_1 : List UInt8 := [29]
abbrev dktX1_day_1 : List UInt8 := dkwX1_day_1 ++ dktX1_day_2
def dkwX1_day_0 : List UInt8 := [42, 28, 182, 0, 226, 42, 29, 3, 16, 6, 182, 0, 113, 42, 27, 28, 182, 1, 101, 180, 1, 105, 58, 4]
abbrev dktX1_day_0 : List UInt8 := dkwX1_day_0 ++ dktX1_day_1
theorem dksX1_day_0 : cX1_day.data.toList.drop 0 = dktX1_day_0 := by decide +kernel
theorem dksX1_day_1 : cX1_day.data.toList.drop 24 = dktX1_day_1 := dk_seg dksX1_day_0 24 rfl rfl
theorem dksX1_day_2 : cX1_day.data.toList.drop 25 = dktX1_day_2 := dk_seg dksX1_day_1 1 rfl rfl
theorem dksX1_day_3 : cX1_day.data.toList.drop 64 = dktX1_day_3 := dk_seg dksX1_day_2 39 rfl rfl
theorem dksX1_day_4 : cX1_day.data.toList.drop 86 = dktX1_day_4 := dk_seg dksX1_day_3 22 rfl rfl
theorem dksX1_day_5 : cX1_day.data.toList.drop 108 = dktX1_day_5 := dk_seg dksX1_day_4 22 rfl rfl
theorem dX1_day_0 : decode cX1_day 0 = .ok (.aload_n 0, 1) := dk_42 (dk_at dksX1_day_0 0 rfl rfl)
theorem dX1_day_1 : decode cX1_day 1 = .ok (.iload_n 2, 1) := dk_28 (dk_at dksX1_day_0 1 rfl rfl)
theorem dX1_day_2 : decode cX1_day 2 = .ok (.invokevirtual 226, 3) := dk_182 0 226 (dk_at dksX1_day_0 2 rfl rfl)
theorem dX1_day_5 : decode cX1_day 5 = .ok (.aload_n 0, 1) := dk_42 (dk_at dksX1_day_0 5 rfl rfl)
theorem dX1_day_6 : decode cX1_day 6 = .ok (.iload_n 3, 1) := dk_29 (dk_at dksX1_day_0 6 rfl rfl)
theorem dX1_day_7 : decode cX1_day 7 = .ok (.iconst 0, 1) := dk_3 (dk_at dksX1_day_0 7 rfl rfl)
theorem dX1_day_8 : decode cX1_day 8 = .ok (.bipush 6, 2) := dk_16 6 (dk_at dksX1_day_0 8 rfl rfl)
theorem dX1_day_10 : decode cX1_day 10 = .ok (.invokevirtual 113, 3) := dk_182 0 113 (dk_at dksX1_day_0 10 rfl rfl)
theorem dX1_day_13 : decode cX1_day 13 = .ok (.aload_n 0, 1) := dk_42 (dk_at dksX1_day_0 13 rfl rfl)
theorem dX1_day_14 : decode cX1_day 14 = .ok (.iload_n 1, 1) := dk_27 (dk_at dksX1_day_0 14 rfl rfl)
theorem dX1_day_15 : decode cX1_day 15 = .ok (.iload_n 2, 1) := dk_28 (dk_at dksX1_day_0 15 rfl rfl)
theorem dX1_day_16 : decode cX1_day 16 = .ok (.invokevirtual 357, 3) := dk_182 1 101 (dk_at dksX1_day_0 16 rfl rfl)
theorem dX1_day_19 : decode cX1_day 19 = .ok (.getfield 361, 3) := dk_180 1 105 (dk_at dksX1_day_0 19 rfl rfl)
theorem dX1_day_22 : decode cX1_day 22 = .ok (.astore 4, 2) := dk_58 4 (dk_at dksX1_day_0 22 rfl rfl)
theorem dX1_day_24 : decode cX1_day 24 = .ok (.iload_n 3, 1) := dk_29 (dk_at dksX1_day_1 0 rfl rfl)
theorem dX1_day_25 : decode cX1_day 25 = .ok (.tableswitch 81 0 5 #[39, 45, 51, 57, 65, 73], 39) := by decide +kernel
theorem dX1_day_64 : decode cX1_day 64 = .ok (.aload 4, 2) := dk_25 4 (dk_at dksX1_day_3 0 rfl rfl)
theorem dX1_day_66 : decode cX1_day 66 = .ok (.getfield 365, 3) := dk_180 1 109 (dk_at dksX1_day_3 2 rfl rfl)
theorem dX1_day_69 : decode cX1_day 69 = .ok (.ireturn, 1) := dk_172 (dk_at dksX1_day_3 5 rfl rfl)
theorem dX1_day_70 : decode cX1_day 70 = .ok (.aload 4, 2) := dk_25 4 (dk_at dksX1_day_3 6 rfl rfl)
theorem dX1_day_72 : decode cX1_day 72 = .ok (.getfield 368, 3) := dk_180 1 112 (dk_at dksX1_day_3 8 rfl rfl)
theorem dX1_day_75 : decode cX1_day 75 = .ok (.ireturn, 1) := dk_172 (dk_at dksX1_day_3 11 rfl rfl)
theorem dX1_day_76 : decode cX1_day 76 = .ok (.aload 4, 2) := dk_25 4 (dk_at dksX1_day_3 12 rfl rfl)
theorem dX1_day_78 : decode cX1_day 78 = .ok (.getfield 369, 3) := dk_180 1 113 (dk_at dksX1_day_3 14 rfl rfl)
theorem dX1_day_81 : decode cX1_day 81 = .ok (.ireturn, 1) := dk_172 (dk_at dksX1_day_3 17 rfl rfl)
theorem dX1_day_82 : decode cX1_day 82 = .ok (.aload_n 0, 1) := dk_42 (dk_at dksX1_day_3 18 rfl rfl)
theorem dX1_day_83 : decode cX1_day 83 = .ok (.getfield 52, 3) := dk_180 0 52 (dk_at dksX1_day_3 19 rfl rfl)
theorem dX1_day_86 : decode cX1_day 86 = .ok (.getfield 370, 3) := dk_180 1 114 (dk_at dksX1_day_4 0 rfl rfl)
theorem dX1_day_89 : decode cX1_day 89 = .ok (.ireturn, 1) := dk_172 (dk_at dksX1_day_4 3 rfl rfl)
theorem dX1_day_90 : decode cX1_day 90 = .ok (.aload_n 0, 1) := dk_42 (dk_at dksX1_day_4 4 rfl rfl)
theorem dX1_day_91 : decode cX1_day 91 = .ok (.getfield 52, 3) := dk_180 0 52 (dk_at dksX1_day_4 5 rfl rfl)
theorem dX1_day_94 : decode cX1_day 94 = .ok (.getfield 372, 3) := dk_180 1 116 (dk_at dksX1_day_4 8 rfl rfl)
theorem dX1_day_97 : decode cX1_day 97 = .ok (.ireturn, 1) := dk_172 (dk_at dksX1_day_4 11 rfl rfl)
theorem dX1_day_98 : decode cX1_day 98 = .ok (.aload_n 0, 1) := dk_42 (dk_at dksX1_day_4 12 rfl rfl)
theorem dX1_day_99 : decode cX1_day 99 = .ok (.getfield 52, 3) := dk_180 0 52 (dk_at dksX1_day_4 13 rfl rfl)
theorem dX1_day_102 : decode cX1_day 102 = .ok (.getfield 374, 3) := dk_180 1 118 (dk_at dksX1_day_4 16 rfl rfl)
theorem dX1_day_105 : decode cX1_day 105 = .ok (.ireturn, 1) := dk_172 (dk_at dksX1_day_4 19 rfl rfl)
theorem dX1_day_106 : decode cX1_day 106 = .ok (.aload 4, 2) := dk_25 4 (dk_at dksX1_day_4 20 rfl rfl)
theorem dX1_day_108 : decode cX1_day 108 = .ok (.getfield 376, 3) := dk_180 1 120 (dk_at dksX1_day_5 0 rfl rfl)
theorem dX1_day_111 : decode cX1_day 111 = .ok (.iconst 1, 1) := dk_4 (dk_at dksX1_day_5 3 rfl rfl)
theorem dX1_day_112 : decode cX1_day 112 = .ok (.isub, 1) := dk_100 (dk_at dksX1_day_5 4 rfl rfl)
theorem dX1_day_113 : decode cX1_day 113 = .ok (.ireturn, 1) := dk_172 (dk_at dksX1_day_5 5 rfl rfl)
abbrev cX1_drawn : ByteArray := prog_1_method_50_code
def yX1_drawn : MethodName := ⟨RX1, "drawn", "(II)LCardCups$Day;"⟩
def dkwX1_drawn_0 : List UInt8 := [42, 180, 0, 52, 42, 180, 0, 66, 42, 180, 0, 16, 42, 180, 0, 38, 27, 28, 182, 1, 98, 176]
abbrev dktX1_drawn_0 : List UInt8 := dkwX1_drawn_0 ++ []
theorem dksX1_drawn_0 : cX1_drawn.data.toList.drop 0 = dktX1_drawn_0 := by decide +kernel
theorem dX1_drawn_0 : decode cX1_drawn 0 = .ok (.aload_n 0, 1) := dk_42 (dk_at dksX1_drawn_0 0 rfl rfl)
theorem dX1_drawn_1 : decode cX1_drawn 1 = .ok (.getfield 52, 3) := dk_180 0 52 (dk_at dksX1_drawn_0 1 rfl rfl)
theorem dX1_drawn_4 : decode cX1_drawn 4 = .ok (.aload_n 0, 1) := dk_42 (dk_at dksX1_drawn_0 4 rfl rfl)
theorem dX1_drawn_5 : decode cX1_drawn 5 = .ok (.getfield 66, 3) := dk_180 0 66 (dk_at dksX1_drawn_0 5 rfl rfl)
theorem dX1_drawn_8 : decode cX1_drawn 8 = .ok (.aload_n 0, 1) := dk_42 (dk_at dksX1_drawn_0 8 rfl rfl)
theorem dX1_drawn_9 : decode cX1_drawn 9 = .ok (.getfield 16, 3) := dk_180 0 16 (dk_at dksX1_drawn_0 9 rfl rfl)
theorem dX1_drawn_12 : decode cX1_drawn 12 = .ok (.aload_n 0, 1) := dk_42 (dk_at dksX1_drawn_0 12 rfl rfl)
theorem dX1_drawn_13 : decode cX1_drawn 13 = .ok (.getfield 38, 3) := dk_180 0 38 (dk_at dksX1_drawn_0 13 rfl rfl)
theorem dX1_drawn_16 : decode cX1_drawn 16 = .ok (.iload_n 1, 1) := dk_27 (dk_at dksX1_drawn_0 16 rfl rfl)
theorem dX1_drawn_17 : decode cX1_drawn 17 = .ok (.iload_n 2, 1) := dk_28 (dk_at dksX1_drawn_0 17 rfl rfl)
theorem dX1_drawn_18 : decode cX1_drawn 18 = .ok (.invokevirtual 354, 3) := dk_182 1 98 (dk_at dksX1_drawn_0 18 rfl rfl)
theorem dX1_drawn_21 : decode cX1_drawn 21 = .ok (.areturn, 1) := dk_176 (dk_at dksX1_drawn_0 21 rfl rfl)
abbrev cX1_span : ByteArray := prog_1_method_52_code
def yX1_span : MethodName := ⟨RX1, "span", "(III)I"⟩
def dkwX1_span_5 : List UInt8 := [167, 0, 5, 21, 6, 172]
abbrev dktX1_span_5 : List UInt8 := dkwX1_span_5 ++ []
def dkwX1_span_4 : List UInt8 := [132, 7, 1, 167, 255, 187, 29, 154, 0, 8, 21, 4, 167, 0, 15, 29, 4, 160, 0, 8, 21, 5]
abbrev dktX1_span_4 : List UInt8 := dkwX1_span_4 ++ dktX1_span_5
def dkwX1_span_3 : List UInt8 := [180, 0, 52, 180, 1, 114, 96, 54, 5, 21, 6, 42, 180, 0, 52, 180, 1, 114, 184, 1, 127, 54, 6]
abbrev dktX1_span_3 : List UInt8 := dkwX1_span_3 ++ dktX1_span_4
def dkwX1_span_2 : List UInt8 := [182, 1, 101, 87, 42, 180, 0, 52, 180, 1, 105, 182, 1, 123, 153, 0, 6, 132, 4, 1, 21, 5, 42]
abbrev dktX1_span_2 : List UInt8 := dkwX1_span_2 ++ dktX1_span_3
def dkwX1_span_1 : List UInt8 := [3, 54, 7, 21, 7, 28, 162, 0, 69, 42, 27, 21, 7, 96, 42, 180, 0, 16, 180, 0, 91, 4, 100]
abbrev dktX1_span_1 : List UInt8 := dkwX1_span_1 ++ dktX1_span_2
def dkwX1_span_0 : List UInt8 := [42, 28, 4, 16, 40, 182, 0, 113, 42, 29, 3, 5, 182, 0, 113, 3, 54, 4, 3, 54, 5, 3, 54, 6]
abbrev dktX1_span_0 : List UInt8 := dkwX1_span_0 ++ dktX1_span_1
theorem dksX1_span_0 : cX1_span.data.toList.drop 0 = dktX1_span_0 := by decide +kernel
theorem dksX1_span_1 : cX1_span.data.toList.drop 24 = dktX1_span_1 := dk_seg dksX1_span_0 24 rfl rfl
theorem dksX1_span_2 : cX1_span.data.toList.drop 47 = dktX1_span_2 := dk_seg dksX1_span_1 23 rfl rfl
theorem dksX1_span_3 : cX1_span.data.toList.drop 70 = dktX1_span_3 := dk_seg dksX1_span_2 23 rfl rfl
theorem dksX1_span_4 : cX1_span.data.toList.drop 93 = dktX1_span_4 := dk_seg dksX1_span_3 23 rfl rfl
theorem dksX1_span_5 : cX1_span.data.toList.drop 115 = dktX1_span_5 := dk_seg dksX1_span_4 22 rfl rfl
theorem dX1_span_0 : decode cX1_span 0 = .ok (.aload_n 0, 1) := dk_42 (dk_at dksX1_span_0 0 rfl rfl)
theorem dX1_span_1 : decode cX1_span 1 = .ok (.iload_n 2, 1) := dk_28 (dk_at dksX1_span_0 1 rfl rfl)
theorem dX1_span_2 : decode cX1_span 2 = .ok (.iconst 1, 1) := dk_4 (dk_at dksX1_span_0 2 rfl rfl)
theorem dX1_span_3 : decode cX1_span 3 = .ok (.bipush 40, 2) := dk_16 40 (dk_at dksX1_span_0 3 rfl rfl)
theorem dX1_span_5 : decode cX1_span 5 = .ok (.invokevirtual 113, 3) := dk_182 0 113 (dk_at dksX1_span_0 5 rfl rfl)
theorem dX1_span_8 : decode cX1_span 8 = .ok (.aload_n 0, 1) := dk_42 (dk_at dksX1_span_0 8 rfl rfl)
theorem dX1_span_9 : decode cX1_span 9 = .ok (.iload_n 3, 1) := dk_29 (dk_at dksX1_span_0 9 rfl rfl)
theorem dX1_span_10 : decode cX1_span 10 = .ok (.iconst 0, 1) := dk_3 (dk_at dksX1_span_0 10 rfl rfl)
theorem dX1_span_11 : decode cX1_span 11 = .ok (.iconst 2, 1) := dk_5 (dk_at dksX1_span_0 11 rfl rfl)
theorem dX1_span_12 : decode cX1_span 12 = .ok (.invokevirtual 113, 3) := dk_182 0 113 (dk_at dksX1_span_0 12 rfl rfl)
theorem dX1_span_15 : decode cX1_span 15 = .ok (.iconst 0, 1) := dk_3 (dk_at dksX1_span_0 15 rfl rfl)
theorem dX1_span_16 : decode cX1_span 16 = .ok (.istore 4, 2) := dk_54 4 (dk_at dksX1_span_0 16 rfl rfl)
theorem dX1_span_18 : decode cX1_span 18 = .ok (.iconst 0, 1) := dk_3 (dk_at dksX1_span_0 18 rfl rfl)
theorem dX1_span_19 : decode cX1_span 19 = .ok (.istore 5, 2) := dk_54 5 (dk_at dksX1_span_0 19 rfl rfl)
theorem dX1_span_21 : decode cX1_span 21 = .ok (.iconst 0, 1) := dk_3 (dk_at dksX1_span_0 21 rfl rfl)
theorem dX1_span_22 : decode cX1_span 22 = .ok (.istore 6, 2) := dk_54 6 (dk_at dksX1_span_0 22 rfl rfl)
theorem dX1_span_24 : decode cX1_span 24 = .ok (.iconst 0, 1) := dk_3 (dk_at dksX1_span_1 0 rfl rfl)
theorem dX1_span_25 : decode cX1_span 25 = .ok (.istore 7, 2) := dk_54 7 (dk_at dksX1_span_1 1 rfl rfl)
theorem dX1_span_27 : decode cX1_span 27 = .ok (.iload 7, 2) := dk_21 7 (dk_at dksX1_span_1 3 rfl rfl)
theorem dX1_span_29 : decode cX1_span 29 = .ok (.iload_n 2, 1) := dk_28 (dk_at dksX1_span_1 5 rfl rfl)
theorem dX1_span_30 : decode cX1_span 30 = .ok (.if_icmp .ge 69, 3) := dk_162 0 69 (dk_at dksX1_span_1 6 rfl rfl)
theorem dX1_span_33 : decode cX1_span 33 = .ok (.aload_n 0, 1) := dk_42 (dk_at dksX1_span_1 9 rfl rfl)
theorem dX1_span_34 : decode cX1_span 34 = .ok (.iload_n 1, 1) := dk_27 (dk_at dksX1_span_1 10 rfl rfl)
theorem dX1_span_35 : decode cX1_span 35 = .ok (.iload 7, 2) := dk_21 7 (dk_at dksX1_span_1 11 rfl rfl)
theorem dX1_span_37 : decode cX1_span 37 = .ok (.iadd, 1) := dk_96 (dk_at dksX1_span_1 13 rfl rfl)
theorem dX1_span_38 : decode cX1_span 38 = .ok (.aload_n 0, 1) := dk_42 (dk_at dksX1_span_1 14 rfl rfl)
theorem dX1_span_39 : decode cX1_span 39 = .ok (.getfield 16, 3) := dk_180 0 16 (dk_at dksX1_span_1 15 rfl rfl)
theorem dX1_span_42 : decode cX1_span 42 = .ok (.getfield 91, 3) := dk_180 0 91 (dk_at dksX1_span_1 18 rfl rfl)
theorem dX1_span_45 : decode cX1_span 45 = .ok (.iconst 1, 1) := dk_4 (dk_at dksX1_span_1 21 rfl rfl)
theorem dX1_span_46 : decode cX1_span 46 = .ok (.isub, 1) := dk_100 (dk_at dksX1_span_1 22 rfl rfl)
theorem dX1_span_47 : decode cX1_span 47 = .ok (.invokevirtual 357, 3) := dk_182 1 101 (dk_at dksX1_span_2 0 rfl rfl)
theorem dX1_span_50 : decode cX1_span 50 = .ok (.pop, 1) := dk_87 (dk_at dksX1_span_2 3 rfl rfl)
theorem dX1_span_51 : decode cX1_span 51 = .ok (.aload_n 0, 1) := dk_42 (dk_at dksX1_span_2 4 rfl rfl)
theorem dX1_span_52 : decode cX1_span 52 = .ok (.getfield 52, 3) := dk_180 0 52 (dk_at dksX1_span_2 5 rfl rfl)
theorem dX1_span_55 : decode cX1_span 55 = .ok (.getfield 361, 3) := dk_180 1 105 (dk_at dksX1_span_2 8 rfl rfl)
theorem dX1_span_58 : decode cX1_span 58 = .ok (.invokevirtual 379, 3) := dk_182 1 123 (dk_at dksX1_span_2 11 rfl rfl)
theorem dX1_span_61 : decode cX1_span 61 = .ok (.ifCond .eq 6, 3) := dk_153 0 6 (dk_at dksX1_span_2 14 rfl rfl)
theorem dX1_span_64 : decode cX1_span 64 = .ok (.iinc 4 1, 3) := dk_132 4 1 (dk_at dksX1_span_2 17 rfl rfl)
theorem dX1_span_67 : decode cX1_span 67 = .ok (.iload 5, 2) := dk_21 5 (dk_at dksX1_span_2 20 rfl rfl)
theorem dX1_span_69 : decode cX1_span 69 = .ok (.aload_n 0, 1) := dk_42 (dk_at dksX1_span_2 22 rfl rfl)
theorem dX1_span_70 : decode cX1_span 70 = .ok (.getfield 52, 3) := dk_180 0 52 (dk_at dksX1_span_3 0 rfl rfl)
theorem dX1_span_73 : decode cX1_span 73 = .ok (.getfield 370, 3) := dk_180 1 114 (dk_at dksX1_span_3 3 rfl rfl)
theorem dX1_span_76 : decode cX1_span 76 = .ok (.iadd, 1) := dk_96 (dk_at dksX1_span_3 6 rfl rfl)
theorem dX1_span_77 : decode cX1_span 77 = .ok (.istore 5, 2) := dk_54 5 (dk_at dksX1_span_3 7 rfl rfl)
theorem dX1_span_79 : decode cX1_span 79 = .ok (.iload 6, 2) := dk_21 6 (dk_at dksX1_span_3 9 rfl rfl)
theorem dX1_span_81 : decode cX1_span 81 = .ok (.aload_n 0, 1) := dk_42 (dk_at dksX1_span_3 11 rfl rfl)
theorem dX1_span_82 : decode cX1_span 82 = .ok (.getfield 52, 3) := dk_180 0 52 (dk_at dksX1_span_3 12 rfl rfl)
theorem dX1_span_85 : decode cX1_span 85 = .ok (.getfield 370, 3) := dk_180 1 114 (dk_at dksX1_span_3 15 rfl rfl)
theorem dX1_span_88 : decode cX1_span 88 = .ok (.invokestatic 383, 3) := dk_184 1 127 (dk_at dksX1_span_3 18 rfl rfl)
theorem dX1_span_91 : decode cX1_span 91 = .ok (.istore 6, 2) := dk_54 6 (dk_at dksX1_span_3 21 rfl rfl)
theorem dX1_span_93 : decode cX1_span 93 = .ok (.iinc 7 1, 3) := dk_132 7 1 (dk_at dksX1_span_4 0 rfl rfl)
theorem dX1_span_96 : decode cX1_span 96 = .ok (.goto (-69), 3) := dk_167 255 187 (dk_at dksX1_span_4 3 rfl rfl)
theorem dX1_span_99 : decode cX1_span 99 = .ok (.iload_n 3, 1) := dk_29 (dk_at dksX1_span_4 6 rfl rfl)
theorem dX1_span_100 : decode cX1_span 100 = .ok (.ifCond .ne 8, 3) := dk_154 0 8 (dk_at dksX1_span_4 7 rfl rfl)
theorem dX1_span_103 : decode cX1_span 103 = .ok (.iload 4, 2) := dk_21 4 (dk_at dksX1_span_4 10 rfl rfl)
theorem dX1_span_105 : decode cX1_span 105 = .ok (.goto 15, 3) := dk_167 0 15 (dk_at dksX1_span_4 12 rfl rfl)
theorem dX1_span_108 : decode cX1_span 108 = .ok (.iload_n 3, 1) := dk_29 (dk_at dksX1_span_4 15 rfl rfl)
theorem dX1_span_109 : decode cX1_span 109 = .ok (.iconst 1, 1) := dk_4 (dk_at dksX1_span_4 16 rfl rfl)
theorem dX1_span_110 : decode cX1_span 110 = .ok (.if_icmp .ne 8, 3) := dk_160 0 8 (dk_at dksX1_span_4 17 rfl rfl)
theorem dX1_span_113 : decode cX1_span 113 = .ok (.iload 5, 2) := dk_21 5 (dk_at dksX1_span_4 20 rfl rfl)
theorem dX1_span_115 : decode cX1_span 115 = .ok (.goto 5, 3) := dk_167 0 5 (dk_at dksX1_span_5 0 rfl rfl)
theorem dX1_span_118 : decode cX1_span 118 = .ok (.iload 6, 2) := dk_21 6 (dk_at dksX1_span_5 3 rfl rfl)
theorem dX1_span_120 : decode cX1_span 120 = .ok (.ireturn, 1) := dk_172 (dk_at dksX1_span_5 5 rfl rfl)
abbrev cX1_come : ByteArray := prog_1_method_54_code
def yX1_come : MethodName := ⟨RX1, "come", "(II)I"⟩
def dkwX1_come_2 : List UInt8 := [182, 1, 131, 172]
abbrev dktX1_come_2 : List UInt8 := dkwX1_come_2 ++ []
def dkwX1_come_1 : List UInt8 := [159, 0, 12, 42, 180, 0, 143, 16, 20, 160, 0, 5, 2, 172, 42, 182, 1, 129, 42, 180, 0, 16, 27, 28]
abbrev dktX1_come_1 : List UInt8 := dkwX1_come_1 ++ dktX1_come_2
def dkwX1_come_0 : List UInt8 := [42, 27, 182, 0, 149, 42, 28, 3, 17, 1, 224, 182, 0, 113, 42, 180, 0, 16, 180, 0, 91, 16, 24]
abbrev dktX1_come_0 : List UInt8 := dkwX1_come_0 ++ dktX1_come_1
theorem dksX1_come_0 : cX1_come.data.toList.drop 0 = dktX1_come_0 := by decide +kernel
theorem dksX1_come_1 : cX1_come.data.toList.drop 23 = dktX1_come_1 := dk_seg dksX1_come_0 23 rfl rfl
theorem dksX1_come_2 : cX1_come.data.toList.drop 47 = dktX1_come_2 := dk_seg dksX1_come_1 24 rfl rfl
theorem dX1_come_0 : decode cX1_come 0 = .ok (.aload_n 0, 1) := dk_42 (dk_at dksX1_come_0 0 rfl rfl)
theorem dX1_come_1 : decode cX1_come 1 = .ok (.iload_n 1, 1) := dk_27 (dk_at dksX1_come_0 1 rfl rfl)
theorem dX1_come_2 : decode cX1_come 2 = .ok (.invokevirtual 149, 3) := dk_182 0 149 (dk_at dksX1_come_0 2 rfl rfl)
theorem dX1_come_5 : decode cX1_come 5 = .ok (.aload_n 0, 1) := dk_42 (dk_at dksX1_come_0 5 rfl rfl)
theorem dX1_come_6 : decode cX1_come 6 = .ok (.iload_n 2, 1) := dk_28 (dk_at dksX1_come_0 6 rfl rfl)
theorem dX1_come_7 : decode cX1_come 7 = .ok (.iconst 0, 1) := dk_3 (dk_at dksX1_come_0 7 rfl rfl)
theorem dX1_come_8 : decode cX1_come 8 = .ok (.sipush 480, 3) := dk_17 1 224 (dk_at dksX1_come_0 8 rfl rfl)
theorem dX1_come_11 : decode cX1_come 11 = .ok (.invokevirtual 113, 3) := dk_182 0 113 (dk_at dksX1_come_0 11 rfl rfl)
theorem dX1_come_14 : decode cX1_come 14 = .ok (.aload_n 0, 1) := dk_42 (dk_at dksX1_come_0 14 rfl rfl)
theorem dX1_come_15 : decode cX1_come 15 = .ok (.getfield 16, 3) := dk_180 0 16 (dk_at dksX1_come_0 15 rfl rfl)
theorem dX1_come_18 : decode cX1_come 18 = .ok (.getfield 91, 3) := dk_180 0 91 (dk_at dksX1_come_0 18 rfl rfl)
theorem dX1_come_21 : decode cX1_come 21 = .ok (.bipush 24, 2) := dk_16 24 (dk_at dksX1_come_0 21 rfl rfl)
theorem dX1_come_23 : decode cX1_come 23 = .ok (.if_icmp .eq 12, 3) := dk_159 0 12 (dk_at dksX1_come_1 0 rfl rfl)
theorem dX1_come_26 : decode cX1_come 26 = .ok (.aload_n 0, 1) := dk_42 (dk_at dksX1_come_1 3 rfl rfl)
theorem dX1_come_27 : decode cX1_come 27 = .ok (.getfield 143, 3) := dk_180 0 143 (dk_at dksX1_come_1 4 rfl rfl)
theorem dX1_come_30 : decode cX1_come 30 = .ok (.bipush 20, 2) := dk_16 20 (dk_at dksX1_come_1 7 rfl rfl)
theorem dX1_come_32 : decode cX1_come 32 = .ok (.if_icmp .ne 5, 3) := dk_160 0 5 (dk_at dksX1_come_1 9 rfl rfl)
theorem dX1_come_35 : decode cX1_come 35 = .ok (.iconst (-1), 1) := dk_2 (dk_at dksX1_come_1 12 rfl rfl)
theorem dX1_come_36 : decode cX1_come 36 = .ok (.ireturn, 1) := dk_172 (dk_at dksX1_come_1 13 rfl rfl)
theorem dX1_come_37 : decode cX1_come 37 = .ok (.aload_n 0, 1) := dk_42 (dk_at dksX1_come_1 14 rfl rfl)
theorem dX1_come_38 : decode cX1_come 38 = .ok (.invokevirtual 385, 3) := dk_182 1 129 (dk_at dksX1_come_1 15 rfl rfl)
theorem dX1_come_41 : decode cX1_come 41 = .ok (.aload_n 0, 1) := dk_42 (dk_at dksX1_come_1 18 rfl rfl)
theorem dX1_come_42 : decode cX1_come 42 = .ok (.getfield 16, 3) := dk_180 0 16 (dk_at dksX1_come_1 19 rfl rfl)
theorem dX1_come_45 : decode cX1_come 45 = .ok (.iload_n 1, 1) := dk_27 (dk_at dksX1_come_1 22 rfl rfl)
theorem dX1_come_46 : decode cX1_come 46 = .ok (.iload_n 2, 1) := dk_28 (dk_at dksX1_come_1 23 rfl rfl)
theorem dX1_come_47 : decode cX1_come 47 = .ok (.invokevirtual 387, 3) := dk_182 1 131 (dk_at dksX1_come_2 0 rfl rfl)
theorem dX1_come_50 : decode cX1_come 50 = .ok (.ireturn, 1) := dk_172 (dk_at dksX1_come_2 3 rfl rfl)
abbrev cX1_changes : ByteArray := prog_1_method_53_code
def yX1_changes : MethodName := ⟨RX1, "changes", "()V"⟩
def dkwX1_changes_1 : List UInt8 := [177]
abbrev dktX1_changes_1 : List UInt8 := dkwX1_changes_1 ++ []
def dkwX1_changes_0 : List UInt8 := [42, 180, 0, 20, 42, 89, 180, 0, 143, 90, 4, 96, 181, 0, 143, 50, 42, 180, 0, 16, 182, 0, 135, 87]
abbrev dktX1_changes_0 : List UInt8 := dkwX1_changes_0 ++ dktX1_changes_1
theorem dksX1_changes_0 : cX1_changes.data.toList.drop 0 = dktX1_changes_0 := by decide +kernel
theorem dksX1_changes_1 : cX1_changes.data.toList.drop 24 = dktX1_changes_1 := dk_seg dksX1_changes_0 24 rfl rfl
theorem dX1_changes_0 : decode cX1_changes 0 = .ok (.aload_n 0, 1) := dk_42 (dk_at dksX1_changes_0 0 rfl rfl)
theorem dX1_changes_1 : decode cX1_changes 1 = .ok (.getfield 20, 3) := dk_180 0 20 (dk_at dksX1_changes_0 1 rfl rfl)
theorem dX1_changes_4 : decode cX1_changes 4 = .ok (.aload_n 0, 1) := dk_42 (dk_at dksX1_changes_0 4 rfl rfl)
theorem dX1_changes_5 : decode cX1_changes 5 = .ok (.dup, 1) := dk_89 (dk_at dksX1_changes_0 5 rfl rfl)
theorem dX1_changes_6 : decode cX1_changes 6 = .ok (.getfield 143, 3) := dk_180 0 143 (dk_at dksX1_changes_0 6 rfl rfl)
theorem dX1_changes_9 : decode cX1_changes 9 = .ok (.dup_x1, 1) := dk_90 (dk_at dksX1_changes_0 9 rfl rfl)
theorem dX1_changes_10 : decode cX1_changes 10 = .ok (.iconst 1, 1) := dk_4 (dk_at dksX1_changes_0 10 rfl rfl)
theorem dX1_changes_11 : decode cX1_changes 11 = .ok (.iadd, 1) := dk_96 (dk_at dksX1_changes_0 11 rfl rfl)
theorem dX1_changes_12 : decode cX1_changes 12 = .ok (.putfield 143, 3) := dk_181 0 143 (dk_at dksX1_changes_0 12 rfl rfl)
theorem dX1_changes_15 : decode cX1_changes 15 = .ok (.aaload, 1) := dk_50 (dk_at dksX1_changes_0 15 rfl rfl)
theorem dX1_changes_16 : decode cX1_changes 16 = .ok (.aload_n 0, 1) := dk_42 (dk_at dksX1_changes_0 16 rfl rfl)
theorem dX1_changes_17 : decode cX1_changes 17 = .ok (.getfield 16, 3) := dk_180 0 16 (dk_at dksX1_changes_0 17 rfl rfl)
theorem dX1_changes_20 : decode cX1_changes 20 = .ok (.invokevirtual 135, 3) := dk_182 0 135 (dk_at dksX1_changes_0 20 rfl rfl)
theorem dX1_changes_23 : decode cX1_changes 23 = .ok (.pop, 1) := dk_87 (dk_at dksX1_changes_0 23 rfl rfl)
theorem dX1_changes_24 : decode cX1_changes 24 = .ok (.return_, 1) := dk_177 (dk_at dksX1_changes_1 0 rfl rfl)
abbrev cX1_skip : ByteArray := prog_1_method_55_code
def yX1_skip : MethodName := ⟨RX1, "skip", "(I)I"⟩
def dkwX1_skip_1 : List UInt8 := [27, 182, 1, 134, 42, 180, 0, 16, 180, 0, 91, 172]
abbrev dktX1_skip_1 : List UInt8 := dkwX1_skip_1 ++ []
def dkwX1_skip_0 : List UInt8 := [42, 27, 182, 0, 226, 42, 180, 0, 143, 16, 20, 160, 0, 5, 2, 172, 42, 182, 1, 129, 42, 180, 0, 16]
abbrev dktX1_skip_0 : List UInt8 := dkwX1_skip_0 ++ dktX1_skip_1
theorem dksX1_skip_0 : cX1_skip.data.toList.drop 0 = dktX1_skip_0 := by decide +kernel
theorem dksX1_skip_1 : cX1_skip.data.toList.drop 24 = dktX1_skip_1 := dk_seg dksX1_skip_0 24 rfl rfl
theorem dX1_skip_0 : decode cX1_skip 0 = .ok (.aload_n 0, 1) := dk_42 (dk_at dksX1_skip_0 0 rfl rfl)
theorem dX1_skip_1 : decode cX1_skip 1 = .ok (.iload_n 1, 1) := dk_27 (dk_at dksX1_skip_0 1 rfl rfl)
theorem dX1_skip_2 : decode cX1_skip 2 = .ok (.invokevirtual 226, 3) := dk_182 0 226 (dk_at dksX1_skip_0 2 rfl rfl)
theorem dX1_skip_5 : decode cX1_skip 5 = .ok (.aload_n 0, 1) := dk_42 (dk_at dksX1_skip_0 5 rfl rfl)
theorem dX1_skip_6 : decode cX1_skip 6 = .ok (.getfield 143, 3) := dk_180 0 143 (dk_at dksX1_skip_0 6 rfl rfl)
theorem dX1_skip_9 : decode cX1_skip 9 = .ok (.bipush 20, 2) := dk_16 20 (dk_at dksX1_skip_0 9 rfl rfl)
theorem dX1_skip_11 : decode cX1_skip 11 = .ok (.if_icmp .ne 5, 3) := dk_160 0 5 (dk_at dksX1_skip_0 11 rfl rfl)
theorem dX1_skip_14 : decode cX1_skip 14 = .ok (.iconst (-1), 1) := dk_2 (dk_at dksX1_skip_0 14 rfl rfl)
theorem dX1_skip_15 : decode cX1_skip 15 = .ok (.ireturn, 1) := dk_172 (dk_at dksX1_skip_0 15 rfl rfl)
theorem dX1_skip_16 : decode cX1_skip 16 = .ok (.aload_n 0, 1) := dk_42 (dk_at dksX1_skip_0 16 rfl rfl)
theorem dX1_skip_17 : decode cX1_skip 17 = .ok (.invokevirtual 385, 3) := dk_182 1 129 (dk_at dksX1_skip_0 17 rfl rfl)
theorem dX1_skip_20 : decode cX1_skip 20 = .ok (.aload_n 0, 1) := dk_42 (dk_at dksX1_skip_0 20 rfl rfl)
theorem dX1_skip_21 : decode cX1_skip 21 = .ok (.getfield 16, 3) := dk_180 0 16 (dk_at dksX1_skip_0 21 rfl rfl)
theorem dX1_skip_24 : decode cX1_skip 24 = .ok (.iload_n 1, 1) := dk_27 (dk_at dksX1_skip_1 0 rfl rfl)
theorem dX1_skip_25 : decode cX1_skip 25 = .ok (.invokevirtual 390, 3) := dk_182 1 134 (dk_at dksX1_skip_1 1 rfl rfl)
theorem dX1_skip_28 : decode cX1_skip 28 = .ok (.aload_n 0, 1) := dk_42 (dk_at dksX1_skip_1 4 rfl rfl)
theorem dX1_skip_29 : decode cX1_skip 29 = .ok (.getfield 16, 3) := dk_180 0 16 (dk_at dksX1_skip_1 5 rfl rfl)
theorem dX1_skip_32 : decode cX1_skip 32 = .ok (.getfield 91, 3) := dk_180 0 91 (dk_at dksX1_skip_1 8 rfl rfl)
theorem dX1_skip_35 : decode cX1_skip 35 = .ok (.ireturn, 1) := dk_172 (dk_at dksX1_skip_1 11 rfl rfl)
abbrev cX1_shift : ByteArray := prog_1_method_56_code
def yX1_shift : MethodName := ⟨RX1, "shift", "(II)I"⟩
def dkwX1_shift_2 : List UInt8 := [180, 0, 16, 29, 28, 182, 1, 131, 172]
abbrev dktX1_shift_2 : List UInt8 := dkwX1_shift_2 ++ []
def dkwX1_shift_1 : List UInt8 := [172, 42, 182, 1, 129, 42, 180, 0, 16, 180, 0, 229, 27, 46, 62, 42, 180, 0, 16, 27, 182, 1, 134, 42]
abbrev dktX1_shift_1 : List UInt8 := dkwX1_shift_1 ++ dktX1_shift_2
def dkwX1_shift_0 : List UInt8 := [42, 27, 182, 0, 226, 42, 28, 3, 17, 1, 224, 182, 0, 113, 42, 180, 0, 143, 16, 20, 160, 0, 5, 2]
abbrev dktX1_shift_0 : List UInt8 := dkwX1_shift_0 ++ dktX1_shift_1
theorem dksX1_shift_0 : cX1_shift.data.toList.drop 0 = dktX1_shift_0 := by decide +kernel
theorem dksX1_shift_1 : cX1_shift.data.toList.drop 24 = dktX1_shift_1 := dk_seg dksX1_shift_0 24 rfl rfl
theorem dksX1_shift_2 : cX1_shift.data.toList.drop 48 = dktX1_shift_2 := dk_seg dksX1_shift_1 24 rfl rfl
theorem dX1_shift_0 : decode cX1_shift 0 = .ok (.aload_n 0, 1) := dk_42 (dk_at dksX1_shift_0 0 rfl rfl)
theorem dX1_shift_1 : decode cX1_shift 1 = .ok (.iload_n 1, 1) := dk_27 (dk_at dksX1_shift_0 1 rfl rfl)
theorem dX1_shift_2 : decode cX1_shift 2 = .ok (.invokevirtual 226, 3) := dk_182 0 226 (dk_at dksX1_shift_0 2 rfl rfl)
theorem dX1_shift_5 : decode cX1_shift 5 = .ok (.aload_n 0, 1) := dk_42 (dk_at dksX1_shift_0 5 rfl rfl)
theorem dX1_shift_6 : decode cX1_shift 6 = .ok (.iload_n 2, 1) := dk_28 (dk_at dksX1_shift_0 6 rfl rfl)
theorem dX1_shift_7 : decode cX1_shift 7 = .ok (.iconst 0, 1) := dk_3 (dk_at dksX1_shift_0 7 rfl rfl)
theorem dX1_shift_8 : decode cX1_shift 8 = .ok (.sipush 480, 3) := dk_17 1 224 (dk_at dksX1_shift_0 8 rfl rfl)
theorem dX1_shift_11 : decode cX1_shift 11 = .ok (.invokevirtual 113, 3) := dk_182 0 113 (dk_at dksX1_shift_0 11 rfl rfl)
theorem dX1_shift_14 : decode cX1_shift 14 = .ok (.aload_n 0, 1) := dk_42 (dk_at dksX1_shift_0 14 rfl rfl)
theorem dX1_shift_15 : decode cX1_shift 15 = .ok (.getfield 143, 3) := dk_180 0 143 (dk_at dksX1_shift_0 15 rfl rfl)
theorem dX1_shift_18 : decode cX1_shift 18 = .ok (.bipush 20, 2) := dk_16 20 (dk_at dksX1_shift_0 18 rfl rfl)
theorem dX1_shift_20 : decode cX1_shift 20 = .ok (.if_icmp .ne 5, 3) := dk_160 0 5 (dk_at dksX1_shift_0 20 rfl rfl)
theorem dX1_shift_23 : decode cX1_shift 23 = .ok (.iconst (-1), 1) := dk_2 (dk_at dksX1_shift_0 23 rfl rfl)
theorem dX1_shift_24 : decode cX1_shift 24 = .ok (.ireturn, 1) := dk_172 (dk_at dksX1_shift_1 0 rfl rfl)
theorem dX1_shift_25 : decode cX1_shift 25 = .ok (.aload_n 0, 1) := dk_42 (dk_at dksX1_shift_1 1 rfl rfl)
theorem dX1_shift_26 : decode cX1_shift 26 = .ok (.invokevirtual 385, 3) := dk_182 1 129 (dk_at dksX1_shift_1 2 rfl rfl)
theorem dX1_shift_29 : decode cX1_shift 29 = .ok (.aload_n 0, 1) := dk_42 (dk_at dksX1_shift_1 5 rfl rfl)
theorem dX1_shift_30 : decode cX1_shift 30 = .ok (.getfield 16, 3) := dk_180 0 16 (dk_at dksX1_shift_1 6 rfl rfl)
theorem dX1_shift_33 : decode cX1_shift 33 = .ok (.getfield 229, 3) := dk_180 0 229 (dk_at dksX1_shift_1 9 rfl rfl)
theorem dX1_shift_36 : decode cX1_shift 36 = .ok (.iload_n 1, 1) := dk_27 (dk_at dksX1_shift_1 12 rfl rfl)
theorem dX1_shift_37 : decode cX1_shift 37 = .ok (.iaload, 1) := dk_46 (dk_at dksX1_shift_1 13 rfl rfl)
theorem dX1_shift_38 : decode cX1_shift 38 = .ok (.istore_n 3, 1) := dk_62 (dk_at dksX1_shift_1 14 rfl rfl)
theorem dX1_shift_39 : decode cX1_shift 39 = .ok (.aload_n 0, 1) := dk_42 (dk_at dksX1_shift_1 15 rfl rfl)
theorem dX1_shift_40 : decode cX1_shift 40 = .ok (.getfield 16, 3) := dk_180 0 16 (dk_at dksX1_shift_1 16 rfl rfl)
theorem dX1_shift_43 : decode cX1_shift 43 = .ok (.iload_n 1, 1) := dk_27 (dk_at dksX1_shift_1 19 rfl rfl)
theorem dX1_shift_44 : decode cX1_shift 44 = .ok (.invokevirtual 390, 3) := dk_182 1 134 (dk_at dksX1_shift_1 20 rfl rfl)
theorem dX1_shift_47 : decode cX1_shift 47 = .ok (.aload_n 0, 1) := dk_42 (dk_at dksX1_shift_1 23 rfl rfl)
theorem dX1_shift_48 : decode cX1_shift 48 = .ok (.getfield 16, 3) := dk_180 0 16 (dk_at dksX1_shift_2 0 rfl rfl)
theorem dX1_shift_51 : decode cX1_shift 51 = .ok (.iload_n 3, 1) := dk_29 (dk_at dksX1_shift_2 3 rfl rfl)
theorem dX1_shift_52 : decode cX1_shift 52 = .ok (.iload_n 2, 1) := dk_28 (dk_at dksX1_shift_2 4 rfl rfl)
theorem dX1_shift_53 : decode cX1_shift 53 = .ok (.invokevirtual 387, 3) := dk_182 1 131 (dk_at dksX1_shift_2 5 rfl rfl)
theorem dX1_shift_56 : decode cX1_shift 56 = .ok (.ireturn, 1) := dk_172 (dk_at dksX1_shift_2 8 rfl rfl)
abbrev cX1_teach : ByteArray := prog_1_method_57_code
def yX1_teach : MethodName := ⟨RX1, "teach", "(II)I"⟩
def dkwX1_teach_1 : List UInt8 := [180, 0, 38, 27, 50, 199, 0, 7, 3, 167, 0, 12, 42, 180, 0, 38, 27, 50, 180, 0, 165, 172]
abbrev dktX1_teach_1 : List UInt8 := dkwX1_teach_1 ++ []
def dkwX1_teach_0 : List UInt8 := [42, 27, 182, 0, 149, 42, 28, 182, 0, 149, 42, 180, 0, 38, 27, 42, 180, 0, 38, 28, 50, 83, 42]
abbrev dktX1_teach_0 : List UInt8 := dkwX1_teach_0 ++ dktX1_teach_1
theorem dksX1_teach_0 : cX1_teach.data.toList.drop 0 = dktX1_teach_0 := by decide +kernel
theorem dksX1_teach_1 : cX1_teach.data.toList.drop 23 = dktX1_teach_1 := dk_seg dksX1_teach_0 23 rfl rfl
theorem dX1_teach_0 : decode cX1_teach 0 = .ok (.aload_n 0, 1) := dk_42 (dk_at dksX1_teach_0 0 rfl rfl)
theorem dX1_teach_1 : decode cX1_teach 1 = .ok (.iload_n 1, 1) := dk_27 (dk_at dksX1_teach_0 1 rfl rfl)
theorem dX1_teach_2 : decode cX1_teach 2 = .ok (.invokevirtual 149, 3) := dk_182 0 149 (dk_at dksX1_teach_0 2 rfl rfl)
theorem dX1_teach_5 : decode cX1_teach 5 = .ok (.aload_n 0, 1) := dk_42 (dk_at dksX1_teach_0 5 rfl rfl)
theorem dX1_teach_6 : decode cX1_teach 6 = .ok (.iload_n 2, 1) := dk_28 (dk_at dksX1_teach_0 6 rfl rfl)
theorem dX1_teach_7 : decode cX1_teach 7 = .ok (.invokevirtual 149, 3) := dk_182 0 149 (dk_at dksX1_teach_0 7 rfl rfl)
theorem dX1_teach_10 : decode cX1_teach 10 = .ok (.aload_n 0, 1) := dk_42 (dk_at dksX1_teach_0 10 rfl rfl)
theorem dX1_teach_11 : decode cX1_teach 11 = .ok (.getfield 38, 3) := dk_180 0 38 (dk_at dksX1_teach_0 11 rfl rfl)
theorem dX1_teach_14 : decode cX1_teach 14 = .ok (.iload_n 1, 1) := dk_27 (dk_at dksX1_teach_0 14 rfl rfl)
theorem dX1_teach_15 : decode cX1_teach 15 = .ok (.aload_n 0, 1) := dk_42 (dk_at dksX1_teach_0 15 rfl rfl)
theorem dX1_teach_16 : decode cX1_teach 16 = .ok (.getfield 38, 3) := dk_180 0 38 (dk_at dksX1_teach_0 16 rfl rfl)
theorem dX1_teach_19 : decode cX1_teach 19 = .ok (.iload_n 2, 1) := dk_28 (dk_at dksX1_teach_0 19 rfl rfl)
theorem dX1_teach_20 : decode cX1_teach 20 = .ok (.aaload, 1) := dk_50 (dk_at dksX1_teach_0 20 rfl rfl)
theorem dX1_teach_21 : decode cX1_teach 21 = .ok (.aastore, 1) := dk_83 (dk_at dksX1_teach_0 21 rfl rfl)
theorem dX1_teach_22 : decode cX1_teach 22 = .ok (.aload_n 0, 1) := dk_42 (dk_at dksX1_teach_0 22 rfl rfl)
theorem dX1_teach_23 : decode cX1_teach 23 = .ok (.getfield 38, 3) := dk_180 0 38 (dk_at dksX1_teach_1 0 rfl rfl)
theorem dX1_teach_26 : decode cX1_teach 26 = .ok (.iload_n 1, 1) := dk_27 (dk_at dksX1_teach_1 3 rfl rfl)
theorem dX1_teach_27 : decode cX1_teach 27 = .ok (.aaload, 1) := dk_50 (dk_at dksX1_teach_1 4 rfl rfl)
theorem dX1_teach_28 : decode cX1_teach 28 = .ok (.ifnonnull 7, 3) := dk_199 0 7 (dk_at dksX1_teach_1 5 rfl rfl)
theorem dX1_teach_31 : decode cX1_teach 31 = .ok (.iconst 0, 1) := dk_3 (dk_at dksX1_teach_1 8 rfl rfl)
theorem dX1_teach_32 : decode cX1_teach 32 = .ok (.goto 12, 3) := dk_167 0 12 (dk_at dksX1_teach_1 9 rfl rfl)
theorem dX1_teach_35 : decode cX1_teach 35 = .ok (.aload_n 0, 1) := dk_42 (dk_at dksX1_teach_1 12 rfl rfl)
theorem dX1_teach_36 : decode cX1_teach 36 = .ok (.getfield 38, 3) := dk_180 0 38 (dk_at dksX1_teach_1 13 rfl rfl)
theorem dX1_teach_39 : decode cX1_teach 39 = .ok (.iload_n 1, 1) := dk_27 (dk_at dksX1_teach_1 16 rfl rfl)
theorem dX1_teach_40 : decode cX1_teach 40 = .ok (.aaload, 1) := dk_50 (dk_at dksX1_teach_1 17 rfl rfl)
theorem dX1_teach_41 : decode cX1_teach 41 = .ok (.getfield 165, 3) := dk_180 0 165 (dk_at dksX1_teach_1 18 rfl rfl)
theorem dX1_teach_44 : decode cX1_teach 44 = .ok (.ireturn, 1) := dk_172 (dk_at dksX1_teach_1 21 rfl rfl)
theorem q108 : (Jvm.Cond.initialized "CardCups") ∈ lw_all := lw_g (lw_at lw_m1 1 rfl) rfl
theorem q146 : (Jvm.Cond.instantiable "CardCups" (17 : Nat)) ∈ lw_all := lw_g (lw_at lw_m1 39 rfl) rfl
theorem q148 : (Jvm.Cond.instanceMethod ({ cls := "CardCups", name := "<init>", desc := "()V" } : Jvm.MethodName)) ∈ lw_all := lw_g (lw_at lw_m1 41 rfl) rfl
theorem q149 : (Jvm.Cond.code ({ cls := "CardCups", name := "<init>", desc := "()V" } : Jvm.MethodName) prog_1_method_1_code (3 : Nat) (Option.none : Option Jvm.ClassFile.FieldType)) ∈ lw_all := lw_g (lw_at lw_m1 42 rfl) rfl
theorem q150 : (Jvm.Cond.methodLink "CardCups" (1 : Nat) ({ cls := "java/lang/Object", name := "<init>", desc := "()V" } : Jvm.MethodName)) ∈ lw_all := lw_g (lw_at lw_m1 43 rfl) rfl
theorem q153 : (Jvm.Cond.classLink "CardCups" (13 : Nat) "CardCups$Calendar") ∈ lw_all := lw_g (lw_at lw_m1 46 rfl) rfl
theorem q155 : (Jvm.Cond.methodLinkNest "CardCups" (15 : Nat) ({ cls := "CardCups$Calendar", name := "<init>", desc := "()V" } : Jvm.MethodName) "CardCups") ∈ lw_tbl := lw_at lw_m1 48 rfl
theorem q162 : (Jvm.Cond.fieldLinkNest "CardCups" (229 : Nat) "CardCups$Calendar" "who" "[I" "CardCups") ∈ lw_tbl := lw_at lw_m1 55 rfl
theorem q165 : (Jvm.Cond.fieldLinkNest "CardCups" (232 : Nat) "CardCups$Calendar" "minute" "[I" "CardCups") ∈ lw_tbl := lw_at lw_m1 58 rfl
theorem q168 : (Jvm.Cond.fieldLinkNest "CardCups" (91 : Nat) "CardCups$Calendar" "many" "I" "CardCups") ∈ lw_tbl := lw_at lw_m1 61 rfl
theorem q179 : (Jvm.Cond.classLink "CardCups" (24 : Nat) "[[LCardCups$Calendar;") ∈ lw_all := lw_g (lw_at lw_m1 72 rfl) rfl
theorem q182 : (Jvm.Cond.classLink "CardCups" (36 : Nat) "CardCups$Habit") ∈ lw_all := lw_g (lw_at lw_m1 75 rfl) rfl
theorem q184 : (Jvm.Cond.classLink "CardCups" (42 : Nat) "CardCups$Flow") ∈ lw_all := lw_g (lw_at lw_m1 77 rfl) rfl
theorem q186 : (Jvm.Cond.methodLinkNest "CardCups" (44 : Nat) ({ cls := "CardCups$Flow", name := "<init>", desc := "()V" } : Jvm.MethodName) "CardCups") ∈ lw_tbl := lw_at lw_m1 79 rfl
theorem q199 : (Jvm.Cond.fieldLinkNest "CardCups" (376 : Nat) "CardCups$State" "slot" "I" "CardCups") ∈ lw_tbl := lw_at lw_m1 92 rfl
theorem q204 : (Jvm.Cond.fieldLinkNest "CardCups" (365 : Nat) "CardCups$State" "clean" "I" "CardCups") ∈ lw_tbl := lw_at lw_m1 97 rfl
theorem q211 : (Jvm.Cond.fieldLinkNest "CardCups" (368 : Nat) "CardCups$State" "dirty" "I" "CardCups") ∈ lw_tbl := lw_at lw_m1 104 rfl
theorem q218 : (Jvm.Cond.fieldLinkNest "CardCups" (369 : Nat) "CardCups$State" "card" "I" "CardCups") ∈ lw_tbl := lw_at lw_m1 111 rfl
theorem q238 : (Jvm.Cond.fieldLinkNest "CardCups" (299 : Nat) "CardCups$Flow" "drunk" "[J" "CardCups") ∈ lw_tbl := lw_at lw_m1 131 rfl
theorem q246 : (Jvm.Cond.fieldLinkNest "CardCups" (303 : Nat) "CardCups$Flow" "washed" "J" "CardCups") ∈ lw_tbl := lw_at lw_m1 139 rfl
theorem q249 : (Jvm.Cond.fieldLinkNest "CardCups" (307 : Nat) "CardCups$Flow" "looks" "J" "CardCups") ∈ lw_tbl := lw_at lw_m1 142 rfl
theorem q279 : (Jvm.Cond.classLink "CardCups" (49 : Nat) "CardCups$Day") ∈ lw_all := lw_g (lw_at lw_m1 172 rfl) rfl
theorem q281 : (Jvm.Cond.methodLinkNest "CardCups" (51 : Nat) ({ cls := "CardCups$Day", name := "<init>", desc := "()V" } : Jvm.MethodName) "CardCups") ∈ lw_tbl := lw_at lw_m1 174 rfl
theorem q294 : (Jvm.Cond.fieldLinkNest "CardCups" (361 : Nat) "CardCups$Day" "state" "LCardCups$State;" "CardCups") ∈ lw_tbl := lw_at lw_m1 187 rfl
theorem q303 : (Jvm.Cond.fieldLinkNest "CardCups" (370 : Nat) "CardCups$Day" "drunk" "I" "CardCups") ∈ lw_tbl := lw_at lw_m1 196 rfl
theorem q306 : (Jvm.Cond.fieldLinkNest "CardCups" (372 : Nat) "CardCups$Day" "washed" "I" "CardCups") ∈ lw_tbl := lw_at lw_m1 199 rfl
theorem q309 : (Jvm.Cond.fieldLinkNest "CardCups" (374 : Nat) "CardCups$Day" "looks" "I" "CardCups") ∈ lw_tbl := lw_at lw_m1 202 rfl
theorem q325 : (Jvm.Cond.classLink "CardCups" (56 : Nat) "CardCups$How") ∈ lw_all := lw_g (lw_at lw_m1 218 rfl) rfl
theorem q327 : (Jvm.Cond.methodLinkNest "CardCups" (58 : Nat) ({ cls := "CardCups$How", name := "<init>", desc := "()V" } : Jvm.MethodName) "CardCups") ∈ lw_tbl := lw_at lw_m1 220 rfl
theorem q342 : (Jvm.Cond.fieldLinkNest "CardCups" (338 : Nat) "CardCups$How" "fall" "I" "CardCups") ∈ lw_tbl := lw_at lw_m1 235 rfl
theorem q345 : (Jvm.Cond.fieldLinkNest "CardCups" (339 : Nat) "CardCups$How" "see" "I" "CardCups") ∈ lw_tbl := lw_at lw_m1 238 rfl
theorem q348 : (Jvm.Cond.fieldLinkNest "CardCups" (340 : Nat) "CardCups$How" "starter" "I" "CardCups") ∈ lw_tbl := lw_at lw_m2 1 rfl
theorem q368 : (Jvm.Cond.classLink "CardCups" (63 : Nat) "CardCups$Office") ∈ lw_all := lw_g (lw_at lw_m2 21 rfl) rfl
theorem q370 : (Jvm.Cond.methodLinkNest "CardCups" (65 : Nat) ({ cls := "CardCups$Office", name := "<init>", desc := "()V" } : Jvm.MethodName) "CardCups") ∈ lw_tbl := lw_at lw_m2 23 rfl
theorem q377 : (Jvm.Cond.fieldLinkNest "CardCups" (248 : Nat) "CardCups$Office" "price" "[I" "CardCups") ∈ lw_tbl := lw_at lw_m2 30 rfl
theorem q382 : (Jvm.Cond.fieldLinkNest "CardCups" (207 : Nat) "CardCups$Office" "cups" "I" "CardCups") ∈ lw_tbl := lw_at lw_m2 35 rfl
theorem q387 : (Jvm.Cond.fieldLinkNest "CardCups" (210 : Nat) "CardCups$Office" "clean" "I" "CardCups") ∈ lw_tbl := lw_at lw_m2 40 rfl
theorem q391 : (Jvm.Cond.fieldLinkNest "CardCups" (213 : Nat) "CardCups$Office" "dirty" "I" "CardCups") ∈ lw_tbl := lw_at lw_m2 44 rfl
theorem q395 : (Jvm.Cond.fieldLinkNest "CardCups" (216 : Nat) "CardCups$Office" "card" "I" "CardCups") ∈ lw_tbl := lw_at lw_m2 48 rfl
theorem q399 : (Jvm.Cond.fieldLinkNest "CardCups" (218 : Nat) "CardCups$Office" "fall" "I" "CardCups") ∈ lw_tbl := lw_at lw_m2 52 rfl
theorem q403 : (Jvm.Cond.fieldLinkNest "CardCups" (221 : Nat) "CardCups$Office" "warm" "I" "CardCups") ∈ lw_tbl := lw_at lw_m2 56 rfl
theorem q408 : (Jvm.Cond.fieldLinkNest "CardCups" (223 : Nat) "CardCups$Office" "see" "I" "CardCups") ∈ lw_tbl := lw_at lw_m2 61 rfl
theorem q409 : (Jvm.Cond.fieldLinkNest "CardCups" (84 : Nat) "CardCups$Office" "people" "I" "CardCups") ∈ lw_tbl := lw_at lw_m2 62 rfl
theorem q430 : (Jvm.Cond.classLink "CardCups" (70 : Nat) "CardCups$Book") ∈ lw_all := lw_g (lw_at lw_m2 83 rfl) rfl
theorem q432 : (Jvm.Cond.methodLinkNest "CardCups" (72 : Nat) ({ cls := "CardCups$Book", name := "<init>", desc := "()V" } : Jvm.MethodName) "CardCups") ∈ lw_tbl := lw_at lw_m2 85 rfl
theorem q437 : (Jvm.Cond.fieldLinkNest "CardCups" (184 : Nat) "CardCups$Book" "visit" "[I" "CardCups") ∈ lw_tbl := lw_at lw_m2 90 rfl
theorem q439 : (Jvm.Cond.fieldLinkNest "CardCups" (187 : Nat) "CardCups$Book" "what" "[I" "CardCups") ∈ lw_tbl := lw_at lw_m2 92 rfl
theorem q441 : (Jvm.Cond.fieldLinkNest "CardCups" (200 : Nat) "CardCups$Book" "much" "[I" "CardCups") ∈ lw_tbl := lw_at lw_m2 94 rfl
theorem q443 : (Jvm.Cond.fieldLinkNest "CardCups" (174 : Nat) "CardCups$Book" "lines" "I" "CardCups") ∈ lw_tbl := lw_at lw_m2 96 rfl
theorem q453 : (Jvm.Cond.fieldLink "CardCups" (9 : Nat) "CardCups" "tape" "[B") ∈ lw_all := lw_g (lw_at lw_m2 106 rfl) rfl
theorem q454 : (Jvm.Cond.fieldLink "CardCups" (16 : Nat) "CardCups" "calendar" "LCardCups$Calendar;") ∈ lw_all := lw_g (lw_at lw_m2 107 rfl) rfl
theorem q455 : (Jvm.Cond.fieldLink "CardCups" (20 : Nat) "CardCups" "changed" "[LCardCups$Calendar;") ∈ lw_all := lw_g (lw_at lw_m2 108 rfl) rfl
theorem q456 : (Jvm.Cond.fieldLink "CardCups" (26 : Nat) "CardCups" "kept" "[[LCardCups$Calendar;") ∈ lw_all := lw_g (lw_at lw_m2 109 rfl) rfl
theorem q457 : (Jvm.Cond.fieldLink "CardCups" (29 : Nat) "CardCups" "keptChanges" "[I") ∈ lw_all := lw_g (lw_at lw_m2 110 rfl) rfl
theorem q458 : (Jvm.Cond.fieldLink "CardCups" (33 : Nat) "CardCups" "refused" "[I") ∈ lw_all := lw_g (lw_at lw_m2 111 rfl) rfl
theorem q459 : (Jvm.Cond.fieldLink "CardCups" (38 : Nat) "CardCups" "habits" "[LCardCups$Habit;") ∈ lw_all := lw_g (lw_at lw_m2 112 rfl) rfl
theorem q460 : (Jvm.Cond.fieldLink "CardCups" (45 : Nat) "CardCups" "flow" "LCardCups$Flow;") ∈ lw_all := lw_g (lw_at lw_m2 113 rfl) rfl
theorem q461 : (Jvm.Cond.fieldLink "CardCups" (52 : Nat) "CardCups" "day" "LCardCups$Day;") ∈ lw_all := lw_g (lw_at lw_m2 114 rfl) rfl
theorem q462 : (Jvm.Cond.fieldLink "CardCups" (59 : Nat) "CardCups" "how" "LCardCups$How;") ∈ lw_all := lw_g (lw_at lw_m2 115 rfl) rfl
theorem q463 : (Jvm.Cond.fieldLink "CardCups" (66 : Nat) "CardCups" "office" "LCardCups$Office;") ∈ lw_all := lw_g (lw_at lw_m2 116 rfl) rfl
theorem q464 : (Jvm.Cond.fieldLink "CardCups" (139 : Nat) "CardCups" "rule" "LCardCups$Habit;") ∈ lw_all := lw_g (lw_at lw_m2 117 rfl) rfl
theorem q465 : (Jvm.Cond.fieldLink "CardCups" (73 : Nat) "CardCups" "book" "LCardCups$Book;") ∈ lw_all := lw_g (lw_at lw_m2 118 rfl) rfl
theorem q466 : (Jvm.Cond.fieldLink "CardCups" (97 : Nat) "CardCups" "fed" "I") ∈ lw_all := lw_g (lw_at lw_m2 119 rfl) rfl
theorem q467 : (Jvm.Cond.fieldLink "CardCups" (77 : Nat) "CardCups" "place" "I") ∈ lw_all := lw_g (lw_at lw_m2 120 rfl) rfl
theorem q468 : (Jvm.Cond.fieldLink "CardCups" (143 : Nat) "CardCups" "changes" "I") ∈ lw_all := lw_g (lw_at lw_m2 121 rfl) rfl
theorem q469 : (Jvm.Cond.fieldLink "CardCups" (146 : Nat) "CardCups" "images" "I") ∈ lw_all := lw_g (lw_at lw_m2 122 rfl) rfl
theorem q470 : (Jvm.Cond.laysFinal "CardCups" "CardCups" "tape" "[B") ∈ lw_all := lw_g (lw_at lw_m2 123 rfl) rfl
theorem q471 : (Jvm.Cond.soleField "CardCups" "tape") ∈ lw_all := lw_g (lw_at lw_m2 124 rfl) rfl
theorem q472 : (Jvm.Cond.laysFinal "CardCups" "CardCups" "calendar" "LCardCups$Calendar;") ∈ lw_all := lw_g (lw_at lw_m2 125 rfl) rfl
theorem q473 : (Jvm.Cond.soleField "CardCups" "calendar") ∈ lw_all := lw_g (lw_at lw_m2 126 rfl) rfl
theorem q474 : (Jvm.Cond.laysFinal "CardCups" "CardCups" "changed" "[LCardCups$Calendar;") ∈ lw_all := lw_g (lw_at lw_m2 127 rfl) rfl
theorem q475 : (Jvm.Cond.soleField "CardCups" "changed") ∈ lw_all := lw_g (lw_at lw_m2 128 rfl) rfl
theorem q476 : (Jvm.Cond.laysFinal "CardCups" "CardCups" "kept" "[[LCardCups$Calendar;") ∈ lw_all := lw_g (lw_at lw_m2 129 rfl) rfl
theorem q477 : (Jvm.Cond.soleField "CardCups" "kept") ∈ lw_all := lw_g (lw_at lw_m2 130 rfl) rfl
theorem q478 : (Jvm.Cond.laysFinal "CardCups" "CardCups" "keptChanges" "[I") ∈ lw_all := lw_g (lw_at lw_m2 131 rfl) rfl
theorem q479 : (Jvm.Cond.soleField "CardCups" "keptChanges") ∈ lw_all := lw_g (lw_at lw_m2 132 rfl) rfl
theorem q480 : (Jvm.Cond.laysFinal "CardCups" "CardCups" "refused" "[I") ∈ lw_all := lw_g (lw_at lw_m2 133 rfl) rfl
theorem q481 : (Jvm.Cond.soleField "CardCups" "refused") ∈ lw_all := lw_g (lw_at lw_m2 134 rfl) rfl
theorem q482 : (Jvm.Cond.laysFinal "CardCups" "CardCups" "habits" "[LCardCups$Habit;") ∈ lw_all := lw_g (lw_at lw_m2 135 rfl) rfl
theorem q483 : (Jvm.Cond.soleField "CardCups" "habits") ∈ lw_all := lw_g (lw_at lw_m2 136 rfl) rfl
theorem q484 : (Jvm.Cond.laysFinal "CardCups" "CardCups" "flow" "LCardCups$Flow;") ∈ lw_all := lw_g (lw_at lw_m2 137 rfl) rfl
theorem q485 : (Jvm.Cond.soleField "CardCups" "flow") ∈ lw_all := lw_g (lw_at lw_m2 138 rfl) rfl
theorem q486 : (Jvm.Cond.laysFinal "CardCups" "CardCups" "day" "LCardCups$Day;") ∈ lw_all := lw_g (lw_at lw_m2 139 rfl) rfl
theorem q487 : (Jvm.Cond.soleField "CardCups" "day") ∈ lw_all := lw_g (lw_at lw_m2 140 rfl) rfl
theorem q488 : (Jvm.Cond.laysFinal "CardCups" "CardCups" "how" "LCardCups$How;") ∈ lw_all := lw_g (lw_at lw_m2 141 rfl) rfl
theorem q489 : (Jvm.Cond.soleField "CardCups" "how") ∈ lw_all := lw_g (lw_at lw_m2 142 rfl) rfl
theorem q490 : (Jvm.Cond.lays "CardCups" "CardCups" "office" "LCardCups$Office;") ∈ lw_all := lw_g (lw_at lw_m2 143 rfl) rfl
theorem q491 : (Jvm.Cond.soleField "CardCups" "office") ∈ lw_all := lw_g (lw_at lw_m2 144 rfl) rfl
theorem q492 : (Jvm.Cond.lays "CardCups" "CardCups" "rule" "LCardCups$Habit;") ∈ lw_all := lw_g (lw_at lw_m2 145 rfl) rfl
theorem q493 : (Jvm.Cond.soleField "CardCups" "rule") ∈ lw_all := lw_g (lw_at lw_m2 146 rfl) rfl
theorem q494 : (Jvm.Cond.lays "CardCups" "CardCups" "book" "LCardCups$Book;") ∈ lw_all := lw_g (lw_at lw_m2 147 rfl) rfl
theorem q495 : (Jvm.Cond.soleField "CardCups" "book") ∈ lw_all := lw_g (lw_at lw_m2 148 rfl) rfl
theorem q496 : (Jvm.Cond.lays "CardCups" "CardCups" "fed" "I") ∈ lw_all := lw_g (lw_at lw_m2 149 rfl) rfl
theorem q497 : (Jvm.Cond.soleField "CardCups" "fed") ∈ lw_all := lw_g (lw_at lw_m2 150 rfl) rfl
theorem q498 : (Jvm.Cond.lays "CardCups" "CardCups" "place" "I") ∈ lw_all := lw_g (lw_at lw_m2 151 rfl) rfl
theorem q499 : (Jvm.Cond.soleField "CardCups" "place") ∈ lw_all := lw_g (lw_at lw_m2 152 rfl) rfl
theorem q500 : (Jvm.Cond.lays "CardCups" "CardCups" "changes" "I") ∈ lw_all := lw_g (lw_at lw_m2 153 rfl) rfl
theorem q501 : (Jvm.Cond.soleField "CardCups" "changes") ∈ lw_all := lw_g (lw_at lw_m2 154 rfl) rfl
theorem q502 : (Jvm.Cond.lays "CardCups" "CardCups" "images" "I") ∈ lw_all := lw_g (lw_at lw_m2 155 rfl) rfl
theorem q503 : (Jvm.Cond.soleField "CardCups" "images") ∈ lw_all := lw_g (lw_at lw_m2 156 rfl) rfl
theorem q504 : (Jvm.Cond.superclass "CardCups" "java/lang/Object") ∈ lw_all := lw_g (lw_at lw_m2 157 rfl) rfl
theorem q506 : (Jvm.Cond.instanceMethod ({ cls := "CardCups", name := "feed", desc := "(IIIII)I" } : Jvm.MethodName)) ∈ lw_all := lw_g (lw_at lw_m2 159 rfl) rfl
theorem q507 : (Jvm.Cond.selects "CardCups" ({ cls := "CardCups", name := "feed", desc := "(IIIII)I" } : Jvm.MethodName) ({ cls := "CardCups", name := "feed", desc := "(IIIII)I" } : Jvm.MethodName)) ∈ lw_all := lw_g (lw_at lw_m2 160 rfl) rfl
theorem q508 : (Jvm.Cond.code ({ cls := "CardCups", name := "feed", desc := "(IIIII)I" } : Jvm.MethodName) prog_1_method_6_code (8 : Nat) (Option.some Jvm.ClassFile.FieldType.int)) ∈ lw_all := lw_g (lw_at lw_m2 161 rfl) rfl
theorem q510 : (Jvm.Cond.instanceMethod ({ cls := "CardCups", name := "fault", desc := "()I" } : Jvm.MethodName)) ∈ lw_all := lw_g (lw_at lw_m2 163 rfl) rfl
theorem q511 : (Jvm.Cond.selects "CardCups" ({ cls := "CardCups", name := "fault", desc := "()I" } : Jvm.MethodName) ({ cls := "CardCups", name := "fault", desc := "()I" } : Jvm.MethodName)) ∈ lw_all := lw_g (lw_at lw_m2 164 rfl) rfl
theorem q512 : (Jvm.Cond.code ({ cls := "CardCups", name := "fault", desc := "()I" } : Jvm.MethodName) prog_1_method_14_code (1 : Nat) (Option.some Jvm.ClassFile.FieldType.int)) ∈ lw_all := lw_g (lw_at lw_m2 165 rfl) rfl
theorem q514 : (Jvm.Cond.instanceMethod ({ cls := "CardCups", name := "since", desc := "()I" } : Jvm.MethodName)) ∈ lw_all := lw_g (lw_at lw_m2 167 rfl) rfl
theorem q515 : (Jvm.Cond.selects "CardCups" ({ cls := "CardCups", name := "since", desc := "()I" } : Jvm.MethodName) ({ cls := "CardCups", name := "since", desc := "()I" } : Jvm.MethodName)) ∈ lw_all := lw_g (lw_at lw_m2 168 rfl) rfl
theorem q516 : (Jvm.Cond.code ({ cls := "CardCups", name := "since", desc := "()I" } : Jvm.MethodName) prog_1_method_29_code (2 : Nat) (Option.some Jvm.ClassFile.FieldType.int)) ∈ lw_all := lw_g (lw_at lw_m2 169 rfl) rfl
theorem q517 : (Jvm.Cond.methodLink "CardCups" (259 : Nat) ({ cls := "CardCups", name := "asTold", desc := "()LCardCups$How;" } : Jvm.MethodName)) ∈ lw_all := lw_g (lw_at lw_m2 170 rfl) rfl
theorem q518 : (Jvm.Cond.privateMethod ({ cls := "CardCups", name := "asTold", desc := "()LCardCups$How;" } : Jvm.MethodName)) ∈ lw_tbl := lw_at lw_m2 171 rfl
theorem q519 : (Jvm.Cond.instanceMethod ({ cls := "CardCups", name := "asTold", desc := "()LCardCups$How;" } : Jvm.MethodName)) ∈ lw_all := lw_g (lw_at lw_m2 172 rfl) rfl
theorem q520 : (Jvm.Cond.code ({ cls := "CardCups", name := "asTold", desc := "()LCardCups$How;" } : Jvm.MethodName) prog_1_method_19_code (1 : Nat) (Option.some (Jvm.ClassFile.FieldType.object "CardCups$How"))) ∈ lw_all := lw_g (lw_at lw_m2 173 rfl) rfl
theorem q521 : (Jvm.Cond.methodLink "CardCups" (251 : Nat) ({ cls := "CardCups$How", name := "asTold", desc := "([LCardCups$Habit;LCardCups$Office;I)LCardCups$How;" } : Jvm.MethodName)) ∈ lw_all := lw_g (lw_at lw_m2 174 rfl) rfl
theorem q528 : (Jvm.Cond.methodLink "CardCups" (262 : Nat) ({ cls := "CardCups$How", name := "to", desc := "(I)LCardCups$How;" } : Jvm.MethodName)) ∈ lw_all := lw_g (lw_at lw_m2 181 rfl) rfl
theorem q532 : (Jvm.Cond.methodLink "CardCups" (266 : Nat) ({ cls := "CardCups", name := "run", desc := "(LCardCups$How;)LCardCups$Flow;" } : Jvm.MethodName)) ∈ lw_all := lw_g (lw_at lw_m2 185 rfl) rfl
theorem q533 : (Jvm.Cond.privateMethod ({ cls := "CardCups", name := "run", desc := "(LCardCups$How;)LCardCups$Flow;" } : Jvm.MethodName)) ∈ lw_tbl := lw_at lw_m2 186 rfl
theorem q534 : (Jvm.Cond.instanceMethod ({ cls := "CardCups", name := "run", desc := "(LCardCups$How;)LCardCups$Flow;" } : Jvm.MethodName)) ∈ lw_all := lw_g (lw_at lw_m2 187 rfl) rfl
theorem q535 : (Jvm.Cond.code ({ cls := "CardCups", name := "run", desc := "(LCardCups$How;)LCardCups$Flow;" } : Jvm.MethodName) prog_1_method_20_code (2 : Nat) (Option.some (Jvm.ClassFile.FieldType.object "CardCups$Flow"))) ∈ lw_all := lw_g (lw_at lw_m2 188 rfl) rfl
theorem q536 : (Jvm.Cond.methodLink "CardCups" (255 : Nat) ({ cls := "CardCups$Flow", name := "runs", desc := "(LCardCups$Office;LCardCups$Calendar;LCardCups$How;)V" } : Jvm.MethodName)) ∈ lw_all := lw_g (lw_at lw_m2 189 rfl) rfl
theorem q749 : (Jvm.Cond.methodLink "CardCups" (293 : Nat) ({ cls := "CardCups$Flow", name := "truly", desc := "()J" } : Jvm.MethodName)) ∈ lw_all := lw_g (lw_at lw_m3 162 rfl) rfl
theorem q766 : (Jvm.Cond.constantLong "CardCups" (297 : Nat) (549755813888 : Int64)) ∈ lw_all := lw_g (lw_at lw_m3 179 rfl) rfl
theorem q768 : (Jvm.Cond.instanceMethod ({ cls := "CardCups", name := "keeper", desc := "()I" } : Jvm.MethodName)) ∈ lw_all := lw_g (lw_at lw_m3 181 rfl) rfl
theorem q769 : (Jvm.Cond.selects "CardCups" ({ cls := "CardCups", name := "keeper", desc := "()I" } : Jvm.MethodName) ({ cls := "CardCups", name := "keeper", desc := "()I" } : Jvm.MethodName)) ∈ lw_all := lw_g (lw_at lw_m3 182 rfl) rfl
theorem q770 : (Jvm.Cond.code ({ cls := "CardCups", name := "keeper", desc := "()I" } : Jvm.MethodName) prog_1_method_40_code (7 : Nat) (Option.some Jvm.ClassFile.FieldType.int)) ∈ lw_all := lw_g (lw_at lw_m3 183 rfl) rfl
theorem q771 : (Jvm.Cond.methodLink "CardCups" (335 : Nat) ({ cls := "CardCups$How", name := "without", desc := "(I)LCardCups$How;" } : Jvm.MethodName)) ∈ lw_all := lw_g (lw_at lw_m3 184 rfl) rfl
theorem q776 : (Jvm.Cond.instanceMethod ({ cls := "CardCups", name := "spoiler", desc := "()I" } : Jvm.MethodName)) ∈ lw_all := lw_g (lw_at lw_m3 189 rfl) rfl
theorem q777 : (Jvm.Cond.selects "CardCups" ({ cls := "CardCups", name := "spoiler", desc := "()I" } : Jvm.MethodName) ({ cls := "CardCups", name := "spoiler", desc := "()I" } : Jvm.MethodName)) ∈ lw_all := lw_g (lw_at lw_m3 190 rfl) rfl
theorem q778 : (Jvm.Cond.code ({ cls := "CardCups", name := "spoiler", desc := "()I" } : Jvm.MethodName) prog_1_method_41_code (7 : Nat) (Option.some Jvm.ClassFile.FieldType.int)) ∈ lw_all := lw_g (lw_at lw_m3 191 rfl) rfl
theorem q779 : (Jvm.Cond.methodLink "CardCups" (310 : Nat) ({ cls := "CardCups$Flow", name := "cost", desc := "()J" } : Jvm.MethodName)) ∈ lw_all := lw_g (lw_at lw_m3 192 rfl) rfl
theorem q784 : (Jvm.Cond.instanceMethod ({ cls := "CardCups", name := "fill", desc := "()I" } : Jvm.MethodName)) ∈ lw_all := lw_g (lw_at lw_m3 197 rfl) rfl
theorem q785 : (Jvm.Cond.selects "CardCups" ({ cls := "CardCups", name := "fill", desc := "()I" } : Jvm.MethodName) ({ cls := "CardCups", name := "fill", desc := "()I" } : Jvm.MethodName)) ∈ lw_all := lw_g (lw_at lw_m3 198 rfl) rfl
theorem q786 : (Jvm.Cond.code ({ cls := "CardCups", name := "fill", desc := "()I" } : Jvm.MethodName) prog_1_method_46_code (7 : Nat) (Option.some Jvm.ClassFile.FieldType.int)) ∈ lw_all := lw_g (lw_at lw_m3 199 rfl) rfl
theorem q787 : (Jvm.Cond.methodLink "CardCups" (343 : Nat) ({ cls := "CardCups", name := "starting", desc := "(I)J" } : Jvm.MethodName)) ∈ lw_all := lw_g (lw_at lw_m3 200 rfl) rfl
theorem q788 : (Jvm.Cond.privateMethod ({ cls := "CardCups", name := "starting", desc := "(I)J" } : Jvm.MethodName)) ∈ lw_tbl := lw_at lw_m3 201 rfl
theorem q789 : (Jvm.Cond.instanceMethod ({ cls := "CardCups", name := "starting", desc := "(I)J" } : Jvm.MethodName)) ∈ lw_all := lw_g (lw_at lw_m3 202 rfl) rfl
theorem q790 : (Jvm.Cond.code ({ cls := "CardCups", name := "starting", desc := "(I)J" } : Jvm.MethodName) prog_1_method_44_code (2 : Nat) (Option.some Jvm.ClassFile.FieldType.long)) ∈ lw_all := lw_g (lw_at lw_m3 203 rfl) rfl
theorem q792 : (Jvm.Cond.instanceMethod ({ cls := "CardCups", name := "swap", desc := "()I" } : Jvm.MethodName)) ∈ lw_all := lw_g (lw_at lw_m3 205 rfl) rfl
theorem q793 : (Jvm.Cond.selects "CardCups" ({ cls := "CardCups", name := "swap", desc := "()I" } : Jvm.MethodName) ({ cls := "CardCups", name := "swap", desc := "()I" } : Jvm.MethodName)) ∈ lw_all := lw_g (lw_at lw_m3 206 rfl) rfl
theorem q794 : (Jvm.Cond.code ({ cls := "CardCups", name := "swap", desc := "()I" } : Jvm.MethodName) prog_1_method_49_code (8 : Nat) (Option.some Jvm.ClassFile.FieldType.int)) ∈ lw_all := lw_g (lw_at lw_m3 207 rfl) rfl
theorem q795 : (Jvm.Cond.methodLink "CardCups" (350 : Nat) ({ cls := "CardCups$How", name := "swapped", desc := "(II)LCardCups$How;" } : Jvm.MethodName)) ∈ lw_all := lw_g (lw_at lw_m3 208 rfl) rfl
theorem q800 : (Jvm.Cond.instanceMethod ({ cls := "CardCups", name := "undo", desc := "()I" } : Jvm.MethodName)) ∈ lw_all := lw_g (lw_at lw_m3 213 rfl) rfl
theorem q801 : (Jvm.Cond.selects "CardCups" ({ cls := "CardCups", name := "undo", desc := "()I" } : Jvm.MethodName) ({ cls := "CardCups", name := "undo", desc := "()I" } : Jvm.MethodName)) ∈ lw_all := lw_g (lw_at lw_m3 214 rfl) rfl
theorem q802 : (Jvm.Cond.code ({ cls := "CardCups", name := "undo", desc := "()I" } : Jvm.MethodName) prog_1_method_58_code (1 : Nat) (Option.some Jvm.ClassFile.FieldType.int)) ∈ lw_all := lw_g (lw_at lw_m3 215 rfl) rfl
theorem q803 : (Jvm.Cond.methodLink "CardCups" (135 : Nat) ({ cls := "CardCups$Calendar", name := "as", desc := "(LCardCups$Calendar;)LCardCups$Calendar;" } : Jvm.MethodName)) ∈ lw_all := lw_g (lw_at lw_m3 216 rfl) rfl
theorem q809 : (Jvm.Cond.instanceMethod ({ cls := "CardCups", name := "image", desc := "()I" } : Jvm.MethodName)) ∈ lw_all := lw_g (lw_at lw_m3 222 rfl) rfl
theorem q810 : (Jvm.Cond.selects "CardCups" ({ cls := "CardCups", name := "image", desc := "()I" } : Jvm.MethodName) ({ cls := "CardCups", name := "image", desc := "()I" } : Jvm.MethodName)) ∈ lw_all := lw_g (lw_at lw_m3 223 rfl) rfl
theorem q811 : (Jvm.Cond.code ({ cls := "CardCups", name := "image", desc := "()I" } : Jvm.MethodName) prog_1_method_59_code (2 : Nat) (Option.some Jvm.ClassFile.FieldType.int)) ∈ lw_all := lw_g (lw_at lw_m3 224 rfl) rfl
theorem q813 : (Jvm.Cond.instanceMethod ({ cls := "CardCups", name := "restore", desc := "()I" } : Jvm.MethodName)) ∈ lw_all := lw_g (lw_at lw_m3 226 rfl) rfl
theorem q814 : (Jvm.Cond.selects "CardCups" ({ cls := "CardCups", name := "restore", desc := "()I" } : Jvm.MethodName) ({ cls := "CardCups", name := "restore", desc := "()I" } : Jvm.MethodName)) ∈ lw_all := lw_g (lw_at lw_m3 227 rfl) rfl
theorem q815 : (Jvm.Cond.code ({ cls := "CardCups", name := "restore", desc := "()I" } : Jvm.MethodName) prog_1_method_60_code (2 : Nat) (Option.some Jvm.ClassFile.FieldType.int)) ∈ lw_all := lw_g (lw_at lw_m3 228 rfl) rfl
theorem q817 : (Jvm.Cond.instanceMethod ({ cls := "CardCups", name := "status", desc := "(I)I" } : Jvm.MethodName)) ∈ lw_all := lw_g (lw_at lw_m3 230 rfl) rfl
theorem q818 : (Jvm.Cond.selects "CardCups" ({ cls := "CardCups", name := "status", desc := "(I)I" } : Jvm.MethodName) ({ cls := "CardCups", name := "status", desc := "(I)I" } : Jvm.MethodName)) ∈ lw_all := lw_g (lw_at lw_m3 231 rfl) rfl
theorem q819 : (Jvm.Cond.code ({ cls := "CardCups", name := "status", desc := "(I)I" } : Jvm.MethodName) prog_1_method_61_code (2 : Nat) (Option.some Jvm.ClassFile.FieldType.int)) ∈ lw_all := lw_g (lw_at lw_m3 232 rfl) rfl
theorem q821 : (Jvm.Cond.instanceMethod ({ cls := "CardCups", name := "count", desc := "(I)I" } : Jvm.MethodName)) ∈ lw_all := lw_g (lw_at lw_m3 234 rfl) rfl
theorem q822 : (Jvm.Cond.selects "CardCups" ({ cls := "CardCups", name := "count", desc := "(I)I" } : Jvm.MethodName) ({ cls := "CardCups", name := "count", desc := "(I)I" } : Jvm.MethodName)) ∈ lw_all := lw_g (lw_at lw_m3 235 rfl) rfl
theorem q823 : (Jvm.Cond.code ({ cls := "CardCups", name := "count", desc := "(I)I" } : Jvm.MethodName) prog_1_method_62_code (2 : Nat) (Option.some Jvm.ClassFile.FieldType.int)) ∈ lw_all := lw_g (lw_at lw_m3 236 rfl) rfl
theorem q829 : (Jvm.Cond.instanceMethod ({ cls := "CardCups", name := "office", desc := "(I)I" } : Jvm.MethodName)) ∈ lw_all := lw_g (lw_at lw_m4 2 rfl) rfl
theorem q830 : (Jvm.Cond.selects "CardCups" ({ cls := "CardCups", name := "office", desc := "(I)I" } : Jvm.MethodName) ({ cls := "CardCups", name := "office", desc := "(I)I" } : Jvm.MethodName)) ∈ lw_all := lw_g (lw_at lw_m4 3 rfl) rfl
theorem q831 : (Jvm.Cond.codeWith ({ cls := "CardCups", name := "office", desc := "(I)I" } : Jvm.MethodName) prog_1_method_9_code (4 : Nat) (Option.some Jvm.ClassFile.FieldType.int) [((23 : Nat), (27 : Nat), (30 : Nat), (106 : Nat))]) ∈ lw_all := lw_g (lw_at lw_m4 4 rfl) rfl
theorem q832 : (Jvm.Cond.classLink "CardCups" (106 : Nat) "CardCups$Wrong") ∈ lw_all := lw_g (lw_at lw_m4 5 rfl) rfl
theorem q833 : (Jvm.Cond.methodLink "CardCups" (113 : Nat) ({ cls := "CardCups", name := "within", desc := "(III)V" } : Jvm.MethodName)) ∈ lw_all := lw_g (lw_at lw_m4 6 rfl) rfl
theorem q834 : (Jvm.Cond.privateMethod ({ cls := "CardCups", name := "within", desc := "(III)V" } : Jvm.MethodName)) ∈ lw_tbl := lw_at lw_m4 7 rfl
theorem q835 : (Jvm.Cond.instanceMethod ({ cls := "CardCups", name := "within", desc := "(III)V" } : Jvm.MethodName)) ∈ lw_all := lw_g (lw_at lw_m4 8 rfl) rfl
theorem q836 : (Jvm.Cond.code ({ cls := "CardCups", name := "within", desc := "(III)V" } : Jvm.MethodName) prog_1_method_5_code (4 : Nat) (Option.none : Option Jvm.ClassFile.FieldType)) ∈ lw_all := lw_g (lw_at lw_m4 9 rfl) rfl
theorem q837 : (Jvm.Cond.classLink "CardCups" (94 : Nat) "java/lang/IllegalArgumentException") ∈ lw_all := lw_g (lw_at lw_m4 10 rfl) rfl
theorem q878 : (Jvm.Cond.methodLink "CardCups" (96 : Nat) ({ cls := "java/lang/IllegalArgumentException", name := "<init>", desc := "()V" } : Jvm.MethodName)) ∈ lw_all := lw_g (lw_at lw_m4 51 rfl) rfl
theorem q901 : (Jvm.Cond.classLink "CardCups" (117 : Nat) "CardCups$OfficeReader") ∈ lw_all := lw_g (lw_at lw_m4 74 rfl) rfl
theorem q903 : (Jvm.Cond.methodLink "CardCups" (119 : Nat) ({ cls := "CardCups", name := "reader", desc := "(I)LCardCups$Reader;" } : Jvm.MethodName)) ∈ lw_all := lw_g (lw_at lw_m4 76 rfl) rfl
theorem q904 : (Jvm.Cond.privateMethod ({ cls := "CardCups", name := "reader", desc := "(I)LCardCups$Reader;" } : Jvm.MethodName)) ∈ lw_tbl := lw_at lw_m4 77 rfl
theorem q905 : (Jvm.Cond.instanceMethod ({ cls := "CardCups", name := "reader", desc := "(I)LCardCups$Reader;" } : Jvm.MethodName)) ∈ lw_all := lw_g (lw_at lw_m4 78 rfl) rfl
theorem q906 : (Jvm.Cond.code ({ cls := "CardCups", name := "reader", desc := "(I)LCardCups$Reader;" } : Jvm.MethodName) prog_1_method_7_code (2 : Nat) (Option.some (Jvm.ClassFile.FieldType.object "CardCups$Reader"))) ∈ lw_all := lw_g (lw_at lw_m4 79 rfl) rfl
theorem q907 : (Jvm.Cond.classLink "CardCups" (100 : Nat) "CardCups$Reader") ∈ lw_all := lw_g (lw_at lw_m4 80 rfl) rfl
theorem q909 : (Jvm.Cond.methodLink "CardCups" (102 : Nat) ({ cls := "CardCups$Reader", name := "<init>", desc := "([BI)V" } : Jvm.MethodName)) ∈ lw_all := lw_g (lw_at lw_m4 82 rfl) rfl
theorem q926 : (Jvm.Cond.methodLink "CardCups" (123 : Nat) ({ cls := "CardCups$OfficeReader", name := "<init>", desc := "(LCardCups$Reader;)V" } : Jvm.MethodName)) ∈ lw_all := lw_g (lw_at lw_m4 99 rfl) rfl
theorem q948 : (Jvm.Cond.fieldLinkNest "CardCups" (133 : Nat) "CardCups$OfficeReader" "office" "LCardCups$Office;" "CardCups") ∈ lw_tbl := lw_at lw_m4 121 rfl
theorem q950 : (Jvm.Cond.fieldLinkNest "CardCups" (134 : Nat) "CardCups$OfficeReader" "calendar" "LCardCups$Calendar;" "CardCups") ∈ lw_tbl := lw_at lw_m4 123 rfl
theorem q963 : (Jvm.Cond.methodLink "CardCups" (126 : Nat) ({ cls := "CardCups$OfficeReader", name := "reads", desc := "()V" } : Jvm.MethodName)) ∈ lw_all := lw_g (lw_at lw_m4 136 rfl) rfl
theorem q1063 : (Jvm.Cond.fieldLinkNest "CardCups" (110 : Nat) "CardCups$Wrong" "why" "I" "CardCups") ∈ lw_tbl := lw_at lw_m4 236 rfl
theorem q1065 : (Jvm.Cond.fieldLinkNest "CardCups" (105 : Nat) "CardCups$Wrong" "where" "I" "CardCups") ∈ lw_tbl := lw_at lw_m4 238 rfl
theorem q1095 : (Jvm.Cond.methodLink "CardCups" (129 : Nat) ({ cls := "CardCups", name := "faulty", desc := "(LCardCups$Wrong;)I" } : Jvm.MethodName)) ∈ lw_all := lw_g (lw_at lw_m5 28 rfl) rfl
theorem q1096 : (Jvm.Cond.privateMethod ({ cls := "CardCups", name := "faulty", desc := "(LCardCups$Wrong;)I" } : Jvm.MethodName)) ∈ lw_tbl := lw_at lw_m5 29 rfl
theorem q1097 : (Jvm.Cond.instanceMethod ({ cls := "CardCups", name := "faulty", desc := "(LCardCups$Wrong;)I" } : Jvm.MethodName)) ∈ lw_all := lw_g (lw_at lw_m5 30 rfl) rfl
theorem q1098 : (Jvm.Cond.code ({ cls := "CardCups", name := "faulty", desc := "(LCardCups$Wrong;)I" } : Jvm.MethodName) prog_1_method_8_code (2 : Nat) (Option.some Jvm.ClassFile.FieldType.int)) ∈ lw_all := lw_g (lw_at lw_m5 31 rfl) rfl
theorem q1104 : (Jvm.Cond.instanceMethod ({ cls := "CardCups", name := "habit", desc := "(II)I" } : Jvm.MethodName)) ∈ lw_all := lw_g (lw_at lw_m5 37 rfl) rfl
theorem q1105 : (Jvm.Cond.selects "CardCups" ({ cls := "CardCups", name := "habit", desc := "(II)I" } : Jvm.MethodName) ({ cls := "CardCups", name := "habit", desc := "(II)I" } : Jvm.MethodName)) ∈ lw_all := lw_g (lw_at lw_m5 38 rfl) rfl
theorem q1106 : (Jvm.Cond.codeWith ({ cls := "CardCups", name := "habit", desc := "(II)I" } : Jvm.MethodName) prog_1_method_10_code (4 : Nat) (Option.some Jvm.ClassFile.FieldType.int) [((21 : Nat), (42 : Nat), (45 : Nat), (106 : Nat))]) ∈ lw_all := lw_g (lw_at lw_m5 39 rfl) rfl
theorem q1107 : (Jvm.Cond.methodLink "CardCups" (149 : Nat) ({ cls := "CardCups", name := "personOf", desc := "(I)V" } : Jvm.MethodName)) ∈ lw_all := lw_g (lw_at lw_m5 40 rfl) rfl
theorem q1108 : (Jvm.Cond.privateMethod ({ cls := "CardCups", name := "personOf", desc := "(I)V" } : Jvm.MethodName)) ∈ lw_tbl := lw_at lw_m5 41 rfl
theorem q1109 : (Jvm.Cond.instanceMethod ({ cls := "CardCups", name := "personOf", desc := "(I)V" } : Jvm.MethodName)) ∈ lw_all := lw_g (lw_at lw_m5 42 rfl) rfl
theorem q1110 : (Jvm.Cond.code ({ cls := "CardCups", name := "personOf", desc := "(I)V" } : Jvm.MethodName) prog_1_method_3_code (2 : Nat) (Option.none : Option Jvm.ClassFile.FieldType)) ∈ lw_all := lw_g (lw_at lw_m5 43 rfl) rfl
theorem q1111 : (Jvm.Cond.methodLink "CardCups" (87 : Nat) ({ cls := "CardCups", name := "isThere", desc := "(II)V" } : Jvm.MethodName)) ∈ lw_all := lw_g (lw_at lw_m5 44 rfl) rfl
theorem q1112 : (Jvm.Cond.privateMethod ({ cls := "CardCups", name := "isThere", desc := "(II)V" } : Jvm.MethodName)) ∈ lw_tbl := lw_at lw_m5 45 rfl
theorem q1113 : (Jvm.Cond.instanceMethod ({ cls := "CardCups", name := "isThere", desc := "(II)V" } : Jvm.MethodName)) ∈ lw_all := lw_g (lw_at lw_m5 46 rfl) rfl
theorem q1114 : (Jvm.Cond.code ({ cls := "CardCups", name := "isThere", desc := "(II)V" } : Jvm.MethodName) prog_1_method_2_code (3 : Nat) (Option.none : Option Jvm.ClassFile.FieldType)) ∈ lw_all := lw_g (lw_at lw_m5 47 rfl) rfl
theorem q1115 : (Jvm.Cond.classLink "CardCups" (81 : Nat) "java/util/NoSuchElementException") ∈ lw_all := lw_g (lw_at lw_m5 48 rfl) rfl
theorem q1124 : (Jvm.Cond.methodLink "CardCups" (83 : Nat) ({ cls := "java/util/NoSuchElementException", name := "<init>", desc := "()V" } : Jvm.MethodName)) ∈ lw_all := lw_g (lw_at lw_m5 57 rfl) rfl
theorem q1130 : (Jvm.Cond.methodLink "CardCups" (153 : Nat) ({ cls := "java/lang/Math", name := "min", desc := "(II)I" } : Jvm.MethodName)) ∈ lw_all := lw_g (lw_at lw_m5 63 rfl) rfl
theorem q1131 : (Jvm.Cond.classLink "CardCups" (159 : Nat) "CardCups$HabitReader") ∈ lw_all := lw_g (lw_at lw_m5 64 rfl) rfl
theorem q1133 : (Jvm.Cond.methodLink "CardCups" (161 : Nat) ({ cls := "CardCups$HabitReader", name := "<init>", desc := "(LCardCups$Reader;)V" } : Jvm.MethodName)) ∈ lw_all := lw_g (lw_at lw_m5 66 rfl) rfl
theorem q1164 : (Jvm.Cond.methodLink "CardCups" (162 : Nat) ({ cls := "CardCups$HabitReader", name := "reads", desc := "()LCardCups$Habit;" } : Jvm.MethodName)) ∈ lw_all := lw_g (lw_at lw_m5 97 rfl) rfl
theorem q1183 : (Jvm.Cond.fieldLinkNest "CardCups" (165 : Nat) "CardCups$Habit" "many" "I" "CardCups") ∈ lw_tbl := lw_at lw_m5 116 rfl
theorem q1359 : (Jvm.Cond.instanceMethod ({ cls := "CardCups", name := "rule", desc := "(I)I" } : Jvm.MethodName)) ∈ lw_all := lw_g (lw_at lw_m6 52 rfl) rfl
theorem q1360 : (Jvm.Cond.selects "CardCups" ({ cls := "CardCups", name := "rule", desc := "(I)I" } : Jvm.MethodName) ({ cls := "CardCups", name := "rule", desc := "(I)I" } : Jvm.MethodName)) ∈ lw_all := lw_g (lw_at lw_m6 53 rfl) rfl
theorem q1361 : (Jvm.Cond.codeWith ({ cls := "CardCups", name := "rule", desc := "(I)I" } : Jvm.MethodName) prog_1_method_11_code (3 : Nat) (Option.some Jvm.ClassFile.FieldType.int) [((16 : Nat), (35 : Nat), (38 : Nat), (106 : Nat))]) ∈ lw_all := lw_g (lw_at lw_m6 54 rfl) rfl
theorem q1366 : (Jvm.Cond.instanceMethod ({ cls := "CardCups", name := "book", desc := "(I)I" } : Jvm.MethodName)) ∈ lw_all := lw_g (lw_at lw_m6 59 rfl) rfl
theorem q1367 : (Jvm.Cond.selects "CardCups" ({ cls := "CardCups", name := "book", desc := "(I)I" } : Jvm.MethodName) ({ cls := "CardCups", name := "book", desc := "(I)I" } : Jvm.MethodName)) ∈ lw_all := lw_g (lw_at lw_m6 60 rfl) rfl
theorem q1368 : (Jvm.Cond.codeWith ({ cls := "CardCups", name := "book", desc := "(I)I" } : Jvm.MethodName) prog_1_method_12_code (4 : Nat) (Option.some Jvm.ClassFile.FieldType.int) [((24 : Nat), (47 : Nat), (50 : Nat), (106 : Nat))]) ∈ lw_all := lw_g (lw_at lw_m6 61 rfl) rfl
theorem q1369 : (Jvm.Cond.methodLink "CardCups" (166 : Nat) ({ cls := "CardCups$Reader", name := "now", desc := "()I" } : Jvm.MethodName)) ∈ lw_all := lw_g (lw_at lw_m6 62 rfl) rfl
theorem q1370 : (Jvm.Cond.methodLink "CardCups" (170 : Nat) ({ cls := "CardCups", name := "line", desc := "(LCardCups$Reader;LCardCups$Book;)V" } : Jvm.MethodName)) ∈ lw_all := lw_g (lw_at lw_m6 63 rfl) rfl
theorem q1371 : (Jvm.Cond.privateMethod ({ cls := "CardCups", name := "line", desc := "(LCardCups$Reader;LCardCups$Book;)V" } : Jvm.MethodName)) ∈ lw_tbl := lw_at lw_m6 64 rfl
theorem q1372 : (Jvm.Cond.instanceMethod ({ cls := "CardCups", name := "line", desc := "(LCardCups$Reader;LCardCups$Book;)V" } : Jvm.MethodName)) ∈ lw_all := lw_g (lw_at lw_m6 65 rfl) rfl
theorem q1373 : (Jvm.Cond.code ({ cls := "CardCups", name := "line", desc := "(LCardCups$Reader;LCardCups$Book;)V" } : Jvm.MethodName) prog_1_method_13_code (6 : Nat) (Option.none : Option Jvm.ClassFile.FieldType)) ∈ lw_all := lw_g (lw_at lw_m6 66 rfl) rfl
theorem q1374 : (Jvm.Cond.methodLink "CardCups" (177 : Nat) ({ cls := "CardCups$Reader", name := "place", desc := "()I" } : Jvm.MethodName)) ∈ lw_all := lw_g (lw_at lw_m6 67 rfl) rfl
theorem q1375 : (Jvm.Cond.methodLink "CardCups" (179 : Nat) ({ cls := "CardCups$Reader", name := "number", desc := "(II)I" } : Jvm.MethodName)) ∈ lw_all := lw_g (lw_at lw_m6 68 rfl) rfl
theorem q1376 : (Jvm.Cond.methodLink "CardCups" (182 : Nat) ({ cls := "CardCups$Wrong", name := "<init>", desc := "(II)V" } : Jvm.MethodName)) ∈ lw_all := lw_g (lw_at lw_m6 69 rfl) rfl
theorem q1377 : (Jvm.Cond.stringRef "CardCups" (190 : Nat) "card") ∈ lw_tbl := lw_at lw_m6 70 rfl
theorem q1378 : (Jvm.Cond.methodLink "CardCups" (192 : Nat) ({ cls := "CardCups$Reader", name := "takes", desc := "(Ljava/lang/String;)Z" } : Jvm.MethodName)) ∈ lw_all := lw_g (lw_at lw_m6 71 rfl) rfl
theorem q1379 : (Jvm.Cond.stringRef "CardCups" (196 : Nat) "warm") ∈ lw_tbl := lw_at lw_m6 72 rfl
theorem q1380 : (Jvm.Cond.stringRef "CardCups" (198 : Nat) "in") ∈ lw_tbl := lw_at lw_m6 73 rfl
theorem q1381 : (Jvm.Cond.methodLink "CardCups" (203 : Nat) ({ cls := "CardCups$Reader", name := "sign", desc := "(C)V" } : Jvm.MethodName)) ∈ lw_all := lw_g (lw_at lw_m6 74 rfl) rfl
theorem q1386 : (Jvm.Cond.instanceMethod ({ cls := "CardCups", name := "told", desc := "(I)I" } : Jvm.MethodName)) ∈ lw_all := lw_g (lw_at lw_m6 79 rfl) rfl
theorem q1387 : (Jvm.Cond.selects "CardCups" ({ cls := "CardCups", name := "told", desc := "(I)I" } : Jvm.MethodName) ({ cls := "CardCups", name := "told", desc := "(I)I" } : Jvm.MethodName)) ∈ lw_all := lw_g (lw_at lw_m6 80 rfl) rfl
theorem q1388 : (Jvm.Cond.code ({ cls := "CardCups", name := "told", desc := "(I)I" } : Jvm.MethodName) prog_1_method_15_code (2 : Nat) (Option.some Jvm.ClassFile.FieldType.int)) ∈ lw_all := lw_g (lw_at lw_m6 81 rfl) rfl
theorem q1393 : (Jvm.Cond.instanceMethod ({ cls := "CardCups", name := "visit", desc := "(II)I" } : Jvm.MethodName)) ∈ lw_all := lw_g (lw_at lw_m6 86 rfl) rfl
theorem q1394 : (Jvm.Cond.selects "CardCups" ({ cls := "CardCups", name := "visit", desc := "(II)I" } : Jvm.MethodName) ({ cls := "CardCups", name := "visit", desc := "(II)I" } : Jvm.MethodName)) ∈ lw_all := lw_g (lw_at lw_m6 87 rfl) rfl
theorem q1395 : (Jvm.Cond.code ({ cls := "CardCups", name := "visit", desc := "(II)I" } : Jvm.MethodName) prog_1_method_16_code (3 : Nat) (Option.some Jvm.ClassFile.FieldType.int)) ∈ lw_all := lw_g (lw_at lw_m6 88 rfl) rfl
theorem q1396 : (Jvm.Cond.methodLink "CardCups" (226 : Nat) ({ cls := "CardCups", name := "visitOf", desc := "(I)V" } : Jvm.MethodName)) ∈ lw_all := lw_g (lw_at lw_m6 89 rfl) rfl
theorem q1397 : (Jvm.Cond.privateMethod ({ cls := "CardCups", name := "visitOf", desc := "(I)V" } : Jvm.MethodName)) ∈ lw_tbl := lw_at lw_m6 90 rfl
theorem q1398 : (Jvm.Cond.instanceMethod ({ cls := "CardCups", name := "visitOf", desc := "(I)V" } : Jvm.MethodName)) ∈ lw_all := lw_g (lw_at lw_m6 91 rfl) rfl
theorem q1399 : (Jvm.Cond.code ({ cls := "CardCups", name := "visitOf", desc := "(I)V" } : Jvm.MethodName) prog_1_method_4_code (2 : Nat) (Option.none : Option Jvm.ClassFile.FieldType)) ∈ lw_all := lw_g (lw_at lw_m6 92 rfl) rfl
theorem q1400 : (Jvm.Cond.methodLink "CardCups" (235 : Nat) ({ cls := "CardCups$Calendar", name := "count", desc := "(I)I" } : Jvm.MethodName)) ∈ lw_all := lw_g (lw_at lw_m6 93 rfl) rfl
theorem q1401 : (Jvm.Cond.methodLink "CardCups" (239 : Nat) ({ cls := "CardCups$Calendar", name := "last", desc := "(I)I" } : Jvm.MethodName)) ∈ lw_all := lw_g (lw_at lw_m6 94 rfl) rfl
theorem q1406 : (Jvm.Cond.instanceMethod ({ cls := "CardCups", name := "person", desc := "(II)I" } : Jvm.MethodName)) ∈ lw_all := lw_g (lw_at lw_m6 99 rfl) rfl
theorem q1407 : (Jvm.Cond.selects "CardCups" ({ cls := "CardCups", name := "person", desc := "(II)I" } : Jvm.MethodName) ({ cls := "CardCups", name := "person", desc := "(II)I" } : Jvm.MethodName)) ∈ lw_all := lw_g (lw_at lw_m6 100 rfl) rfl
theorem q1408 : (Jvm.Cond.code ({ cls := "CardCups", name := "person", desc := "(II)I" } : Jvm.MethodName) prog_1_method_17_code (3 : Nat) (Option.some Jvm.ClassFile.FieldType.int)) ∈ lw_all := lw_g (lw_at lw_m6 101 rfl) rfl
theorem q1409 : (Jvm.Cond.methodLink "CardCups" (242 : Nat) ({ cls := "CardCups$Calendar", name := "of", desc := "(I)I" } : Jvm.MethodName)) ∈ lw_all := lw_g (lw_at lw_m6 102 rfl) rfl
theorem q1413 : (Jvm.Cond.methodLink "CardCups" (245 : Nat) ({ cls := "CardCups$Calendar", name := "first", desc := "(I)I" } : Jvm.MethodName)) ∈ lw_all := lw_g (lw_at lw_m6 106 rfl) rfl
theorem q1421 : (Jvm.Cond.instanceMethod ({ cls := "CardCups", name := "price", desc := "(I)I" } : Jvm.MethodName)) ∈ lw_all := lw_g (lw_at lw_m6 114 rfl) rfl
theorem q1422 : (Jvm.Cond.selects "CardCups" ({ cls := "CardCups", name := "price", desc := "(I)I" } : Jvm.MethodName) ({ cls := "CardCups", name := "price", desc := "(I)I" } : Jvm.MethodName)) ∈ lw_all := lw_g (lw_at lw_m6 115 rfl) rfl
theorem q1423 : (Jvm.Cond.code ({ cls := "CardCups", name := "price", desc := "(I)I" } : Jvm.MethodName) prog_1_method_18_code (2 : Nat) (Option.some Jvm.ClassFile.FieldType.int)) ∈ lw_all := lw_g (lw_at lw_m6 116 rfl) rfl
theorem q1428 : (Jvm.Cond.instanceMethod ({ cls := "CardCups", name := "states", desc := "(I)I" } : Jvm.MethodName)) ∈ lw_all := lw_g (lw_at lw_m6 121 rfl) rfl
theorem q1429 : (Jvm.Cond.selects "CardCups" ({ cls := "CardCups", name := "states", desc := "(I)I" } : Jvm.MethodName) ({ cls := "CardCups", name := "states", desc := "(I)I" } : Jvm.MethodName)) ∈ lw_all := lw_g (lw_at lw_m6 122 rfl) rfl
theorem q1430 : (Jvm.Cond.code ({ cls := "CardCups", name := "states", desc := "(I)I" } : Jvm.MethodName) prog_1_method_23_code (2 : Nat) (Option.some Jvm.ClassFile.FieldType.int)) ∈ lw_all := lw_g (lw_at lw_m6 123 rfl) rfl
theorem q1431 : (Jvm.Cond.methodLink "CardCups" (270 : Nat) ({ cls := "CardCups$Flow", name := "many", desc := "()I" } : Jvm.MethodName)) ∈ lw_all := lw_g (lw_at lw_m6 124 rfl) rfl
theorem q1439 : (Jvm.Cond.instanceMethod ({ cls := "CardCups", name := "likely", desc := "(II)J" } : Jvm.MethodName)) ∈ lw_all := lw_g (lw_at lw_m6 132 rfl) rfl
theorem q1440 : (Jvm.Cond.selects "CardCups" ({ cls := "CardCups", name := "likely", desc := "(II)J" } : Jvm.MethodName) ({ cls := "CardCups", name := "likely", desc := "(II)J" } : Jvm.MethodName)) ∈ lw_all := lw_g (lw_at lw_m6 133 rfl) rfl
theorem q1441 : (Jvm.Cond.code ({ cls := "CardCups", name := "likely", desc := "(II)J" } : Jvm.MethodName) prog_1_method_24_code (3 : Nat) (Option.some Jvm.ClassFile.FieldType.long)) ∈ lw_all := lw_g (lw_at lw_m6 134 rfl) rfl
theorem q1442 : (Jvm.Cond.methodLink "CardCups" (272 : Nat) ({ cls := "CardCups$Flow", name := "likely", desc := "(II)J" } : Jvm.MethodName)) ∈ lw_all := lw_g (lw_at lw_m6 135 rfl) rfl
theorem q1447 : (Jvm.Cond.instanceMethod ({ cls := "CardCups", name := "state", desc := "(IIII)J" } : Jvm.MethodName)) ∈ lw_all := lw_g (lw_at lw_m6 140 rfl) rfl
theorem q1448 : (Jvm.Cond.selects "CardCups" ({ cls := "CardCups", name := "state", desc := "(IIII)J" } : Jvm.MethodName) ({ cls := "CardCups", name := "state", desc := "(IIII)J" } : Jvm.MethodName)) ∈ lw_all := lw_g (lw_at lw_m6 141 rfl) rfl
theorem q1449 : (Jvm.Cond.code ({ cls := "CardCups", name := "state", desc := "(IIII)J" } : Jvm.MethodName) prog_1_method_25_code (5 : Nat) (Option.some Jvm.ClassFile.FieldType.long)) ∈ lw_all := lw_g (lw_at lw_m6 142 rfl) rfl
theorem q1450 : (Jvm.Cond.methodLink "CardCups" (276 : Nat) ({ cls := "CardCups$Flow", name := "at", desc := "(III)J" } : Jvm.MethodName)) ∈ lw_all := lw_g (lw_at lw_m6 143 rfl) rfl
theorem q1458 : (Jvm.Cond.instanceMethod ({ cls := "CardCups", name := "likeliest", desc := "(I)I" } : Jvm.MethodName)) ∈ lw_all := lw_g (lw_at lw_m6 151 rfl) rfl
theorem q1459 : (Jvm.Cond.selects "CardCups" ({ cls := "CardCups", name := "likeliest", desc := "(I)I" } : Jvm.MethodName) ({ cls := "CardCups", name := "likeliest", desc := "(I)I" } : Jvm.MethodName)) ∈ lw_all := lw_g (lw_at lw_m6 152 rfl) rfl
theorem q1460 : (Jvm.Cond.code ({ cls := "CardCups", name := "likeliest", desc := "(I)I" } : Jvm.MethodName) prog_1_method_26_code (9 : Nat) (Option.some Jvm.ClassFile.FieldType.int)) ∈ lw_all := lw_g (lw_at lw_m6 153 rfl) rfl
theorem q1465 : (Jvm.Cond.instanceMethod ({ cls := "CardCups", name := "mean", desc := "(III)J" } : Jvm.MethodName)) ∈ lw_all := lw_g (lw_at lw_m6 158 rfl) rfl
theorem q1466 : (Jvm.Cond.selects "CardCups" ({ cls := "CardCups", name := "mean", desc := "(III)J" } : Jvm.MethodName) ({ cls := "CardCups", name := "mean", desc := "(III)J" } : Jvm.MethodName)) ∈ lw_all := lw_g (lw_at lw_m6 159 rfl) rfl
theorem q1467 : (Jvm.Cond.code ({ cls := "CardCups", name := "mean", desc := "(III)J" } : Jvm.MethodName) prog_1_method_27_code (4 : Nat) (Option.some Jvm.ClassFile.FieldType.long)) ∈ lw_all := lw_g (lw_at lw_m6 160 rfl) rfl
theorem q1468 : (Jvm.Cond.methodLink "CardCups" (280 : Nat) ({ cls := "CardCups", name := "partOf", desc := "(I)V" } : Jvm.MethodName)) ∈ lw_all := lw_g (lw_at lw_m6 161 rfl) rfl
theorem q1469 : (Jvm.Cond.privateMethod ({ cls := "CardCups", name := "partOf", desc := "(I)V" } : Jvm.MethodName)) ∈ lw_tbl := lw_at lw_m6 162 rfl
theorem q1470 : (Jvm.Cond.instanceMethod ({ cls := "CardCups", name := "partOf", desc := "(I)V" } : Jvm.MethodName)) ∈ lw_all := lw_g (lw_at lw_m6 163 rfl) rfl
theorem q1471 : (Jvm.Cond.code ({ cls := "CardCups", name := "partOf", desc := "(I)V" } : Jvm.MethodName) prog_1_method_22_code (2 : Nat) (Option.none : Option Jvm.ClassFile.FieldType)) ∈ lw_all := lw_g (lw_at lw_m6 164 rfl) rfl
theorem q1472 : (Jvm.Cond.methodLink "CardCups" (283 : Nat) ({ cls := "CardCups$Flow", name := "mean", desc := "(I)J" } : Jvm.MethodName)) ∈ lw_all := lw_g (lw_at lw_m6 165 rfl) rfl
theorem q1476 : (Jvm.Cond.constantLong "CardCups" (287 : Nat) (1099511627776 : Int64)) ∈ lw_all := lw_g (lw_at lw_m6 169 rfl) rfl
theorem q1477 : (Jvm.Cond.methodLink "CardCups" (289 : Nat) ({ cls := "CardCups", name := "part", desc := "(JJI)J" } : Jvm.MethodName)) ∈ lw_all := lw_g (lw_at lw_m6 170 rfl) rfl
theorem q1478 : (Jvm.Cond.static ({ cls := "CardCups", name := "part", desc := "(JJI)J" } : Jvm.MethodName)) ∈ lw_all := lw_g (lw_at lw_m6 171 rfl) rfl
theorem q1479 : (Jvm.Cond.code ({ cls := "CardCups", name := "part", desc := "(JJI)J" } : Jvm.MethodName) prog_1_method_21_code (11 : Nat) (Option.some Jvm.ClassFile.FieldType.long)) ∈ lw_all := lw_g (lw_at lw_m6 172 rfl) rfl
theorem q1484 : (Jvm.Cond.instanceMethod ({ cls := "CardCups", name := "often", desc := "(I)J" } : Jvm.MethodName)) ∈ lw_all := lw_g (lw_at lw_m6 177 rfl) rfl
theorem q1485 : (Jvm.Cond.selects "CardCups" ({ cls := "CardCups", name := "often", desc := "(I)J" } : Jvm.MethodName) ({ cls := "CardCups", name := "often", desc := "(I)J" } : Jvm.MethodName)) ∈ lw_all := lw_g (lw_at lw_m6 178 rfl) rfl
theorem q1486 : (Jvm.Cond.code ({ cls := "CardCups", name := "often", desc := "(I)J" } : Jvm.MethodName) prog_1_method_28_code (5 : Nat) (Option.some Jvm.ClassFile.FieldType.long)) ∈ lw_all := lw_g (lw_at lw_m6 179 rfl) rfl
theorem q1491 : (Jvm.Cond.instanceMethod ({ cls := "CardCups", name := "drunk", desc := "(II)J" } : Jvm.MethodName)) ∈ lw_all := lw_g (lw_at lw_m6 184 rfl) rfl
theorem q1492 : (Jvm.Cond.selects "CardCups" ({ cls := "CardCups", name := "drunk", desc := "(II)J" } : Jvm.MethodName) ({ cls := "CardCups", name := "drunk", desc := "(II)J" } : Jvm.MethodName)) ∈ lw_all := lw_g (lw_at lw_m6 185 rfl) rfl
theorem q1493 : (Jvm.Cond.code ({ cls := "CardCups", name := "drunk", desc := "(II)J" } : Jvm.MethodName) prog_1_method_30_code (3 : Nat) (Option.some Jvm.ClassFile.FieldType.long)) ∈ lw_all := lw_g (lw_at lw_m6 186 rfl) rfl
theorem q1498 : (Jvm.Cond.instanceMethod ({ cls := "CardCups", name := "done", desc := "(II)J" } : Jvm.MethodName)) ∈ lw_all := lw_g (lw_at lw_m6 191 rfl) rfl
theorem q1499 : (Jvm.Cond.selects "CardCups" ({ cls := "CardCups", name := "done", desc := "(II)J" } : Jvm.MethodName) ({ cls := "CardCups", name := "done", desc := "(II)J" } : Jvm.MethodName)) ∈ lw_all := lw_g (lw_at lw_m6 192 rfl) rfl
theorem q1500 : (Jvm.Cond.code ({ cls := "CardCups", name := "done", desc := "(II)J" } : Jvm.MethodName) prog_1_method_31_code (3 : Nat) (Option.some Jvm.ClassFile.FieldType.long)) ∈ lw_all := lw_g (lw_at lw_m6 193 rfl) rfl
theorem q1505 : (Jvm.Cond.instanceMethod ({ cls := "CardCups", name := "cost", desc := "(I)J" } : Jvm.MethodName)) ∈ lw_all := lw_g (lw_at lw_m6 198 rfl) rfl
theorem q1506 : (Jvm.Cond.selects "CardCups" ({ cls := "CardCups", name := "cost", desc := "(I)J" } : Jvm.MethodName) ({ cls := "CardCups", name := "cost", desc := "(I)J" } : Jvm.MethodName)) ∈ lw_all := lw_g (lw_at lw_m6 199 rfl) rfl
theorem q1507 : (Jvm.Cond.code ({ cls := "CardCups", name := "cost", desc := "(I)J" } : Jvm.MethodName) prog_1_method_32_code (2 : Nat) (Option.some Jvm.ClassFile.FieldType.long)) ∈ lw_all := lw_g (lw_at lw_m6 200 rfl) rfl
theorem q1512 : (Jvm.Cond.instanceMethod ({ cls := "CardCups", name := "fits", desc := "(I)J" } : Jvm.MethodName)) ∈ lw_all := lw_g (lw_at lw_m6 205 rfl) rfl
theorem q1513 : (Jvm.Cond.selects "CardCups" ({ cls := "CardCups", name := "fits", desc := "(I)J" } : Jvm.MethodName) ({ cls := "CardCups", name := "fits", desc := "(I)J" } : Jvm.MethodName)) ∈ lw_all := lw_g (lw_at lw_m6 206 rfl) rfl
theorem q1514 : (Jvm.Cond.code ({ cls := "CardCups", name := "fits", desc := "(I)J" } : Jvm.MethodName) prog_1_method_33_code (2 : Nat) (Option.some Jvm.ClassFile.FieldType.long)) ∈ lw_all := lw_g (lw_at lw_m6 207 rfl) rfl
theorem q1515 : (Jvm.Cond.methodLink "CardCups" (313 : Nat) ({ cls := "CardCups$How", name := "given", desc := "(LCardCups$Book;)LCardCups$How;" } : Jvm.MethodName)) ∈ lw_all := lw_g (lw_at lw_m6 208 rfl) rfl
theorem q1519 : (Jvm.Cond.methodLink "CardCups" (317 : Nat) ({ cls := "CardCups$Flow", name := "all", desc := "()J" } : Jvm.MethodName)) ∈ lw_all := lw_g (lw_at lw_m6 212 rfl) rfl
theorem q1527 : (Jvm.Cond.instanceMethod ({ cls := "CardCups", name := "given", desc := "(III)J" } : Jvm.MethodName)) ∈ lw_all := lw_g (lw_at lw_m6 220 rfl) rfl
theorem q1528 : (Jvm.Cond.selects "CardCups" ({ cls := "CardCups", name := "given", desc := "(III)J" } : Jvm.MethodName) ({ cls := "CardCups", name := "given", desc := "(III)J" } : Jvm.MethodName)) ∈ lw_all := lw_g (lw_at lw_m6 221 rfl) rfl
theorem q1529 : (Jvm.Cond.code ({ cls := "CardCups", name := "given", desc := "(III)J" } : Jvm.MethodName) prog_1_method_35_code (6 : Nat) (Option.some Jvm.ClassFile.FieldType.long)) ∈ lw_all := lw_g (lw_at lw_m6 222 rfl) rfl
theorem q1530 : (Jvm.Cond.methodLink "CardCups" (323 : Nat) ({ cls := "CardCups", name := "begun", desc := "(I)LCardCups$Flow;" } : Jvm.MethodName)) ∈ lw_all := lw_g (lw_at lw_m6 223 rfl) rfl
theorem q1531 : (Jvm.Cond.privateMethod ({ cls := "CardCups", name := "begun", desc := "(I)LCardCups$Flow;" } : Jvm.MethodName)) ∈ lw_tbl := lw_at lw_m6 224 rfl
theorem q1532 : (Jvm.Cond.instanceMethod ({ cls := "CardCups", name := "begun", desc := "(I)LCardCups$Flow;" } : Jvm.MethodName)) ∈ lw_all := lw_g (lw_at lw_m6 225 rfl) rfl
theorem q1533 : (Jvm.Cond.code ({ cls := "CardCups", name := "begun", desc := "(I)LCardCups$Flow;" } : Jvm.MethodName) prog_1_method_34_code (2 : Nat) (Option.some (Jvm.ClassFile.FieldType.object "CardCups$Flow"))) ∈ lw_all := lw_g (lw_at lw_m6 226 rfl) rfl
theorem q1534 : (Jvm.Cond.methodLink "CardCups" (320 : Nat) ({ cls := "CardCups$How", name := "begun", desc := "()LCardCups$How;" } : Jvm.MethodName)) ∈ lw_all := lw_g (lw_at lw_m6 227 rfl) rfl
theorem q1542 : (Jvm.Cond.instanceMethod ({ cls := "CardCups", name := "best", desc := "(I)I" } : Jvm.MethodName)) ∈ lw_all := lw_g (lw_at lw_m6 235 rfl) rfl
theorem q1543 : (Jvm.Cond.selects "CardCups" ({ cls := "CardCups", name := "best", desc := "(I)I" } : Jvm.MethodName) ({ cls := "CardCups", name := "best", desc := "(I)I" } : Jvm.MethodName)) ∈ lw_all := lw_g (lw_at lw_m6 236 rfl) rfl
theorem q1544 : (Jvm.Cond.code ({ cls := "CardCups", name := "best", desc := "(I)I" } : Jvm.MethodName) prog_1_method_36_code (4 : Nat) (Option.some Jvm.ClassFile.FieldType.int)) ∈ lw_all := lw_g (lw_at lw_m6 237 rfl) rfl
theorem q1545 : (Jvm.Cond.methodLink "CardCups" (326 : Nat) ({ cls := "CardCups$Flow", name := "worth", desc := "(I)J" } : Jvm.MethodName)) ∈ lw_all := lw_g (lw_at lw_m6 238 rfl) rfl
theorem q1573 : (Jvm.Cond.instanceMethod ({ cls := "CardCups", name := "worth", desc := "(III)J" } : Jvm.MethodName)) ∈ lw_all := lw_g (lw_at lw_m7 26 rfl) rfl
theorem q1574 : (Jvm.Cond.selects "CardCups" ({ cls := "CardCups", name := "worth", desc := "(III)J" } : Jvm.MethodName) ({ cls := "CardCups", name := "worth", desc := "(III)J" } : Jvm.MethodName)) ∈ lw_all := lw_g (lw_at lw_m7 27 rfl) rfl
theorem q1575 : (Jvm.Cond.code ({ cls := "CardCups", name := "worth", desc := "(III)J" } : Jvm.MethodName) prog_1_method_37_code (6 : Nat) (Option.some Jvm.ClassFile.FieldType.long)) ∈ lw_all := lw_g (lw_at lw_m7 28 rfl) rfl
theorem q1580 : (Jvm.Cond.instanceMethod ({ cls := "CardCups", name := "gain", desc := "(II)J" } : Jvm.MethodName)) ∈ lw_all := lw_g (lw_at lw_m7 33 rfl) rfl
theorem q1581 : (Jvm.Cond.selects "CardCups" ({ cls := "CardCups", name := "gain", desc := "(II)J" } : Jvm.MethodName) ({ cls := "CardCups", name := "gain", desc := "(II)J" } : Jvm.MethodName)) ∈ lw_all := lw_g (lw_at lw_m7 34 rfl) rfl
theorem q1582 : (Jvm.Cond.code ({ cls := "CardCups", name := "gain", desc := "(II)J" } : Jvm.MethodName) prog_1_method_38_code (5 : Nat) (Option.some Jvm.ClassFile.FieldType.long)) ∈ lw_all := lw_g (lw_at lw_m7 35 rfl) rfl
theorem q1583 : (Jvm.Cond.methodLink "CardCups" (329 : Nat) ({ cls := "java/lang/Math", name := "min", desc := "(JJ)J" } : Jvm.MethodName)) ∈ lw_all := lw_g (lw_at lw_m7 36 rfl) rfl
theorem q1584 : (Jvm.Cond.methodLink "CardCups" (332 : Nat) ({ cls := "java/lang/Math", name := "max", desc := "(JJ)J" } : Jvm.MethodName)) ∈ lw_all := lw_g (lw_at lw_m7 37 rfl) rfl
theorem q1591 : (Jvm.Cond.instanceMethod ({ cls := "CardCups", name := "without", desc := "(II)J" } : Jvm.MethodName)) ∈ lw_all := lw_g (lw_at lw_m7 44 rfl) rfl
theorem q1592 : (Jvm.Cond.selects "CardCups" ({ cls := "CardCups", name := "without", desc := "(II)J" } : Jvm.MethodName) ({ cls := "CardCups", name := "without", desc := "(II)J" } : Jvm.MethodName)) ∈ lw_all := lw_g (lw_at lw_m7 45 rfl) rfl
theorem q1593 : (Jvm.Cond.code ({ cls := "CardCups", name := "without", desc := "(II)J" } : Jvm.MethodName) prog_1_method_39_code (3 : Nat) (Option.some Jvm.ClassFile.FieldType.long)) ∈ lw_all := lw_g (lw_at lw_m7 46 rfl) rfl
theorem q1598 : (Jvm.Cond.instanceMethod ({ cls := "CardCups", name := "falling", desc := "(I)J" } : Jvm.MethodName)) ∈ lw_all := lw_g (lw_at lw_m7 51 rfl) rfl
theorem q1599 : (Jvm.Cond.selects "CardCups" ({ cls := "CardCups", name := "falling", desc := "(I)J" } : Jvm.MethodName) ({ cls := "CardCups", name := "falling", desc := "(I)J" } : Jvm.MethodName)) ∈ lw_all := lw_g (lw_at lw_m7 52 rfl) rfl
theorem q1600 : (Jvm.Cond.code ({ cls := "CardCups", name := "falling", desc := "(I)J" } : Jvm.MethodName) prog_1_method_42_code (2 : Nat) (Option.some Jvm.ClassFile.FieldType.long)) ∈ lw_all := lw_g (lw_at lw_m7 53 rfl) rfl
theorem q1605 : (Jvm.Cond.instanceMethod ({ cls := "CardCups", name := "seeing", desc := "(II)J" } : Jvm.MethodName)) ∈ lw_all := lw_g (lw_at lw_m7 58 rfl) rfl
theorem q1606 : (Jvm.Cond.selects "CardCups" ({ cls := "CardCups", name := "seeing", desc := "(II)J" } : Jvm.MethodName) ({ cls := "CardCups", name := "seeing", desc := "(II)J" } : Jvm.MethodName)) ∈ lw_all := lw_g (lw_at lw_m7 59 rfl) rfl
theorem q1607 : (Jvm.Cond.code ({ cls := "CardCups", name := "seeing", desc := "(II)J" } : Jvm.MethodName) prog_1_method_43_code (3 : Nat) (Option.some Jvm.ClassFile.FieldType.long)) ∈ lw_all := lw_g (lw_at lw_m7 60 rfl) rfl
theorem q1612 : (Jvm.Cond.instanceMethod ({ cls := "CardCups", name := "filled", desc := "(II)J" } : Jvm.MethodName)) ∈ lw_all := lw_g (lw_at lw_m7 65 rfl) rfl
theorem q1613 : (Jvm.Cond.selects "CardCups" ({ cls := "CardCups", name := "filled", desc := "(II)J" } : Jvm.MethodName) ({ cls := "CardCups", name := "filled", desc := "(II)J" } : Jvm.MethodName)) ∈ lw_all := lw_g (lw_at lw_m7 66 rfl) rfl
theorem q1614 : (Jvm.Cond.code ({ cls := "CardCups", name := "filled", desc := "(II)J" } : Jvm.MethodName) prog_1_method_45_code (3 : Nat) (Option.some Jvm.ClassFile.FieldType.long)) ∈ lw_all := lw_g (lw_at lw_m7 67 rfl) rfl
theorem q1619 : (Jvm.Cond.instanceMethod ({ cls := "CardCups", name := "ruled", desc := "(I)J" } : Jvm.MethodName)) ∈ lw_all := lw_g (lw_at lw_m7 72 rfl) rfl
theorem q1620 : (Jvm.Cond.selects "CardCups" ({ cls := "CardCups", name := "ruled", desc := "(I)J" } : Jvm.MethodName) ({ cls := "CardCups", name := "ruled", desc := "(I)J" } : Jvm.MethodName)) ∈ lw_all := lw_g (lw_at lw_m7 73 rfl) rfl
theorem q1621 : (Jvm.Cond.code ({ cls := "CardCups", name := "ruled", desc := "(I)J" } : Jvm.MethodName) prog_1_method_47_code (2 : Nat) (Option.some Jvm.ClassFile.FieldType.long)) ∈ lw_all := lw_g (lw_at lw_m7 74 rfl) rfl
theorem q1622 : (Jvm.Cond.methodLink "CardCups" (346 : Nat) ({ cls := "CardCups$How", name := "ruled", desc := "(LCardCups$Habit;)LCardCups$How;" } : Jvm.MethodName)) ∈ lw_all := lw_g (lw_at lw_m7 75 rfl) rfl
theorem q1630 : (Jvm.Cond.instanceMethod ({ cls := "CardCups", name := "swapped", desc := "(III)J" } : Jvm.MethodName)) ∈ lw_all := lw_g (lw_at lw_m7 83 rfl) rfl
theorem q1631 : (Jvm.Cond.selects "CardCups" ({ cls := "CardCups", name := "swapped", desc := "(III)J" } : Jvm.MethodName) ({ cls := "CardCups", name := "swapped", desc := "(III)J" } : Jvm.MethodName)) ∈ lw_all := lw_g (lw_at lw_m7 84 rfl) rfl
theorem q1632 : (Jvm.Cond.code ({ cls := "CardCups", name := "swapped", desc := "(III)J" } : Jvm.MethodName) prog_1_method_48_code (4 : Nat) (Option.some Jvm.ClassFile.FieldType.long)) ∈ lw_all := lw_g (lw_at lw_m7 85 rfl) rfl
theorem q1637 : (Jvm.Cond.instanceMethod ({ cls := "CardCups", name := "day", desc := "(III)I" } : Jvm.MethodName)) ∈ lw_all := lw_g (lw_at lw_m7 90 rfl) rfl
theorem q1638 : (Jvm.Cond.selects "CardCups" ({ cls := "CardCups", name := "day", desc := "(III)I" } : Jvm.MethodName) ({ cls := "CardCups", name := "day", desc := "(III)I" } : Jvm.MethodName)) ∈ lw_all := lw_g (lw_at lw_m7 91 rfl) rfl
theorem q1639 : (Jvm.Cond.code ({ cls := "CardCups", name := "day", desc := "(III)I" } : Jvm.MethodName) prog_1_method_51_code (5 : Nat) (Option.some Jvm.ClassFile.FieldType.int)) ∈ lw_all := lw_g (lw_at lw_m7 92 rfl) rfl
theorem q1640 : (Jvm.Cond.methodLink "CardCups" (357 : Nat) ({ cls := "CardCups", name := "drawn", desc := "(II)LCardCups$Day;" } : Jvm.MethodName)) ∈ lw_all := lw_g (lw_at lw_m7 93 rfl) rfl
theorem q1641 : (Jvm.Cond.privateMethod ({ cls := "CardCups", name := "drawn", desc := "(II)LCardCups$Day;" } : Jvm.MethodName)) ∈ lw_tbl := lw_at lw_m7 94 rfl
theorem q1642 : (Jvm.Cond.instanceMethod ({ cls := "CardCups", name := "drawn", desc := "(II)LCardCups$Day;" } : Jvm.MethodName)) ∈ lw_all := lw_g (lw_at lw_m7 95 rfl) rfl
theorem q1643 : (Jvm.Cond.code ({ cls := "CardCups", name := "drawn", desc := "(II)LCardCups$Day;" } : Jvm.MethodName) prog_1_method_50_code (3 : Nat) (Option.some (Jvm.ClassFile.FieldType.object "CardCups$Day"))) ∈ lw_all := lw_g (lw_at lw_m7 96 rfl) rfl
theorem q1644 : (Jvm.Cond.methodLink "CardCups" (354 : Nat) ({ cls := "CardCups$Day", name := "runs", desc := "(LCardCups$Office;LCardCups$Calendar;[LCardCups$Habit;II)LCardCups$Day;" } : Jvm.MethodName)) ∈ lw_all := lw_g (lw_at lw_m7 97 rfl) rfl
theorem q1697 : (Jvm.Cond.instanceMethod ({ cls := "CardCups", name := "span", desc := "(III)I" } : Jvm.MethodName)) ∈ lw_all := lw_g (lw_at lw_m7 150 rfl) rfl
theorem q1698 : (Jvm.Cond.selects "CardCups" ({ cls := "CardCups", name := "span", desc := "(III)I" } : Jvm.MethodName) ({ cls := "CardCups", name := "span", desc := "(III)I" } : Jvm.MethodName)) ∈ lw_all := lw_g (lw_at lw_m7 151 rfl) rfl
theorem q1699 : (Jvm.Cond.code ({ cls := "CardCups", name := "span", desc := "(III)I" } : Jvm.MethodName) prog_1_method_52_code (8 : Nat) (Option.some Jvm.ClassFile.FieldType.int)) ∈ lw_all := lw_g (lw_at lw_m7 152 rfl) rfl
theorem q1700 : (Jvm.Cond.methodLink "CardCups" (379 : Nat) ({ cls := "CardCups$State", name := "isTrue", desc := "()Z" } : Jvm.MethodName)) ∈ lw_all := lw_g (lw_at lw_m7 153 rfl) rfl
theorem q1701 : (Jvm.Cond.methodLink "CardCups" (383 : Nat) ({ cls := "java/lang/Math", name := "max", desc := "(II)I" } : Jvm.MethodName)) ∈ lw_all := lw_g (lw_at lw_m7 154 rfl) rfl
theorem q1708 : (Jvm.Cond.instanceMethod ({ cls := "CardCups", name := "come", desc := "(II)I" } : Jvm.MethodName)) ∈ lw_all := lw_g (lw_at lw_m7 161 rfl) rfl
theorem q1709 : (Jvm.Cond.selects "CardCups" ({ cls := "CardCups", name := "come", desc := "(II)I" } : Jvm.MethodName) ({ cls := "CardCups", name := "come", desc := "(II)I" } : Jvm.MethodName)) ∈ lw_all := lw_g (lw_at lw_m7 162 rfl) rfl
theorem q1710 : (Jvm.Cond.code ({ cls := "CardCups", name := "come", desc := "(II)I" } : Jvm.MethodName) prog_1_method_54_code (3 : Nat) (Option.some Jvm.ClassFile.FieldType.int)) ∈ lw_all := lw_g (lw_at lw_m7 163 rfl) rfl
theorem q1711 : (Jvm.Cond.methodLink "CardCups" (385 : Nat) ({ cls := "CardCups", name := "changes", desc := "()V" } : Jvm.MethodName)) ∈ lw_all := lw_g (lw_at lw_m7 164 rfl) rfl
theorem q1712 : (Jvm.Cond.privateMethod ({ cls := "CardCups", name := "changes", desc := "()V" } : Jvm.MethodName)) ∈ lw_tbl := lw_at lw_m7 165 rfl
theorem q1713 : (Jvm.Cond.instanceMethod ({ cls := "CardCups", name := "changes", desc := "()V" } : Jvm.MethodName)) ∈ lw_all := lw_g (lw_at lw_m7 166 rfl) rfl
theorem q1714 : (Jvm.Cond.code ({ cls := "CardCups", name := "changes", desc := "()V" } : Jvm.MethodName) prog_1_method_53_code (1 : Nat) (Option.none : Option Jvm.ClassFile.FieldType)) ∈ lw_all := lw_g (lw_at lw_m7 167 rfl) rfl
theorem q1715 : (Jvm.Cond.methodLink "CardCups" (387 : Nat) ({ cls := "CardCups$Calendar", name := "comes", desc := "(II)I" } : Jvm.MethodName)) ∈ lw_all := lw_g (lw_at lw_m7 168 rfl) rfl
theorem q1720 : (Jvm.Cond.instanceMethod ({ cls := "CardCups", name := "skip", desc := "(I)I" } : Jvm.MethodName)) ∈ lw_all := lw_g (lw_at lw_m7 173 rfl) rfl
theorem q1721 : (Jvm.Cond.selects "CardCups" ({ cls := "CardCups", name := "skip", desc := "(I)I" } : Jvm.MethodName) ({ cls := "CardCups", name := "skip", desc := "(I)I" } : Jvm.MethodName)) ∈ lw_all := lw_g (lw_at lw_m7 174 rfl) rfl
theorem q1722 : (Jvm.Cond.code ({ cls := "CardCups", name := "skip", desc := "(I)I" } : Jvm.MethodName) prog_1_method_55_code (2 : Nat) (Option.some Jvm.ClassFile.FieldType.int)) ∈ lw_all := lw_g (lw_at lw_m7 175 rfl) rfl
theorem q1723 : (Jvm.Cond.methodLink "CardCups" (390 : Nat) ({ cls := "CardCups$Calendar", name := "skips", desc := "(I)V" } : Jvm.MethodName)) ∈ lw_all := lw_g (lw_at lw_m7 176 rfl) rfl
theorem q1731 : (Jvm.Cond.instanceMethod ({ cls := "CardCups", name := "shift", desc := "(II)I" } : Jvm.MethodName)) ∈ lw_all := lw_g (lw_at lw_m7 184 rfl) rfl
theorem q1732 : (Jvm.Cond.selects "CardCups" ({ cls := "CardCups", name := "shift", desc := "(II)I" } : Jvm.MethodName) ({ cls := "CardCups", name := "shift", desc := "(II)I" } : Jvm.MethodName)) ∈ lw_all := lw_g (lw_at lw_m7 185 rfl) rfl
theorem q1733 : (Jvm.Cond.code ({ cls := "CardCups", name := "shift", desc := "(II)I" } : Jvm.MethodName) prog_1_method_56_code (4 : Nat) (Option.some Jvm.ClassFile.FieldType.int)) ∈ lw_all := lw_g (lw_at lw_m7 186 rfl) rfl
theorem q1738 : (Jvm.Cond.instanceMethod ({ cls := "CardCups", name := "teach", desc := "(II)I" } : Jvm.MethodName)) ∈ lw_all := lw_g (lw_at lw_m7 191 rfl) rfl
theorem q1739 : (Jvm.Cond.selects "CardCups" ({ cls := "CardCups", name := "teach", desc := "(II)I" } : Jvm.MethodName) ({ cls := "CardCups", name := "teach", desc := "(II)I" } : Jvm.MethodName)) ∈ lw_all := lw_g (lw_at lw_m7 192 rfl) rfl
theorem q1740 : (Jvm.Cond.code ({ cls := "CardCups", name := "teach", desc := "(II)I" } : Jvm.MethodName) prog_1_method_57_code (3 : Nat) (Option.some Jvm.ClassFile.FieldType.int)) ∈ lw_all := lw_g (lw_at lw_m7 193 rfl) rfl
theorem q2481 : (Jvm.Cond.castable "CardCups" "java/lang/Object") ∈ lw_tbl := lw_at lw_m10 214 rfl
theorem in_X1 : ∀ w ∈ wsX10, w ∈ lw_all := lw_in wsX10 [470, 472, 474, 476, 478, 480, 482, 484, 486, 488, 490, 492, 494, 496, 498, 500, 502] (by decide +kernel) (by decide +kernel)
/-! CardCups$Flow -/
set_option maxRecDepth 100000
def RX3 : String := "CardCups$Flow"
def TX3 : u_T := fun k => match k with
  | 0 => ("CardCups$Flow", "state", "LCardCups$State;", true)
  | 1 => ("CardCups$Flow", "drunk", "[J", true)
  | 2 => ("CardCups$Flow", "now", "[J", false)
  | 3 => ("CardCups$Flow", "next", "[J", false)
  | 4 => ("CardCups$Flow", "office", "LCardCups$Office;", false)
  | 5 => ("CardCups$Flow", "calendar", "LCardCups$Calendar;", false)
  | 6 => ("CardCups$Flow", "washed", "J", false)
  | 7 => ("CardCups$Flow", "looks", "J", false)
  | 8 => ("CardCups$Flow", "visit", "I", false)
  | 9 => ("CardCups$Flow", "see", "I", false)
  | _ => ("CardCups$Flow", "who", "I", false)
def tyX3 : Nat → FieldType := fun k => match k with
  | 0 => .object "CardCups$State"
  | 1 => .array .long
  | 2 => .array .long
  | 3 => .array .long
  | 4 => .object "CardCups$Office"
  | 5 => .object "CardCups$Calendar"
  | 6 => .long
  | 7 => .long
  | 8 => .int
  | 9 => .int
  | _ => .int
abbrev wsX30 : List Cond := u_ws RX3 TX3 11
theorem nmX3 : ∀ a, a < 11 → ∀ b, b < 11 → a ≠ b → (TX3 a).2.1 ≠ (TX3 b).2.1 := by decide +kernel
theorem tyX3_ok : ∀ k, k < 11 → parseFieldDescriptor (TX3 k).2.2.1 = some (tyX3 k) := by decide +kernel
abbrev cX3_init : ByteArray := prog_6_method_1_code
def yX3_init : MethodName := ⟨RX3, "<init>", "()V"⟩
def dkwX3_init_1 : List UInt8 := [17, 66, 4, 188, 11, 181, 0, 22, 42, 17, 66, 4, 188, 11, 181, 0, 25, 177]
abbrev dktX3_init_1 : List UInt8 := dkwX3_init_1 ++ []
def dkwX3_init_0 : List UInt8 := [42, 183, 0, 3, 42, 187, 0, 9, 89, 183, 0, 11, 181, 0, 12, 42, 16, 6, 188, 11, 181, 0, 18, 42]
abbrev dktX3_init_0 : List UInt8 := dkwX3_init_0 ++ dktX3_init_1
theorem dksX3_init_0 : cX3_init.data.toList.drop 0 = dktX3_init_0 := by decide +kernel
theorem dksX3_init_1 : cX3_init.data.toList.drop 24 = dktX3_init_1 := dk_seg dksX3_init_0 24 rfl rfl
theorem dX3_init_0 : decode cX3_init 0 = .ok (.aload_n 0, 1) := dk_42 (dk_at dksX3_init_0 0 rfl rfl)
theorem dX3_init_1 : decode cX3_init 1 = .ok (.invokespecial 3, 3) := dk_183 0 3 (dk_at dksX3_init_0 1 rfl rfl)
theorem dX3_init_4 : decode cX3_init 4 = .ok (.aload_n 0, 1) := dk_42 (dk_at dksX3_init_0 4 rfl rfl)
theorem dX3_init_5 : decode cX3_init 5 = .ok (.new 9, 3) := dk_187 0 9 (dk_at dksX3_init_0 5 rfl rfl)
theorem dX3_init_8 : decode cX3_init 8 = .ok (.dup, 1) := dk_89 (dk_at dksX3_init_0 8 rfl rfl)
theorem dX3_init_9 : decode cX3_init 9 = .ok (.invokespecial 11, 3) := dk_183 0 11 (dk_at dksX3_init_0 9 rfl rfl)
theorem dX3_init_12 : decode cX3_init 12 = .ok (.putfield 12, 3) := dk_181 0 12 (dk_at dksX3_init_0 12 rfl rfl)
theorem dX3_init_15 : decode cX3_init 15 = .ok (.aload_n 0, 1) := dk_42 (dk_at dksX3_init_0 15 rfl rfl)
theorem dX3_init_16 : decode cX3_init 16 = .ok (.bipush 6, 2) := dk_16 6 (dk_at dksX3_init_0 16 rfl rfl)
theorem dX3_init_18 : decode cX3_init 18 = .ok (.newarray .long, 2) := dk_188_11 (dk_at dksX3_init_0 18 rfl rfl)
theorem dX3_init_20 : decode cX3_init 20 = .ok (.putfield 18, 3) := dk_181 0 18 (dk_at dksX3_init_0 20 rfl rfl)
theorem dX3_init_23 : decode cX3_init 23 = .ok (.aload_n 0, 1) := dk_42 (dk_at dksX3_init_0 23 rfl rfl)
theorem dX3_init_24 : decode cX3_init 24 = .ok (.sipush 16900, 3) := dk_17 66 4 (dk_at dksX3_init_1 0 rfl rfl)
theorem dX3_init_27 : decode cX3_init 27 = .ok (.newarray .long, 2) := dk_188_11 (dk_at dksX3_init_1 3 rfl rfl)
theorem dX3_init_29 : decode cX3_init 29 = .ok (.putfield 22, 3) := dk_181 0 22 (dk_at dksX3_init_1 5 rfl rfl)
theorem dX3_init_32 : decode cX3_init 32 = .ok (.aload_n 0, 1) := dk_42 (dk_at dksX3_init_1 8 rfl rfl)
theorem dX3_init_33 : decode cX3_init 33 = .ok (.sipush 16900, 3) := dk_17 66 4 (dk_at dksX3_init_1 9 rfl rfl)
theorem dX3_init_36 : decode cX3_init 36 = .ok (.newarray .long, 2) := dk_188_11 (dk_at dksX3_init_1 12 rfl rfl)
theorem dX3_init_38 : decode cX3_init 38 = .ok (.putfield 25, 3) := dk_181 0 25 (dk_at dksX3_init_1 14 rfl rfl)
theorem dX3_init_41 : decode cX3_init 41 = .ok (.return_, 1) := dk_177 (dk_at dksX3_init_1 17 rfl rfl)
abbrev cX3_runs : ByteArray := prog_6_method_2_code
def yX3_runs : MethodName := ⟨RX3, "runs", "(LCardCups$Office;LCardCups$Calendar;LCardCups$How;)V"⟩
def dkwX3_runs_12 : List UInt8 := [167, 255, 92, 177]
abbrev dktX3_runs_12 : List UInt8 := dkwX3_runs_12 ++ []
def dkwX3_runs_11 : List UInt8 := [132, 6, 1, 167, 255, 224, 42, 45, 180, 0, 124, 182, 0, 127, 42, 89, 180, 0, 67, 4, 96, 181, 0, 67]
abbrev dktX3_runs_11 : List UInt8 := dkwX3_runs_11 ++ dktX3_runs_12
def dkwX3_runs_10 : List UInt8 := [21, 6, 25, 5, 180, 0, 112, 162, 0, 23, 42, 25, 5, 180, 0, 117, 21, 6, 50, 25, 4, 182, 0, 121]
abbrev dktX3_runs_10 : List UInt8 := dkwX3_runs_10 ++ dktX3_runs_11
def dkwX3_runs_9 : List UInt8 := [160, 0, 4, 177, 45, 180, 0, 108, 42, 180, 0, 79, 50, 58, 5, 3, 54, 6, 25, 5, 198, 0, 33]
abbrev dktX3_runs_9 : List UInt8 := dkwX3_runs_9 ++ dktX3_runs_10
def dkwX3_runs_8 : List UInt8 := [180, 0, 96, 25, 4, 182, 0, 100, 45, 180, 0, 104, 153, 0, 15, 42, 180, 0, 67, 45, 180, 0, 70]
abbrev dktX3_runs_8 : List UInt8 := dkwX3_runs_8 ++ dktX3_runs_9
def dkwX3_runs_7 : List UInt8 := [183, 0, 86, 58, 4, 42, 45, 180, 0, 89, 182, 0, 92, 45, 180, 0, 96, 198, 0, 13, 42, 45]
abbrev dktX3_runs_7 : List UInt8 := dkwX3_runs_7 ++ dktX3_runs_8
def dkwX3_runs_6 : List UInt8 := [180, 0, 79, 45, 180, 0, 81, 160, 0, 6, 167, 0, 119, 187, 0, 84, 89, 43, 44, 42, 180, 0, 67]
abbrev dktX3_runs_6 : List UInt8 := dkwX3_runs_6 ++ dktX3_runs_7
def dkwX3_runs_5 : List UInt8 := [180, 0, 67, 45, 180, 0, 70, 163, 0, 159, 42, 44, 180, 0, 73, 42, 180, 0, 67, 46, 181, 0, 79, 42]
abbrev dktX3_runs_5 : List UInt8 := dkwX3_runs_5 ++ dktX3_runs_6
def dkwX3_runs_4 : List UInt8 := [43, 180, 0, 55, 43, 180, 0, 58, 3, 184, 0, 61, 20, 0, 65, 80, 42, 3, 181, 0, 67, 42]
abbrev dktX3_runs_4 : List UInt8 := dkwX3_runs_4 ++ dktX3_runs_5
def dkwX3_runs_3 : List UInt8 := [80, 42, 180, 0, 25, 21, 4, 9, 80, 132, 4, 1, 167, 255, 229, 42, 180, 0, 22, 3, 43, 180, 0, 50]
abbrev dktX3_runs_3 : List UInt8 := dkwX3_runs_3 ++ dktX3_runs_4
def dkwX3_runs_2 : List UInt8 := [132, 4, 1, 167, 255, 238, 3, 54, 4, 21, 4, 17, 66, 4, 162, 0, 25, 42, 180, 0, 22, 21, 4, 9]
abbrev dktX3_runs_2 : List UInt8 := dkwX3_runs_2 ++ dktX3_runs_3
def dkwX3_runs_1 : List UInt8 := [9, 181, 0, 47, 3, 54, 4, 21, 4, 16, 6, 162, 0, 17, 42, 180, 0, 18, 21, 4, 9, 80]
abbrev dktX3_runs_1 : List UInt8 := dkwX3_runs_1 ++ dktX3_runs_2
def dkwX3_runs_0 : List UInt8 := [42, 43, 181, 0, 28, 42, 44, 181, 0, 32, 42, 45, 180, 0, 36, 181, 0, 42, 42, 9, 181, 0, 43, 42]
abbrev dktX3_runs_0 : List UInt8 := dkwX3_runs_0 ++ dktX3_runs_1
theorem dksX3_runs_0 : cX3_runs.data.toList.drop 0 = dktX3_runs_0 := by decide +kernel
theorem dksX3_runs_1 : cX3_runs.data.toList.drop 24 = dktX3_runs_1 := dk_seg dksX3_runs_0 24 rfl rfl
theorem dksX3_runs_2 : cX3_runs.data.toList.drop 46 = dktX3_runs_2 := dk_seg dksX3_runs_1 22 rfl rfl
theorem dksX3_runs_3 : cX3_runs.data.toList.drop 70 = dktX3_runs_3 := dk_seg dksX3_runs_2 24 rfl rfl
theorem dksX3_runs_4 : cX3_runs.data.toList.drop 94 = dktX3_runs_4 := dk_seg dksX3_runs_3 24 rfl rfl
theorem dksX3_runs_5 : cX3_runs.data.toList.drop 116 = dktX3_runs_5 := dk_seg dksX3_runs_4 22 rfl rfl
theorem dksX3_runs_6 : cX3_runs.data.toList.drop 140 = dktX3_runs_6 := dk_seg dksX3_runs_5 24 rfl rfl
theorem dksX3_runs_7 : cX3_runs.data.toList.drop 163 = dktX3_runs_7 := dk_seg dksX3_runs_6 23 rfl rfl
theorem dksX3_runs_8 : cX3_runs.data.toList.drop 185 = dktX3_runs_8 := dk_seg dksX3_runs_7 22 rfl rfl
theorem dksX3_runs_9 : cX3_runs.data.toList.drop 208 = dktX3_runs_9 := dk_seg dksX3_runs_8 23 rfl rfl
theorem dksX3_runs_10 : cX3_runs.data.toList.drop 231 = dktX3_runs_10 := dk_seg dksX3_runs_9 23 rfl rfl
theorem dksX3_runs_11 : cX3_runs.data.toList.drop 255 = dktX3_runs_11 := dk_seg dksX3_runs_10 24 rfl rfl
theorem dksX3_runs_12 : cX3_runs.data.toList.drop 279 = dktX3_runs_12 := dk_seg dksX3_runs_11 24 rfl rfl
theorem dX3_runs_0 : decode cX3_runs 0 = .ok (.aload_n 0, 1) := dk_42 (dk_at dksX3_runs_0 0 rfl rfl)
theorem dX3_runs_1 : decode cX3_runs 1 = .ok (.aload_n 1, 1) := dk_43 (dk_at dksX3_runs_0 1 rfl rfl)
theorem dX3_runs_2 : decode cX3_runs 2 = .ok (.putfield 28, 3) := dk_181 0 28 (dk_at dksX3_runs_0 2 rfl rfl)
theorem dX3_runs_5 : decode cX3_runs 5 = .ok (.aload_n 0, 1) := dk_42 (dk_at dksX3_runs_0 5 rfl rfl)
theorem dX3_runs_6 : decode cX3_runs 6 = .ok (.aload_n 2, 1) := dk_44 (dk_at dksX3_runs_0 6 rfl rfl)
theorem dX3_runs_7 : decode cX3_runs 7 = .ok (.putfield 32, 3) := dk_181 0 32 (dk_at dksX3_runs_0 7 rfl rfl)
theorem dX3_runs_10 : decode cX3_runs 10 = .ok (.aload_n 0, 1) := dk_42 (dk_at dksX3_runs_0 10 rfl rfl)
theorem dX3_runs_11 : decode cX3_runs 11 = .ok (.aload_n 3, 1) := dk_45 (dk_at dksX3_runs_0 11 rfl rfl)
theorem dX3_runs_12 : decode cX3_runs 12 = .ok (.getfield 36, 3) := dk_180 0 36 (dk_at dksX3_runs_0 12 rfl rfl)
theorem dX3_runs_15 : decode cX3_runs 15 = .ok (.putfield 42, 3) := dk_181 0 42 (dk_at dksX3_runs_0 15 rfl rfl)
theorem dX3_runs_18 : decode cX3_runs 18 = .ok (.aload_n 0, 1) := dk_42 (dk_at dksX3_runs_0 18 rfl rfl)
theorem dX3_runs_19 : decode cX3_runs 19 = .ok (.lconst 0, 1) := dk_9 (dk_at dksX3_runs_0 19 rfl rfl)
theorem dX3_runs_20 : decode cX3_runs 20 = .ok (.putfield 43, 3) := dk_181 0 43 (dk_at dksX3_runs_0 20 rfl rfl)
theorem dX3_runs_23 : decode cX3_runs 23 = .ok (.aload_n 0, 1) := dk_42 (dk_at dksX3_runs_0 23 rfl rfl)
theorem dX3_runs_24 : decode cX3_runs 24 = .ok (.lconst 0, 1) := dk_9 (dk_at dksX3_runs_1 0 rfl rfl)
theorem dX3_runs_25 : decode cX3_runs 25 = .ok (.putfield 47, 3) := dk_181 0 47 (dk_at dksX3_runs_1 1 rfl rfl)
theorem dX3_runs_28 : decode cX3_runs 28 = .ok (.iconst 0, 1) := dk_3 (dk_at dksX3_runs_1 4 rfl rfl)
theorem dX3_runs_29 : decode cX3_runs 29 = .ok (.istore 4, 2) := dk_54 4 (dk_at dksX3_runs_1 5 rfl rfl)
theorem dX3_runs_31 : decode cX3_runs 31 = .ok (.iload 4, 2) := dk_21 4 (dk_at dksX3_runs_1 7 rfl rfl)
theorem dX3_runs_33 : decode cX3_runs 33 = .ok (.bipush 6, 2) := dk_16 6 (dk_at dksX3_runs_1 9 rfl rfl)
theorem dX3_runs_35 : decode cX3_runs 35 = .ok (.if_icmp .ge 17, 3) := dk_162 0 17 (dk_at dksX3_runs_1 11 rfl rfl)
theorem dX3_runs_38 : decode cX3_runs 38 = .ok (.aload_n 0, 1) := dk_42 (dk_at dksX3_runs_1 14 rfl rfl)
theorem dX3_runs_39 : decode cX3_runs 39 = .ok (.getfield 18, 3) := dk_180 0 18 (dk_at dksX3_runs_1 15 rfl rfl)
theorem dX3_runs_42 : decode cX3_runs 42 = .ok (.iload 4, 2) := dk_21 4 (dk_at dksX3_runs_1 18 rfl rfl)
theorem dX3_runs_44 : decode cX3_runs 44 = .ok (.lconst 0, 1) := dk_9 (dk_at dksX3_runs_1 20 rfl rfl)
theorem dX3_runs_45 : decode cX3_runs 45 = .ok (.lastore, 1) := dk_80 (dk_at dksX3_runs_1 21 rfl rfl)
theorem dX3_runs_46 : decode cX3_runs 46 = .ok (.iinc 4 1, 3) := dk_132 4 1 (dk_at dksX3_runs_2 0 rfl rfl)
theorem dX3_runs_49 : decode cX3_runs 49 = .ok (.goto (-18), 3) := dk_167 255 238 (dk_at dksX3_runs_2 3 rfl rfl)
theorem dX3_runs_52 : decode cX3_runs 52 = .ok (.iconst 0, 1) := dk_3 (dk_at dksX3_runs_2 6 rfl rfl)
theorem dX3_runs_53 : decode cX3_runs 53 = .ok (.istore 4, 2) := dk_54 4 (dk_at dksX3_runs_2 7 rfl rfl)
theorem dX3_runs_55 : decode cX3_runs 55 = .ok (.iload 4, 2) := dk_21 4 (dk_at dksX3_runs_2 9 rfl rfl)
theorem dX3_runs_57 : decode cX3_runs 57 = .ok (.sipush 16900, 3) := dk_17 66 4 (dk_at dksX3_runs_2 11 rfl rfl)
theorem dX3_runs_60 : decode cX3_runs 60 = .ok (.if_icmp .ge 25, 3) := dk_162 0 25 (dk_at dksX3_runs_2 14 rfl rfl)
theorem dX3_runs_63 : decode cX3_runs 63 = .ok (.aload_n 0, 1) := dk_42 (dk_at dksX3_runs_2 17 rfl rfl)
theorem dX3_runs_64 : decode cX3_runs 64 = .ok (.getfield 22, 3) := dk_180 0 22 (dk_at dksX3_runs_2 18 rfl rfl)
theorem dX3_runs_67 : decode cX3_runs 67 = .ok (.iload 4, 2) := dk_21 4 (dk_at dksX3_runs_2 21 rfl rfl)
theorem dX3_runs_69 : decode cX3_runs 69 = .ok (.lconst 0, 1) := dk_9 (dk_at dksX3_runs_2 23 rfl rfl)
theorem dX3_runs_70 : decode cX3_runs 70 = .ok (.lastore, 1) := dk_80 (dk_at dksX3_runs_3 0 rfl rfl)
theorem dX3_runs_71 : decode cX3_runs 71 = .ok (.aload_n 0, 1) := dk_42 (dk_at dksX3_runs_3 1 rfl rfl)
theorem dX3_runs_72 : decode cX3_runs 72 = .ok (.getfield 25, 3) := dk_180 0 25 (dk_at dksX3_runs_3 2 rfl rfl)
theorem dX3_runs_75 : decode cX3_runs 75 = .ok (.iload 4, 2) := dk_21 4 (dk_at dksX3_runs_3 5 rfl rfl)
theorem dX3_runs_77 : decode cX3_runs 77 = .ok (.lconst 0, 1) := dk_9 (dk_at dksX3_runs_3 7 rfl rfl)
theorem dX3_runs_78 : decode cX3_runs 78 = .ok (.lastore, 1) := dk_80 (dk_at dksX3_runs_3 8 rfl rfl)
theorem dX3_runs_79 : decode cX3_runs 79 = .ok (.iinc 4 1, 3) := dk_132 4 1 (dk_at dksX3_runs_3 9 rfl rfl)
theorem dX3_runs_82 : decode cX3_runs 82 = .ok (.goto (-27), 3) := dk_167 255 229 (dk_at dksX3_runs_3 12 rfl rfl)
theorem dX3_runs_85 : decode cX3_runs 85 = .ok (.aload_n 0, 1) := dk_42 (dk_at dksX3_runs_3 15 rfl rfl)
theorem dX3_runs_86 : decode cX3_runs 86 = .ok (.getfield 22, 3) := dk_180 0 22 (dk_at dksX3_runs_3 16 rfl rfl)
theorem dX3_runs_89 : decode cX3_runs 89 = .ok (.iconst 0, 1) := dk_3 (dk_at dksX3_runs_3 19 rfl rfl)
theorem dX3_runs_90 : decode cX3_runs 90 = .ok (.aload_n 1, 1) := dk_43 (dk_at dksX3_runs_3 20 rfl rfl)
theorem dX3_runs_91 : decode cX3_runs 91 = .ok (.getfield 50, 3) := dk_180 0 50 (dk_at dksX3_runs_3 21 rfl rfl)
theorem dX3_runs_94 : decode cX3_runs 94 = .ok (.aload_n 1, 1) := dk_43 (dk_at dksX3_runs_4 0 rfl rfl)
theorem dX3_runs_95 : decode cX3_runs 95 = .ok (.getfield 55, 3) := dk_180 0 55 (dk_at dksX3_runs_4 1 rfl rfl)
theorem dX3_runs_98 : decode cX3_runs 98 = .ok (.aload_n 1, 1) := dk_43 (dk_at dksX3_runs_4 4 rfl rfl)
theorem dX3_runs_99 : decode cX3_runs 99 = .ok (.getfield 58, 3) := dk_180 0 58 (dk_at dksX3_runs_4 5 rfl rfl)
theorem dX3_runs_102 : decode cX3_runs 102 = .ok (.iconst 0, 1) := dk_3 (dk_at dksX3_runs_4 8 rfl rfl)
theorem dX3_runs_103 : decode cX3_runs 103 = .ok (.invokestatic 61, 3) := dk_184 0 61 (dk_at dksX3_runs_4 9 rfl rfl)
theorem dX3_runs_106 : decode cX3_runs 106 = .ok (.ldc2_w 65, 3) := dk_20 0 65 (dk_at dksX3_runs_4 12 rfl rfl)
theorem dX3_runs_109 : decode cX3_runs 109 = .ok (.lastore, 1) := dk_80 (dk_at dksX3_runs_4 15 rfl rfl)
theorem dX3_runs_110 : decode cX3_runs 110 = .ok (.aload_n 0, 1) := dk_42 (dk_at dksX3_runs_4 16 rfl rfl)
theorem dX3_runs_111 : decode cX3_runs 111 = .ok (.iconst 0, 1) := dk_3 (dk_at dksX3_runs_4 17 rfl rfl)
theorem dX3_runs_112 : decode cX3_runs 112 = .ok (.putfield 67, 3) := dk_181 0 67 (dk_at dksX3_runs_4 18 rfl rfl)
theorem dX3_runs_115 : decode cX3_runs 115 = .ok (.aload_n 0, 1) := dk_42 (dk_at dksX3_runs_4 21 rfl rfl)
theorem dX3_runs_116 : decode cX3_runs 116 = .ok (.getfield 67, 3) := dk_180 0 67 (dk_at dksX3_runs_5 0 rfl rfl)
theorem dX3_runs_119 : decode cX3_runs 119 = .ok (.aload_n 3, 1) := dk_45 (dk_at dksX3_runs_5 3 rfl rfl)
theorem dX3_runs_120 : decode cX3_runs 120 = .ok (.getfield 70, 3) := dk_180 0 70 (dk_at dksX3_runs_5 4 rfl rfl)
theorem dX3_runs_123 : decode cX3_runs 123 = .ok (.if_icmp .gt 159, 3) := dk_163 0 159 (dk_at dksX3_runs_5 7 rfl rfl)
theorem dX3_runs_126 : decode cX3_runs 126 = .ok (.aload_n 0, 1) := dk_42 (dk_at dksX3_runs_5 10 rfl rfl)
theorem dX3_runs_127 : decode cX3_runs 127 = .ok (.aload_n 2, 1) := dk_44 (dk_at dksX3_runs_5 11 rfl rfl)
theorem dX3_runs_128 : decode cX3_runs 128 = .ok (.getfield 73, 3) := dk_180 0 73 (dk_at dksX3_runs_5 12 rfl rfl)
theorem dX3_runs_131 : decode cX3_runs 131 = .ok (.aload_n 0, 1) := dk_42 (dk_at dksX3_runs_5 15 rfl rfl)
theorem dX3_runs_132 : decode cX3_runs 132 = .ok (.getfield 67, 3) := dk_180 0 67 (dk_at dksX3_runs_5 16 rfl rfl)
theorem dX3_runs_135 : decode cX3_runs 135 = .ok (.iaload, 1) := dk_46 (dk_at dksX3_runs_5 19 rfl rfl)
theorem dX3_runs_136 : decode cX3_runs 136 = .ok (.putfield 79, 3) := dk_181 0 79 (dk_at dksX3_runs_5 20 rfl rfl)
theorem dX3_runs_139 : decode cX3_runs 139 = .ok (.aload_n 0, 1) := dk_42 (dk_at dksX3_runs_5 23 rfl rfl)
theorem dX3_runs_140 : decode cX3_runs 140 = .ok (.getfield 79, 3) := dk_180 0 79 (dk_at dksX3_runs_6 0 rfl rfl)
theorem dX3_runs_143 : decode cX3_runs 143 = .ok (.aload_n 3, 1) := dk_45 (dk_at dksX3_runs_6 3 rfl rfl)
theorem dX3_runs_144 : decode cX3_runs 144 = .ok (.getfield 81, 3) := dk_180 0 81 (dk_at dksX3_runs_6 4 rfl rfl)
theorem dX3_runs_147 : decode cX3_runs 147 = .ok (.if_icmp .ne 6, 3) := dk_160 0 6 (dk_at dksX3_runs_6 7 rfl rfl)
theorem dX3_runs_150 : decode cX3_runs 150 = .ok (.goto 119, 3) := dk_167 0 119 (dk_at dksX3_runs_6 10 rfl rfl)
theorem dX3_runs_153 : decode cX3_runs 153 = .ok (.new 84, 3) := dk_187 0 84 (dk_at dksX3_runs_6 13 rfl rfl)
theorem dX3_runs_156 : decode cX3_runs 156 = .ok (.dup, 1) := dk_89 (dk_at dksX3_runs_6 16 rfl rfl)
theorem dX3_runs_157 : decode cX3_runs 157 = .ok (.aload_n 1, 1) := dk_43 (dk_at dksX3_runs_6 17 rfl rfl)
theorem dX3_runs_158 : decode cX3_runs 158 = .ok (.aload_n 2, 1) := dk_44 (dk_at dksX3_runs_6 18 rfl rfl)
theorem dX3_runs_159 : decode cX3_runs 159 = .ok (.aload_n 0, 1) := dk_42 (dk_at dksX3_runs_6 19 rfl rfl)
theorem dX3_runs_160 : decode cX3_runs 160 = .ok (.getfield 67, 3) := dk_180 0 67 (dk_at dksX3_runs_6 20 rfl rfl)
theorem dX3_runs_163 : decode cX3_runs 163 = .ok (.invokespecial 86, 3) := dk_183 0 86 (dk_at dksX3_runs_7 0 rfl rfl)
theorem dX3_runs_166 : decode cX3_runs 166 = .ok (.astore 4, 2) := dk_58 4 (dk_at dksX3_runs_7 3 rfl rfl)
theorem dX3_runs_168 : decode cX3_runs 168 = .ok (.aload_n 0, 1) := dk_42 (dk_at dksX3_runs_7 5 rfl rfl)
theorem dX3_runs_169 : decode cX3_runs 169 = .ok (.aload_n 3, 1) := dk_45 (dk_at dksX3_runs_7 6 rfl rfl)
theorem dX3_runs_170 : decode cX3_runs 170 = .ok (.getfield 89, 3) := dk_180 0 89 (dk_at dksX3_runs_7 7 rfl rfl)
theorem dX3_runs_173 : decode cX3_runs 173 = .ok (.invokevirtual 92, 3) := dk_182 0 92 (dk_at dksX3_runs_7 10 rfl rfl)
theorem dX3_runs_176 : decode cX3_runs 176 = .ok (.aload_n 3, 1) := dk_45 (dk_at dksX3_runs_7 13 rfl rfl)
theorem dX3_runs_177 : decode cX3_runs 177 = .ok (.getfield 96, 3) := dk_180 0 96 (dk_at dksX3_runs_7 14 rfl rfl)
theorem dX3_runs_180 : decode cX3_runs 180 = .ok (.ifnull 13, 3) := dk_198 0 13 (dk_at dksX3_runs_7 17 rfl rfl)
theorem dX3_runs_183 : decode cX3_runs 183 = .ok (.aload_n 0, 1) := dk_42 (dk_at dksX3_runs_7 20 rfl rfl)
theorem dX3_runs_184 : decode cX3_runs 184 = .ok (.aload_n 3, 1) := dk_45 (dk_at dksX3_runs_7 21 rfl rfl)
theorem dX3_runs_185 : decode cX3_runs 185 = .ok (.getfield 96, 3) := dk_180 0 96 (dk_at dksX3_runs_8 0 rfl rfl)
theorem dX3_runs_188 : decode cX3_runs 188 = .ok (.aload 4, 2) := dk_25 4 (dk_at dksX3_runs_8 3 rfl rfl)
theorem dX3_runs_190 : decode cX3_runs 190 = .ok (.invokevirtual 100, 3) := dk_182 0 100 (dk_at dksX3_runs_8 5 rfl rfl)
theorem dX3_runs_193 : decode cX3_runs 193 = .ok (.aload_n 3, 1) := dk_45 (dk_at dksX3_runs_8 8 rfl rfl)
theorem dX3_runs_194 : decode cX3_runs 194 = .ok (.getfield 104, 3) := dk_180 0 104 (dk_at dksX3_runs_8 9 rfl rfl)
theorem dX3_runs_197 : decode cX3_runs 197 = .ok (.ifCond .eq 15, 3) := dk_153 0 15 (dk_at dksX3_runs_8 12 rfl rfl)
theorem dX3_runs_200 : decode cX3_runs 200 = .ok (.aload_n 0, 1) := dk_42 (dk_at dksX3_runs_8 15 rfl rfl)
theorem dX3_runs_201 : decode cX3_runs 201 = .ok (.getfield 67, 3) := dk_180 0 67 (dk_at dksX3_runs_8 16 rfl rfl)
theorem dX3_runs_204 : decode cX3_runs 204 = .ok (.aload_n 3, 1) := dk_45 (dk_at dksX3_runs_8 19 rfl rfl)
theorem dX3_runs_205 : decode cX3_runs 205 = .ok (.getfield 70, 3) := dk_180 0 70 (dk_at dksX3_runs_8 20 rfl rfl)
theorem dX3_runs_208 : decode cX3_runs 208 = .ok (.if_icmp .ne 4, 3) := dk_160 0 4 (dk_at dksX3_runs_9 0 rfl rfl)
theorem dX3_runs_211 : decode cX3_runs 211 = .ok (.return_, 1) := dk_177 (dk_at dksX3_runs_9 3 rfl rfl)
theorem dX3_runs_212 : decode cX3_runs 212 = .ok (.aload_n 3, 1) := dk_45 (dk_at dksX3_runs_9 4 rfl rfl)
theorem dX3_runs_213 : decode cX3_runs 213 = .ok (.getfield 108, 3) := dk_180 0 108 (dk_at dksX3_runs_9 5 rfl rfl)
theorem dX3_runs_216 : decode cX3_runs 216 = .ok (.aload_n 0, 1) := dk_42 (dk_at dksX3_runs_9 8 rfl rfl)
theorem dX3_runs_217 : decode cX3_runs 217 = .ok (.getfield 79, 3) := dk_180 0 79 (dk_at dksX3_runs_9 9 rfl rfl)
theorem dX3_runs_220 : decode cX3_runs 220 = .ok (.aaload, 1) := dk_50 (dk_at dksX3_runs_9 12 rfl rfl)
theorem dX3_runs_221 : decode cX3_runs 221 = .ok (.astore 5, 2) := dk_58 5 (dk_at dksX3_runs_9 13 rfl rfl)
theorem dX3_runs_223 : decode cX3_runs 223 = .ok (.iconst 0, 1) := dk_3 (dk_at dksX3_runs_9 15 rfl rfl)
theorem dX3_runs_224 : decode cX3_runs 224 = .ok (.istore 6, 2) := dk_54 6 (dk_at dksX3_runs_9 16 rfl rfl)
theorem dX3_runs_226 : decode cX3_runs 226 = .ok (.aload 5, 2) := dk_25 5 (dk_at dksX3_runs_9 18 rfl rfl)
theorem dX3_runs_228 : decode cX3_runs 228 = .ok (.ifnull 33, 3) := dk_198 0 33 (dk_at dksX3_runs_9 20 rfl rfl)
theorem dX3_runs_231 : decode cX3_runs 231 = .ok (.iload 6, 2) := dk_21 6 (dk_at dksX3_runs_10 0 rfl rfl)
theorem dX3_runs_233 : decode cX3_runs 233 = .ok (.aload 5, 2) := dk_25 5 (dk_at dksX3_runs_10 2 rfl rfl)
theorem dX3_runs_235 : decode cX3_runs 235 = .ok (.getfield 112, 3) := dk_180 0 112 (dk_at dksX3_runs_10 4 rfl rfl)
theorem dX3_runs_238 : decode cX3_runs 238 = .ok (.if_icmp .ge 23, 3) := dk_162 0 23 (dk_at dksX3_runs_10 7 rfl rfl)
theorem dX3_runs_241 : decode cX3_runs 241 = .ok (.aload_n 0, 1) := dk_42 (dk_at dksX3_runs_10 10 rfl rfl)
theorem dX3_runs_242 : decode cX3_runs 242 = .ok (.aload 5, 2) := dk_25 5 (dk_at dksX3_runs_10 11 rfl rfl)
theorem dX3_runs_244 : decode cX3_runs 244 = .ok (.getfield 117, 3) := dk_180 0 117 (dk_at dksX3_runs_10 13 rfl rfl)
theorem dX3_runs_247 : decode cX3_runs 247 = .ok (.iload 6, 2) := dk_21 6 (dk_at dksX3_runs_10 16 rfl rfl)
theorem dX3_runs_249 : decode cX3_runs 249 = .ok (.aaload, 1) := dk_50 (dk_at dksX3_runs_10 18 rfl rfl)
theorem dX3_runs_250 : decode cX3_runs 250 = .ok (.aload 4, 2) := dk_25 4 (dk_at dksX3_runs_10 19 rfl rfl)
theorem dX3_runs_252 : decode cX3_runs 252 = .ok (.invokevirtual 121, 3) := dk_182 0 121 (dk_at dksX3_runs_10 21 rfl rfl)
theorem dX3_runs_255 : decode cX3_runs 255 = .ok (.iinc 6 1, 3) := dk_132 6 1 (dk_at dksX3_runs_11 0 rfl rfl)
theorem dX3_runs_258 : decode cX3_runs 258 = .ok (.goto (-32), 3) := dk_167 255 224 (dk_at dksX3_runs_11 3 rfl rfl)
theorem dX3_runs_261 : decode cX3_runs 261 = .ok (.aload_n 0, 1) := dk_42 (dk_at dksX3_runs_11 6 rfl rfl)
theorem dX3_runs_262 : decode cX3_runs 262 = .ok (.aload_n 3, 1) := dk_45 (dk_at dksX3_runs_11 7 rfl rfl)
theorem dX3_runs_263 : decode cX3_runs 263 = .ok (.getfield 124, 3) := dk_180 0 124 (dk_at dksX3_runs_11 8 rfl rfl)
theorem dX3_runs_266 : decode cX3_runs 266 = .ok (.invokevirtual 127, 3) := dk_182 0 127 (dk_at dksX3_runs_11 11 rfl rfl)
theorem dX3_runs_269 : decode cX3_runs 269 = .ok (.aload_n 0, 1) := dk_42 (dk_at dksX3_runs_11 14 rfl rfl)
theorem dX3_runs_270 : decode cX3_runs 270 = .ok (.dup, 1) := dk_89 (dk_at dksX3_runs_11 15 rfl rfl)
theorem dX3_runs_271 : decode cX3_runs 271 = .ok (.getfield 67, 3) := dk_180 0 67 (dk_at dksX3_runs_11 16 rfl rfl)
theorem dX3_runs_274 : decode cX3_runs 274 = .ok (.iconst 1, 1) := dk_4 (dk_at dksX3_runs_11 19 rfl rfl)
theorem dX3_runs_275 : decode cX3_runs 275 = .ok (.iadd, 1) := dk_96 (dk_at dksX3_runs_11 20 rfl rfl)
theorem dX3_runs_276 : decode cX3_runs 276 = .ok (.putfield 67, 3) := dk_181 0 67 (dk_at dksX3_runs_11 21 rfl rfl)
theorem dX3_runs_279 : decode cX3_runs 279 = .ok (.goto (-164), 3) := dk_167 255 92 (dk_at dksX3_runs_12 0 rfl rfl)
theorem dX3_runs_282 : decode cX3_runs 282 = .ok (.return_, 1) := dk_177 (dk_at dksX3_runs_12 3 rfl rfl)
abbrev cX3_falls : ByteArray := prog_6_method_8_code
def yX3_falls : MethodName := ⟨RX3, "falls", "(I)V"⟩
def dkwX3_falls_3 : List UInt8 := [167, 255, 188, 42, 182, 0, 145, 177]
abbrev dktX3_falls_3 : List UInt8 := dkwX3_falls_3 ++ []
def dkwX3_falls_2 : List UInt8 := [180, 0, 22, 28, 47, 33, 101, 97, 80, 42, 180, 0, 25, 28, 5, 130, 92, 47, 33, 97, 80, 132, 2, 1]
abbrev dktX3_falls_2 : List UInt8 := dkwX3_falls_2 ++ dktX3_falls_3
def dkwX3_falls_1 : List UInt8 := [42, 180, 0, 22, 28, 47, 27, 133, 105, 20, 0, 143, 109, 66, 42, 180, 0, 25, 28, 92, 47, 42]
abbrev dktX3_falls_1 : List UInt8 := dkwX3_falls_1 ++ dktX3_falls_2
def dkwX3_falls_0 : List UInt8 := [3, 61, 28, 42, 182, 0, 134, 162, 0, 66, 42, 180, 0, 22, 28, 47, 9, 148, 154, 0, 6, 167, 0, 46]
abbrev dktX3_falls_0 : List UInt8 := dkwX3_falls_0 ++ dktX3_falls_1
theorem dksX3_falls_0 : cX3_falls.data.toList.drop 0 = dktX3_falls_0 := by decide +kernel
theorem dksX3_falls_1 : cX3_falls.data.toList.drop 24 = dktX3_falls_1 := dk_seg dksX3_falls_0 24 rfl rfl
theorem dksX3_falls_2 : cX3_falls.data.toList.drop 46 = dktX3_falls_2 := dk_seg dksX3_falls_1 22 rfl rfl
theorem dksX3_falls_3 : cX3_falls.data.toList.drop 70 = dktX3_falls_3 := dk_seg dksX3_falls_2 24 rfl rfl
theorem dX3_falls_0 : decode cX3_falls 0 = .ok (.iconst 0, 1) := dk_3 (dk_at dksX3_falls_0 0 rfl rfl)
theorem dX3_falls_1 : decode cX3_falls 1 = .ok (.istore_n 2, 1) := dk_61 (dk_at dksX3_falls_0 1 rfl rfl)
theorem dX3_falls_2 : decode cX3_falls 2 = .ok (.iload_n 2, 1) := dk_28 (dk_at dksX3_falls_0 2 rfl rfl)
theorem dX3_falls_3 : decode cX3_falls 3 = .ok (.aload_n 0, 1) := dk_42 (dk_at dksX3_falls_0 3 rfl rfl)
theorem dX3_falls_4 : decode cX3_falls 4 = .ok (.invokevirtual 134, 3) := dk_182 0 134 (dk_at dksX3_falls_0 4 rfl rfl)
theorem dX3_falls_7 : decode cX3_falls 7 = .ok (.if_icmp .ge 66, 3) := dk_162 0 66 (dk_at dksX3_falls_0 7 rfl rfl)
theorem dX3_falls_10 : decode cX3_falls 10 = .ok (.aload_n 0, 1) := dk_42 (dk_at dksX3_falls_0 10 rfl rfl)
theorem dX3_falls_11 : decode cX3_falls 11 = .ok (.getfield 22, 3) := dk_180 0 22 (dk_at dksX3_falls_0 11 rfl rfl)
theorem dX3_falls_14 : decode cX3_falls 14 = .ok (.iload_n 2, 1) := dk_28 (dk_at dksX3_falls_0 14 rfl rfl)
theorem dX3_falls_15 : decode cX3_falls 15 = .ok (.laload, 1) := dk_47 (dk_at dksX3_falls_0 15 rfl rfl)
theorem dX3_falls_16 : decode cX3_falls 16 = .ok (.lconst 0, 1) := dk_9 (dk_at dksX3_falls_0 16 rfl rfl)
theorem dX3_falls_17 : decode cX3_falls 17 = .ok (.lcmp, 1) := dk_148 (dk_at dksX3_falls_0 17 rfl rfl)
theorem dX3_falls_18 : decode cX3_falls 18 = .ok (.ifCond .ne 6, 3) := dk_154 0 6 (dk_at dksX3_falls_0 18 rfl rfl)
theorem dX3_falls_21 : decode cX3_falls 21 = .ok (.goto 46, 3) := dk_167 0 46 (dk_at dksX3_falls_0 21 rfl rfl)
theorem dX3_falls_24 : decode cX3_falls 24 = .ok (.aload_n 0, 1) := dk_42 (dk_at dksX3_falls_1 0 rfl rfl)
theorem dX3_falls_25 : decode cX3_falls 25 = .ok (.getfield 22, 3) := dk_180 0 22 (dk_at dksX3_falls_1 1 rfl rfl)
theorem dX3_falls_28 : decode cX3_falls 28 = .ok (.iload_n 2, 1) := dk_28 (dk_at dksX3_falls_1 4 rfl rfl)
theorem dX3_falls_29 : decode cX3_falls 29 = .ok (.laload, 1) := dk_47 (dk_at dksX3_falls_1 5 rfl rfl)
theorem dX3_falls_30 : decode cX3_falls 30 = .ok (.iload_n 1, 1) := dk_27 (dk_at dksX3_falls_1 6 rfl rfl)
theorem dX3_falls_31 : decode cX3_falls 31 = .ok (.i2l, 1) := dk_133 (dk_at dksX3_falls_1 7 rfl rfl)
theorem dX3_falls_32 : decode cX3_falls 32 = .ok (.lmul, 1) := dk_105 (dk_at dksX3_falls_1 8 rfl rfl)
theorem dX3_falls_33 : decode cX3_falls 33 = .ok (.ldc2_w 143, 3) := dk_20 0 143 (dk_at dksX3_falls_1 9 rfl rfl)
theorem dX3_falls_36 : decode cX3_falls 36 = .ok (.ldiv, 1) := dk_109 (dk_at dksX3_falls_1 12 rfl rfl)
theorem dX3_falls_37 : decode cX3_falls 37 = .ok (.lstore_n 3, 1) := dk_66 (dk_at dksX3_falls_1 13 rfl rfl)
theorem dX3_falls_38 : decode cX3_falls 38 = .ok (.aload_n 0, 1) := dk_42 (dk_at dksX3_falls_1 14 rfl rfl)
theorem dX3_falls_39 : decode cX3_falls 39 = .ok (.getfield 25, 3) := dk_180 0 25 (dk_at dksX3_falls_1 15 rfl rfl)
theorem dX3_falls_42 : decode cX3_falls 42 = .ok (.iload_n 2, 1) := dk_28 (dk_at dksX3_falls_1 18 rfl rfl)
theorem dX3_falls_43 : decode cX3_falls 43 = .ok (.dup2, 1) := dk_92 (dk_at dksX3_falls_1 19 rfl rfl)
theorem dX3_falls_44 : decode cX3_falls 44 = .ok (.laload, 1) := dk_47 (dk_at dksX3_falls_1 20 rfl rfl)
theorem dX3_falls_45 : decode cX3_falls 45 = .ok (.aload_n 0, 1) := dk_42 (dk_at dksX3_falls_1 21 rfl rfl)
theorem dX3_falls_46 : decode cX3_falls 46 = .ok (.getfield 22, 3) := dk_180 0 22 (dk_at dksX3_falls_2 0 rfl rfl)
theorem dX3_falls_49 : decode cX3_falls 49 = .ok (.iload_n 2, 1) := dk_28 (dk_at dksX3_falls_2 3 rfl rfl)
theorem dX3_falls_50 : decode cX3_falls 50 = .ok (.laload, 1) := dk_47 (dk_at dksX3_falls_2 4 rfl rfl)
theorem dX3_falls_51 : decode cX3_falls 51 = .ok (.lload_n 3, 1) := dk_33 (dk_at dksX3_falls_2 5 rfl rfl)
theorem dX3_falls_52 : decode cX3_falls 52 = .ok (.lsub, 1) := dk_101 (dk_at dksX3_falls_2 6 rfl rfl)
theorem dX3_falls_53 : decode cX3_falls 53 = .ok (.ladd, 1) := dk_97 (dk_at dksX3_falls_2 7 rfl rfl)
theorem dX3_falls_54 : decode cX3_falls 54 = .ok (.lastore, 1) := dk_80 (dk_at dksX3_falls_2 8 rfl rfl)
theorem dX3_falls_55 : decode cX3_falls 55 = .ok (.aload_n 0, 1) := dk_42 (dk_at dksX3_falls_2 9 rfl rfl)
theorem dX3_falls_56 : decode cX3_falls 56 = .ok (.getfield 25, 3) := dk_180 0 25 (dk_at dksX3_falls_2 10 rfl rfl)
theorem dX3_falls_59 : decode cX3_falls 59 = .ok (.iload_n 2, 1) := dk_28 (dk_at dksX3_falls_2 13 rfl rfl)
theorem dX3_falls_60 : decode cX3_falls 60 = .ok (.iconst 2, 1) := dk_5 (dk_at dksX3_falls_2 14 rfl rfl)
theorem dX3_falls_61 : decode cX3_falls 61 = .ok (.ixor, 1) := dk_130 (dk_at dksX3_falls_2 15 rfl rfl)
theorem dX3_falls_62 : decode cX3_falls 62 = .ok (.dup2, 1) := dk_92 (dk_at dksX3_falls_2 16 rfl rfl)
theorem dX3_falls_63 : decode cX3_falls 63 = .ok (.laload, 1) := dk_47 (dk_at dksX3_falls_2 17 rfl rfl)
theorem dX3_falls_64 : decode cX3_falls 64 = .ok (.lload_n 3, 1) := dk_33 (dk_at dksX3_falls_2 18 rfl rfl)
theorem dX3_falls_65 : decode cX3_falls 65 = .ok (.ladd, 1) := dk_97 (dk_at dksX3_falls_2 19 rfl rfl)
theorem dX3_falls_66 : decode cX3_falls 66 = .ok (.lastore, 1) := dk_80 (dk_at dksX3_falls_2 20 rfl rfl)
theorem dX3_falls_67 : decode cX3_falls 67 = .ok (.iinc 2 1, 3) := dk_132 2 1 (dk_at dksX3_falls_2 21 rfl rfl)
theorem dX3_falls_70 : decode cX3_falls 70 = .ok (.goto (-68), 3) := dk_167 255 188 (dk_at dksX3_falls_3 0 rfl rfl)
theorem dX3_falls_73 : decode cX3_falls 73 = .ok (.aload_n 0, 1) := dk_42 (dk_at dksX3_falls_3 3 rfl rfl)
theorem dX3_falls_74 : decode cX3_falls 74 = .ok (.invokevirtual 145, 3) := dk_182 0 145 (dk_at dksX3_falls_3 4 rfl rfl)
theorem dX3_falls_77 : decode cX3_falls 77 = .ok (.return_, 1) := dk_177 (dk_at dksX3_falls_3 7 rfl rfl)
abbrev cX3_last : ByteArray := prog_6_method_7_code
def yX3_last : MethodName := ⟨RX3, "last", "()I"⟩
def dkwX3_last_0 : List UInt8 := [42, 180, 0, 67, 16, 23, 184, 0, 137, 5, 96, 3, 3, 3, 3, 184, 0, 61, 172]
abbrev dktX3_last_0 : List UInt8 := dkwX3_last_0 ++ []
theorem dksX3_last_0 : cX3_last.data.toList.drop 0 = dktX3_last_0 := by decide +kernel
theorem dX3_last_0 : decode cX3_last 0 = .ok (.aload_n 0, 1) := dk_42 (dk_at dksX3_last_0 0 rfl rfl)
theorem dX3_last_1 : decode cX3_last 1 = .ok (.getfield 67, 3) := dk_180 0 67 (dk_at dksX3_last_0 1 rfl rfl)
theorem dX3_last_4 : decode cX3_last 4 = .ok (.bipush 23, 2) := dk_16 23 (dk_at dksX3_last_0 4 rfl rfl)
theorem dX3_last_6 : decode cX3_last 6 = .ok (.invokestatic 137, 3) := dk_184 0 137 (dk_at dksX3_last_0 6 rfl rfl)
theorem dX3_last_9 : decode cX3_last 9 = .ok (.iconst 2, 1) := dk_5 (dk_at dksX3_last_0 9 rfl rfl)
theorem dX3_last_10 : decode cX3_last 10 = .ok (.iadd, 1) := dk_96 (dk_at dksX3_last_0 10 rfl rfl)
theorem dX3_last_11 : decode cX3_last 11 = .ok (.iconst 0, 1) := dk_3 (dk_at dksX3_last_0 11 rfl rfl)
theorem dX3_last_12 : decode cX3_last 12 = .ok (.iconst 0, 1) := dk_3 (dk_at dksX3_last_0 12 rfl rfl)
theorem dX3_last_13 : decode cX3_last 13 = .ok (.iconst 0, 1) := dk_3 (dk_at dksX3_last_0 13 rfl rfl)
theorem dX3_last_14 : decode cX3_last 14 = .ok (.iconst 0, 1) := dk_3 (dk_at dksX3_last_0 14 rfl rfl)
theorem dX3_last_15 : decode cX3_last 15 = .ok (.invokestatic 61, 3) := dk_184 0 61 (dk_at dksX3_last_0 15 rfl rfl)
theorem dX3_last_18 : decode cX3_last 18 = .ok (.ireturn, 1) := dk_172 (dk_at dksX3_last_0 18 rfl rfl)
abbrev cX3_turns : ByteArray := prog_6_method_6_code
def yX3_turns : MethodName := ⟨RX3, "turns", "()V"⟩
def dkwX3_turns_1 : List UInt8 := [182, 0, 134, 162, 0, 16, 42, 180, 0, 25, 28, 9, 80, 132, 2, 1, 167, 255, 238, 177]
abbrev dktX3_turns_1 : List UInt8 := dkwX3_turns_1 ++ []
def dkwX3_turns_0 : List UInt8 := [42, 180, 0, 22, 76, 42, 42, 180, 0, 25, 181, 0, 22, 42, 43, 181, 0, 25, 3, 61, 28, 42]
abbrev dktX3_turns_0 : List UInt8 := dkwX3_turns_0 ++ dktX3_turns_1
theorem dksX3_turns_0 : cX3_turns.data.toList.drop 0 = dktX3_turns_0 := by decide +kernel
theorem dksX3_turns_1 : cX3_turns.data.toList.drop 22 = dktX3_turns_1 := dk_seg dksX3_turns_0 22 rfl rfl
theorem dX3_turns_0 : decode cX3_turns 0 = .ok (.aload_n 0, 1) := dk_42 (dk_at dksX3_turns_0 0 rfl rfl)
theorem dX3_turns_1 : decode cX3_turns 1 = .ok (.getfield 22, 3) := dk_180 0 22 (dk_at dksX3_turns_0 1 rfl rfl)
theorem dX3_turns_4 : decode cX3_turns 4 = .ok (.astore_n 1, 1) := dk_76 (dk_at dksX3_turns_0 4 rfl rfl)
theorem dX3_turns_5 : decode cX3_turns 5 = .ok (.aload_n 0, 1) := dk_42 (dk_at dksX3_turns_0 5 rfl rfl)
theorem dX3_turns_6 : decode cX3_turns 6 = .ok (.aload_n 0, 1) := dk_42 (dk_at dksX3_turns_0 6 rfl rfl)
theorem dX3_turns_7 : decode cX3_turns 7 = .ok (.getfield 25, 3) := dk_180 0 25 (dk_at dksX3_turns_0 7 rfl rfl)
theorem dX3_turns_10 : decode cX3_turns 10 = .ok (.putfield 22, 3) := dk_181 0 22 (dk_at dksX3_turns_0 10 rfl rfl)
theorem dX3_turns_13 : decode cX3_turns 13 = .ok (.aload_n 0, 1) := dk_42 (dk_at dksX3_turns_0 13 rfl rfl)
theorem dX3_turns_14 : decode cX3_turns 14 = .ok (.aload_n 1, 1) := dk_43 (dk_at dksX3_turns_0 14 rfl rfl)
theorem dX3_turns_15 : decode cX3_turns 15 = .ok (.putfield 25, 3) := dk_181 0 25 (dk_at dksX3_turns_0 15 rfl rfl)
theorem dX3_turns_18 : decode cX3_turns 18 = .ok (.iconst 0, 1) := dk_3 (dk_at dksX3_turns_0 18 rfl rfl)
theorem dX3_turns_19 : decode cX3_turns 19 = .ok (.istore_n 2, 1) := dk_61 (dk_at dksX3_turns_0 19 rfl rfl)
theorem dX3_turns_20 : decode cX3_turns 20 = .ok (.iload_n 2, 1) := dk_28 (dk_at dksX3_turns_0 20 rfl rfl)
theorem dX3_turns_21 : decode cX3_turns 21 = .ok (.aload_n 0, 1) := dk_42 (dk_at dksX3_turns_0 21 rfl rfl)
theorem dX3_turns_22 : decode cX3_turns 22 = .ok (.invokevirtual 134, 3) := dk_182 0 134 (dk_at dksX3_turns_1 0 rfl rfl)
theorem dX3_turns_25 : decode cX3_turns 25 = .ok (.if_icmp .ge 16, 3) := dk_162 0 16 (dk_at dksX3_turns_1 3 rfl rfl)
theorem dX3_turns_28 : decode cX3_turns 28 = .ok (.aload_n 0, 1) := dk_42 (dk_at dksX3_turns_1 6 rfl rfl)
theorem dX3_turns_29 : decode cX3_turns 29 = .ok (.getfield 25, 3) := dk_180 0 25 (dk_at dksX3_turns_1 7 rfl rfl)
theorem dX3_turns_32 : decode cX3_turns 32 = .ok (.iload_n 2, 1) := dk_28 (dk_at dksX3_turns_1 10 rfl rfl)
theorem dX3_turns_33 : decode cX3_turns 33 = .ok (.lconst 0, 1) := dk_9 (dk_at dksX3_turns_1 11 rfl rfl)
theorem dX3_turns_34 : decode cX3_turns 34 = .ok (.lastore, 1) := dk_80 (dk_at dksX3_turns_1 12 rfl rfl)
theorem dX3_turns_35 : decode cX3_turns 35 = .ok (.iinc 2 1, 3) := dk_132 2 1 (dk_at dksX3_turns_1 13 rfl rfl)
theorem dX3_turns_38 : decode cX3_turns 38 = .ok (.goto (-18), 3) := dk_167 255 238 (dk_at dksX3_turns_1 16 rfl rfl)
theorem dX3_turns_41 : decode cX3_turns 41 = .ok (.return_, 1) := dk_177 (dk_at dksX3_turns_1 19 rfl rfl)
abbrev cX3_only : ByteArray := prog_6_method_9_code
def yX3_only : MethodName := ⟨RX3, "only", "(LCardCups$Book;LCardCups$Sight;)V"⟩
def dkwX3_only_2 : List UInt8 := [132, 3, 1, 167, 255, 208, 177]
abbrev dktX3_only_2 : List UInt8 := dkwX3_only_2 ++ []
def dkwX3_only_1 : List UInt8 := [180, 0, 12, 29, 182, 0, 148, 182, 0, 152, 182, 0, 156, 154, 0, 10, 42, 180, 0, 22, 29, 9, 80]
abbrev dktX3_only_1 : List UInt8 := dkwX3_only_1 ++ dktX3_only_2
def dkwX3_only_0 : List UInt8 := [3, 62, 29, 42, 182, 0, 134, 162, 0, 46, 42, 180, 0, 22, 29, 47, 9, 148, 153, 0, 29, 43, 44, 42]
abbrev dktX3_only_0 : List UInt8 := dkwX3_only_0 ++ dktX3_only_1
theorem dksX3_only_0 : cX3_only.data.toList.drop 0 = dktX3_only_0 := by decide +kernel
theorem dksX3_only_1 : cX3_only.data.toList.drop 24 = dktX3_only_1 := dk_seg dksX3_only_0 24 rfl rfl
theorem dksX3_only_2 : cX3_only.data.toList.drop 47 = dktX3_only_2 := dk_seg dksX3_only_1 23 rfl rfl
theorem dX3_only_0 : decode cX3_only 0 = .ok (.iconst 0, 1) := dk_3 (dk_at dksX3_only_0 0 rfl rfl)
theorem dX3_only_1 : decode cX3_only 1 = .ok (.istore_n 3, 1) := dk_62 (dk_at dksX3_only_0 1 rfl rfl)
theorem dX3_only_2 : decode cX3_only 2 = .ok (.iload_n 3, 1) := dk_29 (dk_at dksX3_only_0 2 rfl rfl)
theorem dX3_only_3 : decode cX3_only 3 = .ok (.aload_n 0, 1) := dk_42 (dk_at dksX3_only_0 3 rfl rfl)
theorem dX3_only_4 : decode cX3_only 4 = .ok (.invokevirtual 134, 3) := dk_182 0 134 (dk_at dksX3_only_0 4 rfl rfl)
theorem dX3_only_7 : decode cX3_only 7 = .ok (.if_icmp .ge 46, 3) := dk_162 0 46 (dk_at dksX3_only_0 7 rfl rfl)
theorem dX3_only_10 : decode cX3_only 10 = .ok (.aload_n 0, 1) := dk_42 (dk_at dksX3_only_0 10 rfl rfl)
theorem dX3_only_11 : decode cX3_only 11 = .ok (.getfield 22, 3) := dk_180 0 22 (dk_at dksX3_only_0 11 rfl rfl)
theorem dX3_only_14 : decode cX3_only 14 = .ok (.iload_n 3, 1) := dk_29 (dk_at dksX3_only_0 14 rfl rfl)
theorem dX3_only_15 : decode cX3_only 15 = .ok (.laload, 1) := dk_47 (dk_at dksX3_only_0 15 rfl rfl)
theorem dX3_only_16 : decode cX3_only 16 = .ok (.lconst 0, 1) := dk_9 (dk_at dksX3_only_0 16 rfl rfl)
theorem dX3_only_17 : decode cX3_only 17 = .ok (.lcmp, 1) := dk_148 (dk_at dksX3_only_0 17 rfl rfl)
theorem dX3_only_18 : decode cX3_only 18 = .ok (.ifCond .eq 29, 3) := dk_153 0 29 (dk_at dksX3_only_0 18 rfl rfl)
theorem dX3_only_21 : decode cX3_only 21 = .ok (.aload_n 1, 1) := dk_43 (dk_at dksX3_only_0 21 rfl rfl)
theorem dX3_only_22 : decode cX3_only 22 = .ok (.aload_n 2, 1) := dk_44 (dk_at dksX3_only_0 22 rfl rfl)
theorem dX3_only_23 : decode cX3_only 23 = .ok (.aload_n 0, 1) := dk_42 (dk_at dksX3_only_0 23 rfl rfl)
theorem dX3_only_24 : decode cX3_only 24 = .ok (.getfield 12, 3) := dk_180 0 12 (dk_at dksX3_only_1 0 rfl rfl)
theorem dX3_only_27 : decode cX3_only 27 = .ok (.iload_n 3, 1) := dk_29 (dk_at dksX3_only_1 3 rfl rfl)
theorem dX3_only_28 : decode cX3_only 28 = .ok (.invokevirtual 148, 3) := dk_182 0 148 (dk_at dksX3_only_1 4 rfl rfl)
theorem dX3_only_31 : decode cX3_only 31 = .ok (.invokevirtual 152, 3) := dk_182 0 152 (dk_at dksX3_only_1 7 rfl rfl)
theorem dX3_only_34 : decode cX3_only 34 = .ok (.invokevirtual 156, 3) := dk_182 0 156 (dk_at dksX3_only_1 10 rfl rfl)
theorem dX3_only_37 : decode cX3_only 37 = .ok (.ifCond .ne 10, 3) := dk_154 0 10 (dk_at dksX3_only_1 13 rfl rfl)
theorem dX3_only_40 : decode cX3_only 40 = .ok (.aload_n 0, 1) := dk_42 (dk_at dksX3_only_1 16 rfl rfl)
theorem dX3_only_41 : decode cX3_only 41 = .ok (.getfield 22, 3) := dk_180 0 22 (dk_at dksX3_only_1 17 rfl rfl)
theorem dX3_only_44 : decode cX3_only 44 = .ok (.iload_n 3, 1) := dk_29 (dk_at dksX3_only_1 20 rfl rfl)
theorem dX3_only_45 : decode cX3_only 45 = .ok (.lconst 0, 1) := dk_9 (dk_at dksX3_only_1 21 rfl rfl)
theorem dX3_only_46 : decode cX3_only 46 = .ok (.lastore, 1) := dk_80 (dk_at dksX3_only_1 22 rfl rfl)
theorem dX3_only_47 : decode cX3_only 47 = .ok (.iinc 3 1, 3) := dk_132 3 1 (dk_at dksX3_only_2 0 rfl rfl)
theorem dX3_only_50 : decode cX3_only 50 = .ok (.goto (-48), 3) := dk_167 255 208 (dk_at dksX3_only_2 3 rfl rfl)
theorem dX3_only_53 : decode cX3_only 53 = .ok (.return_, 1) := dk_177 (dk_at dksX3_only_2 6 rfl rfl)
abbrev cX3_steps : ByteArray := prog_6_method_10_code
def yX3_steps : MethodName := ⟨RX3, "steps", "(LCardCups$Step;LCardCups$Sight;)V"⟩
def dkwX3_steps_4 : List UInt8 := [132, 3, 1, 167, 255, 160, 42, 182, 0, 145, 177]
abbrev dktX3_steps_4 : List UInt8 := dkwX3_steps_4 ++ []
def dkwX3_steps_3 : List UInt8 := [22, 4, 101, 97, 80, 22, 4, 9, 148, 158, 0, 14, 43, 42, 42, 180, 0, 12, 22, 4, 182, 0, 169]
abbrev dktX3_steps_3 : List UInt8 := dkwX3_steps_3 ++ dktX3_steps_4
def dkwX3_steps_2 : List UInt8 := [29, 47, 182, 0, 165, 167, 0, 4, 9, 55, 4, 42, 180, 0, 25, 29, 92, 47, 42, 180, 0, 22, 29, 47]
abbrev dktX3_steps_2 : List UInt8 := dkwX3_steps_2 ++ dktX3_steps_3
def dkwX3_steps_1 : List UInt8 := [43, 44, 42, 180, 0, 12, 29, 182, 0, 148, 182, 0, 152, 182, 0, 162, 153, 0, 16, 43, 42, 180, 0, 22]
abbrev dktX3_steps_1 : List UInt8 := dkwX3_steps_1 ++ dktX3_steps_2
def dkwX3_steps_0 : List UInt8 := [3, 62, 29, 42, 182, 0, 134, 162, 0, 94, 42, 180, 0, 22, 29, 47, 9, 148, 154, 0, 6, 167, 0, 74]
abbrev dktX3_steps_0 : List UInt8 := dkwX3_steps_0 ++ dktX3_steps_1
theorem dksX3_steps_0 : cX3_steps.data.toList.drop 0 = dktX3_steps_0 := by decide +kernel
theorem dksX3_steps_1 : cX3_steps.data.toList.drop 24 = dktX3_steps_1 := dk_seg dksX3_steps_0 24 rfl rfl
theorem dksX3_steps_2 : cX3_steps.data.toList.drop 48 = dktX3_steps_2 := dk_seg dksX3_steps_1 24 rfl rfl
theorem dksX3_steps_3 : cX3_steps.data.toList.drop 72 = dktX3_steps_3 := dk_seg dksX3_steps_2 24 rfl rfl
theorem dksX3_steps_4 : cX3_steps.data.toList.drop 95 = dktX3_steps_4 := dk_seg dksX3_steps_3 23 rfl rfl
theorem dX3_steps_0 : decode cX3_steps 0 = .ok (.iconst 0, 1) := dk_3 (dk_at dksX3_steps_0 0 rfl rfl)
theorem dX3_steps_1 : decode cX3_steps 1 = .ok (.istore_n 3, 1) := dk_62 (dk_at dksX3_steps_0 1 rfl rfl)
theorem dX3_steps_2 : decode cX3_steps 2 = .ok (.iload_n 3, 1) := dk_29 (dk_at dksX3_steps_0 2 rfl rfl)
theorem dX3_steps_3 : decode cX3_steps 3 = .ok (.aload_n 0, 1) := dk_42 (dk_at dksX3_steps_0 3 rfl rfl)
theorem dX3_steps_4 : decode cX3_steps 4 = .ok (.invokevirtual 134, 3) := dk_182 0 134 (dk_at dksX3_steps_0 4 rfl rfl)
theorem dX3_steps_7 : decode cX3_steps 7 = .ok (.if_icmp .ge 94, 3) := dk_162 0 94 (dk_at dksX3_steps_0 7 rfl rfl)
theorem dX3_steps_10 : decode cX3_steps 10 = .ok (.aload_n 0, 1) := dk_42 (dk_at dksX3_steps_0 10 rfl rfl)
theorem dX3_steps_11 : decode cX3_steps 11 = .ok (.getfield 22, 3) := dk_180 0 22 (dk_at dksX3_steps_0 11 rfl rfl)
theorem dX3_steps_14 : decode cX3_steps 14 = .ok (.iload_n 3, 1) := dk_29 (dk_at dksX3_steps_0 14 rfl rfl)
theorem dX3_steps_15 : decode cX3_steps 15 = .ok (.laload, 1) := dk_47 (dk_at dksX3_steps_0 15 rfl rfl)
theorem dX3_steps_16 : decode cX3_steps 16 = .ok (.lconst 0, 1) := dk_9 (dk_at dksX3_steps_0 16 rfl rfl)
theorem dX3_steps_17 : decode cX3_steps 17 = .ok (.lcmp, 1) := dk_148 (dk_at dksX3_steps_0 17 rfl rfl)
theorem dX3_steps_18 : decode cX3_steps 18 = .ok (.ifCond .ne 6, 3) := dk_154 0 6 (dk_at dksX3_steps_0 18 rfl rfl)
theorem dX3_steps_21 : decode cX3_steps 21 = .ok (.goto 74, 3) := dk_167 0 74 (dk_at dksX3_steps_0 21 rfl rfl)
theorem dX3_steps_24 : decode cX3_steps 24 = .ok (.aload_n 1, 1) := dk_43 (dk_at dksX3_steps_1 0 rfl rfl)
theorem dX3_steps_25 : decode cX3_steps 25 = .ok (.aload_n 2, 1) := dk_44 (dk_at dksX3_steps_1 1 rfl rfl)
theorem dX3_steps_26 : decode cX3_steps 26 = .ok (.aload_n 0, 1) := dk_42 (dk_at dksX3_steps_1 2 rfl rfl)
theorem dX3_steps_27 : decode cX3_steps 27 = .ok (.getfield 12, 3) := dk_180 0 12 (dk_at dksX3_steps_1 3 rfl rfl)
theorem dX3_steps_30 : decode cX3_steps 30 = .ok (.iload_n 3, 1) := dk_29 (dk_at dksX3_steps_1 6 rfl rfl)
theorem dX3_steps_31 : decode cX3_steps 31 = .ok (.invokevirtual 148, 3) := dk_182 0 148 (dk_at dksX3_steps_1 7 rfl rfl)
theorem dX3_steps_34 : decode cX3_steps 34 = .ok (.invokevirtual 152, 3) := dk_182 0 152 (dk_at dksX3_steps_1 10 rfl rfl)
theorem dX3_steps_37 : decode cX3_steps 37 = .ok (.invokevirtual 162, 3) := dk_182 0 162 (dk_at dksX3_steps_1 13 rfl rfl)
theorem dX3_steps_40 : decode cX3_steps 40 = .ok (.ifCond .eq 16, 3) := dk_153 0 16 (dk_at dksX3_steps_1 16 rfl rfl)
theorem dX3_steps_43 : decode cX3_steps 43 = .ok (.aload_n 1, 1) := dk_43 (dk_at dksX3_steps_1 19 rfl rfl)
theorem dX3_steps_44 : decode cX3_steps 44 = .ok (.aload_n 0, 1) := dk_42 (dk_at dksX3_steps_1 20 rfl rfl)
theorem dX3_steps_45 : decode cX3_steps 45 = .ok (.getfield 22, 3) := dk_180 0 22 (dk_at dksX3_steps_1 21 rfl rfl)
theorem dX3_steps_48 : decode cX3_steps 48 = .ok (.iload_n 3, 1) := dk_29 (dk_at dksX3_steps_2 0 rfl rfl)
theorem dX3_steps_49 : decode cX3_steps 49 = .ok (.laload, 1) := dk_47 (dk_at dksX3_steps_2 1 rfl rfl)
theorem dX3_steps_50 : decode cX3_steps 50 = .ok (.invokevirtual 165, 3) := dk_182 0 165 (dk_at dksX3_steps_2 2 rfl rfl)
theorem dX3_steps_53 : decode cX3_steps 53 = .ok (.goto 4, 3) := dk_167 0 4 (dk_at dksX3_steps_2 5 rfl rfl)
theorem dX3_steps_56 : decode cX3_steps 56 = .ok (.lconst 0, 1) := dk_9 (dk_at dksX3_steps_2 8 rfl rfl)
theorem dX3_steps_57 : decode cX3_steps 57 = .ok (.lstore 4, 2) := dk_55 4 (dk_at dksX3_steps_2 9 rfl rfl)
theorem dX3_steps_59 : decode cX3_steps 59 = .ok (.aload_n 0, 1) := dk_42 (dk_at dksX3_steps_2 11 rfl rfl)
theorem dX3_steps_60 : decode cX3_steps 60 = .ok (.getfield 25, 3) := dk_180 0 25 (dk_at dksX3_steps_2 12 rfl rfl)
theorem dX3_steps_63 : decode cX3_steps 63 = .ok (.iload_n 3, 1) := dk_29 (dk_at dksX3_steps_2 15 rfl rfl)
theorem dX3_steps_64 : decode cX3_steps 64 = .ok (.dup2, 1) := dk_92 (dk_at dksX3_steps_2 16 rfl rfl)
theorem dX3_steps_65 : decode cX3_steps 65 = .ok (.laload, 1) := dk_47 (dk_at dksX3_steps_2 17 rfl rfl)
theorem dX3_steps_66 : decode cX3_steps 66 = .ok (.aload_n 0, 1) := dk_42 (dk_at dksX3_steps_2 18 rfl rfl)
theorem dX3_steps_67 : decode cX3_steps 67 = .ok (.getfield 22, 3) := dk_180 0 22 (dk_at dksX3_steps_2 19 rfl rfl)
theorem dX3_steps_70 : decode cX3_steps 70 = .ok (.iload_n 3, 1) := dk_29 (dk_at dksX3_steps_2 22 rfl rfl)
theorem dX3_steps_71 : decode cX3_steps 71 = .ok (.laload, 1) := dk_47 (dk_at dksX3_steps_2 23 rfl rfl)
theorem dX3_steps_72 : decode cX3_steps 72 = .ok (.lload 4, 2) := dk_22 4 (dk_at dksX3_steps_3 0 rfl rfl)
theorem dX3_steps_74 : decode cX3_steps 74 = .ok (.lsub, 1) := dk_101 (dk_at dksX3_steps_3 2 rfl rfl)
theorem dX3_steps_75 : decode cX3_steps 75 = .ok (.ladd, 1) := dk_97 (dk_at dksX3_steps_3 3 rfl rfl)
theorem dX3_steps_76 : decode cX3_steps 76 = .ok (.lastore, 1) := dk_80 (dk_at dksX3_steps_3 4 rfl rfl)
theorem dX3_steps_77 : decode cX3_steps 77 = .ok (.lload 4, 2) := dk_22 4 (dk_at dksX3_steps_3 5 rfl rfl)
theorem dX3_steps_79 : decode cX3_steps 79 = .ok (.lconst 0, 1) := dk_9 (dk_at dksX3_steps_3 7 rfl rfl)
theorem dX3_steps_80 : decode cX3_steps 80 = .ok (.lcmp, 1) := dk_148 (dk_at dksX3_steps_3 8 rfl rfl)
theorem dX3_steps_81 : decode cX3_steps 81 = .ok (.ifCond .le 14, 3) := dk_158 0 14 (dk_at dksX3_steps_3 9 rfl rfl)
theorem dX3_steps_84 : decode cX3_steps 84 = .ok (.aload_n 1, 1) := dk_43 (dk_at dksX3_steps_3 12 rfl rfl)
theorem dX3_steps_85 : decode cX3_steps 85 = .ok (.aload_n 0, 1) := dk_42 (dk_at dksX3_steps_3 13 rfl rfl)
theorem dX3_steps_86 : decode cX3_steps 86 = .ok (.aload_n 0, 1) := dk_42 (dk_at dksX3_steps_3 14 rfl rfl)
theorem dX3_steps_87 : decode cX3_steps 87 = .ok (.getfield 12, 3) := dk_180 0 12 (dk_at dksX3_steps_3 15 rfl rfl)
theorem dX3_steps_90 : decode cX3_steps 90 = .ok (.lload 4, 2) := dk_22 4 (dk_at dksX3_steps_3 18 rfl rfl)
theorem dX3_steps_92 : decode cX3_steps 92 = .ok (.invokevirtual 169, 3) := dk_182 0 169 (dk_at dksX3_steps_3 20 rfl rfl)
theorem dX3_steps_95 : decode cX3_steps 95 = .ok (.iinc 3 1, 3) := dk_132 3 1 (dk_at dksX3_steps_4 0 rfl rfl)
theorem dX3_steps_98 : decode cX3_steps 98 = .ok (.goto (-96), 3) := dk_167 255 160 (dk_at dksX3_steps_4 3 rfl rfl)
theorem dX3_steps_101 : decode cX3_steps 101 = .ok (.aload_n 0, 1) := dk_42 (dk_at dksX3_steps_4 6 rfl rfl)
theorem dX3_steps_102 : decode cX3_steps 102 = .ok (.invokevirtual 145, 3) := dk_182 0 145 (dk_at dksX3_steps_4 7 rfl rfl)
theorem dX3_steps_105 : decode cX3_steps 105 = .ok (.return_, 1) := dk_177 (dk_at dksX3_steps_4 10 rfl rfl)
abbrev cX3_adds : ByteArray := prog_6_method_4_code
def yX3_adds : MethodName := ⟨RX3, "adds", "(LCardCups$State;J)V"⟩
def dkwX3_adds_0 : List UInt8 := [32, 9, 148, 153, 0, 16, 42, 180, 0, 25, 43, 182, 0, 130, 92, 47, 32, 97, 80, 177]
abbrev dktX3_adds_0 : List UInt8 := dkwX3_adds_0 ++ []
theorem dksX3_adds_0 : cX3_adds.data.toList.drop 0 = dktX3_adds_0 := by decide +kernel
theorem dX3_adds_0 : decode cX3_adds 0 = .ok (.lload_n 2, 1) := dk_32 (dk_at dksX3_adds_0 0 rfl rfl)
theorem dX3_adds_1 : decode cX3_adds 1 = .ok (.lconst 0, 1) := dk_9 (dk_at dksX3_adds_0 1 rfl rfl)
theorem dX3_adds_2 : decode cX3_adds 2 = .ok (.lcmp, 1) := dk_148 (dk_at dksX3_adds_0 2 rfl rfl)
theorem dX3_adds_3 : decode cX3_adds 3 = .ok (.ifCond .eq 16, 3) := dk_153 0 16 (dk_at dksX3_adds_0 3 rfl rfl)
theorem dX3_adds_6 : decode cX3_adds 6 = .ok (.aload_n 0, 1) := dk_42 (dk_at dksX3_adds_0 6 rfl rfl)
theorem dX3_adds_7 : decode cX3_adds 7 = .ok (.getfield 25, 3) := dk_180 0 25 (dk_at dksX3_adds_0 7 rfl rfl)
theorem dX3_adds_10 : decode cX3_adds 10 = .ok (.aload_n 1, 1) := dk_43 (dk_at dksX3_adds_0 10 rfl rfl)
theorem dX3_adds_11 : decode cX3_adds 11 = .ok (.invokevirtual 130, 3) := dk_182 0 130 (dk_at dksX3_adds_0 11 rfl rfl)
theorem dX3_adds_14 : decode cX3_adds 14 = .ok (.dup2, 1) := dk_92 (dk_at dksX3_adds_0 14 rfl rfl)
theorem dX3_adds_15 : decode cX3_adds 15 = .ok (.laload, 1) := dk_47 (dk_at dksX3_adds_0 15 rfl rfl)
theorem dX3_adds_16 : decode cX3_adds 16 = .ok (.lload_n 2, 1) := dk_32 (dk_at dksX3_adds_0 16 rfl rfl)
theorem dX3_adds_17 : decode cX3_adds 17 = .ok (.ladd, 1) := dk_97 (dk_at dksX3_adds_0 17 rfl rfl)
theorem dX3_adds_18 : decode cX3_adds 18 = .ok (.lastore, 1) := dk_80 (dk_at dksX3_adds_0 18 rfl rfl)
theorem dX3_adds_19 : decode cX3_adds 19 = .ok (.return_, 1) := dk_177 (dk_at dksX3_adds_0 19 rfl rfl)
abbrev cX3_drinks : ByteArray := prog_6_method_5_code
def yX3_drinks : MethodName := ⟨RX3, "drinks", "(J)V"⟩
def dkwX3_drinks_0 : List UInt8 := [42, 180, 0, 18, 42, 180, 0, 79, 92, 47, 31, 97, 80, 177]
abbrev dktX3_drinks_0 : List UInt8 := dkwX3_drinks_0 ++ []
theorem dksX3_drinks_0 : cX3_drinks.data.toList.drop 0 = dktX3_drinks_0 := by decide +kernel
theorem dX3_drinks_0 : decode cX3_drinks 0 = .ok (.aload_n 0, 1) := dk_42 (dk_at dksX3_drinks_0 0 rfl rfl)
theorem dX3_drinks_1 : decode cX3_drinks 1 = .ok (.getfield 18, 3) := dk_180 0 18 (dk_at dksX3_drinks_0 1 rfl rfl)
theorem dX3_drinks_4 : decode cX3_drinks 4 = .ok (.aload_n 0, 1) := dk_42 (dk_at dksX3_drinks_0 4 rfl rfl)
theorem dX3_drinks_5 : decode cX3_drinks 5 = .ok (.getfield 79, 3) := dk_180 0 79 (dk_at dksX3_drinks_0 5 rfl rfl)
theorem dX3_drinks_8 : decode cX3_drinks 8 = .ok (.dup2, 1) := dk_92 (dk_at dksX3_drinks_0 8 rfl rfl)
theorem dX3_drinks_9 : decode cX3_drinks 9 = .ok (.laload, 1) := dk_47 (dk_at dksX3_drinks_0 9 rfl rfl)
theorem dX3_drinks_10 : decode cX3_drinks 10 = .ok (.lload_n 1, 1) := dk_31 (dk_at dksX3_drinks_0 10 rfl rfl)
theorem dX3_drinks_11 : decode cX3_drinks 11 = .ok (.ladd, 1) := dk_97 (dk_at dksX3_drinks_0 11 rfl rfl)
theorem dX3_drinks_12 : decode cX3_drinks 12 = .ok (.lastore, 1) := dk_80 (dk_at dksX3_drinks_0 12 rfl rfl)
theorem dX3_drinks_13 : decode cX3_drinks 13 = .ok (.return_, 1) := dk_177 (dk_at dksX3_drinks_0 13 rfl rfl)
abbrev cX3_addsAt : ByteArray := prog_6_method_3_code
def yX3_addsAt : MethodName := ⟨RX3, "addsAt", "(IJ)V"⟩
def dkwX3_addsAt_0 : List UInt8 := [42, 180, 0, 25, 27, 92, 47, 32, 97, 80, 177]
abbrev dktX3_addsAt_0 : List UInt8 := dkwX3_addsAt_0 ++ []
theorem dksX3_addsAt_0 : cX3_addsAt.data.toList.drop 0 = dktX3_addsAt_0 := by decide +kernel
theorem dX3_addsAt_0 : decode cX3_addsAt 0 = .ok (.aload_n 0, 1) := dk_42 (dk_at dksX3_addsAt_0 0 rfl rfl)
theorem dX3_addsAt_1 : decode cX3_addsAt 1 = .ok (.getfield 25, 3) := dk_180 0 25 (dk_at dksX3_addsAt_0 1 rfl rfl)
theorem dX3_addsAt_4 : decode cX3_addsAt 4 = .ok (.iload_n 1, 1) := dk_27 (dk_at dksX3_addsAt_0 4 rfl rfl)
theorem dX3_addsAt_5 : decode cX3_addsAt 5 = .ok (.dup2, 1) := dk_92 (dk_at dksX3_addsAt_0 5 rfl rfl)
theorem dX3_addsAt_6 : decode cX3_addsAt 6 = .ok (.laload, 1) := dk_47 (dk_at dksX3_addsAt_0 6 rfl rfl)
theorem dX3_addsAt_7 : decode cX3_addsAt 7 = .ok (.lload_n 2, 1) := dk_32 (dk_at dksX3_addsAt_0 7 rfl rfl)
theorem dX3_addsAt_8 : decode cX3_addsAt 8 = .ok (.ladd, 1) := dk_97 (dk_at dksX3_addsAt_0 8 rfl rfl)
theorem dX3_addsAt_9 : decode cX3_addsAt 9 = .ok (.lastore, 1) := dk_80 (dk_at dksX3_addsAt_0 9 rfl rfl)
theorem dX3_addsAt_10 : decode cX3_addsAt 10 = .ok (.return_, 1) := dk_177 (dk_at dksX3_addsAt_0 10 rfl rfl)
abbrev cX3_ends : ByteArray := prog_6_method_11_code
def yX3_ends : MethodName := ⟨RX3, "ends", "(I)V"⟩
def dkwX3_ends_4 : List UInt8 := [180, 0, 22, 28, 47, 97, 80, 132, 2, 1, 167, 255, 154, 42, 182, 0, 145, 177]
abbrev dktX3_ends_4 : List UInt8 := dkwX3_ends_4 ++ []
def dkwX3_ends_3 : List UInt8 := [182, 0, 179, 133, 105, 97, 181, 0, 43, 42, 180, 0, 25, 42, 180, 0, 12, 182, 0, 130, 92, 47, 42]
abbrev dktX3_ends_3 : List UInt8 := dkwX3_ends_3 ++ dktX3_ends_4
def dkwX3_ends_2 : List UInt8 := [27, 161, 0, 31, 42, 89, 180, 0, 43, 42, 180, 0, 22, 28, 47, 42, 180, 0, 12, 42, 180, 0, 67]
abbrev dktX3_ends_2 : List UInt8 := dkwX3_ends_2 ++ dktX3_ends_3
def dkwX3_ends_1 : List UInt8 := [42, 180, 0, 12, 28, 182, 0, 148, 3, 181, 0, 173, 27, 2, 159, 0, 42, 42, 180, 0, 12, 182, 0, 176]
abbrev dktX3_ends_1 : List UInt8 := dkwX3_ends_1 ++ dktX3_ends_2
def dkwX3_ends_0 : List UInt8 := [3, 61, 28, 42, 182, 0, 134, 162, 0, 100, 42, 180, 0, 22, 28, 47, 9, 148, 154, 0, 6, 167, 0, 80]
abbrev dktX3_ends_0 : List UInt8 := dkwX3_ends_0 ++ dktX3_ends_1
theorem dksX3_ends_0 : cX3_ends.data.toList.drop 0 = dktX3_ends_0 := by decide +kernel
theorem dksX3_ends_1 : cX3_ends.data.toList.drop 24 = dktX3_ends_1 := dk_seg dksX3_ends_0 24 rfl rfl
theorem dksX3_ends_2 : cX3_ends.data.toList.drop 48 = dktX3_ends_2 := dk_seg dksX3_ends_1 24 rfl rfl
theorem dksX3_ends_3 : cX3_ends.data.toList.drop 71 = dktX3_ends_3 := dk_seg dksX3_ends_2 23 rfl rfl
theorem dksX3_ends_4 : cX3_ends.data.toList.drop 94 = dktX3_ends_4 := dk_seg dksX3_ends_3 23 rfl rfl
theorem dX3_ends_0 : decode cX3_ends 0 = .ok (.iconst 0, 1) := dk_3 (dk_at dksX3_ends_0 0 rfl rfl)
theorem dX3_ends_1 : decode cX3_ends 1 = .ok (.istore_n 2, 1) := dk_61 (dk_at dksX3_ends_0 1 rfl rfl)
theorem dX3_ends_2 : decode cX3_ends 2 = .ok (.iload_n 2, 1) := dk_28 (dk_at dksX3_ends_0 2 rfl rfl)
theorem dX3_ends_3 : decode cX3_ends 3 = .ok (.aload_n 0, 1) := dk_42 (dk_at dksX3_ends_0 3 rfl rfl)
theorem dX3_ends_4 : decode cX3_ends 4 = .ok (.invokevirtual 134, 3) := dk_182 0 134 (dk_at dksX3_ends_0 4 rfl rfl)
theorem dX3_ends_7 : decode cX3_ends 7 = .ok (.if_icmp .ge 100, 3) := dk_162 0 100 (dk_at dksX3_ends_0 7 rfl rfl)
theorem dX3_ends_10 : decode cX3_ends 10 = .ok (.aload_n 0, 1) := dk_42 (dk_at dksX3_ends_0 10 rfl rfl)
theorem dX3_ends_11 : decode cX3_ends 11 = .ok (.getfield 22, 3) := dk_180 0 22 (dk_at dksX3_ends_0 11 rfl rfl)
theorem dX3_ends_14 : decode cX3_ends 14 = .ok (.iload_n 2, 1) := dk_28 (dk_at dksX3_ends_0 14 rfl rfl)
theorem dX3_ends_15 : decode cX3_ends 15 = .ok (.laload, 1) := dk_47 (dk_at dksX3_ends_0 15 rfl rfl)
theorem dX3_ends_16 : decode cX3_ends 16 = .ok (.lconst 0, 1) := dk_9 (dk_at dksX3_ends_0 16 rfl rfl)
theorem dX3_ends_17 : decode cX3_ends 17 = .ok (.lcmp, 1) := dk_148 (dk_at dksX3_ends_0 17 rfl rfl)
theorem dX3_ends_18 : decode cX3_ends 18 = .ok (.ifCond .ne 6, 3) := dk_154 0 6 (dk_at dksX3_ends_0 18 rfl rfl)
theorem dX3_ends_21 : decode cX3_ends 21 = .ok (.goto 80, 3) := dk_167 0 80 (dk_at dksX3_ends_0 21 rfl rfl)
theorem dX3_ends_24 : decode cX3_ends 24 = .ok (.aload_n 0, 1) := dk_42 (dk_at dksX3_ends_1 0 rfl rfl)
theorem dX3_ends_25 : decode cX3_ends 25 = .ok (.getfield 12, 3) := dk_180 0 12 (dk_at dksX3_ends_1 1 rfl rfl)
theorem dX3_ends_28 : decode cX3_ends 28 = .ok (.iload_n 2, 1) := dk_28 (dk_at dksX3_ends_1 4 rfl rfl)
theorem dX3_ends_29 : decode cX3_ends 29 = .ok (.invokevirtual 148, 3) := dk_182 0 148 (dk_at dksX3_ends_1 5 rfl rfl)
theorem dX3_ends_32 : decode cX3_ends 32 = .ok (.iconst 0, 1) := dk_3 (dk_at dksX3_ends_1 8 rfl rfl)
theorem dX3_ends_33 : decode cX3_ends 33 = .ok (.putfield 173, 3) := dk_181 0 173 (dk_at dksX3_ends_1 9 rfl rfl)
theorem dX3_ends_36 : decode cX3_ends 36 = .ok (.iload_n 1, 1) := dk_27 (dk_at dksX3_ends_1 12 rfl rfl)
theorem dX3_ends_37 : decode cX3_ends 37 = .ok (.iconst (-1), 1) := dk_2 (dk_at dksX3_ends_1 13 rfl rfl)
theorem dX3_ends_38 : decode cX3_ends 38 = .ok (.if_icmp .eq 42, 3) := dk_159 0 42 (dk_at dksX3_ends_1 14 rfl rfl)
theorem dX3_ends_41 : decode cX3_ends 41 = .ok (.aload_n 0, 1) := dk_42 (dk_at dksX3_ends_1 17 rfl rfl)
theorem dX3_ends_42 : decode cX3_ends 42 = .ok (.getfield 12, 3) := dk_180 0 12 (dk_at dksX3_ends_1 18 rfl rfl)
theorem dX3_ends_45 : decode cX3_ends 45 = .ok (.invokevirtual 176, 3) := dk_182 0 176 (dk_at dksX3_ends_1 21 rfl rfl)
theorem dX3_ends_48 : decode cX3_ends 48 = .ok (.iload_n 1, 1) := dk_27 (dk_at dksX3_ends_2 0 rfl rfl)
theorem dX3_ends_49 : decode cX3_ends 49 = .ok (.if_icmp .lt 31, 3) := dk_161 0 31 (dk_at dksX3_ends_2 1 rfl rfl)
theorem dX3_ends_52 : decode cX3_ends 52 = .ok (.aload_n 0, 1) := dk_42 (dk_at dksX3_ends_2 4 rfl rfl)
theorem dX3_ends_53 : decode cX3_ends 53 = .ok (.dup, 1) := dk_89 (dk_at dksX3_ends_2 5 rfl rfl)
theorem dX3_ends_54 : decode cX3_ends 54 = .ok (.getfield 43, 3) := dk_180 0 43 (dk_at dksX3_ends_2 6 rfl rfl)
theorem dX3_ends_57 : decode cX3_ends 57 = .ok (.aload_n 0, 1) := dk_42 (dk_at dksX3_ends_2 9 rfl rfl)
theorem dX3_ends_58 : decode cX3_ends 58 = .ok (.getfield 22, 3) := dk_180 0 22 (dk_at dksX3_ends_2 10 rfl rfl)
theorem dX3_ends_61 : decode cX3_ends 61 = .ok (.iload_n 2, 1) := dk_28 (dk_at dksX3_ends_2 13 rfl rfl)
theorem dX3_ends_62 : decode cX3_ends 62 = .ok (.laload, 1) := dk_47 (dk_at dksX3_ends_2 14 rfl rfl)
theorem dX3_ends_63 : decode cX3_ends 63 = .ok (.aload_n 0, 1) := dk_42 (dk_at dksX3_ends_2 15 rfl rfl)
theorem dX3_ends_64 : decode cX3_ends 64 = .ok (.getfield 12, 3) := dk_180 0 12 (dk_at dksX3_ends_2 16 rfl rfl)
theorem dX3_ends_67 : decode cX3_ends 67 = .ok (.aload_n 0, 1) := dk_42 (dk_at dksX3_ends_2 19 rfl rfl)
theorem dX3_ends_68 : decode cX3_ends 68 = .ok (.getfield 67, 3) := dk_180 0 67 (dk_at dksX3_ends_2 20 rfl rfl)
theorem dX3_ends_71 : decode cX3_ends 71 = .ok (.invokevirtual 179, 3) := dk_182 0 179 (dk_at dksX3_ends_3 0 rfl rfl)
theorem dX3_ends_74 : decode cX3_ends 74 = .ok (.i2l, 1) := dk_133 (dk_at dksX3_ends_3 3 rfl rfl)
theorem dX3_ends_75 : decode cX3_ends 75 = .ok (.lmul, 1) := dk_105 (dk_at dksX3_ends_3 4 rfl rfl)
theorem dX3_ends_76 : decode cX3_ends 76 = .ok (.ladd, 1) := dk_97 (dk_at dksX3_ends_3 5 rfl rfl)
theorem dX3_ends_77 : decode cX3_ends 77 = .ok (.putfield 43, 3) := dk_181 0 43 (dk_at dksX3_ends_3 6 rfl rfl)
theorem dX3_ends_80 : decode cX3_ends 80 = .ok (.aload_n 0, 1) := dk_42 (dk_at dksX3_ends_3 9 rfl rfl)
theorem dX3_ends_81 : decode cX3_ends 81 = .ok (.getfield 25, 3) := dk_180 0 25 (dk_at dksX3_ends_3 10 rfl rfl)
theorem dX3_ends_84 : decode cX3_ends 84 = .ok (.aload_n 0, 1) := dk_42 (dk_at dksX3_ends_3 13 rfl rfl)
theorem dX3_ends_85 : decode cX3_ends 85 = .ok (.getfield 12, 3) := dk_180 0 12 (dk_at dksX3_ends_3 14 rfl rfl)
theorem dX3_ends_88 : decode cX3_ends 88 = .ok (.invokevirtual 130, 3) := dk_182 0 130 (dk_at dksX3_ends_3 17 rfl rfl)
theorem dX3_ends_91 : decode cX3_ends 91 = .ok (.dup2, 1) := dk_92 (dk_at dksX3_ends_3 20 rfl rfl)
theorem dX3_ends_92 : decode cX3_ends 92 = .ok (.laload, 1) := dk_47 (dk_at dksX3_ends_3 21 rfl rfl)
theorem dX3_ends_93 : decode cX3_ends 93 = .ok (.aload_n 0, 1) := dk_42 (dk_at dksX3_ends_3 22 rfl rfl)
theorem dX3_ends_94 : decode cX3_ends 94 = .ok (.getfield 22, 3) := dk_180 0 22 (dk_at dksX3_ends_4 0 rfl rfl)
theorem dX3_ends_97 : decode cX3_ends 97 = .ok (.iload_n 2, 1) := dk_28 (dk_at dksX3_ends_4 3 rfl rfl)
theorem dX3_ends_98 : decode cX3_ends 98 = .ok (.laload, 1) := dk_47 (dk_at dksX3_ends_4 4 rfl rfl)
theorem dX3_ends_99 : decode cX3_ends 99 = .ok (.ladd, 1) := dk_97 (dk_at dksX3_ends_4 5 rfl rfl)
theorem dX3_ends_100 : decode cX3_ends 100 = .ok (.lastore, 1) := dk_80 (dk_at dksX3_ends_4 6 rfl rfl)
theorem dX3_ends_101 : decode cX3_ends 101 = .ok (.iinc 2 1, 3) := dk_132 2 1 (dk_at dksX3_ends_4 7 rfl rfl)
theorem dX3_ends_104 : decode cX3_ends 104 = .ok (.goto (-102), 3) := dk_167 255 154 (dk_at dksX3_ends_4 10 rfl rfl)
theorem dX3_ends_107 : decode cX3_ends 107 = .ok (.aload_n 0, 1) := dk_42 (dk_at dksX3_ends_4 13 rfl rfl)
theorem dX3_ends_108 : decode cX3_ends 108 = .ok (.invokevirtual 145, 3) := dk_182 0 145 (dk_at dksX3_ends_4 14 rfl rfl)
theorem dX3_ends_111 : decode cX3_ends 111 = .ok (.return_, 1) := dk_177 (dk_at dksX3_ends_4 17 rfl rfl)
abbrev cX3_truly : ByteArray := prog_6_method_16_code
def yX3_truly : MethodName := ⟨RX3, "truly", "()J"⟩
def dkwX3_truly_0 : List UInt8 := [42, 4, 2, 182, 0, 202, 173]
abbrev dktX3_truly_0 : List UInt8 := dkwX3_truly_0 ++ []
theorem dksX3_truly_0 : cX3_truly.data.toList.drop 0 = dktX3_truly_0 := by decide +kernel
theorem dX3_truly_0 : decode cX3_truly 0 = .ok (.aload_n 0, 1) := dk_42 (dk_at dksX3_truly_0 0 rfl rfl)
theorem dX3_truly_1 : decode cX3_truly 1 = .ok (.iconst 1, 1) := dk_4 (dk_at dksX3_truly_0 1 rfl rfl)
theorem dX3_truly_2 : decode cX3_truly 2 = .ok (.iconst (-1), 1) := dk_2 (dk_at dksX3_truly_0 2 rfl rfl)
theorem dX3_truly_3 : decode cX3_truly 3 = .ok (.invokevirtual 202, 3) := dk_182 0 202 (dk_at dksX3_truly_0 3 rfl rfl)
theorem dX3_truly_6 : decode cX3_truly 6 = .ok (.lreturn, 1) := dk_173 (dk_at dksX3_truly_0 6 rfl rfl)
abbrev cX3_likely : ByteArray := prog_6_method_14_code
def yX3_likely : MethodName := ⟨RX3, "likely", "(II)J"⟩
def dkwX3_likely_3 : List UInt8 := [22, 4, 42, 180, 0, 22, 21, 6, 47, 97, 55, 4, 132, 6, 1, 167, 255, 203, 22, 4, 173]
abbrev dktX3_likely_3 : List UInt8 := dkwX3_likely_3 ++ []
def dkwX3_likely_2 : List UInt8 := [47, 9, 148, 153, 0, 33, 42, 27, 42, 180, 0, 12, 21, 6, 182, 0, 148, 45, 182, 0, 186, 153, 0, 15]
abbrev dktX3_likely_2 : List UInt8 := dkwX3_likely_2 ++ dktX3_likely_3
def dkwX3_likely_1 : List UInt8 := [183, 0, 86, 78, 9, 55, 4, 3, 54, 6, 21, 6, 17, 66, 4, 162, 0, 51, 42, 180, 0, 22, 21, 6]
abbrev dktX3_likely_1 : List UInt8 := dkwX3_likely_1 ++ dktX3_likely_2
def dkwX3_likely_0 : List UInt8 := [28, 2, 160, 0, 7, 1, 167, 0, 19, 187, 0, 84, 89, 42, 180, 0, 28, 42, 180, 0, 32, 28]
abbrev dktX3_likely_0 : List UInt8 := dkwX3_likely_0 ++ dktX3_likely_1
theorem dksX3_likely_0 : cX3_likely.data.toList.drop 0 = dktX3_likely_0 := by decide +kernel
theorem dksX3_likely_1 : cX3_likely.data.toList.drop 22 = dktX3_likely_1 := dk_seg dksX3_likely_0 22 rfl rfl
theorem dksX3_likely_2 : cX3_likely.data.toList.drop 46 = dktX3_likely_2 := dk_seg dksX3_likely_1 24 rfl rfl
theorem dksX3_likely_3 : cX3_likely.data.toList.drop 70 = dktX3_likely_3 := dk_seg dksX3_likely_2 24 rfl rfl
theorem dX3_likely_0 : decode cX3_likely 0 = .ok (.iload_n 2, 1) := dk_28 (dk_at dksX3_likely_0 0 rfl rfl)
theorem dX3_likely_1 : decode cX3_likely 1 = .ok (.iconst (-1), 1) := dk_2 (dk_at dksX3_likely_0 1 rfl rfl)
theorem dX3_likely_2 : decode cX3_likely 2 = .ok (.if_icmp .ne 7, 3) := dk_160 0 7 (dk_at dksX3_likely_0 2 rfl rfl)
theorem dX3_likely_5 : decode cX3_likely 5 = .ok (.aconst_null, 1) := dk_1 (dk_at dksX3_likely_0 5 rfl rfl)
theorem dX3_likely_6 : decode cX3_likely 6 = .ok (.goto 19, 3) := dk_167 0 19 (dk_at dksX3_likely_0 6 rfl rfl)
theorem dX3_likely_9 : decode cX3_likely 9 = .ok (.new 84, 3) := dk_187 0 84 (dk_at dksX3_likely_0 9 rfl rfl)
theorem dX3_likely_12 : decode cX3_likely 12 = .ok (.dup, 1) := dk_89 (dk_at dksX3_likely_0 12 rfl rfl)
theorem dX3_likely_13 : decode cX3_likely 13 = .ok (.aload_n 0, 1) := dk_42 (dk_at dksX3_likely_0 13 rfl rfl)
theorem dX3_likely_14 : decode cX3_likely 14 = .ok (.getfield 28, 3) := dk_180 0 28 (dk_at dksX3_likely_0 14 rfl rfl)
theorem dX3_likely_17 : decode cX3_likely 17 = .ok (.aload_n 0, 1) := dk_42 (dk_at dksX3_likely_0 17 rfl rfl)
theorem dX3_likely_18 : decode cX3_likely 18 = .ok (.getfield 32, 3) := dk_180 0 32 (dk_at dksX3_likely_0 18 rfl rfl)
theorem dX3_likely_21 : decode cX3_likely 21 = .ok (.iload_n 2, 1) := dk_28 (dk_at dksX3_likely_0 21 rfl rfl)
theorem dX3_likely_22 : decode cX3_likely 22 = .ok (.invokespecial 86, 3) := dk_183 0 86 (dk_at dksX3_likely_1 0 rfl rfl)
theorem dX3_likely_25 : decode cX3_likely 25 = .ok (.astore_n 3, 1) := dk_78 (dk_at dksX3_likely_1 3 rfl rfl)
theorem dX3_likely_26 : decode cX3_likely 26 = .ok (.lconst 0, 1) := dk_9 (dk_at dksX3_likely_1 4 rfl rfl)
theorem dX3_likely_27 : decode cX3_likely 27 = .ok (.lstore 4, 2) := dk_55 4 (dk_at dksX3_likely_1 5 rfl rfl)
theorem dX3_likely_29 : decode cX3_likely 29 = .ok (.iconst 0, 1) := dk_3 (dk_at dksX3_likely_1 7 rfl rfl)
theorem dX3_likely_30 : decode cX3_likely 30 = .ok (.istore 6, 2) := dk_54 6 (dk_at dksX3_likely_1 8 rfl rfl)
theorem dX3_likely_32 : decode cX3_likely 32 = .ok (.iload 6, 2) := dk_21 6 (dk_at dksX3_likely_1 10 rfl rfl)
theorem dX3_likely_34 : decode cX3_likely 34 = .ok (.sipush 16900, 3) := dk_17 66 4 (dk_at dksX3_likely_1 12 rfl rfl)
theorem dX3_likely_37 : decode cX3_likely 37 = .ok (.if_icmp .ge 51, 3) := dk_162 0 51 (dk_at dksX3_likely_1 15 rfl rfl)
theorem dX3_likely_40 : decode cX3_likely 40 = .ok (.aload_n 0, 1) := dk_42 (dk_at dksX3_likely_1 18 rfl rfl)
theorem dX3_likely_41 : decode cX3_likely 41 = .ok (.getfield 22, 3) := dk_180 0 22 (dk_at dksX3_likely_1 19 rfl rfl)
theorem dX3_likely_44 : decode cX3_likely 44 = .ok (.iload 6, 2) := dk_21 6 (dk_at dksX3_likely_1 22 rfl rfl)
theorem dX3_likely_46 : decode cX3_likely 46 = .ok (.laload, 1) := dk_47 (dk_at dksX3_likely_2 0 rfl rfl)
theorem dX3_likely_47 : decode cX3_likely 47 = .ok (.lconst 0, 1) := dk_9 (dk_at dksX3_likely_2 1 rfl rfl)
theorem dX3_likely_48 : decode cX3_likely 48 = .ok (.lcmp, 1) := dk_148 (dk_at dksX3_likely_2 2 rfl rfl)
theorem dX3_likely_49 : decode cX3_likely 49 = .ok (.ifCond .eq 33, 3) := dk_153 0 33 (dk_at dksX3_likely_2 3 rfl rfl)
theorem dX3_likely_52 : decode cX3_likely 52 = .ok (.aload_n 0, 1) := dk_42 (dk_at dksX3_likely_2 6 rfl rfl)
theorem dX3_likely_53 : decode cX3_likely 53 = .ok (.iload_n 1, 1) := dk_27 (dk_at dksX3_likely_2 7 rfl rfl)
theorem dX3_likely_54 : decode cX3_likely 54 = .ok (.aload_n 0, 1) := dk_42 (dk_at dksX3_likely_2 8 rfl rfl)
theorem dX3_likely_55 : decode cX3_likely 55 = .ok (.getfield 12, 3) := dk_180 0 12 (dk_at dksX3_likely_2 9 rfl rfl)
theorem dX3_likely_58 : decode cX3_likely 58 = .ok (.iload 6, 2) := dk_21 6 (dk_at dksX3_likely_2 12 rfl rfl)
theorem dX3_likely_60 : decode cX3_likely 60 = .ok (.invokevirtual 148, 3) := dk_182 0 148 (dk_at dksX3_likely_2 14 rfl rfl)
theorem dX3_likely_63 : decode cX3_likely 63 = .ok (.aload_n 3, 1) := dk_45 (dk_at dksX3_likely_2 17 rfl rfl)
theorem dX3_likely_64 : decode cX3_likely 64 = .ok (.invokevirtual 186, 3) := dk_182 0 186 (dk_at dksX3_likely_2 18 rfl rfl)
theorem dX3_likely_67 : decode cX3_likely 67 = .ok (.ifCond .eq 15, 3) := dk_153 0 15 (dk_at dksX3_likely_2 21 rfl rfl)
theorem dX3_likely_70 : decode cX3_likely 70 = .ok (.lload 4, 2) := dk_22 4 (dk_at dksX3_likely_3 0 rfl rfl)
theorem dX3_likely_72 : decode cX3_likely 72 = .ok (.aload_n 0, 1) := dk_42 (dk_at dksX3_likely_3 2 rfl rfl)
theorem dX3_likely_73 : decode cX3_likely 73 = .ok (.getfield 22, 3) := dk_180 0 22 (dk_at dksX3_likely_3 3 rfl rfl)
theorem dX3_likely_76 : decode cX3_likely 76 = .ok (.iload 6, 2) := dk_21 6 (dk_at dksX3_likely_3 6 rfl rfl)
theorem dX3_likely_78 : decode cX3_likely 78 = .ok (.laload, 1) := dk_47 (dk_at dksX3_likely_3 8 rfl rfl)
theorem dX3_likely_79 : decode cX3_likely 79 = .ok (.ladd, 1) := dk_97 (dk_at dksX3_likely_3 9 rfl rfl)
theorem dX3_likely_80 : decode cX3_likely 80 = .ok (.lstore 4, 2) := dk_55 4 (dk_at dksX3_likely_3 10 rfl rfl)
theorem dX3_likely_82 : decode cX3_likely 82 = .ok (.iinc 6 1, 3) := dk_132 6 1 (dk_at dksX3_likely_3 12 rfl rfl)
theorem dX3_likely_85 : decode cX3_likely 85 = .ok (.goto (-53), 3) := dk_167 255 203 (dk_at dksX3_likely_3 15 rfl rfl)
theorem dX3_likely_88 : decode cX3_likely 88 = .ok (.lload 4, 2) := dk_22 4 (dk_at dksX3_likely_3 18 rfl rfl)
theorem dX3_likely_90 : decode cX3_likely 90 = .ok (.lreturn, 1) := dk_173 (dk_at dksX3_likely_3 20 rfl rfl)
abbrev cX3_is : ByteArray := prog_6_method_15_code
def yX3_is : MethodName := ⟨RX3, "is", "(ILCardCups$State;LCardCups$Sight;)Z"⟩
def dkwX3_is_5 : List UInt8 := [167, 0, 4, 3, 172]
abbrev dktX3_is_5 : List UInt8 := dkwX3_is_5 ++ []
def dkwX3_is_4 : List UInt8 := [154, 0, 7, 4, 167, 0, 4, 3, 172, 44, 182, 0, 176, 42, 180, 0, 28, 180, 0, 199, 160, 0, 7, 4]
abbrev dktX3_is_4 : List UInt8 := dkwX3_is_4 ++ dktX3_is_5
def dkwX3_is_3 : List UInt8 := [182, 0, 195, 172, 44, 180, 0, 198, 4, 160, 0, 7, 4, 167, 0, 4, 3, 172, 44, 182, 0, 176]
abbrev dktX3_is_3 : List UInt8 := dkwX3_is_3 ++ dktX3_is_4
def dkwX3_is_2 : List UInt8 := [44, 180, 0, 190, 154, 0, 7, 4, 167, 0, 4, 3, 172, 44, 182, 0, 191, 172, 45, 44, 182, 0, 152]
abbrev dktX3_is_2 : List UInt8 := dkwX3_is_2 ++ dktX3_is_3
def dkwX3_is_1 : List UInt8 := [170, 0, 0, 0, 0, 0, 89, 0, 0, 0, 0, 0, 0, 0, 4, 0, 0, 0, 35, 0, 0, 0, 48, 0, 0, 0, 53, 0, 0, 0, 62, 0, 0, 0, 76]
abbrev dktX3_is_1 : List UInt8 := dkwX3_is_1 ++ dktX3_is_2
def dkwX3_is_0 : List UInt8 := [27]
abbrev dktX3_is_0 : List UInt8 := dkwX3_is_0 ++ dktX3_is_1
theorem dksX3_is_0 : cX3_is.data.toList.drop 0 = dktX3_is_0 := by decide +kernel
theorem dksX3_is_1 : cX3_is.data.toList.drop 1 = dktX3_is_1 := dk_seg dksX3_is_0 1 rfl rfl
theorem dksX3_is_2 : cX3_is.data.toList.drop 36 = dktX3_is_2 := dk_seg dksX3_is_1 35 rfl rfl
theorem dksX3_is_3 : cX3_is.data.toList.drop 59 = dktX3_is_3 := dk_seg dksX3_is_2 23 rfl rfl
theorem dksX3_is_4 : cX3_is.data.toList.drop 81 = dktX3_is_4 := dk_seg dksX3_is_3 22 rfl rfl
theorem dksX3_is_5 : cX3_is.data.toList.drop 105 = dktX3_is_5 := dk_seg dksX3_is_4 24 rfl rfl
theorem dX3_is_0 : decode cX3_is 0 = .ok (.iload_n 1, 1) := dk_27 (dk_at dksX3_is_0 0 rfl rfl)
theorem dX3_is_1 : decode cX3_is 1 = .ok (.tableswitch 89 0 4 #[35, 48, 53, 62, 76], 35) := by decide +kernel
theorem dX3_is_36 : decode cX3_is 36 = .ok (.aload_n 2, 1) := dk_44 (dk_at dksX3_is_2 0 rfl rfl)
theorem dX3_is_37 : decode cX3_is 37 = .ok (.getfield 190, 3) := dk_180 0 190 (dk_at dksX3_is_2 1 rfl rfl)
theorem dX3_is_40 : decode cX3_is 40 = .ok (.ifCond .ne 7, 3) := dk_154 0 7 (dk_at dksX3_is_2 4 rfl rfl)
theorem dX3_is_43 : decode cX3_is 43 = .ok (.iconst 1, 1) := dk_4 (dk_at dksX3_is_2 7 rfl rfl)
theorem dX3_is_44 : decode cX3_is 44 = .ok (.goto 4, 3) := dk_167 0 4 (dk_at dksX3_is_2 8 rfl rfl)
theorem dX3_is_47 : decode cX3_is 47 = .ok (.iconst 0, 1) := dk_3 (dk_at dksX3_is_2 11 rfl rfl)
theorem dX3_is_48 : decode cX3_is 48 = .ok (.ireturn, 1) := dk_172 (dk_at dksX3_is_2 12 rfl rfl)
theorem dX3_is_49 : decode cX3_is 49 = .ok (.aload_n 2, 1) := dk_44 (dk_at dksX3_is_2 13 rfl rfl)
theorem dX3_is_50 : decode cX3_is 50 = .ok (.invokevirtual 191, 3) := dk_182 0 191 (dk_at dksX3_is_2 14 rfl rfl)
theorem dX3_is_53 : decode cX3_is 53 = .ok (.ireturn, 1) := dk_172 (dk_at dksX3_is_2 17 rfl rfl)
theorem dX3_is_54 : decode cX3_is 54 = .ok (.aload_n 3, 1) := dk_45 (dk_at dksX3_is_2 18 rfl rfl)
theorem dX3_is_55 : decode cX3_is 55 = .ok (.aload_n 2, 1) := dk_44 (dk_at dksX3_is_2 19 rfl rfl)
theorem dX3_is_56 : decode cX3_is 56 = .ok (.invokevirtual 152, 3) := dk_182 0 152 (dk_at dksX3_is_2 20 rfl rfl)
theorem dX3_is_59 : decode cX3_is 59 = .ok (.invokevirtual 195, 3) := dk_182 0 195 (dk_at dksX3_is_3 0 rfl rfl)
theorem dX3_is_62 : decode cX3_is 62 = .ok (.ireturn, 1) := dk_172 (dk_at dksX3_is_3 3 rfl rfl)
theorem dX3_is_63 : decode cX3_is 63 = .ok (.aload_n 2, 1) := dk_44 (dk_at dksX3_is_3 4 rfl rfl)
theorem dX3_is_64 : decode cX3_is 64 = .ok (.getfield 198, 3) := dk_180 0 198 (dk_at dksX3_is_3 5 rfl rfl)
theorem dX3_is_67 : decode cX3_is 67 = .ok (.iconst 1, 1) := dk_4 (dk_at dksX3_is_3 8 rfl rfl)
theorem dX3_is_68 : decode cX3_is 68 = .ok (.if_icmp .ne 7, 3) := dk_160 0 7 (dk_at dksX3_is_3 9 rfl rfl)
theorem dX3_is_71 : decode cX3_is 71 = .ok (.iconst 1, 1) := dk_4 (dk_at dksX3_is_3 12 rfl rfl)
theorem dX3_is_72 : decode cX3_is 72 = .ok (.goto 4, 3) := dk_167 0 4 (dk_at dksX3_is_3 13 rfl rfl)
theorem dX3_is_75 : decode cX3_is 75 = .ok (.iconst 0, 1) := dk_3 (dk_at dksX3_is_3 16 rfl rfl)
theorem dX3_is_76 : decode cX3_is 76 = .ok (.ireturn, 1) := dk_172 (dk_at dksX3_is_3 17 rfl rfl)
theorem dX3_is_77 : decode cX3_is 77 = .ok (.aload_n 2, 1) := dk_44 (dk_at dksX3_is_3 18 rfl rfl)
theorem dX3_is_78 : decode cX3_is 78 = .ok (.invokevirtual 176, 3) := dk_182 0 176 (dk_at dksX3_is_3 19 rfl rfl)
theorem dX3_is_81 : decode cX3_is 81 = .ok (.ifCond .ne 7, 3) := dk_154 0 7 (dk_at dksX3_is_4 0 rfl rfl)
theorem dX3_is_84 : decode cX3_is 84 = .ok (.iconst 1, 1) := dk_4 (dk_at dksX3_is_4 3 rfl rfl)
theorem dX3_is_85 : decode cX3_is 85 = .ok (.goto 4, 3) := dk_167 0 4 (dk_at dksX3_is_4 4 rfl rfl)
theorem dX3_is_88 : decode cX3_is 88 = .ok (.iconst 0, 1) := dk_3 (dk_at dksX3_is_4 7 rfl rfl)
theorem dX3_is_89 : decode cX3_is 89 = .ok (.ireturn, 1) := dk_172 (dk_at dksX3_is_4 8 rfl rfl)
theorem dX3_is_90 : decode cX3_is 90 = .ok (.aload_n 2, 1) := dk_44 (dk_at dksX3_is_4 9 rfl rfl)
theorem dX3_is_91 : decode cX3_is 91 = .ok (.invokevirtual 176, 3) := dk_182 0 176 (dk_at dksX3_is_4 10 rfl rfl)
theorem dX3_is_94 : decode cX3_is 94 = .ok (.aload_n 0, 1) := dk_42 (dk_at dksX3_is_4 13 rfl rfl)
theorem dX3_is_95 : decode cX3_is 95 = .ok (.getfield 28, 3) := dk_180 0 28 (dk_at dksX3_is_4 14 rfl rfl)
theorem dX3_is_98 : decode cX3_is 98 = .ok (.getfield 199, 3) := dk_180 0 199 (dk_at dksX3_is_4 17 rfl rfl)
theorem dX3_is_101 : decode cX3_is 101 = .ok (.if_icmp .ne 7, 3) := dk_160 0 7 (dk_at dksX3_is_4 20 rfl rfl)
theorem dX3_is_104 : decode cX3_is 104 = .ok (.iconst 1, 1) := dk_4 (dk_at dksX3_is_4 23 rfl rfl)
theorem dX3_is_105 : decode cX3_is 105 = .ok (.goto 4, 3) := dk_167 0 4 (dk_at dksX3_is_5 0 rfl rfl)
theorem dX3_is_108 : decode cX3_is 108 = .ok (.iconst 0, 1) := dk_3 (dk_at dksX3_is_5 3 rfl rfl)
theorem dX3_is_109 : decode cX3_is 109 = .ok (.ireturn, 1) := dk_172 (dk_at dksX3_is_5 4 rfl rfl)
abbrev cX3_cost : ByteArray := prog_6_method_12_code
def yX3_cost : MethodName := ⟨RX3, "cost", "()J"⟩
def dkwX3_cost_2 : List UInt8 := [42, 180, 0, 28, 180, 0, 183, 3, 46, 133, 105, 97, 64, 132, 3, 1, 167, 255, 227, 31, 173]
abbrev dktX3_cost_2 : List UInt8 := dkwX3_cost_2 ++ []
def dkwX3_cost_1 : List UInt8 := [180, 0, 183, 5, 46, 133, 105, 97, 64, 3, 62, 29, 16, 6, 162, 0, 29, 31, 42, 180, 0, 18, 29, 47]
abbrev dktX3_cost_1 : List UInt8 := dkwX3_cost_1 ++ dktX3_cost_2
def dkwX3_cost_0 : List UInt8 := [42, 180, 0, 43, 42, 180, 0, 28, 180, 0, 183, 4, 46, 133, 105, 42, 180, 0, 47, 42, 180, 0, 28]
abbrev dktX3_cost_0 : List UInt8 := dkwX3_cost_0 ++ dktX3_cost_1
theorem dksX3_cost_0 : cX3_cost.data.toList.drop 0 = dktX3_cost_0 := by decide +kernel
theorem dksX3_cost_1 : cX3_cost.data.toList.drop 23 = dktX3_cost_1 := dk_seg dksX3_cost_0 23 rfl rfl
theorem dksX3_cost_2 : cX3_cost.data.toList.drop 47 = dktX3_cost_2 := dk_seg dksX3_cost_1 24 rfl rfl
theorem dX3_cost_0 : decode cX3_cost 0 = .ok (.aload_n 0, 1) := dk_42 (dk_at dksX3_cost_0 0 rfl rfl)
theorem dX3_cost_1 : decode cX3_cost 1 = .ok (.getfield 43, 3) := dk_180 0 43 (dk_at dksX3_cost_0 1 rfl rfl)
theorem dX3_cost_4 : decode cX3_cost 4 = .ok (.aload_n 0, 1) := dk_42 (dk_at dksX3_cost_0 4 rfl rfl)
theorem dX3_cost_5 : decode cX3_cost 5 = .ok (.getfield 28, 3) := dk_180 0 28 (dk_at dksX3_cost_0 5 rfl rfl)
theorem dX3_cost_8 : decode cX3_cost 8 = .ok (.getfield 183, 3) := dk_180 0 183 (dk_at dksX3_cost_0 8 rfl rfl)
theorem dX3_cost_11 : decode cX3_cost 11 = .ok (.iconst 1, 1) := dk_4 (dk_at dksX3_cost_0 11 rfl rfl)
theorem dX3_cost_12 : decode cX3_cost 12 = .ok (.iaload, 1) := dk_46 (dk_at dksX3_cost_0 12 rfl rfl)
theorem dX3_cost_13 : decode cX3_cost 13 = .ok (.i2l, 1) := dk_133 (dk_at dksX3_cost_0 13 rfl rfl)
theorem dX3_cost_14 : decode cX3_cost 14 = .ok (.lmul, 1) := dk_105 (dk_at dksX3_cost_0 14 rfl rfl)
theorem dX3_cost_15 : decode cX3_cost 15 = .ok (.aload_n 0, 1) := dk_42 (dk_at dksX3_cost_0 15 rfl rfl)
theorem dX3_cost_16 : decode cX3_cost 16 = .ok (.getfield 47, 3) := dk_180 0 47 (dk_at dksX3_cost_0 16 rfl rfl)
theorem dX3_cost_19 : decode cX3_cost 19 = .ok (.aload_n 0, 1) := dk_42 (dk_at dksX3_cost_0 19 rfl rfl)
theorem dX3_cost_20 : decode cX3_cost 20 = .ok (.getfield 28, 3) := dk_180 0 28 (dk_at dksX3_cost_0 20 rfl rfl)
theorem dX3_cost_23 : decode cX3_cost 23 = .ok (.getfield 183, 3) := dk_180 0 183 (dk_at dksX3_cost_1 0 rfl rfl)
theorem dX3_cost_26 : decode cX3_cost 26 = .ok (.iconst 2, 1) := dk_5 (dk_at dksX3_cost_1 3 rfl rfl)
theorem dX3_cost_27 : decode cX3_cost 27 = .ok (.iaload, 1) := dk_46 (dk_at dksX3_cost_1 4 rfl rfl)
theorem dX3_cost_28 : decode cX3_cost 28 = .ok (.i2l, 1) := dk_133 (dk_at dksX3_cost_1 5 rfl rfl)
theorem dX3_cost_29 : decode cX3_cost 29 = .ok (.lmul, 1) := dk_105 (dk_at dksX3_cost_1 6 rfl rfl)
theorem dX3_cost_30 : decode cX3_cost 30 = .ok (.ladd, 1) := dk_97 (dk_at dksX3_cost_1 7 rfl rfl)
theorem dX3_cost_31 : decode cX3_cost 31 = .ok (.lstore_n 1, 1) := dk_64 (dk_at dksX3_cost_1 8 rfl rfl)
theorem dX3_cost_32 : decode cX3_cost 32 = .ok (.iconst 0, 1) := dk_3 (dk_at dksX3_cost_1 9 rfl rfl)
theorem dX3_cost_33 : decode cX3_cost 33 = .ok (.istore_n 3, 1) := dk_62 (dk_at dksX3_cost_1 10 rfl rfl)
theorem dX3_cost_34 : decode cX3_cost 34 = .ok (.iload_n 3, 1) := dk_29 (dk_at dksX3_cost_1 11 rfl rfl)
theorem dX3_cost_35 : decode cX3_cost 35 = .ok (.bipush 6, 2) := dk_16 6 (dk_at dksX3_cost_1 12 rfl rfl)
theorem dX3_cost_37 : decode cX3_cost 37 = .ok (.if_icmp .ge 29, 3) := dk_162 0 29 (dk_at dksX3_cost_1 14 rfl rfl)
theorem dX3_cost_40 : decode cX3_cost 40 = .ok (.lload_n 1, 1) := dk_31 (dk_at dksX3_cost_1 17 rfl rfl)
theorem dX3_cost_41 : decode cX3_cost 41 = .ok (.aload_n 0, 1) := dk_42 (dk_at dksX3_cost_1 18 rfl rfl)
theorem dX3_cost_42 : decode cX3_cost 42 = .ok (.getfield 18, 3) := dk_180 0 18 (dk_at dksX3_cost_1 19 rfl rfl)
theorem dX3_cost_45 : decode cX3_cost 45 = .ok (.iload_n 3, 1) := dk_29 (dk_at dksX3_cost_1 22 rfl rfl)
theorem dX3_cost_46 : decode cX3_cost 46 = .ok (.laload, 1) := dk_47 (dk_at dksX3_cost_1 23 rfl rfl)
theorem dX3_cost_47 : decode cX3_cost 47 = .ok (.aload_n 0, 1) := dk_42 (dk_at dksX3_cost_2 0 rfl rfl)
theorem dX3_cost_48 : decode cX3_cost 48 = .ok (.getfield 28, 3) := dk_180 0 28 (dk_at dksX3_cost_2 1 rfl rfl)
theorem dX3_cost_51 : decode cX3_cost 51 = .ok (.getfield 183, 3) := dk_180 0 183 (dk_at dksX3_cost_2 4 rfl rfl)
theorem dX3_cost_54 : decode cX3_cost 54 = .ok (.iconst 0, 1) := dk_3 (dk_at dksX3_cost_2 7 rfl rfl)
theorem dX3_cost_55 : decode cX3_cost 55 = .ok (.iaload, 1) := dk_46 (dk_at dksX3_cost_2 8 rfl rfl)
theorem dX3_cost_56 : decode cX3_cost 56 = .ok (.i2l, 1) := dk_133 (dk_at dksX3_cost_2 9 rfl rfl)
theorem dX3_cost_57 : decode cX3_cost 57 = .ok (.lmul, 1) := dk_105 (dk_at dksX3_cost_2 10 rfl rfl)
theorem dX3_cost_58 : decode cX3_cost 58 = .ok (.ladd, 1) := dk_97 (dk_at dksX3_cost_2 11 rfl rfl)
theorem dX3_cost_59 : decode cX3_cost 59 = .ok (.lstore_n 1, 1) := dk_64 (dk_at dksX3_cost_2 12 rfl rfl)
theorem dX3_cost_60 : decode cX3_cost 60 = .ok (.iinc 3 1, 3) := dk_132 3 1 (dk_at dksX3_cost_2 13 rfl rfl)
theorem dX3_cost_63 : decode cX3_cost 63 = .ok (.goto (-29), 3) := dk_167 255 227 (dk_at dksX3_cost_2 16 rfl rfl)
theorem dX3_cost_66 : decode cX3_cost 66 = .ok (.lload_n 1, 1) := dk_31 (dk_at dksX3_cost_2 19 rfl rfl)
theorem dX3_cost_67 : decode cX3_cost 67 = .ok (.lreturn, 1) := dk_173 (dk_at dksX3_cost_2 20 rfl rfl)
abbrev cX3_many : ByteArray := prog_6_method_17_code
def yX3_many : MethodName := ⟨RX3, "many", "()I"⟩
def dkwX3_many_1 : List UInt8 := [132, 1, 1, 132, 2, 1, 167, 255, 232, 27, 172]
abbrev dktX3_many_1 : List UInt8 := dkwX3_many_1 ++ []
def dkwX3_many_0 : List UInt8 := [3, 60, 3, 61, 28, 17, 66, 4, 162, 0, 23, 42, 180, 0, 22, 28, 47, 9, 148, 153, 0, 6]
abbrev dktX3_many_0 : List UInt8 := dkwX3_many_0 ++ dktX3_many_1
theorem dksX3_many_0 : cX3_many.data.toList.drop 0 = dktX3_many_0 := by decide +kernel
theorem dksX3_many_1 : cX3_many.data.toList.drop 22 = dktX3_many_1 := dk_seg dksX3_many_0 22 rfl rfl
theorem dX3_many_0 : decode cX3_many 0 = .ok (.iconst 0, 1) := dk_3 (dk_at dksX3_many_0 0 rfl rfl)
theorem dX3_many_1 : decode cX3_many 1 = .ok (.istore_n 1, 1) := dk_60 (dk_at dksX3_many_0 1 rfl rfl)
theorem dX3_many_2 : decode cX3_many 2 = .ok (.iconst 0, 1) := dk_3 (dk_at dksX3_many_0 2 rfl rfl)
theorem dX3_many_3 : decode cX3_many 3 = .ok (.istore_n 2, 1) := dk_61 (dk_at dksX3_many_0 3 rfl rfl)
theorem dX3_many_4 : decode cX3_many 4 = .ok (.iload_n 2, 1) := dk_28 (dk_at dksX3_many_0 4 rfl rfl)
theorem dX3_many_5 : decode cX3_many 5 = .ok (.sipush 16900, 3) := dk_17 66 4 (dk_at dksX3_many_0 5 rfl rfl)
theorem dX3_many_8 : decode cX3_many 8 = .ok (.if_icmp .ge 23, 3) := dk_162 0 23 (dk_at dksX3_many_0 8 rfl rfl)
theorem dX3_many_11 : decode cX3_many 11 = .ok (.aload_n 0, 1) := dk_42 (dk_at dksX3_many_0 11 rfl rfl)
theorem dX3_many_12 : decode cX3_many 12 = .ok (.getfield 22, 3) := dk_180 0 22 (dk_at dksX3_many_0 12 rfl rfl)
theorem dX3_many_15 : decode cX3_many 15 = .ok (.iload_n 2, 1) := dk_28 (dk_at dksX3_many_0 15 rfl rfl)
theorem dX3_many_16 : decode cX3_many 16 = .ok (.laload, 1) := dk_47 (dk_at dksX3_many_0 16 rfl rfl)
theorem dX3_many_17 : decode cX3_many 17 = .ok (.lconst 0, 1) := dk_9 (dk_at dksX3_many_0 17 rfl rfl)
theorem dX3_many_18 : decode cX3_many 18 = .ok (.lcmp, 1) := dk_148 (dk_at dksX3_many_0 18 rfl rfl)
theorem dX3_many_19 : decode cX3_many 19 = .ok (.ifCond .eq 6, 3) := dk_153 0 6 (dk_at dksX3_many_0 19 rfl rfl)
theorem dX3_many_22 : decode cX3_many 22 = .ok (.iinc 1 1, 3) := dk_132 1 1 (dk_at dksX3_many_1 0 rfl rfl)
theorem dX3_many_25 : decode cX3_many 25 = .ok (.iinc 2 1, 3) := dk_132 2 1 (dk_at dksX3_many_1 3 rfl rfl)
theorem dX3_many_28 : decode cX3_many 28 = .ok (.goto (-24), 3) := dk_167 255 232 (dk_at dksX3_many_1 6 rfl rfl)
theorem dX3_many_31 : decode cX3_many 31 = .ok (.iload_n 1, 1) := dk_27 (dk_at dksX3_many_1 9 rfl rfl)
theorem dX3_many_32 : decode cX3_many 32 = .ok (.ireturn, 1) := dk_172 (dk_at dksX3_many_1 10 rfl rfl)
abbrev cX3_at : ByteArray := prog_6_method_18_code
def yX3_at : MethodName := ⟨RX3, "at", "(III)J"⟩
def dkwX3_at_1 : List UInt8 := [3, 184, 0, 61, 47, 97, 55, 4, 132, 6, 1, 167, 255, 227, 22, 4, 173]
abbrev dktX3_at_1 : List UInt8 := dkwX3_at_1 ++ []
def dkwX3_at_0 : List UInt8 := [9, 55, 4, 3, 54, 6, 21, 6, 16, 24, 163, 0, 28, 22, 4, 42, 180, 0, 22, 21, 6, 27, 28, 29]
abbrev dktX3_at_0 : List UInt8 := dkwX3_at_0 ++ dktX3_at_1
theorem dksX3_at_0 : cX3_at.data.toList.drop 0 = dktX3_at_0 := by decide +kernel
theorem dksX3_at_1 : cX3_at.data.toList.drop 24 = dktX3_at_1 := dk_seg dksX3_at_0 24 rfl rfl
theorem dX3_at_0 : decode cX3_at 0 = .ok (.lconst 0, 1) := dk_9 (dk_at dksX3_at_0 0 rfl rfl)
theorem dX3_at_1 : decode cX3_at 1 = .ok (.lstore 4, 2) := dk_55 4 (dk_at dksX3_at_0 1 rfl rfl)
theorem dX3_at_3 : decode cX3_at 3 = .ok (.iconst 0, 1) := dk_3 (dk_at dksX3_at_0 3 rfl rfl)
theorem dX3_at_4 : decode cX3_at 4 = .ok (.istore 6, 2) := dk_54 6 (dk_at dksX3_at_0 4 rfl rfl)
theorem dX3_at_6 : decode cX3_at 6 = .ok (.iload 6, 2) := dk_21 6 (dk_at dksX3_at_0 6 rfl rfl)
theorem dX3_at_8 : decode cX3_at 8 = .ok (.bipush 24, 2) := dk_16 24 (dk_at dksX3_at_0 8 rfl rfl)
theorem dX3_at_10 : decode cX3_at 10 = .ok (.if_icmp .gt 28, 3) := dk_163 0 28 (dk_at dksX3_at_0 10 rfl rfl)
theorem dX3_at_13 : decode cX3_at 13 = .ok (.lload 4, 2) := dk_22 4 (dk_at dksX3_at_0 13 rfl rfl)
theorem dX3_at_15 : decode cX3_at 15 = .ok (.aload_n 0, 1) := dk_42 (dk_at dksX3_at_0 15 rfl rfl)
theorem dX3_at_16 : decode cX3_at 16 = .ok (.getfield 22, 3) := dk_180 0 22 (dk_at dksX3_at_0 16 rfl rfl)
theorem dX3_at_19 : decode cX3_at 19 = .ok (.iload 6, 2) := dk_21 6 (dk_at dksX3_at_0 19 rfl rfl)
theorem dX3_at_21 : decode cX3_at 21 = .ok (.iload_n 1, 1) := dk_27 (dk_at dksX3_at_0 21 rfl rfl)
theorem dX3_at_22 : decode cX3_at 22 = .ok (.iload_n 2, 1) := dk_28 (dk_at dksX3_at_0 22 rfl rfl)
theorem dX3_at_23 : decode cX3_at 23 = .ok (.iload_n 3, 1) := dk_29 (dk_at dksX3_at_0 23 rfl rfl)
theorem dX3_at_24 : decode cX3_at 24 = .ok (.iconst 0, 1) := dk_3 (dk_at dksX3_at_1 0 rfl rfl)
theorem dX3_at_25 : decode cX3_at 25 = .ok (.invokestatic 61, 3) := dk_184 0 61 (dk_at dksX3_at_1 1 rfl rfl)
theorem dX3_at_28 : decode cX3_at 28 = .ok (.laload, 1) := dk_47 (dk_at dksX3_at_1 4 rfl rfl)
theorem dX3_at_29 : decode cX3_at 29 = .ok (.ladd, 1) := dk_97 (dk_at dksX3_at_1 5 rfl rfl)
theorem dX3_at_30 : decode cX3_at 30 = .ok (.lstore 4, 2) := dk_55 4 (dk_at dksX3_at_1 6 rfl rfl)
theorem dX3_at_32 : decode cX3_at 32 = .ok (.iinc 6 1, 3) := dk_132 6 1 (dk_at dksX3_at_1 8 rfl rfl)
theorem dX3_at_35 : decode cX3_at 35 = .ok (.goto (-29), 3) := dk_167 255 227 (dk_at dksX3_at_1 11 rfl rfl)
theorem dX3_at_38 : decode cX3_at 38 = .ok (.lload 4, 2) := dk_22 4 (dk_at dksX3_at_1 14 rfl rfl)
theorem dX3_at_40 : decode cX3_at 40 = .ok (.lreturn, 1) := dk_173 (dk_at dksX3_at_1 16 rfl rfl)
abbrev cX3_mean : ByteArray := prog_6_method_19_code
def yX3_mean : MethodName := ⟨RX3, "mean", "(I)J"⟩
def dkwX3_mean_3 : List UInt8 := [132, 4, 1, 167, 255, 190, 32, 173]
abbrev dktX3_mean_3 : List UInt8 := dkwX3_mean_3 ++ []
def dkwX3_mean_2 : List UInt8 := [180, 0, 206, 167, 0, 15, 42, 180, 0, 12, 21, 4, 182, 0, 148, 180, 0, 190, 133, 105, 97, 65]
abbrev dktX3_mean_2 : List UInt8 := dkwX3_mean_2 ++ dktX3_mean_3
def dkwX3_mean_1 : List UInt8 := [153, 0, 46, 32, 42, 180, 0, 22, 21, 4, 47, 27, 154, 0, 18, 42, 180, 0, 12, 21, 4, 182, 0, 148]
abbrev dktX3_mean_1 : List UInt8 := dkwX3_mean_1 ++ dktX3_mean_2
def dkwX3_mean_0 : List UInt8 := [9, 65, 3, 54, 4, 21, 4, 17, 66, 4, 162, 0, 64, 42, 180, 0, 22, 21, 4, 47, 9, 148]
abbrev dktX3_mean_0 : List UInt8 := dkwX3_mean_0 ++ dktX3_mean_1
theorem dksX3_mean_0 : cX3_mean.data.toList.drop 0 = dktX3_mean_0 := by decide +kernel
theorem dksX3_mean_1 : cX3_mean.data.toList.drop 22 = dktX3_mean_1 := dk_seg dksX3_mean_0 22 rfl rfl
theorem dksX3_mean_2 : cX3_mean.data.toList.drop 46 = dktX3_mean_2 := dk_seg dksX3_mean_1 24 rfl rfl
theorem dksX3_mean_3 : cX3_mean.data.toList.drop 68 = dktX3_mean_3 := dk_seg dksX3_mean_2 22 rfl rfl
theorem dX3_mean_0 : decode cX3_mean 0 = .ok (.lconst 0, 1) := dk_9 (dk_at dksX3_mean_0 0 rfl rfl)
theorem dX3_mean_1 : decode cX3_mean 1 = .ok (.lstore_n 2, 1) := dk_65 (dk_at dksX3_mean_0 1 rfl rfl)
theorem dX3_mean_2 : decode cX3_mean 2 = .ok (.iconst 0, 1) := dk_3 (dk_at dksX3_mean_0 2 rfl rfl)
theorem dX3_mean_3 : decode cX3_mean 3 = .ok (.istore 4, 2) := dk_54 4 (dk_at dksX3_mean_0 3 rfl rfl)
theorem dX3_mean_5 : decode cX3_mean 5 = .ok (.iload 4, 2) := dk_21 4 (dk_at dksX3_mean_0 5 rfl rfl)
theorem dX3_mean_7 : decode cX3_mean 7 = .ok (.sipush 16900, 3) := dk_17 66 4 (dk_at dksX3_mean_0 7 rfl rfl)
theorem dX3_mean_10 : decode cX3_mean 10 = .ok (.if_icmp .ge 64, 3) := dk_162 0 64 (dk_at dksX3_mean_0 10 rfl rfl)
theorem dX3_mean_13 : decode cX3_mean 13 = .ok (.aload_n 0, 1) := dk_42 (dk_at dksX3_mean_0 13 rfl rfl)
theorem dX3_mean_14 : decode cX3_mean 14 = .ok (.getfield 22, 3) := dk_180 0 22 (dk_at dksX3_mean_0 14 rfl rfl)
theorem dX3_mean_17 : decode cX3_mean 17 = .ok (.iload 4, 2) := dk_21 4 (dk_at dksX3_mean_0 17 rfl rfl)
theorem dX3_mean_19 : decode cX3_mean 19 = .ok (.laload, 1) := dk_47 (dk_at dksX3_mean_0 19 rfl rfl)
theorem dX3_mean_20 : decode cX3_mean 20 = .ok (.lconst 0, 1) := dk_9 (dk_at dksX3_mean_0 20 rfl rfl)
theorem dX3_mean_21 : decode cX3_mean 21 = .ok (.lcmp, 1) := dk_148 (dk_at dksX3_mean_0 21 rfl rfl)
theorem dX3_mean_22 : decode cX3_mean 22 = .ok (.ifCond .eq 46, 3) := dk_153 0 46 (dk_at dksX3_mean_1 0 rfl rfl)
theorem dX3_mean_25 : decode cX3_mean 25 = .ok (.lload_n 2, 1) := dk_32 (dk_at dksX3_mean_1 3 rfl rfl)
theorem dX3_mean_26 : decode cX3_mean 26 = .ok (.aload_n 0, 1) := dk_42 (dk_at dksX3_mean_1 4 rfl rfl)
theorem dX3_mean_27 : decode cX3_mean 27 = .ok (.getfield 22, 3) := dk_180 0 22 (dk_at dksX3_mean_1 5 rfl rfl)
theorem dX3_mean_30 : decode cX3_mean 30 = .ok (.iload 4, 2) := dk_21 4 (dk_at dksX3_mean_1 8 rfl rfl)
theorem dX3_mean_32 : decode cX3_mean 32 = .ok (.laload, 1) := dk_47 (dk_at dksX3_mean_1 10 rfl rfl)
theorem dX3_mean_33 : decode cX3_mean 33 = .ok (.iload_n 1, 1) := dk_27 (dk_at dksX3_mean_1 11 rfl rfl)
theorem dX3_mean_34 : decode cX3_mean 34 = .ok (.ifCond .ne 18, 3) := dk_154 0 18 (dk_at dksX3_mean_1 12 rfl rfl)
theorem dX3_mean_37 : decode cX3_mean 37 = .ok (.aload_n 0, 1) := dk_42 (dk_at dksX3_mean_1 15 rfl rfl)
theorem dX3_mean_38 : decode cX3_mean 38 = .ok (.getfield 12, 3) := dk_180 0 12 (dk_at dksX3_mean_1 16 rfl rfl)
theorem dX3_mean_41 : decode cX3_mean 41 = .ok (.iload 4, 2) := dk_21 4 (dk_at dksX3_mean_1 19 rfl rfl)
theorem dX3_mean_43 : decode cX3_mean 43 = .ok (.invokevirtual 148, 3) := dk_182 0 148 (dk_at dksX3_mean_1 21 rfl rfl)
theorem dX3_mean_46 : decode cX3_mean 46 = .ok (.getfield 206, 3) := dk_180 0 206 (dk_at dksX3_mean_2 0 rfl rfl)
theorem dX3_mean_49 : decode cX3_mean 49 = .ok (.goto 15, 3) := dk_167 0 15 (dk_at dksX3_mean_2 3 rfl rfl)
theorem dX3_mean_52 : decode cX3_mean 52 = .ok (.aload_n 0, 1) := dk_42 (dk_at dksX3_mean_2 6 rfl rfl)
theorem dX3_mean_53 : decode cX3_mean 53 = .ok (.getfield 12, 3) := dk_180 0 12 (dk_at dksX3_mean_2 7 rfl rfl)
theorem dX3_mean_56 : decode cX3_mean 56 = .ok (.iload 4, 2) := dk_21 4 (dk_at dksX3_mean_2 10 rfl rfl)
theorem dX3_mean_58 : decode cX3_mean 58 = .ok (.invokevirtual 148, 3) := dk_182 0 148 (dk_at dksX3_mean_2 12 rfl rfl)
theorem dX3_mean_61 : decode cX3_mean 61 = .ok (.getfield 190, 3) := dk_180 0 190 (dk_at dksX3_mean_2 15 rfl rfl)
theorem dX3_mean_64 : decode cX3_mean 64 = .ok (.i2l, 1) := dk_133 (dk_at dksX3_mean_2 18 rfl rfl)
theorem dX3_mean_65 : decode cX3_mean 65 = .ok (.lmul, 1) := dk_105 (dk_at dksX3_mean_2 19 rfl rfl)
theorem dX3_mean_66 : decode cX3_mean 66 = .ok (.ladd, 1) := dk_97 (dk_at dksX3_mean_2 20 rfl rfl)
theorem dX3_mean_67 : decode cX3_mean 67 = .ok (.lstore_n 2, 1) := dk_65 (dk_at dksX3_mean_2 21 rfl rfl)
theorem dX3_mean_68 : decode cX3_mean 68 = .ok (.iinc 4 1, 3) := dk_132 4 1 (dk_at dksX3_mean_3 0 rfl rfl)
theorem dX3_mean_71 : decode cX3_mean 71 = .ok (.goto (-66), 3) := dk_167 255 190 (dk_at dksX3_mean_3 3 rfl rfl)
theorem dX3_mean_74 : decode cX3_mean 74 = .ok (.lload_n 2, 1) := dk_32 (dk_at dksX3_mean_3 6 rfl rfl)
theorem dX3_mean_75 : decode cX3_mean 75 = .ok (.lreturn, 1) := dk_173 (dk_at dksX3_mean_3 7 rfl rfl)
abbrev cX3_all : ByteArray := prog_6_method_13_code
def yX3_all : MethodName := ⟨RX3, "all", "()J"⟩
def dkwX3_all_1 : List UInt8 := [167, 255, 237, 31, 173]
abbrev dktX3_all_1 : List UInt8 := dkwX3_all_1 ++ []
def dkwX3_all_0 : List UInt8 := [9, 64, 3, 62, 29, 17, 66, 4, 162, 0, 18, 31, 42, 180, 0, 22, 29, 47, 97, 64, 132, 3, 1]
abbrev dktX3_all_0 : List UInt8 := dkwX3_all_0 ++ dktX3_all_1
theorem dksX3_all_0 : cX3_all.data.toList.drop 0 = dktX3_all_0 := by decide +kernel
theorem dksX3_all_1 : cX3_all.data.toList.drop 23 = dktX3_all_1 := dk_seg dksX3_all_0 23 rfl rfl
theorem dX3_all_0 : decode cX3_all 0 = .ok (.lconst 0, 1) := dk_9 (dk_at dksX3_all_0 0 rfl rfl)
theorem dX3_all_1 : decode cX3_all 1 = .ok (.lstore_n 1, 1) := dk_64 (dk_at dksX3_all_0 1 rfl rfl)
theorem dX3_all_2 : decode cX3_all 2 = .ok (.iconst 0, 1) := dk_3 (dk_at dksX3_all_0 2 rfl rfl)
theorem dX3_all_3 : decode cX3_all 3 = .ok (.istore_n 3, 1) := dk_62 (dk_at dksX3_all_0 3 rfl rfl)
theorem dX3_all_4 : decode cX3_all 4 = .ok (.iload_n 3, 1) := dk_29 (dk_at dksX3_all_0 4 rfl rfl)
theorem dX3_all_5 : decode cX3_all 5 = .ok (.sipush 16900, 3) := dk_17 66 4 (dk_at dksX3_all_0 5 rfl rfl)
theorem dX3_all_8 : decode cX3_all 8 = .ok (.if_icmp .ge 18, 3) := dk_162 0 18 (dk_at dksX3_all_0 8 rfl rfl)
theorem dX3_all_11 : decode cX3_all 11 = .ok (.lload_n 1, 1) := dk_31 (dk_at dksX3_all_0 11 rfl rfl)
theorem dX3_all_12 : decode cX3_all 12 = .ok (.aload_n 0, 1) := dk_42 (dk_at dksX3_all_0 12 rfl rfl)
theorem dX3_all_13 : decode cX3_all 13 = .ok (.getfield 22, 3) := dk_180 0 22 (dk_at dksX3_all_0 13 rfl rfl)
theorem dX3_all_16 : decode cX3_all 16 = .ok (.iload_n 3, 1) := dk_29 (dk_at dksX3_all_0 16 rfl rfl)
theorem dX3_all_17 : decode cX3_all 17 = .ok (.laload, 1) := dk_47 (dk_at dksX3_all_0 17 rfl rfl)
theorem dX3_all_18 : decode cX3_all 18 = .ok (.ladd, 1) := dk_97 (dk_at dksX3_all_0 18 rfl rfl)
theorem dX3_all_19 : decode cX3_all 19 = .ok (.lstore_n 1, 1) := dk_64 (dk_at dksX3_all_0 19 rfl rfl)
theorem dX3_all_20 : decode cX3_all 20 = .ok (.iinc 3 1, 3) := dk_132 3 1 (dk_at dksX3_all_0 20 rfl rfl)
theorem dX3_all_23 : decode cX3_all 23 = .ok (.goto (-19), 3) := dk_167 255 237 (dk_at dksX3_all_1 0 rfl rfl)
theorem dX3_all_26 : decode cX3_all 26 = .ok (.lload_n 1, 1) := dk_31 (dk_at dksX3_all_1 3 rfl rfl)
theorem dX3_all_27 : decode cX3_all 27 = .ok (.lreturn, 1) := dk_173 (dk_at dksX3_all_1 4 rfl rfl)
abbrev cX3_worth : ByteArray := prog_6_method_24_code
def yX3_worth : MethodName := ⟨RX3, "worth", "(I)J"⟩
def dkwX3_worth_7 : List UInt8 := [42, 180, 0, 28, 180, 0, 183, 6, 46, 133, 105, 97, 65, 132, 4, 1, 167, 255, 164, 32, 173]
abbrev dktX3_worth_7 : List UInt8 := dkwX3_worth_7 ++ []
def dkwX3_worth_6 : List UInt8 := [4, 46, 133, 105, 97, 65, 42, 180, 0, 12, 182, 0, 176, 154, 0, 24, 32, 42, 180, 0, 22, 21, 4, 47]
abbrev dktX3_worth_6 : List UInt8 := dkwX3_worth_6 ++ dktX3_worth_7
def dkwX3_worth_5 : List UInt8 := [21, 4, 47, 42, 180, 0, 12, 21, 4, 182, 0, 148, 180, 0, 206, 133, 105, 42, 180, 0, 28, 180, 0, 183]
abbrev dktX3_worth_5 : List UInt8 := dkwX3_worth_5 ++ dktX3_worth_6
def dkwX3_worth_4 : List UInt8 := [162, 0, 90, 42, 180, 0, 22, 21, 4, 47, 9, 148, 154, 0, 6, 167, 0, 69, 32, 42, 180, 0, 22]
abbrev dktX3_worth_4 : List UInt8 := dkwX3_worth_4 ++ dktX3_worth_5
def dkwX3_worth_3 : List UInt8 := [182, 0, 221, 42, 180, 0, 28, 180, 0, 183, 7, 46, 133, 105, 65, 3, 54, 4, 21, 4, 17, 66, 4]
abbrev dktX3_worth_3 : List UInt8 := dkwX3_worth_3 ++ dktX3_worth_4
def dkwX3_worth_2 : List UInt8 := [3, 182, 0, 218, 184, 0, 225, 97, 42, 4, 182, 0, 214, 42, 4, 182, 0, 218, 184, 0, 225, 97, 173, 42]
abbrev dktX3_worth_2 : List UInt8 := dkwX3_worth_2 ++ dktX3_worth_3
def dkwX3_worth_1 : List UInt8 := [160, 0, 47, 42, 182, 0, 221, 42, 180, 0, 28, 180, 0, 183, 5, 46, 133, 105, 42, 3, 182, 0, 214, 42]
abbrev dktX3_worth_1 : List UInt8 := dkwX3_worth_1 ++ dktX3_worth_2
def dkwX3_worth_0 : List UInt8 := [27, 154, 0, 9, 42, 5, 182, 0, 214, 173, 27, 4, 160, 0, 9, 42, 5, 182, 0, 218, 173, 27, 5]
abbrev dktX3_worth_0 : List UInt8 := dkwX3_worth_0 ++ dktX3_worth_1
theorem dksX3_worth_0 : cX3_worth.data.toList.drop 0 = dktX3_worth_0 := by decide +kernel
theorem dksX3_worth_1 : cX3_worth.data.toList.drop 23 = dktX3_worth_1 := dk_seg dksX3_worth_0 23 rfl rfl
theorem dksX3_worth_2 : cX3_worth.data.toList.drop 47 = dktX3_worth_2 := dk_seg dksX3_worth_1 24 rfl rfl
theorem dksX3_worth_3 : cX3_worth.data.toList.drop 71 = dktX3_worth_3 := dk_seg dksX3_worth_2 24 rfl rfl
theorem dksX3_worth_4 : cX3_worth.data.toList.drop 94 = dktX3_worth_4 := dk_seg dksX3_worth_3 23 rfl rfl
theorem dksX3_worth_5 : cX3_worth.data.toList.drop 117 = dktX3_worth_5 := dk_seg dksX3_worth_4 23 rfl rfl
theorem dksX3_worth_6 : cX3_worth.data.toList.drop 141 = dktX3_worth_6 := dk_seg dksX3_worth_5 24 rfl rfl
theorem dksX3_worth_7 : cX3_worth.data.toList.drop 165 = dktX3_worth_7 := dk_seg dksX3_worth_6 24 rfl rfl
theorem dX3_worth_0 : decode cX3_worth 0 = .ok (.iload_n 1, 1) := dk_27 (dk_at dksX3_worth_0 0 rfl rfl)
theorem dX3_worth_1 : decode cX3_worth 1 = .ok (.ifCond .ne 9, 3) := dk_154 0 9 (dk_at dksX3_worth_0 1 rfl rfl)
theorem dX3_worth_4 : decode cX3_worth 4 = .ok (.aload_n 0, 1) := dk_42 (dk_at dksX3_worth_0 4 rfl rfl)
theorem dX3_worth_5 : decode cX3_worth 5 = .ok (.iconst 2, 1) := dk_5 (dk_at dksX3_worth_0 5 rfl rfl)
theorem dX3_worth_6 : decode cX3_worth 6 = .ok (.invokevirtual 214, 3) := dk_182 0 214 (dk_at dksX3_worth_0 6 rfl rfl)
theorem dX3_worth_9 : decode cX3_worth 9 = .ok (.lreturn, 1) := dk_173 (dk_at dksX3_worth_0 9 rfl rfl)
theorem dX3_worth_10 : decode cX3_worth 10 = .ok (.iload_n 1, 1) := dk_27 (dk_at dksX3_worth_0 10 rfl rfl)
theorem dX3_worth_11 : decode cX3_worth 11 = .ok (.iconst 1, 1) := dk_4 (dk_at dksX3_worth_0 11 rfl rfl)
theorem dX3_worth_12 : decode cX3_worth 12 = .ok (.if_icmp .ne 9, 3) := dk_160 0 9 (dk_at dksX3_worth_0 12 rfl rfl)
theorem dX3_worth_15 : decode cX3_worth 15 = .ok (.aload_n 0, 1) := dk_42 (dk_at dksX3_worth_0 15 rfl rfl)
theorem dX3_worth_16 : decode cX3_worth 16 = .ok (.iconst 2, 1) := dk_5 (dk_at dksX3_worth_0 16 rfl rfl)
theorem dX3_worth_17 : decode cX3_worth 17 = .ok (.invokevirtual 218, 3) := dk_182 0 218 (dk_at dksX3_worth_0 17 rfl rfl)
theorem dX3_worth_20 : decode cX3_worth 20 = .ok (.lreturn, 1) := dk_173 (dk_at dksX3_worth_0 20 rfl rfl)
theorem dX3_worth_21 : decode cX3_worth 21 = .ok (.iload_n 1, 1) := dk_27 (dk_at dksX3_worth_0 21 rfl rfl)
theorem dX3_worth_22 : decode cX3_worth 22 = .ok (.iconst 2, 1) := dk_5 (dk_at dksX3_worth_0 22 rfl rfl)
theorem dX3_worth_23 : decode cX3_worth 23 = .ok (.if_icmp .ne 47, 3) := dk_160 0 47 (dk_at dksX3_worth_1 0 rfl rfl)
theorem dX3_worth_26 : decode cX3_worth 26 = .ok (.aload_n 0, 1) := dk_42 (dk_at dksX3_worth_1 3 rfl rfl)
theorem dX3_worth_27 : decode cX3_worth 27 = .ok (.invokevirtual 221, 3) := dk_182 0 221 (dk_at dksX3_worth_1 4 rfl rfl)
theorem dX3_worth_30 : decode cX3_worth 30 = .ok (.aload_n 0, 1) := dk_42 (dk_at dksX3_worth_1 7 rfl rfl)
theorem dX3_worth_31 : decode cX3_worth 31 = .ok (.getfield 28, 3) := dk_180 0 28 (dk_at dksX3_worth_1 8 rfl rfl)
theorem dX3_worth_34 : decode cX3_worth 34 = .ok (.getfield 183, 3) := dk_180 0 183 (dk_at dksX3_worth_1 11 rfl rfl)
theorem dX3_worth_37 : decode cX3_worth 37 = .ok (.iconst 2, 1) := dk_5 (dk_at dksX3_worth_1 14 rfl rfl)
theorem dX3_worth_38 : decode cX3_worth 38 = .ok (.iaload, 1) := dk_46 (dk_at dksX3_worth_1 15 rfl rfl)
theorem dX3_worth_39 : decode cX3_worth 39 = .ok (.i2l, 1) := dk_133 (dk_at dksX3_worth_1 16 rfl rfl)
theorem dX3_worth_40 : decode cX3_worth 40 = .ok (.lmul, 1) := dk_105 (dk_at dksX3_worth_1 17 rfl rfl)
theorem dX3_worth_41 : decode cX3_worth 41 = .ok (.aload_n 0, 1) := dk_42 (dk_at dksX3_worth_1 18 rfl rfl)
theorem dX3_worth_42 : decode cX3_worth 42 = .ok (.iconst 0, 1) := dk_3 (dk_at dksX3_worth_1 19 rfl rfl)
theorem dX3_worth_43 : decode cX3_worth 43 = .ok (.invokevirtual 214, 3) := dk_182 0 214 (dk_at dksX3_worth_1 20 rfl rfl)
theorem dX3_worth_46 : decode cX3_worth 46 = .ok (.aload_n 0, 1) := dk_42 (dk_at dksX3_worth_1 23 rfl rfl)
theorem dX3_worth_47 : decode cX3_worth 47 = .ok (.iconst 0, 1) := dk_3 (dk_at dksX3_worth_2 0 rfl rfl)
theorem dX3_worth_48 : decode cX3_worth 48 = .ok (.invokevirtual 218, 3) := dk_182 0 218 (dk_at dksX3_worth_2 1 rfl rfl)
theorem dX3_worth_51 : decode cX3_worth 51 = .ok (.invokestatic 225, 3) := dk_184 0 225 (dk_at dksX3_worth_2 4 rfl rfl)
theorem dX3_worth_54 : decode cX3_worth 54 = .ok (.ladd, 1) := dk_97 (dk_at dksX3_worth_2 7 rfl rfl)
theorem dX3_worth_55 : decode cX3_worth 55 = .ok (.aload_n 0, 1) := dk_42 (dk_at dksX3_worth_2 8 rfl rfl)
theorem dX3_worth_56 : decode cX3_worth 56 = .ok (.iconst 1, 1) := dk_4 (dk_at dksX3_worth_2 9 rfl rfl)
theorem dX3_worth_57 : decode cX3_worth 57 = .ok (.invokevirtual 214, 3) := dk_182 0 214 (dk_at dksX3_worth_2 10 rfl rfl)
theorem dX3_worth_60 : decode cX3_worth 60 = .ok (.aload_n 0, 1) := dk_42 (dk_at dksX3_worth_2 13 rfl rfl)
theorem dX3_worth_61 : decode cX3_worth 61 = .ok (.iconst 1, 1) := dk_4 (dk_at dksX3_worth_2 14 rfl rfl)
theorem dX3_worth_62 : decode cX3_worth 62 = .ok (.invokevirtual 218, 3) := dk_182 0 218 (dk_at dksX3_worth_2 15 rfl rfl)
theorem dX3_worth_65 : decode cX3_worth 65 = .ok (.invokestatic 225, 3) := dk_184 0 225 (dk_at dksX3_worth_2 18 rfl rfl)
theorem dX3_worth_68 : decode cX3_worth 68 = .ok (.ladd, 1) := dk_97 (dk_at dksX3_worth_2 21 rfl rfl)
theorem dX3_worth_69 : decode cX3_worth 69 = .ok (.lreturn, 1) := dk_173 (dk_at dksX3_worth_2 22 rfl rfl)
theorem dX3_worth_70 : decode cX3_worth 70 = .ok (.aload_n 0, 1) := dk_42 (dk_at dksX3_worth_2 23 rfl rfl)
theorem dX3_worth_71 : decode cX3_worth 71 = .ok (.invokevirtual 221, 3) := dk_182 0 221 (dk_at dksX3_worth_3 0 rfl rfl)
theorem dX3_worth_74 : decode cX3_worth 74 = .ok (.aload_n 0, 1) := dk_42 (dk_at dksX3_worth_3 3 rfl rfl)
theorem dX3_worth_75 : decode cX3_worth 75 = .ok (.getfield 28, 3) := dk_180 0 28 (dk_at dksX3_worth_3 4 rfl rfl)
theorem dX3_worth_78 : decode cX3_worth 78 = .ok (.getfield 183, 3) := dk_180 0 183 (dk_at dksX3_worth_3 7 rfl rfl)
theorem dX3_worth_81 : decode cX3_worth 81 = .ok (.iconst 4, 1) := dk_7 (dk_at dksX3_worth_3 10 rfl rfl)
theorem dX3_worth_82 : decode cX3_worth 82 = .ok (.iaload, 1) := dk_46 (dk_at dksX3_worth_3 11 rfl rfl)
theorem dX3_worth_83 : decode cX3_worth 83 = .ok (.i2l, 1) := dk_133 (dk_at dksX3_worth_3 12 rfl rfl)
theorem dX3_worth_84 : decode cX3_worth 84 = .ok (.lmul, 1) := dk_105 (dk_at dksX3_worth_3 13 rfl rfl)
theorem dX3_worth_85 : decode cX3_worth 85 = .ok (.lstore_n 2, 1) := dk_65 (dk_at dksX3_worth_3 14 rfl rfl)
theorem dX3_worth_86 : decode cX3_worth 86 = .ok (.iconst 0, 1) := dk_3 (dk_at dksX3_worth_3 15 rfl rfl)
theorem dX3_worth_87 : decode cX3_worth 87 = .ok (.istore 4, 2) := dk_54 4 (dk_at dksX3_worth_3 16 rfl rfl)
theorem dX3_worth_89 : decode cX3_worth 89 = .ok (.iload 4, 2) := dk_21 4 (dk_at dksX3_worth_3 18 rfl rfl)
theorem dX3_worth_91 : decode cX3_worth 91 = .ok (.sipush 16900, 3) := dk_17 66 4 (dk_at dksX3_worth_3 20 rfl rfl)
theorem dX3_worth_94 : decode cX3_worth 94 = .ok (.if_icmp .ge 90, 3) := dk_162 0 90 (dk_at dksX3_worth_4 0 rfl rfl)
theorem dX3_worth_97 : decode cX3_worth 97 = .ok (.aload_n 0, 1) := dk_42 (dk_at dksX3_worth_4 3 rfl rfl)
theorem dX3_worth_98 : decode cX3_worth 98 = .ok (.getfield 22, 3) := dk_180 0 22 (dk_at dksX3_worth_4 4 rfl rfl)
theorem dX3_worth_101 : decode cX3_worth 101 = .ok (.iload 4, 2) := dk_21 4 (dk_at dksX3_worth_4 7 rfl rfl)
theorem dX3_worth_103 : decode cX3_worth 103 = .ok (.laload, 1) := dk_47 (dk_at dksX3_worth_4 9 rfl rfl)
theorem dX3_worth_104 : decode cX3_worth 104 = .ok (.lconst 0, 1) := dk_9 (dk_at dksX3_worth_4 10 rfl rfl)
theorem dX3_worth_105 : decode cX3_worth 105 = .ok (.lcmp, 1) := dk_148 (dk_at dksX3_worth_4 11 rfl rfl)
theorem dX3_worth_106 : decode cX3_worth 106 = .ok (.ifCond .ne 6, 3) := dk_154 0 6 (dk_at dksX3_worth_4 12 rfl rfl)
theorem dX3_worth_109 : decode cX3_worth 109 = .ok (.goto 69, 3) := dk_167 0 69 (dk_at dksX3_worth_4 15 rfl rfl)
theorem dX3_worth_112 : decode cX3_worth 112 = .ok (.lload_n 2, 1) := dk_32 (dk_at dksX3_worth_4 18 rfl rfl)
theorem dX3_worth_113 : decode cX3_worth 113 = .ok (.aload_n 0, 1) := dk_42 (dk_at dksX3_worth_4 19 rfl rfl)
theorem dX3_worth_114 : decode cX3_worth 114 = .ok (.getfield 22, 3) := dk_180 0 22 (dk_at dksX3_worth_4 20 rfl rfl)
theorem dX3_worth_117 : decode cX3_worth 117 = .ok (.iload 4, 2) := dk_21 4 (dk_at dksX3_worth_5 0 rfl rfl)
theorem dX3_worth_119 : decode cX3_worth 119 = .ok (.laload, 1) := dk_47 (dk_at dksX3_worth_5 2 rfl rfl)
theorem dX3_worth_120 : decode cX3_worth 120 = .ok (.aload_n 0, 1) := dk_42 (dk_at dksX3_worth_5 3 rfl rfl)
theorem dX3_worth_121 : decode cX3_worth 121 = .ok (.getfield 12, 3) := dk_180 0 12 (dk_at dksX3_worth_5 4 rfl rfl)
theorem dX3_worth_124 : decode cX3_worth 124 = .ok (.iload 4, 2) := dk_21 4 (dk_at dksX3_worth_5 7 rfl rfl)
theorem dX3_worth_126 : decode cX3_worth 126 = .ok (.invokevirtual 148, 3) := dk_182 0 148 (dk_at dksX3_worth_5 9 rfl rfl)
theorem dX3_worth_129 : decode cX3_worth 129 = .ok (.getfield 206, 3) := dk_180 0 206 (dk_at dksX3_worth_5 12 rfl rfl)
theorem dX3_worth_132 : decode cX3_worth 132 = .ok (.i2l, 1) := dk_133 (dk_at dksX3_worth_5 15 rfl rfl)
theorem dX3_worth_133 : decode cX3_worth 133 = .ok (.lmul, 1) := dk_105 (dk_at dksX3_worth_5 16 rfl rfl)
theorem dX3_worth_134 : decode cX3_worth 134 = .ok (.aload_n 0, 1) := dk_42 (dk_at dksX3_worth_5 17 rfl rfl)
theorem dX3_worth_135 : decode cX3_worth 135 = .ok (.getfield 28, 3) := dk_180 0 28 (dk_at dksX3_worth_5 18 rfl rfl)
theorem dX3_worth_138 : decode cX3_worth 138 = .ok (.getfield 183, 3) := dk_180 0 183 (dk_at dksX3_worth_5 21 rfl rfl)
theorem dX3_worth_141 : decode cX3_worth 141 = .ok (.iconst 1, 1) := dk_4 (dk_at dksX3_worth_6 0 rfl rfl)
theorem dX3_worth_142 : decode cX3_worth 142 = .ok (.iaload, 1) := dk_46 (dk_at dksX3_worth_6 1 rfl rfl)
theorem dX3_worth_143 : decode cX3_worth 143 = .ok (.i2l, 1) := dk_133 (dk_at dksX3_worth_6 2 rfl rfl)
theorem dX3_worth_144 : decode cX3_worth 144 = .ok (.lmul, 1) := dk_105 (dk_at dksX3_worth_6 3 rfl rfl)
theorem dX3_worth_145 : decode cX3_worth 145 = .ok (.ladd, 1) := dk_97 (dk_at dksX3_worth_6 4 rfl rfl)
theorem dX3_worth_146 : decode cX3_worth 146 = .ok (.lstore_n 2, 1) := dk_65 (dk_at dksX3_worth_6 5 rfl rfl)
theorem dX3_worth_147 : decode cX3_worth 147 = .ok (.aload_n 0, 1) := dk_42 (dk_at dksX3_worth_6 6 rfl rfl)
theorem dX3_worth_148 : decode cX3_worth 148 = .ok (.getfield 12, 3) := dk_180 0 12 (dk_at dksX3_worth_6 7 rfl rfl)
theorem dX3_worth_151 : decode cX3_worth 151 = .ok (.invokevirtual 176, 3) := dk_182 0 176 (dk_at dksX3_worth_6 10 rfl rfl)
theorem dX3_worth_154 : decode cX3_worth 154 = .ok (.ifCond .ne 24, 3) := dk_154 0 24 (dk_at dksX3_worth_6 13 rfl rfl)
theorem dX3_worth_157 : decode cX3_worth 157 = .ok (.lload_n 2, 1) := dk_32 (dk_at dksX3_worth_6 16 rfl rfl)
theorem dX3_worth_158 : decode cX3_worth 158 = .ok (.aload_n 0, 1) := dk_42 (dk_at dksX3_worth_6 17 rfl rfl)
theorem dX3_worth_159 : decode cX3_worth 159 = .ok (.getfield 22, 3) := dk_180 0 22 (dk_at dksX3_worth_6 18 rfl rfl)
theorem dX3_worth_162 : decode cX3_worth 162 = .ok (.iload 4, 2) := dk_21 4 (dk_at dksX3_worth_6 21 rfl rfl)
theorem dX3_worth_164 : decode cX3_worth 164 = .ok (.laload, 1) := dk_47 (dk_at dksX3_worth_6 23 rfl rfl)
theorem dX3_worth_165 : decode cX3_worth 165 = .ok (.aload_n 0, 1) := dk_42 (dk_at dksX3_worth_7 0 rfl rfl)
theorem dX3_worth_166 : decode cX3_worth 166 = .ok (.getfield 28, 3) := dk_180 0 28 (dk_at dksX3_worth_7 1 rfl rfl)
theorem dX3_worth_169 : decode cX3_worth 169 = .ok (.getfield 183, 3) := dk_180 0 183 (dk_at dksX3_worth_7 4 rfl rfl)
theorem dX3_worth_172 : decode cX3_worth 172 = .ok (.iconst 3, 1) := dk_6 (dk_at dksX3_worth_7 7 rfl rfl)
theorem dX3_worth_173 : decode cX3_worth 173 = .ok (.iaload, 1) := dk_46 (dk_at dksX3_worth_7 8 rfl rfl)
theorem dX3_worth_174 : decode cX3_worth 174 = .ok (.i2l, 1) := dk_133 (dk_at dksX3_worth_7 9 rfl rfl)
theorem dX3_worth_175 : decode cX3_worth 175 = .ok (.lmul, 1) := dk_105 (dk_at dksX3_worth_7 10 rfl rfl)
theorem dX3_worth_176 : decode cX3_worth 176 = .ok (.ladd, 1) := dk_97 (dk_at dksX3_worth_7 11 rfl rfl)
theorem dX3_worth_177 : decode cX3_worth 177 = .ok (.lstore_n 2, 1) := dk_65 (dk_at dksX3_worth_7 12 rfl rfl)
theorem dX3_worth_178 : decode cX3_worth 178 = .ok (.iinc 4 1, 3) := dk_132 4 1 (dk_at dksX3_worth_7 13 rfl rfl)
theorem dX3_worth_181 : decode cX3_worth 181 = .ok (.goto (-92), 3) := dk_167 255 164 (dk_at dksX3_worth_7 16 rfl rfl)
theorem dX3_worth_184 : decode cX3_worth 184 = .ok (.lload_n 2, 1) := dk_32 (dk_at dksX3_worth_7 19 rfl rfl)
theorem dX3_worth_185 : decode cX3_worth 185 = .ok (.lreturn, 1) := dk_173 (dk_at dksX3_worth_7 20 rfl rfl)
abbrev cX3_taking : ByteArray := prog_6_method_22_code
def yX3_taking : MethodName := ⟨RX3, "taking", "(I)J"⟩
def dkwX3_taking_4 : List UInt8 := [3, 46, 133, 105, 97, 65, 132, 4, 1, 167, 255, 161, 32, 173]
abbrev dktX3_taking_4 : List UInt8 := dkwX3_taking_4 ++ []
def dkwX3_taking_3 : List UInt8 := [180, 0, 12, 180, 0, 190, 133, 105, 42, 180, 0, 12, 182, 0, 176, 133, 109, 42, 180, 0, 28, 180, 0, 183]
abbrev dktX3_taking_3 : List UInt8 := dkwX3_taking_3 ++ dktX3_taking_4
def dkwX3_taking_2 : List UInt8 := [154, 0, 19, 22, 5, 42, 180, 0, 28, 180, 0, 183, 6, 46, 133, 105, 167, 0, 34, 22, 5, 42]
abbrev dktX3_taking_2 : List UInt8 := dkwX3_taking_2 ++ dktX3_taking_3
def dkwX3_taking_1 : List UInt8 := [154, 0, 6, 167, 0, 72, 42, 21, 4, 27, 182, 0, 211, 55, 5, 32, 42, 180, 0, 12, 182, 0, 176]
abbrev dktX3_taking_1 : List UInt8 := dkwX3_taking_1 ++ dktX3_taking_2
def dkwX3_taking_0 : List UInt8 := [9, 65, 3, 54, 4, 21, 4, 17, 66, 4, 162, 0, 93, 42, 180, 0, 22, 21, 4, 47, 9, 148]
abbrev dktX3_taking_0 : List UInt8 := dkwX3_taking_0 ++ dktX3_taking_1
theorem dksX3_taking_0 : cX3_taking.data.toList.drop 0 = dktX3_taking_0 := by decide +kernel
theorem dksX3_taking_1 : cX3_taking.data.toList.drop 22 = dktX3_taking_1 := dk_seg dksX3_taking_0 22 rfl rfl
theorem dksX3_taking_2 : cX3_taking.data.toList.drop 45 = dktX3_taking_2 := dk_seg dksX3_taking_1 23 rfl rfl
theorem dksX3_taking_3 : cX3_taking.data.toList.drop 67 = dktX3_taking_3 := dk_seg dksX3_taking_2 22 rfl rfl
theorem dksX3_taking_4 : cX3_taking.data.toList.drop 91 = dktX3_taking_4 := dk_seg dksX3_taking_3 24 rfl rfl
theorem dX3_taking_0 : decode cX3_taking 0 = .ok (.lconst 0, 1) := dk_9 (dk_at dksX3_taking_0 0 rfl rfl)
theorem dX3_taking_1 : decode cX3_taking 1 = .ok (.lstore_n 2, 1) := dk_65 (dk_at dksX3_taking_0 1 rfl rfl)
theorem dX3_taking_2 : decode cX3_taking 2 = .ok (.iconst 0, 1) := dk_3 (dk_at dksX3_taking_0 2 rfl rfl)
theorem dX3_taking_3 : decode cX3_taking 3 = .ok (.istore 4, 2) := dk_54 4 (dk_at dksX3_taking_0 3 rfl rfl)
theorem dX3_taking_5 : decode cX3_taking 5 = .ok (.iload 4, 2) := dk_21 4 (dk_at dksX3_taking_0 5 rfl rfl)
theorem dX3_taking_7 : decode cX3_taking 7 = .ok (.sipush 16900, 3) := dk_17 66 4 (dk_at dksX3_taking_0 7 rfl rfl)
theorem dX3_taking_10 : decode cX3_taking 10 = .ok (.if_icmp .ge 93, 3) := dk_162 0 93 (dk_at dksX3_taking_0 10 rfl rfl)
theorem dX3_taking_13 : decode cX3_taking 13 = .ok (.aload_n 0, 1) := dk_42 (dk_at dksX3_taking_0 13 rfl rfl)
theorem dX3_taking_14 : decode cX3_taking 14 = .ok (.getfield 22, 3) := dk_180 0 22 (dk_at dksX3_taking_0 14 rfl rfl)
theorem dX3_taking_17 : decode cX3_taking 17 = .ok (.iload 4, 2) := dk_21 4 (dk_at dksX3_taking_0 17 rfl rfl)
theorem dX3_taking_19 : decode cX3_taking 19 = .ok (.laload, 1) := dk_47 (dk_at dksX3_taking_0 19 rfl rfl)
theorem dX3_taking_20 : decode cX3_taking 20 = .ok (.lconst 0, 1) := dk_9 (dk_at dksX3_taking_0 20 rfl rfl)
theorem dX3_taking_21 : decode cX3_taking 21 = .ok (.lcmp, 1) := dk_148 (dk_at dksX3_taking_0 21 rfl rfl)
theorem dX3_taking_22 : decode cX3_taking 22 = .ok (.ifCond .ne 6, 3) := dk_154 0 6 (dk_at dksX3_taking_1 0 rfl rfl)
theorem dX3_taking_25 : decode cX3_taking 25 = .ok (.goto 72, 3) := dk_167 0 72 (dk_at dksX3_taking_1 3 rfl rfl)
theorem dX3_taking_28 : decode cX3_taking 28 = .ok (.aload_n 0, 1) := dk_42 (dk_at dksX3_taking_1 6 rfl rfl)
theorem dX3_taking_29 : decode cX3_taking 29 = .ok (.iload 4, 2) := dk_21 4 (dk_at dksX3_taking_1 7 rfl rfl)
theorem dX3_taking_31 : decode cX3_taking 31 = .ok (.iload_n 1, 1) := dk_27 (dk_at dksX3_taking_1 9 rfl rfl)
theorem dX3_taking_32 : decode cX3_taking 32 = .ok (.invokevirtual 211, 3) := dk_182 0 211 (dk_at dksX3_taking_1 10 rfl rfl)
theorem dX3_taking_35 : decode cX3_taking 35 = .ok (.lstore 5, 2) := dk_55 5 (dk_at dksX3_taking_1 13 rfl rfl)
theorem dX3_taking_37 : decode cX3_taking 37 = .ok (.lload_n 2, 1) := dk_32 (dk_at dksX3_taking_1 15 rfl rfl)
theorem dX3_taking_38 : decode cX3_taking 38 = .ok (.aload_n 0, 1) := dk_42 (dk_at dksX3_taking_1 16 rfl rfl)
theorem dX3_taking_39 : decode cX3_taking 39 = .ok (.getfield 12, 3) := dk_180 0 12 (dk_at dksX3_taking_1 17 rfl rfl)
theorem dX3_taking_42 : decode cX3_taking 42 = .ok (.invokevirtual 176, 3) := dk_182 0 176 (dk_at dksX3_taking_1 20 rfl rfl)
theorem dX3_taking_45 : decode cX3_taking 45 = .ok (.ifCond .ne 19, 3) := dk_154 0 19 (dk_at dksX3_taking_2 0 rfl rfl)
theorem dX3_taking_48 : decode cX3_taking 48 = .ok (.lload 5, 2) := dk_22 5 (dk_at dksX3_taking_2 3 rfl rfl)
theorem dX3_taking_50 : decode cX3_taking 50 = .ok (.aload_n 0, 1) := dk_42 (dk_at dksX3_taking_2 5 rfl rfl)
theorem dX3_taking_51 : decode cX3_taking 51 = .ok (.getfield 28, 3) := dk_180 0 28 (dk_at dksX3_taking_2 6 rfl rfl)
theorem dX3_taking_54 : decode cX3_taking 54 = .ok (.getfield 183, 3) := dk_180 0 183 (dk_at dksX3_taking_2 9 rfl rfl)
theorem dX3_taking_57 : decode cX3_taking 57 = .ok (.iconst 3, 1) := dk_6 (dk_at dksX3_taking_2 12 rfl rfl)
theorem dX3_taking_58 : decode cX3_taking 58 = .ok (.iaload, 1) := dk_46 (dk_at dksX3_taking_2 13 rfl rfl)
theorem dX3_taking_59 : decode cX3_taking 59 = .ok (.i2l, 1) := dk_133 (dk_at dksX3_taking_2 14 rfl rfl)
theorem dX3_taking_60 : decode cX3_taking 60 = .ok (.lmul, 1) := dk_105 (dk_at dksX3_taking_2 15 rfl rfl)
theorem dX3_taking_61 : decode cX3_taking 61 = .ok (.goto 34, 3) := dk_167 0 34 (dk_at dksX3_taking_2 16 rfl rfl)
theorem dX3_taking_64 : decode cX3_taking 64 = .ok (.lload 5, 2) := dk_22 5 (dk_at dksX3_taking_2 19 rfl rfl)
theorem dX3_taking_66 : decode cX3_taking 66 = .ok (.aload_n 0, 1) := dk_42 (dk_at dksX3_taking_2 21 rfl rfl)
theorem dX3_taking_67 : decode cX3_taking 67 = .ok (.getfield 12, 3) := dk_180 0 12 (dk_at dksX3_taking_3 0 rfl rfl)
theorem dX3_taking_70 : decode cX3_taking 70 = .ok (.getfield 190, 3) := dk_180 0 190 (dk_at dksX3_taking_3 3 rfl rfl)
theorem dX3_taking_73 : decode cX3_taking 73 = .ok (.i2l, 1) := dk_133 (dk_at dksX3_taking_3 6 rfl rfl)
theorem dX3_taking_74 : decode cX3_taking 74 = .ok (.lmul, 1) := dk_105 (dk_at dksX3_taking_3 7 rfl rfl)
theorem dX3_taking_75 : decode cX3_taking 75 = .ok (.aload_n 0, 1) := dk_42 (dk_at dksX3_taking_3 8 rfl rfl)
theorem dX3_taking_76 : decode cX3_taking 76 = .ok (.getfield 12, 3) := dk_180 0 12 (dk_at dksX3_taking_3 9 rfl rfl)
theorem dX3_taking_79 : decode cX3_taking 79 = .ok (.invokevirtual 176, 3) := dk_182 0 176 (dk_at dksX3_taking_3 12 rfl rfl)
theorem dX3_taking_82 : decode cX3_taking 82 = .ok (.i2l, 1) := dk_133 (dk_at dksX3_taking_3 15 rfl rfl)
theorem dX3_taking_83 : decode cX3_taking 83 = .ok (.ldiv, 1) := dk_109 (dk_at dksX3_taking_3 16 rfl rfl)
theorem dX3_taking_84 : decode cX3_taking 84 = .ok (.aload_n 0, 1) := dk_42 (dk_at dksX3_taking_3 17 rfl rfl)
theorem dX3_taking_85 : decode cX3_taking 85 = .ok (.getfield 28, 3) := dk_180 0 28 (dk_at dksX3_taking_3 18 rfl rfl)
theorem dX3_taking_88 : decode cX3_taking 88 = .ok (.getfield 183, 3) := dk_180 0 183 (dk_at dksX3_taking_3 21 rfl rfl)
theorem dX3_taking_91 : decode cX3_taking 91 = .ok (.iconst 0, 1) := dk_3 (dk_at dksX3_taking_4 0 rfl rfl)
theorem dX3_taking_92 : decode cX3_taking 92 = .ok (.iaload, 1) := dk_46 (dk_at dksX3_taking_4 1 rfl rfl)
theorem dX3_taking_93 : decode cX3_taking 93 = .ok (.i2l, 1) := dk_133 (dk_at dksX3_taking_4 2 rfl rfl)
theorem dX3_taking_94 : decode cX3_taking 94 = .ok (.lmul, 1) := dk_105 (dk_at dksX3_taking_4 3 rfl rfl)
theorem dX3_taking_95 : decode cX3_taking 95 = .ok (.ladd, 1) := dk_97 (dk_at dksX3_taking_4 4 rfl rfl)
theorem dX3_taking_96 : decode cX3_taking 96 = .ok (.lstore_n 2, 1) := dk_65 (dk_at dksX3_taking_4 5 rfl rfl)
theorem dX3_taking_97 : decode cX3_taking 97 = .ok (.iinc 4 1, 3) := dk_132 4 1 (dk_at dksX3_taking_4 6 rfl rfl)
theorem dX3_taking_100 : decode cX3_taking 100 = .ok (.goto (-95), 3) := dk_167 255 161 (dk_at dksX3_taking_4 9 rfl rfl)
theorem dX3_taking_103 : decode cX3_taking 103 = .ok (.lload_n 2, 1) := dk_32 (dk_at dksX3_taking_4 12 rfl rfl)
theorem dX3_taking_104 : decode cX3_taking 104 = .ok (.lreturn, 1) := dk_173 (dk_at dksX3_taking_4 13 rfl rfl)
abbrev cX3_partsOf : ByteArray := prog_6_method_21_code
def yX3_partsOf : MethodName := ⟨RX3, "partsOf", "(II)J"⟩
def dkwX3_partsOf_2 : List UInt8 := [33, 101, 173]
abbrev dktX3_partsOf_2 : List UInt8 := dkwX3_partsOf_2 ++ []
def dkwX3_partsOf_1 : List UInt8 := [42, 180, 0, 22, 27, 47, 167, 0, 20, 28, 4, 160, 0, 7, 33, 167, 0, 11, 42, 180, 0, 22, 27, 47]
abbrev dktX3_partsOf_1 : List UInt8 := dkwX3_partsOf_1 ++ dktX3_partsOf_2
def dkwX3_partsOf_0 : List UInt8 := [42, 42, 180, 0, 22, 27, 47, 42, 180, 0, 12, 27, 182, 0, 148, 182, 0, 207, 66, 28, 5, 160, 0, 12]
abbrev dktX3_partsOf_0 : List UInt8 := dkwX3_partsOf_0 ++ dktX3_partsOf_1
theorem dksX3_partsOf_0 : cX3_partsOf.data.toList.drop 0 = dktX3_partsOf_0 := by decide +kernel
theorem dksX3_partsOf_1 : cX3_partsOf.data.toList.drop 24 = dktX3_partsOf_1 := dk_seg dksX3_partsOf_0 24 rfl rfl
theorem dksX3_partsOf_2 : cX3_partsOf.data.toList.drop 48 = dktX3_partsOf_2 := dk_seg dksX3_partsOf_1 24 rfl rfl
theorem dX3_partsOf_0 : decode cX3_partsOf 0 = .ok (.aload_n 0, 1) := dk_42 (dk_at dksX3_partsOf_0 0 rfl rfl)
theorem dX3_partsOf_1 : decode cX3_partsOf 1 = .ok (.aload_n 0, 1) := dk_42 (dk_at dksX3_partsOf_0 1 rfl rfl)
theorem dX3_partsOf_2 : decode cX3_partsOf 2 = .ok (.getfield 22, 3) := dk_180 0 22 (dk_at dksX3_partsOf_0 2 rfl rfl)
theorem dX3_partsOf_5 : decode cX3_partsOf 5 = .ok (.iload_n 1, 1) := dk_27 (dk_at dksX3_partsOf_0 5 rfl rfl)
theorem dX3_partsOf_6 : decode cX3_partsOf 6 = .ok (.laload, 1) := dk_47 (dk_at dksX3_partsOf_0 6 rfl rfl)
theorem dX3_partsOf_7 : decode cX3_partsOf 7 = .ok (.aload_n 0, 1) := dk_42 (dk_at dksX3_partsOf_0 7 rfl rfl)
theorem dX3_partsOf_8 : decode cX3_partsOf 8 = .ok (.getfield 12, 3) := dk_180 0 12 (dk_at dksX3_partsOf_0 8 rfl rfl)
theorem dX3_partsOf_11 : decode cX3_partsOf 11 = .ok (.iload_n 1, 1) := dk_27 (dk_at dksX3_partsOf_0 11 rfl rfl)
theorem dX3_partsOf_12 : decode cX3_partsOf 12 = .ok (.invokevirtual 148, 3) := dk_182 0 148 (dk_at dksX3_partsOf_0 12 rfl rfl)
theorem dX3_partsOf_15 : decode cX3_partsOf 15 = .ok (.invokevirtual 207, 3) := dk_182 0 207 (dk_at dksX3_partsOf_0 15 rfl rfl)
theorem dX3_partsOf_18 : decode cX3_partsOf 18 = .ok (.lstore_n 3, 1) := dk_66 (dk_at dksX3_partsOf_0 18 rfl rfl)
theorem dX3_partsOf_19 : decode cX3_partsOf 19 = .ok (.iload_n 2, 1) := dk_28 (dk_at dksX3_partsOf_0 19 rfl rfl)
theorem dX3_partsOf_20 : decode cX3_partsOf 20 = .ok (.iconst 2, 1) := dk_5 (dk_at dksX3_partsOf_0 20 rfl rfl)
theorem dX3_partsOf_21 : decode cX3_partsOf 21 = .ok (.if_icmp .ne 12, 3) := dk_160 0 12 (dk_at dksX3_partsOf_0 21 rfl rfl)
theorem dX3_partsOf_24 : decode cX3_partsOf 24 = .ok (.aload_n 0, 1) := dk_42 (dk_at dksX3_partsOf_1 0 rfl rfl)
theorem dX3_partsOf_25 : decode cX3_partsOf 25 = .ok (.getfield 22, 3) := dk_180 0 22 (dk_at dksX3_partsOf_1 1 rfl rfl)
theorem dX3_partsOf_28 : decode cX3_partsOf 28 = .ok (.iload_n 1, 1) := dk_27 (dk_at dksX3_partsOf_1 4 rfl rfl)
theorem dX3_partsOf_29 : decode cX3_partsOf 29 = .ok (.laload, 1) := dk_47 (dk_at dksX3_partsOf_1 5 rfl rfl)
theorem dX3_partsOf_30 : decode cX3_partsOf 30 = .ok (.goto 20, 3) := dk_167 0 20 (dk_at dksX3_partsOf_1 6 rfl rfl)
theorem dX3_partsOf_33 : decode cX3_partsOf 33 = .ok (.iload_n 2, 1) := dk_28 (dk_at dksX3_partsOf_1 9 rfl rfl)
theorem dX3_partsOf_34 : decode cX3_partsOf 34 = .ok (.iconst 1, 1) := dk_4 (dk_at dksX3_partsOf_1 10 rfl rfl)
theorem dX3_partsOf_35 : decode cX3_partsOf 35 = .ok (.if_icmp .ne 7, 3) := dk_160 0 7 (dk_at dksX3_partsOf_1 11 rfl rfl)
theorem dX3_partsOf_38 : decode cX3_partsOf 38 = .ok (.lload_n 3, 1) := dk_33 (dk_at dksX3_partsOf_1 14 rfl rfl)
theorem dX3_partsOf_39 : decode cX3_partsOf 39 = .ok (.goto 11, 3) := dk_167 0 11 (dk_at dksX3_partsOf_1 15 rfl rfl)
theorem dX3_partsOf_42 : decode cX3_partsOf 42 = .ok (.aload_n 0, 1) := dk_42 (dk_at dksX3_partsOf_1 18 rfl rfl)
theorem dX3_partsOf_43 : decode cX3_partsOf 43 = .ok (.getfield 22, 3) := dk_180 0 22 (dk_at dksX3_partsOf_1 19 rfl rfl)
theorem dX3_partsOf_46 : decode cX3_partsOf 46 = .ok (.iload_n 1, 1) := dk_27 (dk_at dksX3_partsOf_1 22 rfl rfl)
theorem dX3_partsOf_47 : decode cX3_partsOf 47 = .ok (.laload, 1) := dk_47 (dk_at dksX3_partsOf_1 23 rfl rfl)
theorem dX3_partsOf_48 : decode cX3_partsOf 48 = .ok (.lload_n 3, 1) := dk_33 (dk_at dksX3_partsOf_2 0 rfl rfl)
theorem dX3_partsOf_49 : decode cX3_partsOf 49 = .ok (.lsub, 1) := dk_101 (dk_at dksX3_partsOf_2 1 rfl rfl)
theorem dX3_partsOf_50 : decode cX3_partsOf 50 = .ok (.lreturn, 1) := dk_173 (dk_at dksX3_partsOf_2 2 rfl rfl)
abbrev cX3_seeing : ByteArray := prog_6_method_20_code
def yX3_seeing : MethodName := ⟨RX3, "seeing", "(JLCardCups$State;)J"⟩
def dkwX3_seeing_0 : List UInt8 := [45, 180, 0, 190, 154, 0, 7, 9, 167, 0, 14, 31, 42, 180, 0, 42, 133, 105, 20, 0, 143, 109, 173]
abbrev dktX3_seeing_0 : List UInt8 := dkwX3_seeing_0 ++ []
theorem dksX3_seeing_0 : cX3_seeing.data.toList.drop 0 = dktX3_seeing_0 := by decide +kernel
theorem dX3_seeing_0 : decode cX3_seeing 0 = .ok (.aload_n 3, 1) := dk_45 (dk_at dksX3_seeing_0 0 rfl rfl)
theorem dX3_seeing_1 : decode cX3_seeing 1 = .ok (.getfield 190, 3) := dk_180 0 190 (dk_at dksX3_seeing_0 1 rfl rfl)
theorem dX3_seeing_4 : decode cX3_seeing 4 = .ok (.ifCond .ne 7, 3) := dk_154 0 7 (dk_at dksX3_seeing_0 4 rfl rfl)
theorem dX3_seeing_7 : decode cX3_seeing 7 = .ok (.lconst 0, 1) := dk_9 (dk_at dksX3_seeing_0 7 rfl rfl)
theorem dX3_seeing_8 : decode cX3_seeing 8 = .ok (.goto 14, 3) := dk_167 0 14 (dk_at dksX3_seeing_0 8 rfl rfl)
theorem dX3_seeing_11 : decode cX3_seeing 11 = .ok (.lload_n 1, 1) := dk_31 (dk_at dksX3_seeing_0 11 rfl rfl)
theorem dX3_seeing_12 : decode cX3_seeing 12 = .ok (.aload_n 0, 1) := dk_42 (dk_at dksX3_seeing_0 12 rfl rfl)
theorem dX3_seeing_13 : decode cX3_seeing 13 = .ok (.getfield 42, 3) := dk_180 0 42 (dk_at dksX3_seeing_0 13 rfl rfl)
theorem dX3_seeing_16 : decode cX3_seeing 16 = .ok (.i2l, 1) := dk_133 (dk_at dksX3_seeing_0 16 rfl rfl)
theorem dX3_seeing_17 : decode cX3_seeing 17 = .ok (.lmul, 1) := dk_105 (dk_at dksX3_seeing_0 17 rfl rfl)
theorem dX3_seeing_18 : decode cX3_seeing 18 = .ok (.ldc2_w 143, 3) := dk_20 0 143 (dk_at dksX3_seeing_0 18 rfl rfl)
theorem dX3_seeing_21 : decode cX3_seeing 21 = .ok (.ldiv, 1) := dk_109 (dk_at dksX3_seeing_0 21 rfl rfl)
theorem dX3_seeing_22 : decode cX3_seeing 22 = .ok (.lreturn, 1) := dk_173 (dk_at dksX3_seeing_0 22 rfl rfl)
abbrev cX3_owning : ByteArray := prog_6_method_23_code
def yX3_owning : MethodName := ⟨RX3, "owning", "(I)J"⟩
def dkwX3_owning_2 : List UInt8 := [132, 4, 1, 167, 255, 212, 32, 173]
abbrev dktX3_owning_2 : List UInt8 := dkwX3_owning_2 ++ []
def dkwX3_owning_1 : List UInt8 := [153, 0, 24, 32, 42, 21, 4, 27, 182, 0, 211, 42, 180, 0, 28, 180, 0, 183, 6, 46, 133, 105, 97, 65]
abbrev dktX3_owning_1 : List UInt8 := dkwX3_owning_1 ++ dktX3_owning_2
def dkwX3_owning_0 : List UInt8 := [9, 65, 3, 54, 4, 21, 4, 17, 66, 4, 162, 0, 42, 42, 180, 0, 22, 21, 4, 47, 9, 148]
abbrev dktX3_owning_0 : List UInt8 := dkwX3_owning_0 ++ dktX3_owning_1
theorem dksX3_owning_0 : cX3_owning.data.toList.drop 0 = dktX3_owning_0 := by decide +kernel
theorem dksX3_owning_1 : cX3_owning.data.toList.drop 22 = dktX3_owning_1 := dk_seg dksX3_owning_0 22 rfl rfl
theorem dksX3_owning_2 : cX3_owning.data.toList.drop 46 = dktX3_owning_2 := dk_seg dksX3_owning_1 24 rfl rfl
theorem dX3_owning_0 : decode cX3_owning 0 = .ok (.lconst 0, 1) := dk_9 (dk_at dksX3_owning_0 0 rfl rfl)
theorem dX3_owning_1 : decode cX3_owning 1 = .ok (.lstore_n 2, 1) := dk_65 (dk_at dksX3_owning_0 1 rfl rfl)
theorem dX3_owning_2 : decode cX3_owning 2 = .ok (.iconst 0, 1) := dk_3 (dk_at dksX3_owning_0 2 rfl rfl)
theorem dX3_owning_3 : decode cX3_owning 3 = .ok (.istore 4, 2) := dk_54 4 (dk_at dksX3_owning_0 3 rfl rfl)
theorem dX3_owning_5 : decode cX3_owning 5 = .ok (.iload 4, 2) := dk_21 4 (dk_at dksX3_owning_0 5 rfl rfl)
theorem dX3_owning_7 : decode cX3_owning 7 = .ok (.sipush 16900, 3) := dk_17 66 4 (dk_at dksX3_owning_0 7 rfl rfl)
theorem dX3_owning_10 : decode cX3_owning 10 = .ok (.if_icmp .ge 42, 3) := dk_162 0 42 (dk_at dksX3_owning_0 10 rfl rfl)
theorem dX3_owning_13 : decode cX3_owning 13 = .ok (.aload_n 0, 1) := dk_42 (dk_at dksX3_owning_0 13 rfl rfl)
theorem dX3_owning_14 : decode cX3_owning 14 = .ok (.getfield 22, 3) := dk_180 0 22 (dk_at dksX3_owning_0 14 rfl rfl)
theorem dX3_owning_17 : decode cX3_owning 17 = .ok (.iload 4, 2) := dk_21 4 (dk_at dksX3_owning_0 17 rfl rfl)
theorem dX3_owning_19 : decode cX3_owning 19 = .ok (.laload, 1) := dk_47 (dk_at dksX3_owning_0 19 rfl rfl)
theorem dX3_owning_20 : decode cX3_owning 20 = .ok (.lconst 0, 1) := dk_9 (dk_at dksX3_owning_0 20 rfl rfl)
theorem dX3_owning_21 : decode cX3_owning 21 = .ok (.lcmp, 1) := dk_148 (dk_at dksX3_owning_0 21 rfl rfl)
theorem dX3_owning_22 : decode cX3_owning 22 = .ok (.ifCond .eq 24, 3) := dk_153 0 24 (dk_at dksX3_owning_1 0 rfl rfl)
theorem dX3_owning_25 : decode cX3_owning 25 = .ok (.lload_n 2, 1) := dk_32 (dk_at dksX3_owning_1 3 rfl rfl)
theorem dX3_owning_26 : decode cX3_owning 26 = .ok (.aload_n 0, 1) := dk_42 (dk_at dksX3_owning_1 4 rfl rfl)
theorem dX3_owning_27 : decode cX3_owning 27 = .ok (.iload 4, 2) := dk_21 4 (dk_at dksX3_owning_1 5 rfl rfl)
theorem dX3_owning_29 : decode cX3_owning 29 = .ok (.iload_n 1, 1) := dk_27 (dk_at dksX3_owning_1 7 rfl rfl)
theorem dX3_owning_30 : decode cX3_owning 30 = .ok (.invokevirtual 211, 3) := dk_182 0 211 (dk_at dksX3_owning_1 8 rfl rfl)
theorem dX3_owning_33 : decode cX3_owning 33 = .ok (.aload_n 0, 1) := dk_42 (dk_at dksX3_owning_1 11 rfl rfl)
theorem dX3_owning_34 : decode cX3_owning 34 = .ok (.getfield 28, 3) := dk_180 0 28 (dk_at dksX3_owning_1 12 rfl rfl)
theorem dX3_owning_37 : decode cX3_owning 37 = .ok (.getfield 183, 3) := dk_180 0 183 (dk_at dksX3_owning_1 15 rfl rfl)
theorem dX3_owning_40 : decode cX3_owning 40 = .ok (.iconst 3, 1) := dk_6 (dk_at dksX3_owning_1 18 rfl rfl)
theorem dX3_owning_41 : decode cX3_owning 41 = .ok (.iaload, 1) := dk_46 (dk_at dksX3_owning_1 19 rfl rfl)
theorem dX3_owning_42 : decode cX3_owning 42 = .ok (.i2l, 1) := dk_133 (dk_at dksX3_owning_1 20 rfl rfl)
theorem dX3_owning_43 : decode cX3_owning 43 = .ok (.lmul, 1) := dk_105 (dk_at dksX3_owning_1 21 rfl rfl)
theorem dX3_owning_44 : decode cX3_owning 44 = .ok (.ladd, 1) := dk_97 (dk_at dksX3_owning_1 22 rfl rfl)
theorem dX3_owning_45 : decode cX3_owning 45 = .ok (.lstore_n 2, 1) := dk_65 (dk_at dksX3_owning_1 23 rfl rfl)
theorem dX3_owning_46 : decode cX3_owning 46 = .ok (.iinc 4 1, 3) := dk_132 4 1 (dk_at dksX3_owning_2 0 rfl rfl)
theorem dX3_owning_49 : decode cX3_owning 49 = .ok (.goto (-44), 3) := dk_167 255 212 (dk_at dksX3_owning_2 3 rfl rfl)
theorem dX3_owning_52 : decode cX3_owning 52 = .ok (.lload_n 2, 1) := dk_32 (dk_at dksX3_owning_2 6 rfl rfl)
theorem dX3_owning_53 : decode cX3_owning 53 = .ok (.lreturn, 1) := dk_173 (dk_at dksX3_owning_2 7 rfl rfl)
theorem q110 : (Jvm.Cond.initialized "CardCups$Flow") ∈ lw_all := lw_g (lw_at lw_m1 3 rfl) rfl
theorem q160 : (Jvm.Cond.fieldLinkNest "CardCups$Flow" (73 : Nat) "CardCups$Calendar" "who" "[I" "CardCups") ∈ lw_tbl := lw_at lw_m1 53 rfl
theorem q185 : (Jvm.Cond.instantiable "CardCups$Flow" (11 : Nat)) ∈ lw_all := lw_g (lw_at lw_m1 78 rfl) rfl
theorem q187 : (Jvm.Cond.instanceMethod ({ cls := "CardCups$Flow", name := "<init>", desc := "()V" } : Jvm.MethodName)) ∈ lw_all := lw_g (lw_at lw_m1 80 rfl) rfl
theorem q188 : (Jvm.Cond.code ({ cls := "CardCups$Flow", name := "<init>", desc := "()V" } : Jvm.MethodName) prog_6_method_1_code (1 : Nat) (Option.none : Option Jvm.ClassFile.FieldType)) ∈ lw_all := lw_g (lw_at lw_m1 81 rfl) rfl
theorem q189 : (Jvm.Cond.methodLink "CardCups$Flow" (3 : Nat) ({ cls := "java/lang/Object", name := "<init>", desc := "()V" } : Jvm.MethodName)) ∈ lw_all := lw_g (lw_at lw_m1 82 rfl) rfl
theorem q190 : (Jvm.Cond.classLink "CardCups$Flow" (9 : Nat) "CardCups$State") ∈ lw_all := lw_g (lw_at lw_m1 83 rfl) rfl
theorem q192 : (Jvm.Cond.methodLinkNest "CardCups$Flow" (11 : Nat) ({ cls := "CardCups$State", name := "<init>", desc := "()V" } : Jvm.MethodName) "CardCups") ∈ lw_tbl := lw_at lw_m1 85 rfl
theorem q203 : (Jvm.Cond.fieldLinkNest "CardCups$Flow" (206 : Nat) "CardCups$State" "clean" "I" "CardCups") ∈ lw_tbl := lw_at lw_m1 96 rfl
theorem q210 : (Jvm.Cond.fieldLinkNest "CardCups$Flow" (190 : Nat) "CardCups$State" "dirty" "I" "CardCups") ∈ lw_tbl := lw_at lw_m1 103 rfl
theorem q217 : (Jvm.Cond.fieldLinkNest "CardCups$Flow" (198 : Nat) "CardCups$State" "card" "I" "CardCups") ∈ lw_tbl := lw_at lw_m1 110 rfl
theorem q224 : (Jvm.Cond.fieldLinkNest "CardCups$Flow" (173 : Nat) "CardCups$State" "seen" "I" "CardCups") ∈ lw_tbl := lw_at lw_m1 117 rfl
theorem q236 : (Jvm.Cond.fieldLink "CardCups$Flow" (12 : Nat) "CardCups$Flow" "state" "LCardCups$State;") ∈ lw_all := lw_g (lw_at lw_m1 129 rfl) rfl
theorem q237 : (Jvm.Cond.fieldLink "CardCups$Flow" (18 : Nat) "CardCups$Flow" "drunk" "[J") ∈ lw_all := lw_g (lw_at lw_m1 130 rfl) rfl
theorem q239 : (Jvm.Cond.fieldLink "CardCups$Flow" (22 : Nat) "CardCups$Flow" "now" "[J") ∈ lw_all := lw_g (lw_at lw_m1 132 rfl) rfl
theorem q240 : (Jvm.Cond.fieldLink "CardCups$Flow" (25 : Nat) "CardCups$Flow" "next" "[J") ∈ lw_all := lw_g (lw_at lw_m1 133 rfl) rfl
theorem q241 : (Jvm.Cond.fieldLink "CardCups$Flow" (28 : Nat) "CardCups$Flow" "office" "LCardCups$Office;") ∈ lw_all := lw_g (lw_at lw_m1 134 rfl) rfl
theorem q243 : (Jvm.Cond.fieldLink "CardCups$Flow" (32 : Nat) "CardCups$Flow" "calendar" "LCardCups$Calendar;") ∈ lw_all := lw_g (lw_at lw_m1 136 rfl) rfl
theorem q245 : (Jvm.Cond.fieldLink "CardCups$Flow" (43 : Nat) "CardCups$Flow" "washed" "J") ∈ lw_all := lw_g (lw_at lw_m1 138 rfl) rfl
theorem q247 : (Jvm.Cond.fieldLink "CardCups$Flow" (47 : Nat) "CardCups$Flow" "looks" "J") ∈ lw_all := lw_g (lw_at lw_m1 140 rfl) rfl
theorem q251 : (Jvm.Cond.fieldLink "CardCups$Flow" (67 : Nat) "CardCups$Flow" "visit" "I") ∈ lw_all := lw_g (lw_at lw_m1 144 rfl) rfl
theorem q253 : (Jvm.Cond.fieldLink "CardCups$Flow" (42 : Nat) "CardCups$Flow" "see" "I") ∈ lw_all := lw_g (lw_at lw_m1 146 rfl) rfl
theorem q254 : (Jvm.Cond.fieldLink "CardCups$Flow" (79 : Nat) "CardCups$Flow" "who" "I") ∈ lw_all := lw_g (lw_at lw_m1 147 rfl) rfl
theorem q255 : (Jvm.Cond.laysFinal "CardCups$Flow" "CardCups$Flow" "state" "LCardCups$State;") ∈ lw_all := lw_g (lw_at lw_m1 148 rfl) rfl
theorem q256 : (Jvm.Cond.soleField "CardCups$Flow" "state") ∈ lw_all := lw_g (lw_at lw_m1 149 rfl) rfl
theorem q257 : (Jvm.Cond.laysFinal "CardCups$Flow" "CardCups$Flow" "drunk" "[J") ∈ lw_all := lw_g (lw_at lw_m1 150 rfl) rfl
theorem q258 : (Jvm.Cond.soleField "CardCups$Flow" "drunk") ∈ lw_all := lw_g (lw_at lw_m1 151 rfl) rfl
theorem q259 : (Jvm.Cond.lays "CardCups$Flow" "CardCups$Flow" "now" "[J") ∈ lw_all := lw_g (lw_at lw_m1 152 rfl) rfl
theorem q260 : (Jvm.Cond.soleField "CardCups$Flow" "now") ∈ lw_all := lw_g (lw_at lw_m1 153 rfl) rfl
theorem q261 : (Jvm.Cond.lays "CardCups$Flow" "CardCups$Flow" "next" "[J") ∈ lw_all := lw_g (lw_at lw_m1 154 rfl) rfl
theorem q262 : (Jvm.Cond.soleField "CardCups$Flow" "next") ∈ lw_all := lw_g (lw_at lw_m1 155 rfl) rfl
theorem q263 : (Jvm.Cond.lays "CardCups$Flow" "CardCups$Flow" "office" "LCardCups$Office;") ∈ lw_all := lw_g (lw_at lw_m1 156 rfl) rfl
theorem q264 : (Jvm.Cond.soleField "CardCups$Flow" "office") ∈ lw_all := lw_g (lw_at lw_m1 157 rfl) rfl
theorem q265 : (Jvm.Cond.lays "CardCups$Flow" "CardCups$Flow" "calendar" "LCardCups$Calendar;") ∈ lw_all := lw_g (lw_at lw_m1 158 rfl) rfl
theorem q266 : (Jvm.Cond.soleField "CardCups$Flow" "calendar") ∈ lw_all := lw_g (lw_at lw_m1 159 rfl) rfl
theorem q267 : (Jvm.Cond.lays "CardCups$Flow" "CardCups$Flow" "washed" "J") ∈ lw_all := lw_g (lw_at lw_m1 160 rfl) rfl
theorem q268 : (Jvm.Cond.soleField "CardCups$Flow" "washed") ∈ lw_all := lw_g (lw_at lw_m1 161 rfl) rfl
theorem q269 : (Jvm.Cond.lays "CardCups$Flow" "CardCups$Flow" "looks" "J") ∈ lw_all := lw_g (lw_at lw_m1 162 rfl) rfl
theorem q270 : (Jvm.Cond.soleField "CardCups$Flow" "looks") ∈ lw_all := lw_g (lw_at lw_m1 163 rfl) rfl
theorem q271 : (Jvm.Cond.lays "CardCups$Flow" "CardCups$Flow" "visit" "I") ∈ lw_all := lw_g (lw_at lw_m1 164 rfl) rfl
theorem q272 : (Jvm.Cond.soleField "CardCups$Flow" "visit") ∈ lw_all := lw_g (lw_at lw_m1 165 rfl) rfl
theorem q273 : (Jvm.Cond.lays "CardCups$Flow" "CardCups$Flow" "see" "I") ∈ lw_all := lw_g (lw_at lw_m1 166 rfl) rfl
theorem q274 : (Jvm.Cond.soleField "CardCups$Flow" "see") ∈ lw_all := lw_g (lw_at lw_m1 167 rfl) rfl
theorem q275 : (Jvm.Cond.lays "CardCups$Flow" "CardCups$Flow" "who" "I") ∈ lw_all := lw_g (lw_at lw_m1 168 rfl) rfl
theorem q276 : (Jvm.Cond.soleField "CardCups$Flow" "who") ∈ lw_all := lw_g (lw_at lw_m1 169 rfl) rfl
theorem q277 : (Jvm.Cond.superclass "CardCups$Flow" "java/lang/Object") ∈ lw_all := lw_g (lw_at lw_m1 170 rfl) rfl
theorem q333 : (Jvm.Cond.fieldLinkNest "CardCups$Flow" (108 : Nat) "CardCups$How" "habits" "[LCardCups$Habit;" "CardCups") ∈ lw_tbl := lw_at lw_m1 226 rfl
theorem q335 : (Jvm.Cond.fieldLinkNest "CardCups$Flow" (96 : Nat) "CardCups$How" "book" "LCardCups$Book;" "CardCups") ∈ lw_tbl := lw_at lw_m1 228 rfl
theorem q337 : (Jvm.Cond.fieldLinkNest "CardCups$Flow" (70 : Nat) "CardCups$How" "to" "I" "CardCups") ∈ lw_tbl := lw_at lw_m1 230 rfl
theorem q339 : (Jvm.Cond.fieldLinkNest "CardCups$Flow" (81 : Nat) "CardCups$How" "without" "I" "CardCups") ∈ lw_tbl := lw_at lw_m1 232 rfl
theorem q341 : (Jvm.Cond.fieldLinkNest "CardCups$Flow" (89 : Nat) "CardCups$How" "fall" "I" "CardCups") ∈ lw_tbl := lw_at lw_m1 234 rfl
theorem q343 : (Jvm.Cond.fieldLinkNest "CardCups$Flow" (36 : Nat) "CardCups$How" "see" "I" "CardCups") ∈ lw_tbl := lw_at lw_m1 236 rfl
theorem q347 : (Jvm.Cond.fieldLinkNest "CardCups$Flow" (124 : Nat) "CardCups$How" "starter" "I" "CardCups") ∈ lw_tbl := lw_at lw_m2 0 rfl
theorem q350 : (Jvm.Cond.fieldLinkNest "CardCups$Flow" (104 : Nat) "CardCups$How" "isBegun" "Z" "CardCups") ∈ lw_tbl := lw_at lw_m2 3 rfl
theorem q376 : (Jvm.Cond.fieldLinkNest "CardCups$Flow" (183 : Nat) "CardCups$Office" "price" "[I" "CardCups") ∈ lw_tbl := lw_at lw_m2 29 rfl
theorem q383 : (Jvm.Cond.fieldLinkNest "CardCups$Flow" (199 : Nat) "CardCups$Office" "cups" "I" "CardCups") ∈ lw_tbl := lw_at lw_m2 36 rfl
theorem q384 : (Jvm.Cond.fieldLinkNest "CardCups$Flow" (50 : Nat) "CardCups$Office" "clean" "I" "CardCups") ∈ lw_tbl := lw_at lw_m2 37 rfl
theorem q388 : (Jvm.Cond.fieldLinkNest "CardCups$Flow" (55 : Nat) "CardCups$Office" "dirty" "I" "CardCups") ∈ lw_tbl := lw_at lw_m2 41 rfl
theorem q392 : (Jvm.Cond.fieldLinkNest "CardCups$Flow" (58 : Nat) "CardCups$Office" "card" "I" "CardCups") ∈ lw_tbl := lw_at lw_m2 45 rfl
theorem q537 : (Jvm.Cond.instanceMethod ({ cls := "CardCups$Flow", name := "runs", desc := "(LCardCups$Office;LCardCups$Calendar;LCardCups$How;)V" } : Jvm.MethodName)) ∈ lw_all := lw_g (lw_at lw_m2 190 rfl) rfl
theorem q538 : (Jvm.Cond.selects "CardCups$Flow" ({ cls := "CardCups$Flow", name := "runs", desc := "(LCardCups$Office;LCardCups$Calendar;LCardCups$How;)V" } : Jvm.MethodName) ({ cls := "CardCups$Flow", name := "runs", desc := "(LCardCups$Office;LCardCups$Calendar;LCardCups$How;)V" } : Jvm.MethodName)) ∈ lw_all := lw_g (lw_at lw_m2 191 rfl) rfl
theorem q539 : (Jvm.Cond.code ({ cls := "CardCups$Flow", name := "runs", desc := "(LCardCups$Office;LCardCups$Calendar;LCardCups$How;)V" } : Jvm.MethodName) prog_6_method_2_code (7 : Nat) (Option.none : Option Jvm.ClassFile.FieldType)) ∈ lw_all := lw_g (lw_at lw_m2 192 rfl) rfl
theorem q540 : (Jvm.Cond.methodLink "CardCups$Flow" (61 : Nat) ({ cls := "CardCups$State", name := "codeOf", desc := "(IIIII)I" } : Jvm.MethodName)) ∈ lw_all := lw_g (lw_at lw_m2 193 rfl) rfl
theorem q543 : (Jvm.Cond.constantLong "CardCups$Flow" (65 : Nat) (1099511627776 : Int64)) ∈ lw_all := lw_g (lw_at lw_m2 196 rfl) rfl
theorem q544 : (Jvm.Cond.classLink "CardCups$Flow" (84 : Nat) "CardCups$Sight") ∈ lw_all := lw_g (lw_at lw_m2 197 rfl) rfl
theorem q546 : (Jvm.Cond.methodLink "CardCups$Flow" (86 : Nat) ({ cls := "CardCups$Sight", name := "<init>", desc := "(LCardCups$Office;LCardCups$Calendar;I)V" } : Jvm.MethodName)) ∈ lw_all := lw_g (lw_at lw_m2 199 rfl) rfl
theorem q578 : (Jvm.Cond.methodLink "CardCups$Flow" (92 : Nat) ({ cls := "CardCups$Flow", name := "falls", desc := "(I)V" } : Jvm.MethodName)) ∈ lw_all := lw_g (lw_at lw_m2 231 rfl) rfl
theorem q579 : (Jvm.Cond.privateMethod ({ cls := "CardCups$Flow", name := "falls", desc := "(I)V" } : Jvm.MethodName)) ∈ lw_tbl := lw_at lw_m2 232 rfl
theorem q580 : (Jvm.Cond.instanceMethod ({ cls := "CardCups$Flow", name := "falls", desc := "(I)V" } : Jvm.MethodName)) ∈ lw_all := lw_g (lw_at lw_m2 233 rfl) rfl
theorem q581 : (Jvm.Cond.code ({ cls := "CardCups$Flow", name := "falls", desc := "(I)V" } : Jvm.MethodName) prog_6_method_8_code (5 : Nat) (Option.none : Option Jvm.ClassFile.FieldType)) ∈ lw_all := lw_g (lw_at lw_m2 234 rfl) rfl
theorem q582 : (Jvm.Cond.methodLink "CardCups$Flow" (134 : Nat) ({ cls := "CardCups$Flow", name := "last", desc := "()I" } : Jvm.MethodName)) ∈ lw_all := lw_g (lw_at lw_m2 235 rfl) rfl
theorem q583 : (Jvm.Cond.privateMethod ({ cls := "CardCups$Flow", name := "last", desc := "()I" } : Jvm.MethodName)) ∈ lw_tbl := lw_at lw_m2 236 rfl
theorem q584 : (Jvm.Cond.instanceMethod ({ cls := "CardCups$Flow", name := "last", desc := "()I" } : Jvm.MethodName)) ∈ lw_all := lw_g (lw_at lw_m2 237 rfl) rfl
theorem q585 : (Jvm.Cond.code ({ cls := "CardCups$Flow", name := "last", desc := "()I" } : Jvm.MethodName) prog_6_method_7_code (1 : Nat) (Option.some Jvm.ClassFile.FieldType.int)) ∈ lw_all := lw_g (lw_at lw_m2 238 rfl) rfl
theorem q586 : (Jvm.Cond.methodLink "CardCups$Flow" (137 : Nat) ({ cls := "java/lang/Math", name := "min", desc := "(II)I" } : Jvm.MethodName)) ∈ lw_all := lw_g (lw_at lw_m2 239 rfl) rfl
theorem q589 : (Jvm.Cond.constantLong "CardCups$Flow" (143 : Nat) (16 : Int64)) ∈ lw_all := lw_g (lw_at lw_m3 2 rfl) rfl
theorem q590 : (Jvm.Cond.methodLink "CardCups$Flow" (145 : Nat) ({ cls := "CardCups$Flow", name := "turns", desc := "()V" } : Jvm.MethodName)) ∈ lw_all := lw_g (lw_at lw_m3 3 rfl) rfl
theorem q591 : (Jvm.Cond.privateMethod ({ cls := "CardCups$Flow", name := "turns", desc := "()V" } : Jvm.MethodName)) ∈ lw_tbl := lw_at lw_m3 4 rfl
theorem q592 : (Jvm.Cond.instanceMethod ({ cls := "CardCups$Flow", name := "turns", desc := "()V" } : Jvm.MethodName)) ∈ lw_all := lw_g (lw_at lw_m3 5 rfl) rfl
theorem q593 : (Jvm.Cond.code ({ cls := "CardCups$Flow", name := "turns", desc := "()V" } : Jvm.MethodName) prog_6_method_6_code (3 : Nat) (Option.none : Option Jvm.ClassFile.FieldType)) ∈ lw_all := lw_g (lw_at lw_m3 6 rfl) rfl
theorem q594 : (Jvm.Cond.methodLink "CardCups$Flow" (100 : Nat) ({ cls := "CardCups$Flow", name := "only", desc := "(LCardCups$Book;LCardCups$Sight;)V" } : Jvm.MethodName)) ∈ lw_all := lw_g (lw_at lw_m3 7 rfl) rfl
theorem q595 : (Jvm.Cond.privateMethod ({ cls := "CardCups$Flow", name := "only", desc := "(LCardCups$Book;LCardCups$Sight;)V" } : Jvm.MethodName)) ∈ lw_tbl := lw_at lw_m3 8 rfl
theorem q596 : (Jvm.Cond.instanceMethod ({ cls := "CardCups$Flow", name := "only", desc := "(LCardCups$Book;LCardCups$Sight;)V" } : Jvm.MethodName)) ∈ lw_all := lw_g (lw_at lw_m3 9 rfl) rfl
theorem q597 : (Jvm.Cond.code ({ cls := "CardCups$Flow", name := "only", desc := "(LCardCups$Book;LCardCups$Sight;)V" } : Jvm.MethodName) prog_6_method_9_code (4 : Nat) (Option.none : Option Jvm.ClassFile.FieldType)) ∈ lw_all := lw_g (lw_at lw_m3 10 rfl) rfl
theorem q598 : (Jvm.Cond.methodLink "CardCups$Flow" (148 : Nat) ({ cls := "CardCups$State", name := "of", desc := "(I)LCardCups$State;" } : Jvm.MethodName)) ∈ lw_all := lw_g (lw_at lw_m3 11 rfl) rfl
theorem q602 : (Jvm.Cond.methodLink "CardCups$Flow" (152 : Nat) ({ cls := "CardCups$Sight", name := "at", desc := "(LCardCups$State;)LCardCups$Sight;" } : Jvm.MethodName)) ∈ lw_all := lw_g (lw_at lw_m3 15 rfl) rfl
theorem q606 : (Jvm.Cond.methodLink "CardCups$Flow" (156 : Nat) ({ cls := "CardCups$Book", name := "isSo", desc := "(LCardCups$Sight;)Z" } : Jvm.MethodName)) ∈ lw_all := lw_g (lw_at lw_m3 19 rfl) rfl
theorem q622 : (Jvm.Cond.methodLink "CardCups$Flow" (121 : Nat) ({ cls := "CardCups$Flow", name := "steps", desc := "(LCardCups$Step;LCardCups$Sight;)V" } : Jvm.MethodName)) ∈ lw_all := lw_g (lw_at lw_m3 35 rfl) rfl
theorem q623 : (Jvm.Cond.privateMethod ({ cls := "CardCups$Flow", name := "steps", desc := "(LCardCups$Step;LCardCups$Sight;)V" } : Jvm.MethodName)) ∈ lw_tbl := lw_at lw_m3 36 rfl
theorem q624 : (Jvm.Cond.instanceMethod ({ cls := "CardCups$Flow", name := "steps", desc := "(LCardCups$Step;LCardCups$Sight;)V" } : Jvm.MethodName)) ∈ lw_all := lw_g (lw_at lw_m3 37 rfl) rfl
theorem q625 : (Jvm.Cond.code ({ cls := "CardCups$Flow", name := "steps", desc := "(LCardCups$Step;LCardCups$Sight;)V" } : Jvm.MethodName) prog_6_method_10_code (6 : Nat) (Option.none : Option Jvm.ClassFile.FieldType)) ∈ lw_all := lw_g (lw_at lw_m3 38 rfl) rfl
theorem q626 : (Jvm.Cond.methodLink "CardCups$Flow" (162 : Nat) ({ cls := "CardCups$Step", name := "isSo", desc := "(LCardCups$Sight;)Z" } : Jvm.MethodName)) ∈ lw_all := lw_g (lw_at lw_m3 39 rfl) rfl
theorem q669 : (Jvm.Cond.methodLink "CardCups$Flow" (165 : Nat) ({ cls := "CardCups$Step", name := "doing", desc := "(J)J" } : Jvm.MethodName)) ∈ lw_all := lw_g (lw_at lw_m3 82 rfl) rfl
theorem q680 : (Jvm.Cond.methodLink "CardCups$Flow" (169 : Nat) ({ cls := "CardCups$Step", name := "flows", desc := "(LCardCups$Flow;LCardCups$State;J)V" } : Jvm.MethodName)) ∈ lw_all := lw_g (lw_at lw_m3 93 rfl) rfl
theorem q690 : (Jvm.Cond.instanceMethod ({ cls := "CardCups$Flow", name := "adds", desc := "(LCardCups$State;J)V" } : Jvm.MethodName)) ∈ lw_all := lw_g (lw_at lw_m3 103 rfl) rfl
theorem q691 : (Jvm.Cond.selects "CardCups$Flow" ({ cls := "CardCups$Flow", name := "adds", desc := "(LCardCups$State;J)V" } : Jvm.MethodName) ({ cls := "CardCups$Flow", name := "adds", desc := "(LCardCups$State;J)V" } : Jvm.MethodName)) ∈ lw_all := lw_g (lw_at lw_m3 104 rfl) rfl
theorem q692 : (Jvm.Cond.code ({ cls := "CardCups$Flow", name := "adds", desc := "(LCardCups$State;J)V" } : Jvm.MethodName) prog_6_method_4_code (4 : Nat) (Option.none : Option Jvm.ClassFile.FieldType)) ∈ lw_all := lw_g (lw_at lw_m3 105 rfl) rfl
theorem q693 : (Jvm.Cond.methodLink "CardCups$Flow" (130 : Nat) ({ cls := "CardCups$State", name := "code", desc := "()I" } : Jvm.MethodName)) ∈ lw_all := lw_g (lw_at lw_m3 106 rfl) rfl
theorem q726 : (Jvm.Cond.instanceMethod ({ cls := "CardCups$Flow", name := "drinks", desc := "(J)V" } : Jvm.MethodName)) ∈ lw_all := lw_g (lw_at lw_m3 139 rfl) rfl
theorem q727 : (Jvm.Cond.selects "CardCups$Flow" ({ cls := "CardCups$Flow", name := "drinks", desc := "(J)V" } : Jvm.MethodName) ({ cls := "CardCups$Flow", name := "drinks", desc := "(J)V" } : Jvm.MethodName)) ∈ lw_all := lw_g (lw_at lw_m3 140 rfl) rfl
theorem q728 : (Jvm.Cond.code ({ cls := "CardCups$Flow", name := "drinks", desc := "(J)V" } : Jvm.MethodName) prog_6_method_5_code (3 : Nat) (Option.none : Option Jvm.ClassFile.FieldType)) ∈ lw_all := lw_g (lw_at lw_m3 141 rfl) rfl
theorem q731 : (Jvm.Cond.instanceMethod ({ cls := "CardCups$Flow", name := "addsAt", desc := "(IJ)V" } : Jvm.MethodName)) ∈ lw_all := lw_g (lw_at lw_m3 144 rfl) rfl
theorem q732 : (Jvm.Cond.selects "CardCups$Flow" ({ cls := "CardCups$Flow", name := "addsAt", desc := "(IJ)V" } : Jvm.MethodName) ({ cls := "CardCups$Flow", name := "addsAt", desc := "(IJ)V" } : Jvm.MethodName)) ∈ lw_all := lw_g (lw_at lw_m3 145 rfl) rfl
theorem q733 : (Jvm.Cond.code ({ cls := "CardCups$Flow", name := "addsAt", desc := "(IJ)V" } : Jvm.MethodName) prog_6_method_3_code (4 : Nat) (Option.none : Option Jvm.ClassFile.FieldType)) ∈ lw_all := lw_g (lw_at lw_m3 146 rfl) rfl
theorem q743 : (Jvm.Cond.methodLink "CardCups$Flow" (127 : Nat) ({ cls := "CardCups$Flow", name := "ends", desc := "(I)V" } : Jvm.MethodName)) ∈ lw_all := lw_g (lw_at lw_m3 156 rfl) rfl
theorem q744 : (Jvm.Cond.privateMethod ({ cls := "CardCups$Flow", name := "ends", desc := "(I)V" } : Jvm.MethodName)) ∈ lw_tbl := lw_at lw_m3 157 rfl
theorem q745 : (Jvm.Cond.instanceMethod ({ cls := "CardCups$Flow", name := "ends", desc := "(I)V" } : Jvm.MethodName)) ∈ lw_all := lw_g (lw_at lw_m3 158 rfl) rfl
theorem q746 : (Jvm.Cond.code ({ cls := "CardCups$Flow", name := "ends", desc := "(I)V" } : Jvm.MethodName) prog_6_method_11_code (3 : Nat) (Option.none : Option Jvm.ClassFile.FieldType)) ∈ lw_all := lw_g (lw_at lw_m3 159 rfl) rfl
theorem q747 : (Jvm.Cond.methodLink "CardCups$Flow" (176 : Nat) ({ cls := "CardCups$State", name := "in", desc := "()I" } : Jvm.MethodName)) ∈ lw_all := lw_g (lw_at lw_m3 160 rfl) rfl
theorem q748 : (Jvm.Cond.methodLink "CardCups$Flow" (179 : Nat) ({ cls := "CardCups$State", name := "starts", desc := "(I)I" } : Jvm.MethodName)) ∈ lw_all := lw_g (lw_at lw_m3 161 rfl) rfl
theorem q750 : (Jvm.Cond.instanceMethod ({ cls := "CardCups$Flow", name := "truly", desc := "()J" } : Jvm.MethodName)) ∈ lw_all := lw_g (lw_at lw_m3 163 rfl) rfl
theorem q751 : (Jvm.Cond.selects "CardCups$Flow" ({ cls := "CardCups$Flow", name := "truly", desc := "()J" } : Jvm.MethodName) ({ cls := "CardCups$Flow", name := "truly", desc := "()J" } : Jvm.MethodName)) ∈ lw_all := lw_g (lw_at lw_m3 164 rfl) rfl
theorem q752 : (Jvm.Cond.code ({ cls := "CardCups$Flow", name := "truly", desc := "()J" } : Jvm.MethodName) prog_6_method_16_code (1 : Nat) (Option.some Jvm.ClassFile.FieldType.long)) ∈ lw_all := lw_g (lw_at lw_m3 165 rfl) rfl
theorem q753 : (Jvm.Cond.methodLink "CardCups$Flow" (202 : Nat) ({ cls := "CardCups$Flow", name := "likely", desc := "(II)J" } : Jvm.MethodName)) ∈ lw_all := lw_g (lw_at lw_m3 166 rfl) rfl
theorem q754 : (Jvm.Cond.instanceMethod ({ cls := "CardCups$Flow", name := "likely", desc := "(II)J" } : Jvm.MethodName)) ∈ lw_all := lw_g (lw_at lw_m3 167 rfl) rfl
theorem q755 : (Jvm.Cond.selects "CardCups$Flow" ({ cls := "CardCups$Flow", name := "likely", desc := "(II)J" } : Jvm.MethodName) ({ cls := "CardCups$Flow", name := "likely", desc := "(II)J" } : Jvm.MethodName)) ∈ lw_all := lw_g (lw_at lw_m3 168 rfl) rfl
theorem q756 : (Jvm.Cond.code ({ cls := "CardCups$Flow", name := "likely", desc := "(II)J" } : Jvm.MethodName) prog_6_method_14_code (7 : Nat) (Option.some Jvm.ClassFile.FieldType.long)) ∈ lw_all := lw_g (lw_at lw_m3 169 rfl) rfl
theorem q757 : (Jvm.Cond.methodLink "CardCups$Flow" (186 : Nat) ({ cls := "CardCups$Flow", name := "is", desc := "(ILCardCups$State;LCardCups$Sight;)Z" } : Jvm.MethodName)) ∈ lw_all := lw_g (lw_at lw_m3 170 rfl) rfl
theorem q758 : (Jvm.Cond.privateMethod ({ cls := "CardCups$Flow", name := "is", desc := "(ILCardCups$State;LCardCups$Sight;)Z" } : Jvm.MethodName)) ∈ lw_tbl := lw_at lw_m3 171 rfl
theorem q759 : (Jvm.Cond.instanceMethod ({ cls := "CardCups$Flow", name := "is", desc := "(ILCardCups$State;LCardCups$Sight;)Z" } : Jvm.MethodName)) ∈ lw_all := lw_g (lw_at lw_m3 172 rfl) rfl
theorem q760 : (Jvm.Cond.code ({ cls := "CardCups$Flow", name := "is", desc := "(ILCardCups$State;LCardCups$Sight;)Z" } : Jvm.MethodName) prog_6_method_15_code (4 : Nat) (Option.some Jvm.ClassFile.FieldType.boolean)) ∈ lw_all := lw_g (lw_at lw_m3 173 rfl) rfl
theorem q761 : (Jvm.Cond.methodLink "CardCups$Flow" (191 : Nat) ({ cls := "CardCups$State", name := "isTrue", desc := "()Z" } : Jvm.MethodName)) ∈ lw_all := lw_g (lw_at lw_m3 174 rfl) rfl
theorem q765 : (Jvm.Cond.methodLink "CardCups$Flow" (195 : Nat) ({ cls := "CardCups$Sight", name := "isWarm", desc := "()Z" } : Jvm.MethodName)) ∈ lw_all := lw_g (lw_at lw_m3 178 rfl) rfl
theorem q780 : (Jvm.Cond.instanceMethod ({ cls := "CardCups$Flow", name := "cost", desc := "()J" } : Jvm.MethodName)) ∈ lw_all := lw_g (lw_at lw_m3 193 rfl) rfl
theorem q781 : (Jvm.Cond.selects "CardCups$Flow" ({ cls := "CardCups$Flow", name := "cost", desc := "()J" } : Jvm.MethodName) ({ cls := "CardCups$Flow", name := "cost", desc := "()J" } : Jvm.MethodName)) ∈ lw_all := lw_g (lw_at lw_m3 194 rfl) rfl
theorem q782 : (Jvm.Cond.code ({ cls := "CardCups$Flow", name := "cost", desc := "()J" } : Jvm.MethodName) prog_6_method_12_code (4 : Nat) (Option.some Jvm.ClassFile.FieldType.long)) ∈ lw_all := lw_g (lw_at lw_m3 195 rfl) rfl
theorem q1178 : (Jvm.Cond.fieldLinkNest "CardCups$Flow" (117 : Nat) "CardCups$Habit" "steps" "[LCardCups$Step;" "CardCups") ∈ lw_tbl := lw_at lw_m5 111 rfl
theorem q1181 : (Jvm.Cond.fieldLinkNest "CardCups$Flow" (112 : Nat) "CardCups$Habit" "many" "I" "CardCups") ∈ lw_tbl := lw_at lw_m5 114 rfl
theorem q1432 : (Jvm.Cond.instanceMethod ({ cls := "CardCups$Flow", name := "many", desc := "()I" } : Jvm.MethodName)) ∈ lw_all := lw_g (lw_at lw_m6 125 rfl) rfl
theorem q1433 : (Jvm.Cond.selects "CardCups$Flow" ({ cls := "CardCups$Flow", name := "many", desc := "()I" } : Jvm.MethodName) ({ cls := "CardCups$Flow", name := "many", desc := "()I" } : Jvm.MethodName)) ∈ lw_all := lw_g (lw_at lw_m6 126 rfl) rfl
theorem q1434 : (Jvm.Cond.code ({ cls := "CardCups$Flow", name := "many", desc := "()I" } : Jvm.MethodName) prog_6_method_17_code (3 : Nat) (Option.some Jvm.ClassFile.FieldType.int)) ∈ lw_all := lw_g (lw_at lw_m6 127 rfl) rfl
theorem q1451 : (Jvm.Cond.instanceMethod ({ cls := "CardCups$Flow", name := "at", desc := "(III)J" } : Jvm.MethodName)) ∈ lw_all := lw_g (lw_at lw_m6 144 rfl) rfl
theorem q1452 : (Jvm.Cond.selects "CardCups$Flow" ({ cls := "CardCups$Flow", name := "at", desc := "(III)J" } : Jvm.MethodName) ({ cls := "CardCups$Flow", name := "at", desc := "(III)J" } : Jvm.MethodName)) ∈ lw_all := lw_g (lw_at lw_m6 145 rfl) rfl
theorem q1453 : (Jvm.Cond.code ({ cls := "CardCups$Flow", name := "at", desc := "(III)J" } : Jvm.MethodName) prog_6_method_18_code (7 : Nat) (Option.some Jvm.ClassFile.FieldType.long)) ∈ lw_all := lw_g (lw_at lw_m6 146 rfl) rfl
theorem q1473 : (Jvm.Cond.instanceMethod ({ cls := "CardCups$Flow", name := "mean", desc := "(I)J" } : Jvm.MethodName)) ∈ lw_all := lw_g (lw_at lw_m6 166 rfl) rfl
theorem q1474 : (Jvm.Cond.selects "CardCups$Flow" ({ cls := "CardCups$Flow", name := "mean", desc := "(I)J" } : Jvm.MethodName) ({ cls := "CardCups$Flow", name := "mean", desc := "(I)J" } : Jvm.MethodName)) ∈ lw_all := lw_g (lw_at lw_m6 167 rfl) rfl
theorem q1475 : (Jvm.Cond.code ({ cls := "CardCups$Flow", name := "mean", desc := "(I)J" } : Jvm.MethodName) prog_6_method_19_code (5 : Nat) (Option.some Jvm.ClassFile.FieldType.long)) ∈ lw_all := lw_g (lw_at lw_m6 168 rfl) rfl
theorem q1520 : (Jvm.Cond.instanceMethod ({ cls := "CardCups$Flow", name := "all", desc := "()J" } : Jvm.MethodName)) ∈ lw_all := lw_g (lw_at lw_m6 213 rfl) rfl
theorem q1521 : (Jvm.Cond.selects "CardCups$Flow" ({ cls := "CardCups$Flow", name := "all", desc := "()J" } : Jvm.MethodName) ({ cls := "CardCups$Flow", name := "all", desc := "()J" } : Jvm.MethodName)) ∈ lw_all := lw_g (lw_at lw_m6 214 rfl) rfl
theorem q1522 : (Jvm.Cond.code ({ cls := "CardCups$Flow", name := "all", desc := "()J" } : Jvm.MethodName) prog_6_method_13_code (4 : Nat) (Option.some Jvm.ClassFile.FieldType.long)) ∈ lw_all := lw_g (lw_at lw_m6 215 rfl) rfl
theorem q1546 : (Jvm.Cond.instanceMethod ({ cls := "CardCups$Flow", name := "worth", desc := "(I)J" } : Jvm.MethodName)) ∈ lw_all := lw_g (lw_at lw_m6 239 rfl) rfl
theorem q1547 : (Jvm.Cond.selects "CardCups$Flow" ({ cls := "CardCups$Flow", name := "worth", desc := "(I)J" } : Jvm.MethodName) ({ cls := "CardCups$Flow", name := "worth", desc := "(I)J" } : Jvm.MethodName)) ∈ lw_all := lw_g (lw_at lw_m7 0 rfl) rfl
theorem q1548 : (Jvm.Cond.code ({ cls := "CardCups$Flow", name := "worth", desc := "(I)J" } : Jvm.MethodName) prog_6_method_24_code (5 : Nat) (Option.some Jvm.ClassFile.FieldType.long)) ∈ lw_all := lw_g (lw_at lw_m7 1 rfl) rfl
theorem q1549 : (Jvm.Cond.methodLink "CardCups$Flow" (214 : Nat) ({ cls := "CardCups$Flow", name := "taking", desc := "(I)J" } : Jvm.MethodName)) ∈ lw_all := lw_g (lw_at lw_m7 2 rfl) rfl
theorem q1550 : (Jvm.Cond.privateMethod ({ cls := "CardCups$Flow", name := "taking", desc := "(I)J" } : Jvm.MethodName)) ∈ lw_tbl := lw_at lw_m7 3 rfl
theorem q1551 : (Jvm.Cond.instanceMethod ({ cls := "CardCups$Flow", name := "taking", desc := "(I)J" } : Jvm.MethodName)) ∈ lw_all := lw_g (lw_at lw_m7 4 rfl) rfl
theorem q1552 : (Jvm.Cond.code ({ cls := "CardCups$Flow", name := "taking", desc := "(I)J" } : Jvm.MethodName) prog_6_method_22_code (7 : Nat) (Option.some Jvm.ClassFile.FieldType.long)) ∈ lw_all := lw_g (lw_at lw_m7 5 rfl) rfl
theorem q1553 : (Jvm.Cond.methodLink "CardCups$Flow" (211 : Nat) ({ cls := "CardCups$Flow", name := "partsOf", desc := "(II)J" } : Jvm.MethodName)) ∈ lw_all := lw_g (lw_at lw_m7 6 rfl) rfl
theorem q1554 : (Jvm.Cond.privateMethod ({ cls := "CardCups$Flow", name := "partsOf", desc := "(II)J" } : Jvm.MethodName)) ∈ lw_tbl := lw_at lw_m7 7 rfl
theorem q1555 : (Jvm.Cond.instanceMethod ({ cls := "CardCups$Flow", name := "partsOf", desc := "(II)J" } : Jvm.MethodName)) ∈ lw_all := lw_g (lw_at lw_m7 8 rfl) rfl
theorem q1556 : (Jvm.Cond.code ({ cls := "CardCups$Flow", name := "partsOf", desc := "(II)J" } : Jvm.MethodName) prog_6_method_21_code (5 : Nat) (Option.some Jvm.ClassFile.FieldType.long)) ∈ lw_all := lw_g (lw_at lw_m7 9 rfl) rfl
theorem q1557 : (Jvm.Cond.methodLink "CardCups$Flow" (207 : Nat) ({ cls := "CardCups$Flow", name := "seeing", desc := "(JLCardCups$State;)J" } : Jvm.MethodName)) ∈ lw_all := lw_g (lw_at lw_m7 10 rfl) rfl
theorem q1558 : (Jvm.Cond.privateMethod ({ cls := "CardCups$Flow", name := "seeing", desc := "(JLCardCups$State;)J" } : Jvm.MethodName)) ∈ lw_tbl := lw_at lw_m7 11 rfl
theorem q1559 : (Jvm.Cond.instanceMethod ({ cls := "CardCups$Flow", name := "seeing", desc := "(JLCardCups$State;)J" } : Jvm.MethodName)) ∈ lw_all := lw_g (lw_at lw_m7 12 rfl) rfl
theorem q1560 : (Jvm.Cond.code ({ cls := "CardCups$Flow", name := "seeing", desc := "(JLCardCups$State;)J" } : Jvm.MethodName) prog_6_method_20_code (4 : Nat) (Option.some Jvm.ClassFile.FieldType.long)) ∈ lw_all := lw_g (lw_at lw_m7 13 rfl) rfl
theorem q1561 : (Jvm.Cond.methodLink "CardCups$Flow" (218 : Nat) ({ cls := "CardCups$Flow", name := "owning", desc := "(I)J" } : Jvm.MethodName)) ∈ lw_all := lw_g (lw_at lw_m7 14 rfl) rfl
theorem q1562 : (Jvm.Cond.privateMethod ({ cls := "CardCups$Flow", name := "owning", desc := "(I)J" } : Jvm.MethodName)) ∈ lw_tbl := lw_at lw_m7 15 rfl
theorem q1563 : (Jvm.Cond.instanceMethod ({ cls := "CardCups$Flow", name := "owning", desc := "(I)J" } : Jvm.MethodName)) ∈ lw_all := lw_g (lw_at lw_m7 16 rfl) rfl
theorem q1564 : (Jvm.Cond.code ({ cls := "CardCups$Flow", name := "owning", desc := "(I)J" } : Jvm.MethodName) prog_6_method_23_code (5 : Nat) (Option.some Jvm.ClassFile.FieldType.long)) ∈ lw_all := lw_g (lw_at lw_m7 17 rfl) rfl
theorem q1565 : (Jvm.Cond.methodLink "CardCups$Flow" (221 : Nat) ({ cls := "CardCups$Flow", name := "all", desc := "()J" } : Jvm.MethodName)) ∈ lw_all := lw_g (lw_at lw_m7 18 rfl) rfl
theorem q1566 : (Jvm.Cond.methodLink "CardCups$Flow" (225 : Nat) ({ cls := "java/lang/Math", name := "min", desc := "(JJ)J" } : Jvm.MethodName)) ∈ lw_all := lw_g (lw_at lw_m7 19 rfl) rfl
theorem q2483 : (Jvm.Cond.castable "CardCups$Flow" "java/lang/Object") ∈ lw_tbl := lw_at lw_m10 216 rfl
theorem in_X3 : ∀ w ∈ wsX30, w ∈ lw_all := lw_in wsX30 [255, 257, 259, 261, 263, 265, 267, 269, 271, 273, 275] (by decide +kernel) (by decide +kernel)
/-! the law's own entry -/
set_option maxRecDepth 100000
abbrev cL_law : ByteArray := code
def dkwL_law_108 : List UInt8 := [167, 245, 133, 4, 172]
abbrev dktL_law_108 : List UInt8 := dkwL_law_108 ++ []
def dkwL_law_107 : List UInt8 := [96, 46, 182, 1, 27, 44, 42, 21, 4, 4, 96, 46, 182, 1, 30, 159, 0, 5, 3, 172, 132, 4, 6]
abbrev dktL_law_107 : List UInt8 := dkwL_law_107 ++ dktL_law_108
def dkwL_law_106 : List UInt8 := [46, 182, 1, 23, 44, 42, 21, 4, 4, 96, 46, 182, 1, 26, 159, 0, 30, 3, 172, 43, 42, 21, 4, 4]
abbrev dktL_law_106 : List UInt8 := dkwL_law_106 ++ dktL_law_107
def dkwL_law_105 : List UInt8 := [159, 0, 68, 3, 172, 43, 182, 1, 19, 44, 182, 1, 22, 159, 0, 55, 3, 172, 43, 42, 21, 4, 4, 96]
abbrev dktL_law_105 : List UInt8 := dkwL_law_105 ++ dktL_law_106
def dkwL_law_104 : List UInt8 := [167, 0, 92, 43, 182, 1, 11, 44, 182, 1, 14, 159, 0, 81, 3, 172, 43, 182, 1, 15, 44, 182, 1, 18]
abbrev dktL_law_104 : List UInt8 := dkwL_law_104 ++ dktL_law_105
def dkwL_law_103 : List UInt8 := [159, 0, 5, 3, 172, 21, 5, 154, 0, 15, 45, 3, 47, 21, 6, 133, 148, 153, 0, 5, 3, 172]
abbrev dktL_law_103 : List UInt8 := dkwL_law_103 ++ dktL_law_104
def dkwL_law_102 : List UInt8 := [21, 4, 4, 96, 46, 42, 21, 4, 5, 96, 46, 182, 1, 10, 54, 6, 44, 182, 0, 137, 21, 5]
abbrev dktL_law_102 : List UInt8 := dkwL_law_102 ++ dktL_law_103
def dkwL_law_101 : List UInt8 := [167, 0, 160, 43, 42, 21, 4, 4, 96, 46, 42, 21, 4, 5, 96, 46, 45, 184, 1, 8, 54, 5, 44, 42]
abbrev dktL_law_101 : List UInt8 := dkwL_law_101 ++ dktL_law_102
def dkwL_law_100 : List UInt8 := [159, 0, 5, 3, 172, 21, 5, 154, 0, 15, 45, 3, 47, 21, 6, 133, 148, 153, 0, 5, 3, 172]
abbrev dktL_law_100 : List UInt8 := dkwL_law_100 ++ dktL_law_101
def dkwL_law_99 : List UInt8 := [21, 4, 4, 96, 46, 42, 21, 4, 5, 96, 46, 182, 1, 7, 54, 6, 44, 182, 0, 137, 21, 5]
abbrev dktL_law_99 : List UInt8 := dkwL_law_99 ++ dktL_law_100
def dkwL_law_98 : List UInt8 := [167, 0, 228, 43, 42, 21, 4, 4, 96, 46, 42, 21, 4, 5, 96, 46, 45, 184, 1, 5, 54, 5, 44, 42]
abbrev dktL_law_98 : List UInt8 := dkwL_law_98 ++ dktL_law_99
def dkwL_law_97 : List UInt8 := [159, 0, 5, 3, 172, 21, 5, 154, 0, 15, 45, 3, 47, 21, 6, 133, 148, 153, 0, 5, 3, 172]
abbrev dktL_law_97 : List UInt8 := dkwL_law_97 ++ dktL_law_98
def dkwL_law_96 : List UInt8 := [184, 1, 2, 54, 5, 44, 42, 21, 4, 4, 96, 46, 182, 1, 4, 54, 6, 44, 182, 0, 137, 21, 5]
abbrev dktL_law_96 : List UInt8 := dkwL_law_96 ++ dktL_law_97
def dkwL_law_95 : List UInt8 := [3, 47, 21, 6, 133, 148, 153, 0, 5, 3, 172, 167, 1, 28, 43, 42, 21, 4, 4, 96, 46, 45]
abbrev dktL_law_95 : List UInt8 := dkwL_law_95 ++ dktL_law_96
def dkwL_law_94 : List UInt8 := [96, 46, 182, 1, 1, 54, 6, 44, 182, 0, 137, 21, 5, 159, 0, 5, 3, 172, 21, 5, 154, 0, 15, 45]
abbrev dktL_law_94 : List UInt8 := dkwL_law_94 ++ dktL_law_95
def dkwL_law_93 : List UInt8 := [46, 42, 21, 4, 5, 96, 46, 45, 184, 0, 255, 54, 5, 44, 42, 21, 4, 4, 96, 46, 42, 21, 4, 5]
abbrev dktL_law_93 : List UInt8 := dkwL_law_93 ++ dktL_law_94
def dkwL_law_92 : List UInt8 := [154, 0, 15, 45, 3, 47, 21, 6, 133, 148, 153, 0, 5, 3, 172, 167, 1, 96, 43, 42, 21, 4, 4, 96]
abbrev dktL_law_92 : List UInt8 := dkwL_law_92 ++ dktL_law_93
def dkwL_law_91 : List UInt8 := [42, 21, 4, 6, 96, 46, 182, 0, 254, 54, 6, 44, 182, 0, 137, 21, 5, 159, 0, 5, 3, 172, 21, 5]
abbrev dktL_law_91 : List UInt8 := dkwL_law_91 ++ dktL_law_92
def dkwL_law_90 : List UInt8 := [21, 4, 6, 96, 46, 45, 184, 0, 252, 54, 5, 44, 42, 21, 4, 4, 96, 46, 42, 21, 4, 5, 96, 46]
abbrev dktL_law_90 : List UInt8 := dkwL_law_90 ++ dktL_law_91
def dkwL_law_89 : List UInt8 := [148, 153, 0, 5, 3, 172, 167, 1, 176, 43, 42, 21, 4, 4, 96, 46, 42, 21, 4, 5, 96, 46, 42]
abbrev dktL_law_89 : List UInt8 := dkwL_law_89 ++ dktL_law_90
def dkwL_law_88 : List UInt8 := [54, 6, 44, 182, 0, 137, 21, 5, 159, 0, 5, 3, 172, 21, 5, 154, 0, 15, 45, 3, 47, 21, 6, 133]
abbrev dktL_law_88 : List UInt8 := dkwL_law_88 ++ dktL_law_89
def dkwL_law_87 : List UInt8 := [54, 5, 44, 42, 21, 4, 4, 96, 46, 42, 21, 4, 5, 96, 46, 42, 21, 4, 6, 96, 46, 182, 0, 251]
abbrev dktL_law_87 : List UInt8 := dkwL_law_87 ++ dktL_law_88
def dkwL_law_86 : List UInt8 := [172, 43, 42, 21, 4, 4, 96, 46, 42, 21, 4, 5, 96, 46, 42, 21, 4, 6, 96, 46, 45, 184, 0, 249]
abbrev dktL_law_86 : List UInt8 := dkwL_law_86 ++ dktL_law_87
def dkwL_law_85 : List UInt8 := [47, 22, 6, 148, 153, 0, 5, 3, 172, 167, 2, 13, 43, 182, 0, 245, 44, 182, 0, 248, 159, 2, 2, 3]
abbrev dktL_law_85 : List UInt8 := dkwL_law_85 ++ dktL_law_86
def dkwL_law_84 : List UInt8 := [46, 182, 0, 244, 55, 6, 44, 182, 0, 137, 21, 5, 159, 0, 5, 3, 172, 21, 5, 154, 0, 14, 45, 3]
abbrev dktL_law_84 : List UInt8 := dkwL_law_84 ++ dktL_law_85
def dkwL_law_83 : List UInt8 := [45, 184, 0, 242, 54, 5, 44, 42, 21, 4, 4, 96, 46, 42, 21, 4, 5, 96, 46, 42, 21, 4, 6, 96]
abbrev dktL_law_83 : List UInt8 := dkwL_law_83 ++ dktL_law_84
def dkwL_law_82 : List UInt8 := [3, 172, 167, 2, 92, 43, 42, 21, 4, 4, 96, 46, 42, 21, 4, 5, 96, 46, 42, 21, 4, 6, 96, 46]
abbrev dktL_law_82 : List UInt8 := dkwL_law_82 ++ dktL_law_83
def dkwL_law_81 : List UInt8 := [182, 0, 137, 21, 5, 159, 0, 5, 3, 172, 21, 5, 154, 0, 14, 45, 3, 47, 22, 6, 148, 153, 0, 5]
abbrev dktL_law_81 : List UInt8 := dkwL_law_81 ++ dktL_law_82
def dkwL_law_80 : List UInt8 := [21, 4, 4, 96, 46, 45, 184, 0, 239, 54, 5, 44, 42, 21, 4, 4, 96, 46, 182, 0, 241, 55, 6, 44]
abbrev dktL_law_80 : List UInt8 := dkwL_law_80 ++ dktL_law_81
def dkwL_law_79 : List UInt8 := [153, 0, 5, 3, 172, 167, 2, 160, 43, 182, 0, 235, 44, 182, 0, 238, 159, 2, 149, 3, 172, 43, 42]
abbrev dktL_law_79 : List UInt8 := dkwL_law_79 ++ dktL_law_80
def dkwL_law_78 : List UInt8 := [55, 6, 44, 182, 0, 137, 21, 5, 159, 0, 5, 3, 172, 21, 5, 154, 0, 14, 45, 3, 47, 22, 6, 148]
abbrev dktL_law_78 : List UInt8 := dkwL_law_78 ++ dktL_law_79
def dkwL_law_77 : List UInt8 := [46, 45, 184, 0, 232, 54, 5, 44, 42, 21, 4, 4, 96, 46, 42, 21, 4, 5, 96, 46, 182, 0, 234]
abbrev dktL_law_77 : List UInt8 := dkwL_law_77 ++ dktL_law_78
def dkwL_law_76 : List UInt8 := [47, 22, 6, 148, 153, 0, 5, 3, 172, 167, 2, 227, 43, 42, 21, 4, 4, 96, 46, 42, 21, 4, 5, 96]
abbrev dktL_law_76 : List UInt8 := dkwL_law_76 ++ dktL_law_77
def dkwL_law_75 : List UInt8 := [46, 182, 0, 231, 55, 6, 44, 182, 0, 137, 21, 5, 159, 0, 5, 3, 172, 21, 5, 154, 0, 14, 45, 3]
abbrev dktL_law_75 : List UInt8 := dkwL_law_75 ++ dktL_law_76
def dkwL_law_74 : List UInt8 := [42, 21, 4, 5, 96, 46, 45, 184, 0, 229, 54, 5, 44, 42, 21, 4, 4, 96, 46, 42, 21, 4, 5, 96]
abbrev dktL_law_74 : List UInt8 := dkwL_law_74 ++ dktL_law_75
def dkwL_law_73 : List UInt8 := [154, 0, 14, 45, 3, 47, 22, 6, 148, 153, 0, 5, 3, 172, 167, 3, 38, 43, 42, 21, 4, 4, 96, 46]
abbrev dktL_law_73 : List UInt8 := dkwL_law_73 ++ dktL_law_74
def dkwL_law_72 : List UInt8 := [21, 4, 4, 96, 46, 182, 0, 228, 55, 6, 44, 182, 0, 137, 21, 5, 159, 0, 5, 3, 172, 21, 5]
abbrev dktL_law_72 : List UInt8 := dkwL_law_72 ++ dktL_law_73
def dkwL_law_71 : List UInt8 := [182, 0, 225, 159, 3, 95, 3, 172, 43, 42, 21, 4, 4, 96, 46, 45, 184, 0, 226, 54, 5, 44, 42]
abbrev dktL_law_71 : List UInt8 := dkwL_law_71 ++ dktL_law_72
def dkwL_law_70 : List UInt8 := [3, 172, 167, 3, 119, 43, 182, 0, 218, 44, 182, 0, 221, 159, 3, 108, 3, 172, 43, 182, 0, 222, 44]
abbrev dktL_law_70 : List UInt8 := dkwL_law_70 ++ dktL_law_71
def dkwL_law_69 : List UInt8 := [182, 0, 137, 21, 5, 159, 0, 5, 3, 172, 21, 5, 154, 0, 14, 45, 3, 47, 22, 6, 148, 153, 0, 5]
abbrev dktL_law_69 : List UInt8 := dkwL_law_69 ++ dktL_law_70
def dkwL_law_68 : List UInt8 := [184, 0, 215, 54, 5, 44, 42, 21, 4, 4, 96, 46, 42, 21, 4, 5, 96, 46, 182, 0, 217, 55, 6, 44]
abbrev dktL_law_68 : List UInt8 := dkwL_law_68 ++ dktL_law_69
def dkwL_law_67 : List UInt8 := [153, 0, 5, 3, 172, 167, 3, 186, 43, 42, 21, 4, 4, 96, 46, 42, 21, 4, 5, 96, 46, 45]
abbrev dktL_law_67 : List UInt8 := dkwL_law_67 ++ dktL_law_68
def dkwL_law_66 : List UInt8 := [44, 182, 0, 137, 21, 5, 159, 0, 5, 3, 172, 21, 5, 154, 0, 14, 45, 3, 47, 22, 6, 148]
abbrev dktL_law_66 : List UInt8 := dkwL_law_66 ++ dktL_law_67
def dkwL_law_65 : List UInt8 := [45, 184, 0, 212, 54, 5, 44, 42, 21, 4, 4, 96, 46, 42, 21, 4, 5, 96, 46, 182, 0, 214, 55, 6]
abbrev dktL_law_65 : List UInt8 := dkwL_law_65 ++ dktL_law_66
def dkwL_law_64 : List UInt8 := [22, 6, 148, 153, 0, 5, 3, 172, 167, 3, 253, 43, 42, 21, 4, 4, 96, 46, 42, 21, 4, 5, 96, 46]
abbrev dktL_law_64 : List UInt8 := dkwL_law_64 ++ dktL_law_65
def dkwL_law_63 : List UInt8 := [182, 0, 211, 55, 6, 44, 182, 0, 137, 21, 5, 159, 0, 5, 3, 172, 21, 5, 154, 0, 14, 45, 3, 47]
abbrev dktL_law_63 : List UInt8 := dkwL_law_63 ++ dktL_law_64
def dkwL_law_62 : List UInt8 := [184, 0, 209, 54, 5, 44, 42, 21, 4, 4, 96, 46, 42, 21, 4, 5, 96, 46, 42, 21, 4, 6, 96, 46]
abbrev dktL_law_62 : List UInt8 := dkwL_law_62 ++ dktL_law_63
def dkwL_law_61 : List UInt8 := [167, 4, 76, 43, 42, 21, 4, 4, 96, 46, 42, 21, 4, 5, 96, 46, 42, 21, 4, 6, 96, 46, 45]
abbrev dktL_law_61 : List UInt8 := dkwL_law_61 ++ dktL_law_62
def dkwL_law_60 : List UInt8 := [159, 0, 5, 3, 172, 21, 5, 154, 0, 15, 45, 3, 47, 21, 6, 133, 148, 153, 0, 5, 3, 172]
abbrev dktL_law_60 : List UInt8 := dkwL_law_60 ++ dktL_law_61
def dkwL_law_59 : List UInt8 := [45, 184, 0, 206, 54, 5, 44, 42, 21, 4, 4, 96, 46, 182, 0, 208, 54, 6, 44, 182, 0, 137, 21, 5]
abbrev dktL_law_59 : List UInt8 := dkwL_law_59 ++ dktL_law_60
def dkwL_law_58 : List UInt8 := [154, 0, 14, 45, 3, 47, 22, 6, 148, 153, 0, 5, 3, 172, 167, 4, 132, 43, 42, 21, 4, 4, 96, 46]
abbrev dktL_law_58 : List UInt8 := dkwL_law_58 ++ dktL_law_59
def dkwL_law_57 : List UInt8 := [21, 4, 6, 96, 46, 182, 0, 205, 55, 6, 44, 182, 0, 137, 21, 5, 159, 0, 5, 3, 172, 21, 5]
abbrev dktL_law_57 : List UInt8 := dkwL_law_57 ++ dktL_law_58
def dkwL_law_56 : List UInt8 := [6, 96, 46, 45, 184, 0, 203, 54, 5, 44, 42, 21, 4, 4, 96, 46, 42, 21, 4, 5, 96, 46, 42]
abbrev dktL_law_56 : List UInt8 := dkwL_law_56 ++ dktL_law_57
def dkwL_law_55 : List UInt8 := [153, 0, 5, 3, 172, 167, 4, 211, 43, 42, 21, 4, 4, 96, 46, 42, 21, 4, 5, 96, 46, 42, 21, 4]
abbrev dktL_law_55 : List UInt8 := dkwL_law_55 ++ dktL_law_56
def dkwL_law_54 : List UInt8 := [55, 6, 44, 182, 0, 137, 21, 5, 159, 0, 5, 3, 172, 21, 5, 154, 0, 14, 45, 3, 47, 22, 6, 148]
abbrev dktL_law_54 : List UInt8 := dkwL_law_54 ++ dktL_law_55
def dkwL_law_53 : List UInt8 := [43, 42, 21, 4, 4, 96, 46, 45, 184, 0, 200, 54, 5, 44, 42, 21, 4, 4, 96, 46, 182, 0, 202]
abbrev dktL_law_53 : List UInt8 := dkwL_law_53 ++ dktL_law_54
def dkwL_law_52 : List UInt8 := [159, 0, 5, 3, 172, 21, 5, 154, 0, 14, 45, 3, 47, 22, 6, 148, 153, 0, 5, 3, 172, 167, 5, 10]
abbrev dktL_law_52 : List UInt8 := dkwL_law_52 ++ dktL_law_53
def dkwL_law_51 : List UInt8 := [45, 184, 0, 197, 54, 5, 44, 42, 21, 4, 4, 96, 46, 182, 0, 199, 55, 6, 44, 182, 0, 137, 21, 5]
abbrev dktL_law_51 : List UInt8 := dkwL_law_51 ++ dktL_law_52
def dkwL_law_50 : List UInt8 := [154, 0, 14, 45, 3, 47, 22, 6, 148, 153, 0, 5, 3, 172, 167, 5, 65, 43, 42, 21, 4, 4, 96, 46]
abbrev dktL_law_50 : List UInt8 := dkwL_law_50 ++ dktL_law_51
def dkwL_law_49 : List UInt8 := [21, 4, 5, 96, 46, 182, 0, 196, 55, 6, 44, 182, 0, 137, 21, 5, 159, 0, 5, 3, 172, 21, 5]
abbrev dktL_law_49 : List UInt8 := dkwL_law_49 ++ dktL_law_50
def dkwL_law_48 : List UInt8 := [4, 96, 46, 42, 21, 4, 5, 96, 46, 45, 184, 0, 194, 54, 5, 44, 42, 21, 4, 4, 96, 46, 42]
abbrev dktL_law_48 : List UInt8 := dkwL_law_48 ++ dktL_law_49
def dkwL_law_47 : List UInt8 := [172, 21, 5, 154, 0, 14, 45, 3, 47, 22, 6, 148, 153, 0, 5, 3, 172, 167, 5, 132, 43, 42, 21, 4]
abbrev dktL_law_47 : List UInt8 := dkwL_law_47 ++ dktL_law_48
def dkwL_law_46 : List UInt8 := [4, 96, 46, 42, 21, 4, 5, 96, 46, 182, 0, 193, 55, 6, 44, 182, 0, 137, 21, 5, 159, 0, 5, 3]
abbrev dktL_law_46 : List UInt8 := dkwL_law_46 ++ dktL_law_47
def dkwL_law_45 : List UInt8 := [172, 43, 42, 21, 4, 4, 96, 46, 42, 21, 4, 5, 96, 46, 45, 184, 0, 191, 54, 5, 44, 42, 21, 4]
abbrev dktL_law_45 : List UInt8 := dkwL_law_45 ++ dktL_law_46
def dkwL_law_44 : List UInt8 := [47, 22, 6, 148, 153, 0, 5, 3, 172, 167, 5, 212, 43, 182, 0, 187, 44, 182, 0, 190, 159, 5, 201, 3]
abbrev dktL_law_44 : List UInt8 := dkwL_law_44 ++ dktL_law_45
def dkwL_law_43 : List UInt8 := [46, 182, 0, 186, 55, 6, 44, 182, 0, 137, 21, 5, 159, 0, 5, 3, 172, 21, 5, 154, 0, 14, 45, 3]
abbrev dktL_law_43 : List UInt8 := dkwL_law_43 ++ dktL_law_44
def dkwL_law_42 : List UInt8 := [3, 172, 167, 6, 11, 43, 42, 21, 4, 4, 96, 46, 45, 184, 0, 184, 54, 5, 44, 42, 21, 4, 4, 96]
abbrev dktL_law_42 : List UInt8 := dkwL_law_42 ++ dktL_law_43
def dkwL_law_41 : List UInt8 := [182, 0, 137, 21, 5, 159, 0, 5, 3, 172, 21, 5, 154, 0, 14, 45, 3, 47, 22, 6, 148, 153, 0, 5]
abbrev dktL_law_41 : List UInt8 := dkwL_law_41 ++ dktL_law_42
def dkwL_law_40 : List UInt8 := [42, 21, 4, 4, 96, 46, 42, 21, 4, 5, 96, 46, 42, 21, 4, 6, 96, 46, 182, 0, 183, 55, 6, 44]
abbrev dktL_law_40 : List UInt8 := dkwL_law_40 ++ dktL_law_41
def dkwL_law_39 : List UInt8 := [21, 4, 4, 96, 46, 42, 21, 4, 5, 96, 46, 42, 21, 4, 6, 96, 46, 45, 184, 0, 180, 54, 5, 44]
abbrev dktL_law_39 : List UInt8 := dkwL_law_39 ++ dktL_law_40
def dkwL_law_38 : List UInt8 := [172, 21, 5, 154, 0, 15, 45, 3, 47, 21, 6, 133, 148, 153, 0, 5, 3, 172, 167, 6, 90, 43, 42]
abbrev dktL_law_38 : List UInt8 := dkwL_law_38 ++ dktL_law_39
def dkwL_law_37 : List UInt8 := [54, 5, 44, 42, 21, 4, 4, 96, 46, 182, 0, 179, 54, 6, 44, 182, 0, 137, 21, 5, 159, 0, 5, 3]
abbrev dktL_law_37 : List UInt8 := dkwL_law_37 ++ dktL_law_38
def dkwL_law_36 : List UInt8 := [47, 22, 6, 148, 153, 0, 5, 3, 172, 167, 6, 146, 43, 42, 21, 4, 4, 96, 46, 45, 184, 0, 177]
abbrev dktL_law_36 : List UInt8 := dkwL_law_36 ++ dktL_law_37
def dkwL_law_35 : List UInt8 := [46, 182, 0, 176, 55, 6, 44, 182, 0, 137, 21, 5, 159, 0, 5, 3, 172, 21, 5, 154, 0, 14, 45, 3]
abbrev dktL_law_35 : List UInt8 := dkwL_law_35 ++ dktL_law_36
def dkwL_law_34 : List UInt8 := [44, 42, 21, 4, 4, 96, 46, 42, 21, 4, 5, 96, 46, 42, 21, 4, 6, 96, 46, 42, 21, 4, 7, 96]
abbrev dktL_law_34 : List UInt8 := dkwL_law_34 ++ dktL_law_35
def dkwL_law_33 : List UInt8 := [42, 21, 4, 5, 96, 46, 42, 21, 4, 6, 96, 46, 42, 21, 4, 7, 96, 46, 45, 184, 0, 173, 54, 5]
abbrev dktL_law_33 : List UInt8 := dkwL_law_33 ++ dktL_law_34
def dkwL_law_32 : List UInt8 := [154, 0, 14, 45, 3, 47, 22, 6, 148, 153, 0, 5, 3, 172, 167, 6, 237, 43, 42, 21, 4, 4, 96, 46]
abbrev dktL_law_32 : List UInt8 := dkwL_law_32 ++ dktL_law_33
def dkwL_law_31 : List UInt8 := [42, 21, 4, 5, 96, 46, 182, 0, 172, 55, 6, 44, 182, 0, 137, 21, 5, 159, 0, 5, 3, 172, 21, 5]
abbrev dktL_law_31 : List UInt8 := dkwL_law_31 ++ dktL_law_32
def dkwL_law_30 : List UInt8 := [21, 4, 4, 96, 46, 42, 21, 4, 5, 96, 46, 45, 184, 0, 170, 54, 5, 44, 42, 21, 4, 4, 96, 46]
abbrev dktL_law_30 : List UInt8 := dkwL_law_30 ++ dktL_law_31
def dkwL_law_29 : List UInt8 := [172, 21, 5, 154, 0, 15, 45, 3, 47, 21, 6, 133, 148, 153, 0, 5, 3, 172, 167, 7, 48, 43, 42]
abbrev dktL_law_29 : List UInt8 := dkwL_law_29 ++ dktL_law_30
def dkwL_law_28 : List UInt8 := [54, 5, 44, 42, 21, 4, 4, 96, 46, 182, 0, 169, 54, 6, 44, 182, 0, 137, 21, 5, 159, 0, 5, 3]
abbrev dktL_law_28 : List UInt8 := dkwL_law_28 ++ dktL_law_29
def dkwL_law_27 : List UInt8 := [21, 6, 133, 148, 153, 0, 5, 3, 172, 167, 7, 104, 43, 42, 21, 4, 4, 96, 46, 45, 184, 0, 167]
abbrev dktL_law_27 : List UInt8 := dkwL_law_27 ++ dktL_law_28
def dkwL_law_26 : List UInt8 := [182, 0, 166, 54, 6, 44, 182, 0, 137, 21, 5, 159, 0, 5, 3, 172, 21, 5, 154, 0, 15, 45, 3, 47]
abbrev dktL_law_26 : List UInt8 := dkwL_law_26 ++ dktL_law_27
def dkwL_law_25 : List UInt8 := [167, 7, 160, 43, 42, 21, 4, 4, 96, 46, 45, 184, 0, 164, 54, 5, 44, 42, 21, 4, 4, 96, 46]
abbrev dktL_law_25 : List UInt8 := dkwL_law_25 ++ dktL_law_26
def dkwL_law_24 : List UInt8 := [159, 0, 5, 3, 172, 21, 5, 154, 0, 15, 45, 3, 47, 21, 6, 133, 148, 153, 0, 5, 3, 172]
abbrev dktL_law_24 : List UInt8 := dkwL_law_24 ++ dktL_law_25
def dkwL_law_23 : List UInt8 := [21, 4, 4, 96, 46, 42, 21, 4, 5, 96, 46, 182, 0, 163, 54, 6, 44, 182, 0, 137, 21, 5]
abbrev dktL_law_23 : List UInt8 := dkwL_law_23 ++ dktL_law_24
def dkwL_law_22 : List UInt8 := [167, 7, 228, 43, 42, 21, 4, 4, 96, 46, 42, 21, 4, 5, 96, 46, 45, 184, 0, 161, 54, 5, 44, 42]
abbrev dktL_law_22 : List UInt8 := dkwL_law_22 ++ dktL_law_23
def dkwL_law_21 : List UInt8 := [159, 0, 5, 3, 172, 21, 5, 154, 0, 15, 45, 3, 47, 21, 6, 133, 148, 153, 0, 5, 3, 172]
abbrev dktL_law_21 : List UInt8 := dkwL_law_21 ++ dktL_law_22
def dkwL_law_20 : List UInt8 := [21, 4, 4, 96, 46, 42, 21, 4, 5, 96, 46, 182, 0, 160, 54, 6, 44, 182, 0, 137, 21, 5]
abbrev dktL_law_20 : List UInt8 := dkwL_law_20 ++ dktL_law_21
def dkwL_law_19 : List UInt8 := [167, 8, 40, 43, 42, 21, 4, 4, 96, 46, 42, 21, 4, 5, 96, 46, 45, 184, 0, 158, 54, 5, 44, 42]
abbrev dktL_law_19 : List UInt8 := dkwL_law_19 ++ dktL_law_20
def dkwL_law_18 : List UInt8 := [159, 0, 5, 3, 172, 21, 5, 154, 0, 15, 45, 3, 47, 21, 6, 133, 148, 153, 0, 5, 3, 172]
abbrev dktL_law_18 : List UInt8 := dkwL_law_18 ++ dktL_law_19
def dkwL_law_17 : List UInt8 := [184, 0, 155, 54, 5, 44, 42, 21, 4, 4, 96, 46, 182, 0, 157, 54, 6, 44, 182, 0, 137, 21, 5]
abbrev dktL_law_17 : List UInt8 := dkwL_law_17 ++ dktL_law_18
def dkwL_law_16 : List UInt8 := [167, 8, 109, 43, 182, 0, 151, 44, 182, 0, 154, 159, 8, 98, 3, 172, 43, 42, 21, 4, 4, 96, 46, 45]
abbrev dktL_law_16 : List UInt8 := dkwL_law_16 ++ dktL_law_17
def dkwL_law_15 : List UInt8 := [21, 5, 159, 0, 5, 3, 172, 21, 5, 154, 0, 15, 45, 3, 47, 21, 6, 133, 148, 153, 0, 5, 3, 172]
abbrev dktL_law_15 : List UInt8 := dkwL_law_15 ++ dktL_law_16
def dkwL_law_14 : List UInt8 := [46, 45, 184, 0, 148, 54, 5, 44, 42, 21, 4, 4, 96, 46, 182, 0, 150, 54, 6, 44, 182, 0, 137]
abbrev dktL_law_14 : List UInt8 := dkwL_law_14 ++ dktL_law_15
def dkwL_law_13 : List UInt8 := [154, 0, 15, 45, 3, 47, 21, 6, 133, 148, 153, 0, 5, 3, 172, 167, 8, 165, 43, 42, 21, 4, 4, 96]
abbrev dktL_law_13 : List UInt8 := dkwL_law_13 ++ dktL_law_14
def dkwL_law_12 : List UInt8 := [21, 4, 4, 96, 46, 182, 0, 147, 54, 6, 44, 182, 0, 137, 21, 5, 159, 0, 5, 3, 172, 21, 5]
abbrev dktL_law_12 : List UInt8 := dkwL_law_12 ++ dktL_law_13
def dkwL_law_11 : List UInt8 := [153, 0, 5, 3, 172, 167, 8, 221, 43, 42, 21, 4, 4, 96, 46, 45, 184, 0, 145, 54, 5, 44, 42]
abbrev dktL_law_11 : List UInt8 := dkwL_law_11 ++ dktL_law_12
def dkwL_law_10 : List UInt8 := [182, 0, 137, 21, 5, 159, 0, 5, 3, 172, 21, 5, 154, 0, 15, 45, 3, 47, 21, 6, 133, 148]
abbrev dktL_law_10 : List UInt8 := dkwL_law_10 ++ dktL_law_11
def dkwL_law_9 : List UInt8 := [184, 0, 141, 54, 5, 44, 42, 21, 4, 4, 96, 46, 42, 21, 4, 5, 96, 46, 182, 0, 144, 54, 6, 44]
abbrev dktL_law_9 : List UInt8 := dkwL_law_9 ++ dktL_law_10
def dkwL_law_8 : List UInt8 := [148, 153, 0, 5, 3, 172, 167, 9, 33, 43, 42, 21, 4, 4, 96, 46, 42, 21, 4, 5, 96, 46, 45]
abbrev dktL_law_8 : List UInt8 := dkwL_law_8 ++ dktL_law_9
def dkwL_law_7 : List UInt8 := [54, 6, 44, 182, 0, 137, 21, 5, 159, 0, 5, 3, 172, 21, 5, 154, 0, 15, 45, 3, 47, 21, 6, 133]
abbrev dktL_law_7 : List UInt8 := dkwL_law_7 ++ dktL_law_8
def dkwL_law_6 : List UInt8 := [172, 43, 42, 21, 4, 4, 96, 46, 45, 184, 0, 131, 54, 5, 44, 42, 21, 4, 4, 96, 46, 182, 0, 136]
abbrev dktL_law_6 : List UInt8 := dkwL_law_6 ++ dktL_law_7
def dkwL_law_5 : List UInt8 := [21, 4, 6, 96, 46, 42, 21, 4, 7, 96, 46, 42, 21, 4, 8, 96, 46, 182, 0, 130, 159, 9, 91, 3]
abbrev dktL_law_5 : List UInt8 := dkwL_law_5 ++ dktL_law_6
def dkwL_law_4 : List UInt8 := [46, 42, 21, 4, 8, 96, 46, 182, 0, 126, 44, 42, 21, 4, 4, 96, 46, 42, 21, 4, 5, 96, 46, 42]
abbrev dktL_law_4 : List UInt8 := dkwL_law_4 ++ dktL_law_5
def dkwL_law_3 : List UInt8 := [43, 42, 21, 4, 4, 96, 46, 42, 21, 4, 5, 96, 46, 42, 21, 4, 6, 96, 46, 42, 21, 4, 7, 96]
abbrev dktL_law_3 : List UInt8 := dkwL_law_3 ++ dktL_law_4
def dkwL_law_2 : List UInt8 := [170, 0, 0, 0, 0, 0, 10, 103, 0, 0, 0, 0, 0, 0, 0, 45, 0, 0, 0, 200, 0, 0, 1, 17, 0, 0, 1, 73, 0, 0, 1, 141, 0, 0, 1, 197, 0, 0, 1, 253, 0, 0, 2, 10, 0, 0, 2, 66, 0, 0, 2, 134, 0, 0, 2, 202, 0, 0, 3, 2, 0, 0, 3, 58, 0, 0, 3, 125, 0, 0, 3, 216, 0, 0, 4, 16, 0, 0, 4, 95, 0, 0, 4, 150, 0, 0, 4, 163, 0, 0, 4, 230, 0, 0, 5, 41, 0, 0, 5, 96, 0, 0, 5, 151, 0, 0, 5, 230, 0, 0, 6, 30, 0, 0, 6, 109, 0, 0, 6, 176, 0, 0, 6, 243, 0, 0, 7, 0, 0, 0, 7, 13, 0, 0, 7, 68, 0, 0, 7, 135, 0, 0, 7, 202, 0, 0, 7, 215, 0, 0, 8, 14, 0, 0, 8, 93, 0, 0, 8, 106, 0, 0, 8, 186, 0, 0, 9, 10, 0, 0, 9, 78, 0, 0, 9, 134, 0, 0, 9, 202, 0, 0, 10, 14, 0, 0, 10, 27, 0, 0, 10, 40, 0, 0, 10, 53, 0, 0, 10, 78]
abbrev dktL_law_2 : List UInt8 := dkwL_law_2 ++ dktL_law_3
def dkwL_law_1 : List UInt8 := [21, 4, 42, 190, 16, 6, 100, 163, 10, 119, 42, 21, 4, 46, 16, 63, 126]
abbrev dktL_law_1 : List UInt8 := dkwL_law_1 ++ dktL_law_2
def dkwL_law_0 : List UInt8 := [187, 0, 8, 89, 183, 0, 122, 76, 187, 0, 123, 89, 183, 0, 125, 77, 4, 188, 11, 78, 3, 54, 4]
abbrev dktL_law_0 : List UInt8 := dkwL_law_0 ++ dktL_law_1
theorem dksL_law_0 : cL_law.data.toList.drop 0 = dktL_law_0 := by decide +kernel
theorem dksL_law_1 : cL_law.data.toList.drop 23 = dktL_law_1 := dk_seg dksL_law_0 23 rfl rfl
theorem dksL_law_2 : cL_law.data.toList.drop 40 = dktL_law_2 := dk_seg dksL_law_1 17 rfl rfl
theorem dksL_law_3 : cL_law.data.toList.drop 240 = dktL_law_3 := dk_seg dksL_law_2 200 rfl rfl
theorem dksL_law_4 : cL_law.data.toList.drop 264 = dktL_law_4 := dk_seg dksL_law_3 24 rfl rfl
theorem dksL_law_5 : cL_law.data.toList.drop 288 = dktL_law_5 := dk_seg dksL_law_4 24 rfl rfl
theorem dksL_law_6 : cL_law.data.toList.drop 312 = dktL_law_6 := dk_seg dksL_law_5 24 rfl rfl
theorem dksL_law_7 : cL_law.data.toList.drop 336 = dktL_law_7 := dk_seg dksL_law_6 24 rfl rfl
theorem dksL_law_8 : cL_law.data.toList.drop 360 = dktL_law_8 := dk_seg dksL_law_7 24 rfl rfl
theorem dksL_law_9 : cL_law.data.toList.drop 383 = dktL_law_9 := dk_seg dksL_law_8 23 rfl rfl
theorem dksL_law_10 : cL_law.data.toList.drop 407 = dktL_law_10 := dk_seg dksL_law_9 24 rfl rfl
theorem dksL_law_11 : cL_law.data.toList.drop 429 = dktL_law_11 := dk_seg dksL_law_10 22 rfl rfl
theorem dksL_law_12 : cL_law.data.toList.drop 452 = dktL_law_12 := dk_seg dksL_law_11 23 rfl rfl
theorem dksL_law_13 : cL_law.data.toList.drop 475 = dktL_law_13 := dk_seg dksL_law_12 23 rfl rfl
theorem dksL_law_14 : cL_law.data.toList.drop 499 = dktL_law_14 := dk_seg dksL_law_13 24 rfl rfl
theorem dksL_law_15 : cL_law.data.toList.drop 522 = dktL_law_15 := dk_seg dksL_law_14 23 rfl rfl
theorem dksL_law_16 : cL_law.data.toList.drop 546 = dktL_law_16 := dk_seg dksL_law_15 24 rfl rfl
theorem dksL_law_17 : cL_law.data.toList.drop 570 = dktL_law_17 := dk_seg dksL_law_16 24 rfl rfl
theorem dksL_law_18 : cL_law.data.toList.drop 593 = dktL_law_18 := dk_seg dksL_law_17 23 rfl rfl
theorem dksL_law_19 : cL_law.data.toList.drop 615 = dktL_law_19 := dk_seg dksL_law_18 22 rfl rfl
theorem dksL_law_20 : cL_law.data.toList.drop 639 = dktL_law_20 := dk_seg dksL_law_19 24 rfl rfl
theorem dksL_law_21 : cL_law.data.toList.drop 661 = dktL_law_21 := dk_seg dksL_law_20 22 rfl rfl
theorem dksL_law_22 : cL_law.data.toList.drop 683 = dktL_law_22 := dk_seg dksL_law_21 22 rfl rfl
theorem dksL_law_23 : cL_law.data.toList.drop 707 = dktL_law_23 := dk_seg dksL_law_22 24 rfl rfl
theorem dksL_law_24 : cL_law.data.toList.drop 729 = dktL_law_24 := dk_seg dksL_law_23 22 rfl rfl
theorem dksL_law_25 : cL_law.data.toList.drop 751 = dktL_law_25 := dk_seg dksL_law_24 22 rfl rfl
theorem dksL_law_26 : cL_law.data.toList.drop 774 = dktL_law_26 := dk_seg dksL_law_25 23 rfl rfl
theorem dksL_law_27 : cL_law.data.toList.drop 798 = dktL_law_27 := dk_seg dksL_law_26 24 rfl rfl
theorem dksL_law_28 : cL_law.data.toList.drop 821 = dktL_law_28 := dk_seg dksL_law_27 23 rfl rfl
theorem dksL_law_29 : cL_law.data.toList.drop 845 = dktL_law_29 := dk_seg dksL_law_28 24 rfl rfl
theorem dksL_law_30 : cL_law.data.toList.drop 868 = dktL_law_30 := dk_seg dksL_law_29 23 rfl rfl
theorem dksL_law_31 : cL_law.data.toList.drop 892 = dktL_law_31 := dk_seg dksL_law_30 24 rfl rfl
theorem dksL_law_32 : cL_law.data.toList.drop 916 = dktL_law_32 := dk_seg dksL_law_31 24 rfl rfl
theorem dksL_law_33 : cL_law.data.toList.drop 940 = dktL_law_33 := dk_seg dksL_law_32 24 rfl rfl
theorem dksL_law_34 : cL_law.data.toList.drop 964 = dktL_law_34 := dk_seg dksL_law_33 24 rfl rfl
theorem dksL_law_35 : cL_law.data.toList.drop 988 = dktL_law_35 := dk_seg dksL_law_34 24 rfl rfl
theorem dksL_law_36 : cL_law.data.toList.drop 1012 = dktL_law_36 := dk_seg dksL_law_35 24 rfl rfl
theorem dksL_law_37 : cL_law.data.toList.drop 1035 = dktL_law_37 := dk_seg dksL_law_36 23 rfl rfl
theorem dksL_law_38 : cL_law.data.toList.drop 1059 = dktL_law_38 := dk_seg dksL_law_37 24 rfl rfl
theorem dksL_law_39 : cL_law.data.toList.drop 1082 = dktL_law_39 := dk_seg dksL_law_38 23 rfl rfl
theorem dksL_law_40 : cL_law.data.toList.drop 1106 = dktL_law_40 := dk_seg dksL_law_39 24 rfl rfl
theorem dksL_law_41 : cL_law.data.toList.drop 1130 = dktL_law_41 := dk_seg dksL_law_40 24 rfl rfl
theorem dksL_law_42 : cL_law.data.toList.drop 1154 = dktL_law_42 := dk_seg dksL_law_41 24 rfl rfl
theorem dksL_law_43 : cL_law.data.toList.drop 1178 = dktL_law_43 := dk_seg dksL_law_42 24 rfl rfl
theorem dksL_law_44 : cL_law.data.toList.drop 1202 = dktL_law_44 := dk_seg dksL_law_43 24 rfl rfl
theorem dksL_law_45 : cL_law.data.toList.drop 1226 = dktL_law_45 := dk_seg dksL_law_44 24 rfl rfl
theorem dksL_law_46 : cL_law.data.toList.drop 1250 = dktL_law_46 := dk_seg dksL_law_45 24 rfl rfl
theorem dksL_law_47 : cL_law.data.toList.drop 1274 = dktL_law_47 := dk_seg dksL_law_46 24 rfl rfl
theorem dksL_law_48 : cL_law.data.toList.drop 1298 = dktL_law_48 := dk_seg dksL_law_47 24 rfl rfl
theorem dksL_law_49 : cL_law.data.toList.drop 1321 = dktL_law_49 := dk_seg dksL_law_48 23 rfl rfl
theorem dksL_law_50 : cL_law.data.toList.drop 1344 = dktL_law_50 := dk_seg dksL_law_49 23 rfl rfl
theorem dksL_law_51 : cL_law.data.toList.drop 1368 = dktL_law_51 := dk_seg dksL_law_50 24 rfl rfl
theorem dksL_law_52 : cL_law.data.toList.drop 1392 = dktL_law_52 := dk_seg dksL_law_51 24 rfl rfl
theorem dksL_law_53 : cL_law.data.toList.drop 1416 = dktL_law_53 := dk_seg dksL_law_52 24 rfl rfl
theorem dksL_law_54 : cL_law.data.toList.drop 1439 = dktL_law_54 := dk_seg dksL_law_53 23 rfl rfl
theorem dksL_law_55 : cL_law.data.toList.drop 1463 = dktL_law_55 := dk_seg dksL_law_54 24 rfl rfl
theorem dksL_law_56 : cL_law.data.toList.drop 1487 = dktL_law_56 := dk_seg dksL_law_55 24 rfl rfl
theorem dksL_law_57 : cL_law.data.toList.drop 1510 = dktL_law_57 := dk_seg dksL_law_56 23 rfl rfl
theorem dksL_law_58 : cL_law.data.toList.drop 1533 = dktL_law_58 := dk_seg dksL_law_57 23 rfl rfl
theorem dksL_law_59 : cL_law.data.toList.drop 1557 = dktL_law_59 := dk_seg dksL_law_58 24 rfl rfl
theorem dksL_law_60 : cL_law.data.toList.drop 1581 = dktL_law_60 := dk_seg dksL_law_59 24 rfl rfl
theorem dksL_law_61 : cL_law.data.toList.drop 1603 = dktL_law_61 := dk_seg dksL_law_60 22 rfl rfl
theorem dksL_law_62 : cL_law.data.toList.drop 1626 = dktL_law_62 := dk_seg dksL_law_61 23 rfl rfl
theorem dksL_law_63 : cL_law.data.toList.drop 1650 = dktL_law_63 := dk_seg dksL_law_62 24 rfl rfl
theorem dksL_law_64 : cL_law.data.toList.drop 1674 = dktL_law_64 := dk_seg dksL_law_63 24 rfl rfl
theorem dksL_law_65 : cL_law.data.toList.drop 1698 = dktL_law_65 := dk_seg dksL_law_64 24 rfl rfl
theorem dksL_law_66 : cL_law.data.toList.drop 1722 = dktL_law_66 := dk_seg dksL_law_65 24 rfl rfl
theorem dksL_law_67 : cL_law.data.toList.drop 1744 = dktL_law_67 := dk_seg dksL_law_66 22 rfl rfl
theorem dksL_law_68 : cL_law.data.toList.drop 1766 = dktL_law_68 := dk_seg dksL_law_67 22 rfl rfl
theorem dksL_law_69 : cL_law.data.toList.drop 1790 = dktL_law_69 := dk_seg dksL_law_68 24 rfl rfl
theorem dksL_law_70 : cL_law.data.toList.drop 1814 = dktL_law_70 := dk_seg dksL_law_69 24 rfl rfl
theorem dksL_law_71 : cL_law.data.toList.drop 1837 = dktL_law_71 := dk_seg dksL_law_70 23 rfl rfl
theorem dksL_law_72 : cL_law.data.toList.drop 1860 = dktL_law_72 := dk_seg dksL_law_71 23 rfl rfl
theorem dksL_law_73 : cL_law.data.toList.drop 1883 = dktL_law_73 := dk_seg dksL_law_72 23 rfl rfl
theorem dksL_law_74 : cL_law.data.toList.drop 1907 = dktL_law_74 := dk_seg dksL_law_73 24 rfl rfl
theorem dksL_law_75 : cL_law.data.toList.drop 1931 = dktL_law_75 := dk_seg dksL_law_74 24 rfl rfl
theorem dksL_law_76 : cL_law.data.toList.drop 1955 = dktL_law_76 := dk_seg dksL_law_75 24 rfl rfl
theorem dksL_law_77 : cL_law.data.toList.drop 1979 = dktL_law_77 := dk_seg dksL_law_76 24 rfl rfl
theorem dksL_law_78 : cL_law.data.toList.drop 2002 = dktL_law_78 := dk_seg dksL_law_77 23 rfl rfl
theorem dksL_law_79 : cL_law.data.toList.drop 2026 = dktL_law_79 := dk_seg dksL_law_78 24 rfl rfl
theorem dksL_law_80 : cL_law.data.toList.drop 2049 = dktL_law_80 := dk_seg dksL_law_79 23 rfl rfl
theorem dksL_law_81 : cL_law.data.toList.drop 2073 = dktL_law_81 := dk_seg dksL_law_80 24 rfl rfl
theorem dksL_law_82 : cL_law.data.toList.drop 2097 = dktL_law_82 := dk_seg dksL_law_81 24 rfl rfl
theorem dksL_law_83 : cL_law.data.toList.drop 2121 = dktL_law_83 := dk_seg dksL_law_82 24 rfl rfl
theorem dksL_law_84 : cL_law.data.toList.drop 2145 = dktL_law_84 := dk_seg dksL_law_83 24 rfl rfl
theorem dksL_law_85 : cL_law.data.toList.drop 2169 = dktL_law_85 := dk_seg dksL_law_84 24 rfl rfl
theorem dksL_law_86 : cL_law.data.toList.drop 2193 = dktL_law_86 := dk_seg dksL_law_85 24 rfl rfl
theorem dksL_law_87 : cL_law.data.toList.drop 2217 = dktL_law_87 := dk_seg dksL_law_86 24 rfl rfl
theorem dksL_law_88 : cL_law.data.toList.drop 2241 = dktL_law_88 := dk_seg dksL_law_87 24 rfl rfl
theorem dksL_law_89 : cL_law.data.toList.drop 2265 = dktL_law_89 := dk_seg dksL_law_88 24 rfl rfl
theorem dksL_law_90 : cL_law.data.toList.drop 2288 = dktL_law_90 := dk_seg dksL_law_89 23 rfl rfl
theorem dksL_law_91 : cL_law.data.toList.drop 2312 = dktL_law_91 := dk_seg dksL_law_90 24 rfl rfl
theorem dksL_law_92 : cL_law.data.toList.drop 2336 = dktL_law_92 := dk_seg dksL_law_91 24 rfl rfl
theorem dksL_law_93 : cL_law.data.toList.drop 2360 = dktL_law_93 := dk_seg dksL_law_92 24 rfl rfl
theorem dksL_law_94 : cL_law.data.toList.drop 2384 = dktL_law_94 := dk_seg dksL_law_93 24 rfl rfl
theorem dksL_law_95 : cL_law.data.toList.drop 2408 = dktL_law_95 := dk_seg dksL_law_94 24 rfl rfl
theorem dksL_law_96 : cL_law.data.toList.drop 2430 = dktL_law_96 := dk_seg dksL_law_95 22 rfl rfl
theorem dksL_law_97 : cL_law.data.toList.drop 2453 = dktL_law_97 := dk_seg dksL_law_96 23 rfl rfl
theorem dksL_law_98 : cL_law.data.toList.drop 2475 = dktL_law_98 := dk_seg dksL_law_97 22 rfl rfl
theorem dksL_law_99 : cL_law.data.toList.drop 2499 = dktL_law_99 := dk_seg dksL_law_98 24 rfl rfl
theorem dksL_law_100 : cL_law.data.toList.drop 2521 = dktL_law_100 := dk_seg dksL_law_99 22 rfl rfl
theorem dksL_law_101 : cL_law.data.toList.drop 2543 = dktL_law_101 := dk_seg dksL_law_100 22 rfl rfl
theorem dksL_law_102 : cL_law.data.toList.drop 2567 = dktL_law_102 := dk_seg dksL_law_101 24 rfl rfl
theorem dksL_law_103 : cL_law.data.toList.drop 2589 = dktL_law_103 := dk_seg dksL_law_102 22 rfl rfl
theorem dksL_law_104 : cL_law.data.toList.drop 2611 = dktL_law_104 := dk_seg dksL_law_103 22 rfl rfl
theorem dksL_law_105 : cL_law.data.toList.drop 2635 = dktL_law_105 := dk_seg dksL_law_104 24 rfl rfl
theorem dksL_law_106 : cL_law.data.toList.drop 2659 = dktL_law_106 := dk_seg dksL_law_105 24 rfl rfl
theorem dksL_law_107 : cL_law.data.toList.drop 2683 = dktL_law_107 := dk_seg dksL_law_106 24 rfl rfl
theorem dksL_law_108 : cL_law.data.toList.drop 2706 = dktL_law_108 := dk_seg dksL_law_107 23 rfl rfl
theorem dL_law_0 : decode cL_law 0 = .ok (.new 8, 3) := dk_187 0 8 (dk_at dksL_law_0 0 rfl rfl)
theorem dL_law_3 : decode cL_law 3 = .ok (.dup, 1) := dk_89 (dk_at dksL_law_0 3 rfl rfl)
theorem dL_law_4 : decode cL_law 4 = .ok (.invokespecial 122, 3) := dk_183 0 122 (dk_at dksL_law_0 4 rfl rfl)
theorem dL_law_7 : decode cL_law 7 = .ok (.astore_n 1, 1) := dk_76 (dk_at dksL_law_0 7 rfl rfl)
theorem dL_law_8 : decode cL_law 8 = .ok (.new 123, 3) := dk_187 0 123 (dk_at dksL_law_0 8 rfl rfl)
theorem dL_law_11 : decode cL_law 11 = .ok (.dup, 1) := dk_89 (dk_at dksL_law_0 11 rfl rfl)
theorem dL_law_12 : decode cL_law 12 = .ok (.invokespecial 125, 3) := dk_183 0 125 (dk_at dksL_law_0 12 rfl rfl)
theorem dL_law_15 : decode cL_law 15 = .ok (.astore_n 2, 1) := dk_77 (dk_at dksL_law_0 15 rfl rfl)
theorem dL_law_16 : decode cL_law 16 = .ok (.iconst 1, 1) := dk_4 (dk_at dksL_law_0 16 rfl rfl)
theorem dL_law_17 : decode cL_law 17 = .ok (.newarray .long, 2) := dk_188_11 (dk_at dksL_law_0 17 rfl rfl)
theorem dL_law_19 : decode cL_law 19 = .ok (.astore_n 3, 1) := dk_78 (dk_at dksL_law_0 19 rfl rfl)
theorem dL_law_20 : decode cL_law 20 = .ok (.iconst 0, 1) := dk_3 (dk_at dksL_law_0 20 rfl rfl)
theorem dL_law_21 : decode cL_law 21 = .ok (.istore 4, 2) := dk_54 4 (dk_at dksL_law_0 21 rfl rfl)
theorem dL_law_23 : decode cL_law 23 = .ok (.iload 4, 2) := dk_21 4 (dk_at dksL_law_1 0 rfl rfl)
theorem dL_law_25 : decode cL_law 25 = .ok (.aload_n 0, 1) := dk_42 (dk_at dksL_law_1 2 rfl rfl)
theorem dL_law_26 : decode cL_law 26 = .ok (.arraylength, 1) := dk_190 (dk_at dksL_law_1 3 rfl rfl)
theorem dL_law_27 : decode cL_law 27 = .ok (.bipush 6, 2) := dk_16 6 (dk_at dksL_law_1 4 rfl rfl)
theorem dL_law_29 : decode cL_law 29 = .ok (.isub, 1) := dk_100 (dk_at dksL_law_1 6 rfl rfl)
theorem dL_law_30 : decode cL_law 30 = .ok (.if_icmp .gt 2679, 3) := dk_163 10 119 (dk_at dksL_law_1 7 rfl rfl)
theorem dL_law_33 : decode cL_law 33 = .ok (.aload_n 0, 1) := dk_42 (dk_at dksL_law_1 10 rfl rfl)
theorem dL_law_34 : decode cL_law 34 = .ok (.iload 4, 2) := dk_21 4 (dk_at dksL_law_1 11 rfl rfl)
theorem dL_law_36 : decode cL_law 36 = .ok (.iaload, 1) := dk_46 (dk_at dksL_law_1 13 rfl rfl)
theorem dL_law_37 : decode cL_law 37 = .ok (.bipush 63, 2) := dk_16 63 (dk_at dksL_law_1 14 rfl rfl)
theorem dL_law_39 : decode cL_law 39 = .ok (.iand, 1) := dk_126 (dk_at dksL_law_1 16 rfl rfl)
theorem dL_law_40 : decode cL_law 40 = .ok (.tableswitch 2663 0 45 #[200, 273, 329, 397, 453, 509, 522, 578, 646, 714, 770, 826, 893, 984, 1040, 1119, 1174, 1187, 1254, 1321, 1376, 1431, 1510, 1566, 1645, 1712, 1779, 1792, 1805, 1860, 1927, 1994, 2007, 2062, 2141, 2154, 2234, 2314, 2382, 2438, 2506, 2574, 2587, 2600, 2613, 2638], 200) := by decide +kernel
theorem dL_law_240 : decode cL_law 240 = .ok (.aload_n 1, 1) := dk_43 (dk_at dksL_law_3 0 rfl rfl)
theorem dL_law_241 : decode cL_law 241 = .ok (.aload_n 0, 1) := dk_42 (dk_at dksL_law_3 1 rfl rfl)
theorem dL_law_242 : decode cL_law 242 = .ok (.iload 4, 2) := dk_21 4 (dk_at dksL_law_3 2 rfl rfl)
theorem dL_law_244 : decode cL_law 244 = .ok (.iconst 1, 1) := dk_4 (dk_at dksL_law_3 4 rfl rfl)
theorem dL_law_245 : decode cL_law 245 = .ok (.iadd, 1) := dk_96 (dk_at dksL_law_3 5 rfl rfl)
theorem dL_law_246 : decode cL_law 246 = .ok (.iaload, 1) := dk_46 (dk_at dksL_law_3 6 rfl rfl)
theorem dL_law_247 : decode cL_law 247 = .ok (.aload_n 0, 1) := dk_42 (dk_at dksL_law_3 7 rfl rfl)
theorem dL_law_248 : decode cL_law 248 = .ok (.iload 4, 2) := dk_21 4 (dk_at dksL_law_3 8 rfl rfl)
theorem dL_law_250 : decode cL_law 250 = .ok (.iconst 2, 1) := dk_5 (dk_at dksL_law_3 10 rfl rfl)
theorem dL_law_251 : decode cL_law 251 = .ok (.iadd, 1) := dk_96 (dk_at dksL_law_3 11 rfl rfl)
theorem dL_law_252 : decode cL_law 252 = .ok (.iaload, 1) := dk_46 (dk_at dksL_law_3 12 rfl rfl)
theorem dL_law_253 : decode cL_law 253 = .ok (.aload_n 0, 1) := dk_42 (dk_at dksL_law_3 13 rfl rfl)
theorem dL_law_254 : decode cL_law 254 = .ok (.iload 4, 2) := dk_21 4 (dk_at dksL_law_3 14 rfl rfl)
theorem dL_law_256 : decode cL_law 256 = .ok (.iconst 3, 1) := dk_6 (dk_at dksL_law_3 16 rfl rfl)
theorem dL_law_257 : decode cL_law 257 = .ok (.iadd, 1) := dk_96 (dk_at dksL_law_3 17 rfl rfl)
theorem dL_law_258 : decode cL_law 258 = .ok (.iaload, 1) := dk_46 (dk_at dksL_law_3 18 rfl rfl)
theorem dL_law_259 : decode cL_law 259 = .ok (.aload_n 0, 1) := dk_42 (dk_at dksL_law_3 19 rfl rfl)
theorem dL_law_260 : decode cL_law 260 = .ok (.iload 4, 2) := dk_21 4 (dk_at dksL_law_3 20 rfl rfl)
theorem dL_law_262 : decode cL_law 262 = .ok (.iconst 4, 1) := dk_7 (dk_at dksL_law_3 22 rfl rfl)
theorem dL_law_263 : decode cL_law 263 = .ok (.iadd, 1) := dk_96 (dk_at dksL_law_3 23 rfl rfl)
theorem dL_law_264 : decode cL_law 264 = .ok (.iaload, 1) := dk_46 (dk_at dksL_law_4 0 rfl rfl)
theorem dL_law_265 : decode cL_law 265 = .ok (.aload_n 0, 1) := dk_42 (dk_at dksL_law_4 1 rfl rfl)
theorem dL_law_266 : decode cL_law 266 = .ok (.iload 4, 2) := dk_21 4 (dk_at dksL_law_4 2 rfl rfl)
theorem dL_law_268 : decode cL_law 268 = .ok (.iconst 5, 1) := dk_8 (dk_at dksL_law_4 4 rfl rfl)
theorem dL_law_269 : decode cL_law 269 = .ok (.iadd, 1) := dk_96 (dk_at dksL_law_4 5 rfl rfl)
theorem dL_law_270 : decode cL_law 270 = .ok (.iaload, 1) := dk_46 (dk_at dksL_law_4 6 rfl rfl)
theorem dL_law_271 : decode cL_law 271 = .ok (.invokevirtual 126, 3) := dk_182 0 126 (dk_at dksL_law_4 7 rfl rfl)
theorem dL_law_274 : decode cL_law 274 = .ok (.aload_n 2, 1) := dk_44 (dk_at dksL_law_4 10 rfl rfl)
theorem dL_law_275 : decode cL_law 275 = .ok (.aload_n 0, 1) := dk_42 (dk_at dksL_law_4 11 rfl rfl)
theorem dL_law_276 : decode cL_law 276 = .ok (.iload 4, 2) := dk_21 4 (dk_at dksL_law_4 12 rfl rfl)
theorem dL_law_278 : decode cL_law 278 = .ok (.iconst 1, 1) := dk_4 (dk_at dksL_law_4 14 rfl rfl)
theorem dL_law_279 : decode cL_law 279 = .ok (.iadd, 1) := dk_96 (dk_at dksL_law_4 15 rfl rfl)
theorem dL_law_280 : decode cL_law 280 = .ok (.iaload, 1) := dk_46 (dk_at dksL_law_4 16 rfl rfl)
theorem dL_law_281 : decode cL_law 281 = .ok (.aload_n 0, 1) := dk_42 (dk_at dksL_law_4 17 rfl rfl)
theorem dL_law_282 : decode cL_law 282 = .ok (.iload 4, 2) := dk_21 4 (dk_at dksL_law_4 18 rfl rfl)
theorem dL_law_284 : decode cL_law 284 = .ok (.iconst 2, 1) := dk_5 (dk_at dksL_law_4 20 rfl rfl)
theorem dL_law_285 : decode cL_law 285 = .ok (.iadd, 1) := dk_96 (dk_at dksL_law_4 21 rfl rfl)
theorem dL_law_286 : decode cL_law 286 = .ok (.iaload, 1) := dk_46 (dk_at dksL_law_4 22 rfl rfl)
theorem dL_law_287 : decode cL_law 287 = .ok (.aload_n 0, 1) := dk_42 (dk_at dksL_law_4 23 rfl rfl)
theorem dL_law_288 : decode cL_law 288 = .ok (.iload 4, 2) := dk_21 4 (dk_at dksL_law_5 0 rfl rfl)
theorem dL_law_290 : decode cL_law 290 = .ok (.iconst 3, 1) := dk_6 (dk_at dksL_law_5 2 rfl rfl)
theorem dL_law_291 : decode cL_law 291 = .ok (.iadd, 1) := dk_96 (dk_at dksL_law_5 3 rfl rfl)
theorem dL_law_292 : decode cL_law 292 = .ok (.iaload, 1) := dk_46 (dk_at dksL_law_5 4 rfl rfl)
theorem dL_law_293 : decode cL_law 293 = .ok (.aload_n 0, 1) := dk_42 (dk_at dksL_law_5 5 rfl rfl)
theorem dL_law_294 : decode cL_law 294 = .ok (.iload 4, 2) := dk_21 4 (dk_at dksL_law_5 6 rfl rfl)
theorem dL_law_296 : decode cL_law 296 = .ok (.iconst 4, 1) := dk_7 (dk_at dksL_law_5 8 rfl rfl)
theorem dL_law_297 : decode cL_law 297 = .ok (.iadd, 1) := dk_96 (dk_at dksL_law_5 9 rfl rfl)
theorem dL_law_298 : decode cL_law 298 = .ok (.iaload, 1) := dk_46 (dk_at dksL_law_5 10 rfl rfl)
theorem dL_law_299 : decode cL_law 299 = .ok (.aload_n 0, 1) := dk_42 (dk_at dksL_law_5 11 rfl rfl)
theorem dL_law_300 : decode cL_law 300 = .ok (.iload 4, 2) := dk_21 4 (dk_at dksL_law_5 12 rfl rfl)
theorem dL_law_302 : decode cL_law 302 = .ok (.iconst 5, 1) := dk_8 (dk_at dksL_law_5 14 rfl rfl)
theorem dL_law_303 : decode cL_law 303 = .ok (.iadd, 1) := dk_96 (dk_at dksL_law_5 15 rfl rfl)
theorem dL_law_304 : decode cL_law 304 = .ok (.iaload, 1) := dk_46 (dk_at dksL_law_5 16 rfl rfl)
theorem dL_law_305 : decode cL_law 305 = .ok (.invokevirtual 130, 3) := dk_182 0 130 (dk_at dksL_law_5 17 rfl rfl)
theorem dL_law_308 : decode cL_law 308 = .ok (.if_icmp .eq 2395, 3) := dk_159 9 91 (dk_at dksL_law_5 20 rfl rfl)
theorem dL_law_311 : decode cL_law 311 = .ok (.iconst 0, 1) := dk_3 (dk_at dksL_law_5 23 rfl rfl)
theorem dL_law_312 : decode cL_law 312 = .ok (.ireturn, 1) := dk_172 (dk_at dksL_law_6 0 rfl rfl)
theorem dL_law_313 : decode cL_law 313 = .ok (.aload_n 1, 1) := dk_43 (dk_at dksL_law_6 1 rfl rfl)
theorem dL_law_314 : decode cL_law 314 = .ok (.aload_n 0, 1) := dk_42 (dk_at dksL_law_6 2 rfl rfl)
theorem dL_law_315 : decode cL_law 315 = .ok (.iload 4, 2) := dk_21 4 (dk_at dksL_law_6 3 rfl rfl)
theorem dL_law_317 : decode cL_law 317 = .ok (.iconst 1, 1) := dk_4 (dk_at dksL_law_6 5 rfl rfl)
theorem dL_law_318 : decode cL_law 318 = .ok (.iadd, 1) := dk_96 (dk_at dksL_law_6 6 rfl rfl)
theorem dL_law_319 : decode cL_law 319 = .ok (.iaload, 1) := dk_46 (dk_at dksL_law_6 7 rfl rfl)
theorem dL_law_320 : decode cL_law 320 = .ok (.aload_n 3, 1) := dk_45 (dk_at dksL_law_6 8 rfl rfl)
theorem dL_law_321 : decode cL_law 321 = .ok (.invokestatic 131, 3) := dk_184 0 131 (dk_at dksL_law_6 9 rfl rfl)
theorem dL_law_324 : decode cL_law 324 = .ok (.istore 5, 2) := dk_54 5 (dk_at dksL_law_6 12 rfl rfl)
theorem dL_law_326 : decode cL_law 326 = .ok (.aload_n 2, 1) := dk_44 (dk_at dksL_law_6 14 rfl rfl)
theorem dL_law_327 : decode cL_law 327 = .ok (.aload_n 0, 1) := dk_42 (dk_at dksL_law_6 15 rfl rfl)
theorem dL_law_328 : decode cL_law 328 = .ok (.iload 4, 2) := dk_21 4 (dk_at dksL_law_6 16 rfl rfl)
theorem dL_law_330 : decode cL_law 330 = .ok (.iconst 1, 1) := dk_4 (dk_at dksL_law_6 18 rfl rfl)
theorem dL_law_331 : decode cL_law 331 = .ok (.iadd, 1) := dk_96 (dk_at dksL_law_6 19 rfl rfl)
theorem dL_law_332 : decode cL_law 332 = .ok (.iaload, 1) := dk_46 (dk_at dksL_law_6 20 rfl rfl)
theorem dL_law_333 : decode cL_law 333 = .ok (.invokevirtual 136, 3) := dk_182 0 136 (dk_at dksL_law_6 21 rfl rfl)
theorem dL_law_336 : decode cL_law 336 = .ok (.istore 6, 2) := dk_54 6 (dk_at dksL_law_7 0 rfl rfl)
theorem dL_law_338 : decode cL_law 338 = .ok (.aload_n 2, 1) := dk_44 (dk_at dksL_law_7 2 rfl rfl)
theorem dL_law_339 : decode cL_law 339 = .ok (.invokevirtual 137, 3) := dk_182 0 137 (dk_at dksL_law_7 3 rfl rfl)
theorem dL_law_342 : decode cL_law 342 = .ok (.iload 5, 2) := dk_21 5 (dk_at dksL_law_7 6 rfl rfl)
theorem dL_law_344 : decode cL_law 344 = .ok (.if_icmp .eq 5, 3) := dk_159 0 5 (dk_at dksL_law_7 8 rfl rfl)
theorem dL_law_347 : decode cL_law 347 = .ok (.iconst 0, 1) := dk_3 (dk_at dksL_law_7 11 rfl rfl)
theorem dL_law_348 : decode cL_law 348 = .ok (.ireturn, 1) := dk_172 (dk_at dksL_law_7 12 rfl rfl)
theorem dL_law_349 : decode cL_law 349 = .ok (.iload 5, 2) := dk_21 5 (dk_at dksL_law_7 13 rfl rfl)
theorem dL_law_351 : decode cL_law 351 = .ok (.ifCond .ne 15, 3) := dk_154 0 15 (dk_at dksL_law_7 15 rfl rfl)
theorem dL_law_354 : decode cL_law 354 = .ok (.aload_n 3, 1) := dk_45 (dk_at dksL_law_7 18 rfl rfl)
theorem dL_law_355 : decode cL_law 355 = .ok (.iconst 0, 1) := dk_3 (dk_at dksL_law_7 19 rfl rfl)
theorem dL_law_356 : decode cL_law 356 = .ok (.laload, 1) := dk_47 (dk_at dksL_law_7 20 rfl rfl)
theorem dL_law_357 : decode cL_law 357 = .ok (.iload 6, 2) := dk_21 6 (dk_at dksL_law_7 21 rfl rfl)
theorem dL_law_359 : decode cL_law 359 = .ok (.i2l, 1) := dk_133 (dk_at dksL_law_7 23 rfl rfl)
theorem dL_law_360 : decode cL_law 360 = .ok (.lcmp, 1) := dk_148 (dk_at dksL_law_8 0 rfl rfl)
theorem dL_law_361 : decode cL_law 361 = .ok (.ifCond .eq 5, 3) := dk_153 0 5 (dk_at dksL_law_8 1 rfl rfl)
theorem dL_law_364 : decode cL_law 364 = .ok (.iconst 0, 1) := dk_3 (dk_at dksL_law_8 4 rfl rfl)
theorem dL_law_365 : decode cL_law 365 = .ok (.ireturn, 1) := dk_172 (dk_at dksL_law_8 5 rfl rfl)
theorem dL_law_366 : decode cL_law 366 = .ok (.goto 2337, 3) := dk_167 9 33 (dk_at dksL_law_8 6 rfl rfl)
theorem dL_law_369 : decode cL_law 369 = .ok (.aload_n 1, 1) := dk_43 (dk_at dksL_law_8 9 rfl rfl)
theorem dL_law_370 : decode cL_law 370 = .ok (.aload_n 0, 1) := dk_42 (dk_at dksL_law_8 10 rfl rfl)
theorem dL_law_371 : decode cL_law 371 = .ok (.iload 4, 2) := dk_21 4 (dk_at dksL_law_8 11 rfl rfl)
theorem dL_law_373 : decode cL_law 373 = .ok (.iconst 1, 1) := dk_4 (dk_at dksL_law_8 13 rfl rfl)
theorem dL_law_374 : decode cL_law 374 = .ok (.iadd, 1) := dk_96 (dk_at dksL_law_8 14 rfl rfl)
theorem dL_law_375 : decode cL_law 375 = .ok (.iaload, 1) := dk_46 (dk_at dksL_law_8 15 rfl rfl)
theorem dL_law_376 : decode cL_law 376 = .ok (.aload_n 0, 1) := dk_42 (dk_at dksL_law_8 16 rfl rfl)
theorem dL_law_377 : decode cL_law 377 = .ok (.iload 4, 2) := dk_21 4 (dk_at dksL_law_8 17 rfl rfl)
theorem dL_law_379 : decode cL_law 379 = .ok (.iconst 2, 1) := dk_5 (dk_at dksL_law_8 19 rfl rfl)
theorem dL_law_380 : decode cL_law 380 = .ok (.iadd, 1) := dk_96 (dk_at dksL_law_8 20 rfl rfl)
theorem dL_law_381 : decode cL_law 381 = .ok (.iaload, 1) := dk_46 (dk_at dksL_law_8 21 rfl rfl)
theorem dL_law_382 : decode cL_law 382 = .ok (.aload_n 3, 1) := dk_45 (dk_at dksL_law_8 22 rfl rfl)
theorem dL_law_383 : decode cL_law 383 = .ok (.invokestatic 141, 3) := dk_184 0 141 (dk_at dksL_law_9 0 rfl rfl)
theorem dL_law_386 : decode cL_law 386 = .ok (.istore 5, 2) := dk_54 5 (dk_at dksL_law_9 3 rfl rfl)
theorem dL_law_388 : decode cL_law 388 = .ok (.aload_n 2, 1) := dk_44 (dk_at dksL_law_9 5 rfl rfl)
theorem dL_law_389 : decode cL_law 389 = .ok (.aload_n 0, 1) := dk_42 (dk_at dksL_law_9 6 rfl rfl)
theorem dL_law_390 : decode cL_law 390 = .ok (.iload 4, 2) := dk_21 4 (dk_at dksL_law_9 7 rfl rfl)
theorem dL_law_392 : decode cL_law 392 = .ok (.iconst 1, 1) := dk_4 (dk_at dksL_law_9 9 rfl rfl)
theorem dL_law_393 : decode cL_law 393 = .ok (.iadd, 1) := dk_96 (dk_at dksL_law_9 10 rfl rfl)
theorem dL_law_394 : decode cL_law 394 = .ok (.iaload, 1) := dk_46 (dk_at dksL_law_9 11 rfl rfl)
theorem dL_law_395 : decode cL_law 395 = .ok (.aload_n 0, 1) := dk_42 (dk_at dksL_law_9 12 rfl rfl)
theorem dL_law_396 : decode cL_law 396 = .ok (.iload 4, 2) := dk_21 4 (dk_at dksL_law_9 13 rfl rfl)
theorem dL_law_398 : decode cL_law 398 = .ok (.iconst 2, 1) := dk_5 (dk_at dksL_law_9 15 rfl rfl)
theorem dL_law_399 : decode cL_law 399 = .ok (.iadd, 1) := dk_96 (dk_at dksL_law_9 16 rfl rfl)
theorem dL_law_400 : decode cL_law 400 = .ok (.iaload, 1) := dk_46 (dk_at dksL_law_9 17 rfl rfl)
theorem dL_law_401 : decode cL_law 401 = .ok (.invokevirtual 144, 3) := dk_182 0 144 (dk_at dksL_law_9 18 rfl rfl)
theorem dL_law_404 : decode cL_law 404 = .ok (.istore 6, 2) := dk_54 6 (dk_at dksL_law_9 21 rfl rfl)
theorem dL_law_406 : decode cL_law 406 = .ok (.aload_n 2, 1) := dk_44 (dk_at dksL_law_9 23 rfl rfl)
theorem dL_law_407 : decode cL_law 407 = .ok (.invokevirtual 137, 3) := dk_182 0 137 (dk_at dksL_law_10 0 rfl rfl)
theorem dL_law_410 : decode cL_law 410 = .ok (.iload 5, 2) := dk_21 5 (dk_at dksL_law_10 3 rfl rfl)
theorem dL_law_412 : decode cL_law 412 = .ok (.if_icmp .eq 5, 3) := dk_159 0 5 (dk_at dksL_law_10 5 rfl rfl)
theorem dL_law_415 : decode cL_law 415 = .ok (.iconst 0, 1) := dk_3 (dk_at dksL_law_10 8 rfl rfl)
theorem dL_law_416 : decode cL_law 416 = .ok (.ireturn, 1) := dk_172 (dk_at dksL_law_10 9 rfl rfl)
theorem dL_law_417 : decode cL_law 417 = .ok (.iload 5, 2) := dk_21 5 (dk_at dksL_law_10 10 rfl rfl)
theorem dL_law_419 : decode cL_law 419 = .ok (.ifCond .ne 15, 3) := dk_154 0 15 (dk_at dksL_law_10 12 rfl rfl)
theorem dL_law_422 : decode cL_law 422 = .ok (.aload_n 3, 1) := dk_45 (dk_at dksL_law_10 15 rfl rfl)
theorem dL_law_423 : decode cL_law 423 = .ok (.iconst 0, 1) := dk_3 (dk_at dksL_law_10 16 rfl rfl)
theorem dL_law_424 : decode cL_law 424 = .ok (.laload, 1) := dk_47 (dk_at dksL_law_10 17 rfl rfl)
theorem dL_law_425 : decode cL_law 425 = .ok (.iload 6, 2) := dk_21 6 (dk_at dksL_law_10 18 rfl rfl)
theorem dL_law_427 : decode cL_law 427 = .ok (.i2l, 1) := dk_133 (dk_at dksL_law_10 20 rfl rfl)
theorem dL_law_428 : decode cL_law 428 = .ok (.lcmp, 1) := dk_148 (dk_at dksL_law_10 21 rfl rfl)
theorem dL_law_429 : decode cL_law 429 = .ok (.ifCond .eq 5, 3) := dk_153 0 5 (dk_at dksL_law_11 0 rfl rfl)
theorem dL_law_432 : decode cL_law 432 = .ok (.iconst 0, 1) := dk_3 (dk_at dksL_law_11 3 rfl rfl)
theorem dL_law_433 : decode cL_law 433 = .ok (.ireturn, 1) := dk_172 (dk_at dksL_law_11 4 rfl rfl)
theorem dL_law_434 : decode cL_law 434 = .ok (.goto 2269, 3) := dk_167 8 221 (dk_at dksL_law_11 5 rfl rfl)
theorem dL_law_437 : decode cL_law 437 = .ok (.aload_n 1, 1) := dk_43 (dk_at dksL_law_11 8 rfl rfl)
theorem dL_law_438 : decode cL_law 438 = .ok (.aload_n 0, 1) := dk_42 (dk_at dksL_law_11 9 rfl rfl)
theorem dL_law_439 : decode cL_law 439 = .ok (.iload 4, 2) := dk_21 4 (dk_at dksL_law_11 10 rfl rfl)
theorem dL_law_441 : decode cL_law 441 = .ok (.iconst 1, 1) := dk_4 (dk_at dksL_law_11 12 rfl rfl)
theorem dL_law_442 : decode cL_law 442 = .ok (.iadd, 1) := dk_96 (dk_at dksL_law_11 13 rfl rfl)
theorem dL_law_443 : decode cL_law 443 = .ok (.iaload, 1) := dk_46 (dk_at dksL_law_11 14 rfl rfl)
theorem dL_law_444 : decode cL_law 444 = .ok (.aload_n 3, 1) := dk_45 (dk_at dksL_law_11 15 rfl rfl)
theorem dL_law_445 : decode cL_law 445 = .ok (.invokestatic 145, 3) := dk_184 0 145 (dk_at dksL_law_11 16 rfl rfl)
theorem dL_law_448 : decode cL_law 448 = .ok (.istore 5, 2) := dk_54 5 (dk_at dksL_law_11 19 rfl rfl)
theorem dL_law_450 : decode cL_law 450 = .ok (.aload_n 2, 1) := dk_44 (dk_at dksL_law_11 21 rfl rfl)
theorem dL_law_451 : decode cL_law 451 = .ok (.aload_n 0, 1) := dk_42 (dk_at dksL_law_11 22 rfl rfl)
theorem dL_law_452 : decode cL_law 452 = .ok (.iload 4, 2) := dk_21 4 (dk_at dksL_law_12 0 rfl rfl)
theorem dL_law_454 : decode cL_law 454 = .ok (.iconst 1, 1) := dk_4 (dk_at dksL_law_12 2 rfl rfl)
theorem dL_law_455 : decode cL_law 455 = .ok (.iadd, 1) := dk_96 (dk_at dksL_law_12 3 rfl rfl)
theorem dL_law_456 : decode cL_law 456 = .ok (.iaload, 1) := dk_46 (dk_at dksL_law_12 4 rfl rfl)
theorem dL_law_457 : decode cL_law 457 = .ok (.invokevirtual 147, 3) := dk_182 0 147 (dk_at dksL_law_12 5 rfl rfl)
theorem dL_law_460 : decode cL_law 460 = .ok (.istore 6, 2) := dk_54 6 (dk_at dksL_law_12 8 rfl rfl)
theorem dL_law_462 : decode cL_law 462 = .ok (.aload_n 2, 1) := dk_44 (dk_at dksL_law_12 10 rfl rfl)
theorem dL_law_463 : decode cL_law 463 = .ok (.invokevirtual 137, 3) := dk_182 0 137 (dk_at dksL_law_12 11 rfl rfl)
theorem dL_law_466 : decode cL_law 466 = .ok (.iload 5, 2) := dk_21 5 (dk_at dksL_law_12 14 rfl rfl)
theorem dL_law_468 : decode cL_law 468 = .ok (.if_icmp .eq 5, 3) := dk_159 0 5 (dk_at dksL_law_12 16 rfl rfl)
theorem dL_law_471 : decode cL_law 471 = .ok (.iconst 0, 1) := dk_3 (dk_at dksL_law_12 19 rfl rfl)
theorem dL_law_472 : decode cL_law 472 = .ok (.ireturn, 1) := dk_172 (dk_at dksL_law_12 20 rfl rfl)
theorem dL_law_473 : decode cL_law 473 = .ok (.iload 5, 2) := dk_21 5 (dk_at dksL_law_12 21 rfl rfl)
theorem dL_law_475 : decode cL_law 475 = .ok (.ifCond .ne 15, 3) := dk_154 0 15 (dk_at dksL_law_13 0 rfl rfl)
theorem dL_law_478 : decode cL_law 478 = .ok (.aload_n 3, 1) := dk_45 (dk_at dksL_law_13 3 rfl rfl)
theorem dL_law_479 : decode cL_law 479 = .ok (.iconst 0, 1) := dk_3 (dk_at dksL_law_13 4 rfl rfl)
theorem dL_law_480 : decode cL_law 480 = .ok (.laload, 1) := dk_47 (dk_at dksL_law_13 5 rfl rfl)
theorem dL_law_481 : decode cL_law 481 = .ok (.iload 6, 2) := dk_21 6 (dk_at dksL_law_13 6 rfl rfl)
theorem dL_law_483 : decode cL_law 483 = .ok (.i2l, 1) := dk_133 (dk_at dksL_law_13 8 rfl rfl)
theorem dL_law_484 : decode cL_law 484 = .ok (.lcmp, 1) := dk_148 (dk_at dksL_law_13 9 rfl rfl)
theorem dL_law_485 : decode cL_law 485 = .ok (.ifCond .eq 5, 3) := dk_153 0 5 (dk_at dksL_law_13 10 rfl rfl)
theorem dL_law_488 : decode cL_law 488 = .ok (.iconst 0, 1) := dk_3 (dk_at dksL_law_13 13 rfl rfl)
theorem dL_law_489 : decode cL_law 489 = .ok (.ireturn, 1) := dk_172 (dk_at dksL_law_13 14 rfl rfl)
theorem dL_law_490 : decode cL_law 490 = .ok (.goto 2213, 3) := dk_167 8 165 (dk_at dksL_law_13 15 rfl rfl)
theorem dL_law_493 : decode cL_law 493 = .ok (.aload_n 1, 1) := dk_43 (dk_at dksL_law_13 18 rfl rfl)
theorem dL_law_494 : decode cL_law 494 = .ok (.aload_n 0, 1) := dk_42 (dk_at dksL_law_13 19 rfl rfl)
theorem dL_law_495 : decode cL_law 495 = .ok (.iload 4, 2) := dk_21 4 (dk_at dksL_law_13 20 rfl rfl)
theorem dL_law_497 : decode cL_law 497 = .ok (.iconst 1, 1) := dk_4 (dk_at dksL_law_13 22 rfl rfl)
theorem dL_law_498 : decode cL_law 498 = .ok (.iadd, 1) := dk_96 (dk_at dksL_law_13 23 rfl rfl)
theorem dL_law_499 : decode cL_law 499 = .ok (.iaload, 1) := dk_46 (dk_at dksL_law_14 0 rfl rfl)
theorem dL_law_500 : decode cL_law 500 = .ok (.aload_n 3, 1) := dk_45 (dk_at dksL_law_14 1 rfl rfl)
theorem dL_law_501 : decode cL_law 501 = .ok (.invokestatic 148, 3) := dk_184 0 148 (dk_at dksL_law_14 2 rfl rfl)
theorem dL_law_504 : decode cL_law 504 = .ok (.istore 5, 2) := dk_54 5 (dk_at dksL_law_14 5 rfl rfl)
theorem dL_law_506 : decode cL_law 506 = .ok (.aload_n 2, 1) := dk_44 (dk_at dksL_law_14 7 rfl rfl)
theorem dL_law_507 : decode cL_law 507 = .ok (.aload_n 0, 1) := dk_42 (dk_at dksL_law_14 8 rfl rfl)
theorem dL_law_508 : decode cL_law 508 = .ok (.iload 4, 2) := dk_21 4 (dk_at dksL_law_14 9 rfl rfl)
theorem dL_law_510 : decode cL_law 510 = .ok (.iconst 1, 1) := dk_4 (dk_at dksL_law_14 11 rfl rfl)
theorem dL_law_511 : decode cL_law 511 = .ok (.iadd, 1) := dk_96 (dk_at dksL_law_14 12 rfl rfl)
theorem dL_law_512 : decode cL_law 512 = .ok (.iaload, 1) := dk_46 (dk_at dksL_law_14 13 rfl rfl)
theorem dL_law_513 : decode cL_law 513 = .ok (.invokevirtual 150, 3) := dk_182 0 150 (dk_at dksL_law_14 14 rfl rfl)
theorem dL_law_516 : decode cL_law 516 = .ok (.istore 6, 2) := dk_54 6 (dk_at dksL_law_14 17 rfl rfl)
theorem dL_law_518 : decode cL_law 518 = .ok (.aload_n 2, 1) := dk_44 (dk_at dksL_law_14 19 rfl rfl)
theorem dL_law_519 : decode cL_law 519 = .ok (.invokevirtual 137, 3) := dk_182 0 137 (dk_at dksL_law_14 20 rfl rfl)
theorem dL_law_522 : decode cL_law 522 = .ok (.iload 5, 2) := dk_21 5 (dk_at dksL_law_15 0 rfl rfl)
theorem dL_law_524 : decode cL_law 524 = .ok (.if_icmp .eq 5, 3) := dk_159 0 5 (dk_at dksL_law_15 2 rfl rfl)
theorem dL_law_527 : decode cL_law 527 = .ok (.iconst 0, 1) := dk_3 (dk_at dksL_law_15 5 rfl rfl)
theorem dL_law_528 : decode cL_law 528 = .ok (.ireturn, 1) := dk_172 (dk_at dksL_law_15 6 rfl rfl)
theorem dL_law_529 : decode cL_law 529 = .ok (.iload 5, 2) := dk_21 5 (dk_at dksL_law_15 7 rfl rfl)
theorem dL_law_531 : decode cL_law 531 = .ok (.ifCond .ne 15, 3) := dk_154 0 15 (dk_at dksL_law_15 9 rfl rfl)
theorem dL_law_534 : decode cL_law 534 = .ok (.aload_n 3, 1) := dk_45 (dk_at dksL_law_15 12 rfl rfl)
theorem dL_law_535 : decode cL_law 535 = .ok (.iconst 0, 1) := dk_3 (dk_at dksL_law_15 13 rfl rfl)
theorem dL_law_536 : decode cL_law 536 = .ok (.laload, 1) := dk_47 (dk_at dksL_law_15 14 rfl rfl)
theorem dL_law_537 : decode cL_law 537 = .ok (.iload 6, 2) := dk_21 6 (dk_at dksL_law_15 15 rfl rfl)
theorem dL_law_539 : decode cL_law 539 = .ok (.i2l, 1) := dk_133 (dk_at dksL_law_15 17 rfl rfl)
theorem dL_law_540 : decode cL_law 540 = .ok (.lcmp, 1) := dk_148 (dk_at dksL_law_15 18 rfl rfl)
theorem dL_law_541 : decode cL_law 541 = .ok (.ifCond .eq 5, 3) := dk_153 0 5 (dk_at dksL_law_15 19 rfl rfl)
theorem dL_law_544 : decode cL_law 544 = .ok (.iconst 0, 1) := dk_3 (dk_at dksL_law_15 22 rfl rfl)
theorem dL_law_545 : decode cL_law 545 = .ok (.ireturn, 1) := dk_172 (dk_at dksL_law_15 23 rfl rfl)
theorem dL_law_546 : decode cL_law 546 = .ok (.goto 2157, 3) := dk_167 8 109 (dk_at dksL_law_16 0 rfl rfl)
theorem dL_law_549 : decode cL_law 549 = .ok (.aload_n 1, 1) := dk_43 (dk_at dksL_law_16 3 rfl rfl)
theorem dL_law_550 : decode cL_law 550 = .ok (.invokevirtual 151, 3) := dk_182 0 151 (dk_at dksL_law_16 4 rfl rfl)
theorem dL_law_553 : decode cL_law 553 = .ok (.aload_n 2, 1) := dk_44 (dk_at dksL_law_16 7 rfl rfl)
theorem dL_law_554 : decode cL_law 554 = .ok (.invokevirtual 154, 3) := dk_182 0 154 (dk_at dksL_law_16 8 rfl rfl)
theorem dL_law_557 : decode cL_law 557 = .ok (.if_icmp .eq 2146, 3) := dk_159 8 98 (dk_at dksL_law_16 11 rfl rfl)
theorem dL_law_560 : decode cL_law 560 = .ok (.iconst 0, 1) := dk_3 (dk_at dksL_law_16 14 rfl rfl)
theorem dL_law_561 : decode cL_law 561 = .ok (.ireturn, 1) := dk_172 (dk_at dksL_law_16 15 rfl rfl)
theorem dL_law_562 : decode cL_law 562 = .ok (.aload_n 1, 1) := dk_43 (dk_at dksL_law_16 16 rfl rfl)
theorem dL_law_563 : decode cL_law 563 = .ok (.aload_n 0, 1) := dk_42 (dk_at dksL_law_16 17 rfl rfl)
theorem dL_law_564 : decode cL_law 564 = .ok (.iload 4, 2) := dk_21 4 (dk_at dksL_law_16 18 rfl rfl)
theorem dL_law_566 : decode cL_law 566 = .ok (.iconst 1, 1) := dk_4 (dk_at dksL_law_16 20 rfl rfl)
theorem dL_law_567 : decode cL_law 567 = .ok (.iadd, 1) := dk_96 (dk_at dksL_law_16 21 rfl rfl)
theorem dL_law_568 : decode cL_law 568 = .ok (.iaload, 1) := dk_46 (dk_at dksL_law_16 22 rfl rfl)
theorem dL_law_569 : decode cL_law 569 = .ok (.aload_n 3, 1) := dk_45 (dk_at dksL_law_16 23 rfl rfl)
theorem dL_law_570 : decode cL_law 570 = .ok (.invokestatic 155, 3) := dk_184 0 155 (dk_at dksL_law_17 0 rfl rfl)
theorem dL_law_573 : decode cL_law 573 = .ok (.istore 5, 2) := dk_54 5 (dk_at dksL_law_17 3 rfl rfl)
theorem dL_law_575 : decode cL_law 575 = .ok (.aload_n 2, 1) := dk_44 (dk_at dksL_law_17 5 rfl rfl)
theorem dL_law_576 : decode cL_law 576 = .ok (.aload_n 0, 1) := dk_42 (dk_at dksL_law_17 6 rfl rfl)
theorem dL_law_577 : decode cL_law 577 = .ok (.iload 4, 2) := dk_21 4 (dk_at dksL_law_17 7 rfl rfl)
theorem dL_law_579 : decode cL_law 579 = .ok (.iconst 1, 1) := dk_4 (dk_at dksL_law_17 9 rfl rfl)
theorem dL_law_580 : decode cL_law 580 = .ok (.iadd, 1) := dk_96 (dk_at dksL_law_17 10 rfl rfl)
theorem dL_law_581 : decode cL_law 581 = .ok (.iaload, 1) := dk_46 (dk_at dksL_law_17 11 rfl rfl)
theorem dL_law_582 : decode cL_law 582 = .ok (.invokevirtual 157, 3) := dk_182 0 157 (dk_at dksL_law_17 12 rfl rfl)
theorem dL_law_585 : decode cL_law 585 = .ok (.istore 6, 2) := dk_54 6 (dk_at dksL_law_17 15 rfl rfl)
theorem dL_law_587 : decode cL_law 587 = .ok (.aload_n 2, 1) := dk_44 (dk_at dksL_law_17 17 rfl rfl)
theorem dL_law_588 : decode cL_law 588 = .ok (.invokevirtual 137, 3) := dk_182 0 137 (dk_at dksL_law_17 18 rfl rfl)
theorem dL_law_591 : decode cL_law 591 = .ok (.iload 5, 2) := dk_21 5 (dk_at dksL_law_17 21 rfl rfl)
theorem dL_law_593 : decode cL_law 593 = .ok (.if_icmp .eq 5, 3) := dk_159 0 5 (dk_at dksL_law_18 0 rfl rfl)
theorem dL_law_596 : decode cL_law 596 = .ok (.iconst 0, 1) := dk_3 (dk_at dksL_law_18 3 rfl rfl)
theorem dL_law_597 : decode cL_law 597 = .ok (.ireturn, 1) := dk_172 (dk_at dksL_law_18 4 rfl rfl)
theorem dL_law_598 : decode cL_law 598 = .ok (.iload 5, 2) := dk_21 5 (dk_at dksL_law_18 5 rfl rfl)
theorem dL_law_600 : decode cL_law 600 = .ok (.ifCond .ne 15, 3) := dk_154 0 15 (dk_at dksL_law_18 7 rfl rfl)
theorem dL_law_603 : decode cL_law 603 = .ok (.aload_n 3, 1) := dk_45 (dk_at dksL_law_18 10 rfl rfl)
theorem dL_law_604 : decode cL_law 604 = .ok (.iconst 0, 1) := dk_3 (dk_at dksL_law_18 11 rfl rfl)
theorem dL_law_605 : decode cL_law 605 = .ok (.laload, 1) := dk_47 (dk_at dksL_law_18 12 rfl rfl)
theorem dL_law_606 : decode cL_law 606 = .ok (.iload 6, 2) := dk_21 6 (dk_at dksL_law_18 13 rfl rfl)
theorem dL_law_608 : decode cL_law 608 = .ok (.i2l, 1) := dk_133 (dk_at dksL_law_18 15 rfl rfl)
theorem dL_law_609 : decode cL_law 609 = .ok (.lcmp, 1) := dk_148 (dk_at dksL_law_18 16 rfl rfl)
theorem dL_law_610 : decode cL_law 610 = .ok (.ifCond .eq 5, 3) := dk_153 0 5 (dk_at dksL_law_18 17 rfl rfl)
theorem dL_law_613 : decode cL_law 613 = .ok (.iconst 0, 1) := dk_3 (dk_at dksL_law_18 20 rfl rfl)
theorem dL_law_614 : decode cL_law 614 = .ok (.ireturn, 1) := dk_172 (dk_at dksL_law_18 21 rfl rfl)
theorem dL_law_615 : decode cL_law 615 = .ok (.goto 2088, 3) := dk_167 8 40 (dk_at dksL_law_19 0 rfl rfl)
theorem dL_law_618 : decode cL_law 618 = .ok (.aload_n 1, 1) := dk_43 (dk_at dksL_law_19 3 rfl rfl)
theorem dL_law_619 : decode cL_law 619 = .ok (.aload_n 0, 1) := dk_42 (dk_at dksL_law_19 4 rfl rfl)
theorem dL_law_620 : decode cL_law 620 = .ok (.iload 4, 2) := dk_21 4 (dk_at dksL_law_19 5 rfl rfl)
theorem dL_law_622 : decode cL_law 622 = .ok (.iconst 1, 1) := dk_4 (dk_at dksL_law_19 7 rfl rfl)
theorem dL_law_623 : decode cL_law 623 = .ok (.iadd, 1) := dk_96 (dk_at dksL_law_19 8 rfl rfl)
theorem dL_law_624 : decode cL_law 624 = .ok (.iaload, 1) := dk_46 (dk_at dksL_law_19 9 rfl rfl)
theorem dL_law_625 : decode cL_law 625 = .ok (.aload_n 0, 1) := dk_42 (dk_at dksL_law_19 10 rfl rfl)
theorem dL_law_626 : decode cL_law 626 = .ok (.iload 4, 2) := dk_21 4 (dk_at dksL_law_19 11 rfl rfl)
theorem dL_law_628 : decode cL_law 628 = .ok (.iconst 2, 1) := dk_5 (dk_at dksL_law_19 13 rfl rfl)
theorem dL_law_629 : decode cL_law 629 = .ok (.iadd, 1) := dk_96 (dk_at dksL_law_19 14 rfl rfl)
theorem dL_law_630 : decode cL_law 630 = .ok (.iaload, 1) := dk_46 (dk_at dksL_law_19 15 rfl rfl)
theorem dL_law_631 : decode cL_law 631 = .ok (.aload_n 3, 1) := dk_45 (dk_at dksL_law_19 16 rfl rfl)
theorem dL_law_632 : decode cL_law 632 = .ok (.invokestatic 158, 3) := dk_184 0 158 (dk_at dksL_law_19 17 rfl rfl)
theorem dL_law_635 : decode cL_law 635 = .ok (.istore 5, 2) := dk_54 5 (dk_at dksL_law_19 20 rfl rfl)
theorem dL_law_637 : decode cL_law 637 = .ok (.aload_n 2, 1) := dk_44 (dk_at dksL_law_19 22 rfl rfl)
theorem dL_law_638 : decode cL_law 638 = .ok (.aload_n 0, 1) := dk_42 (dk_at dksL_law_19 23 rfl rfl)
theorem dL_law_639 : decode cL_law 639 = .ok (.iload 4, 2) := dk_21 4 (dk_at dksL_law_20 0 rfl rfl)
theorem dL_law_641 : decode cL_law 641 = .ok (.iconst 1, 1) := dk_4 (dk_at dksL_law_20 2 rfl rfl)
theorem dL_law_642 : decode cL_law 642 = .ok (.iadd, 1) := dk_96 (dk_at dksL_law_20 3 rfl rfl)
theorem dL_law_643 : decode cL_law 643 = .ok (.iaload, 1) := dk_46 (dk_at dksL_law_20 4 rfl rfl)
theorem dL_law_644 : decode cL_law 644 = .ok (.aload_n 0, 1) := dk_42 (dk_at dksL_law_20 5 rfl rfl)
theorem dL_law_645 : decode cL_law 645 = .ok (.iload 4, 2) := dk_21 4 (dk_at dksL_law_20 6 rfl rfl)
theorem dL_law_647 : decode cL_law 647 = .ok (.iconst 2, 1) := dk_5 (dk_at dksL_law_20 8 rfl rfl)
theorem dL_law_648 : decode cL_law 648 = .ok (.iadd, 1) := dk_96 (dk_at dksL_law_20 9 rfl rfl)
theorem dL_law_649 : decode cL_law 649 = .ok (.iaload, 1) := dk_46 (dk_at dksL_law_20 10 rfl rfl)
theorem dL_law_650 : decode cL_law 650 = .ok (.invokevirtual 160, 3) := dk_182 0 160 (dk_at dksL_law_20 11 rfl rfl)
theorem dL_law_653 : decode cL_law 653 = .ok (.istore 6, 2) := dk_54 6 (dk_at dksL_law_20 14 rfl rfl)
theorem dL_law_655 : decode cL_law 655 = .ok (.aload_n 2, 1) := dk_44 (dk_at dksL_law_20 16 rfl rfl)
theorem dL_law_656 : decode cL_law 656 = .ok (.invokevirtual 137, 3) := dk_182 0 137 (dk_at dksL_law_20 17 rfl rfl)
theorem dL_law_659 : decode cL_law 659 = .ok (.iload 5, 2) := dk_21 5 (dk_at dksL_law_20 20 rfl rfl)
theorem dL_law_661 : decode cL_law 661 = .ok (.if_icmp .eq 5, 3) := dk_159 0 5 (dk_at dksL_law_21 0 rfl rfl)
theorem dL_law_664 : decode cL_law 664 = .ok (.iconst 0, 1) := dk_3 (dk_at dksL_law_21 3 rfl rfl)
theorem dL_law_665 : decode cL_law 665 = .ok (.ireturn, 1) := dk_172 (dk_at dksL_law_21 4 rfl rfl)
theorem dL_law_666 : decode cL_law 666 = .ok (.iload 5, 2) := dk_21 5 (dk_at dksL_law_21 5 rfl rfl)
theorem dL_law_668 : decode cL_law 668 = .ok (.ifCond .ne 15, 3) := dk_154 0 15 (dk_at dksL_law_21 7 rfl rfl)
theorem dL_law_671 : decode cL_law 671 = .ok (.aload_n 3, 1) := dk_45 (dk_at dksL_law_21 10 rfl rfl)
theorem dL_law_672 : decode cL_law 672 = .ok (.iconst 0, 1) := dk_3 (dk_at dksL_law_21 11 rfl rfl)
theorem dL_law_673 : decode cL_law 673 = .ok (.laload, 1) := dk_47 (dk_at dksL_law_21 12 rfl rfl)
theorem dL_law_674 : decode cL_law 674 = .ok (.iload 6, 2) := dk_21 6 (dk_at dksL_law_21 13 rfl rfl)
theorem dL_law_676 : decode cL_law 676 = .ok (.i2l, 1) := dk_133 (dk_at dksL_law_21 15 rfl rfl)
theorem dL_law_677 : decode cL_law 677 = .ok (.lcmp, 1) := dk_148 (dk_at dksL_law_21 16 rfl rfl)
theorem dL_law_678 : decode cL_law 678 = .ok (.ifCond .eq 5, 3) := dk_153 0 5 (dk_at dksL_law_21 17 rfl rfl)
theorem dL_law_681 : decode cL_law 681 = .ok (.iconst 0, 1) := dk_3 (dk_at dksL_law_21 20 rfl rfl)
theorem dL_law_682 : decode cL_law 682 = .ok (.ireturn, 1) := dk_172 (dk_at dksL_law_21 21 rfl rfl)
theorem dL_law_683 : decode cL_law 683 = .ok (.goto 2020, 3) := dk_167 7 228 (dk_at dksL_law_22 0 rfl rfl)
theorem dL_law_686 : decode cL_law 686 = .ok (.aload_n 1, 1) := dk_43 (dk_at dksL_law_22 3 rfl rfl)
theorem dL_law_687 : decode cL_law 687 = .ok (.aload_n 0, 1) := dk_42 (dk_at dksL_law_22 4 rfl rfl)
theorem dL_law_688 : decode cL_law 688 = .ok (.iload 4, 2) := dk_21 4 (dk_at dksL_law_22 5 rfl rfl)
theorem dL_law_690 : decode cL_law 690 = .ok (.iconst 1, 1) := dk_4 (dk_at dksL_law_22 7 rfl rfl)
theorem dL_law_691 : decode cL_law 691 = .ok (.iadd, 1) := dk_96 (dk_at dksL_law_22 8 rfl rfl)
theorem dL_law_692 : decode cL_law 692 = .ok (.iaload, 1) := dk_46 (dk_at dksL_law_22 9 rfl rfl)
theorem dL_law_693 : decode cL_law 693 = .ok (.aload_n 0, 1) := dk_42 (dk_at dksL_law_22 10 rfl rfl)
theorem dL_law_694 : decode cL_law 694 = .ok (.iload 4, 2) := dk_21 4 (dk_at dksL_law_22 11 rfl rfl)
theorem dL_law_696 : decode cL_law 696 = .ok (.iconst 2, 1) := dk_5 (dk_at dksL_law_22 13 rfl rfl)
theorem dL_law_697 : decode cL_law 697 = .ok (.iadd, 1) := dk_96 (dk_at dksL_law_22 14 rfl rfl)
theorem dL_law_698 : decode cL_law 698 = .ok (.iaload, 1) := dk_46 (dk_at dksL_law_22 15 rfl rfl)
theorem dL_law_699 : decode cL_law 699 = .ok (.aload_n 3, 1) := dk_45 (dk_at dksL_law_22 16 rfl rfl)
theorem dL_law_700 : decode cL_law 700 = .ok (.invokestatic 161, 3) := dk_184 0 161 (dk_at dksL_law_22 17 rfl rfl)
theorem dL_law_703 : decode cL_law 703 = .ok (.istore 5, 2) := dk_54 5 (dk_at dksL_law_22 20 rfl rfl)
theorem dL_law_705 : decode cL_law 705 = .ok (.aload_n 2, 1) := dk_44 (dk_at dksL_law_22 22 rfl rfl)
theorem dL_law_706 : decode cL_law 706 = .ok (.aload_n 0, 1) := dk_42 (dk_at dksL_law_22 23 rfl rfl)
theorem dL_law_707 : decode cL_law 707 = .ok (.iload 4, 2) := dk_21 4 (dk_at dksL_law_23 0 rfl rfl)
theorem dL_law_709 : decode cL_law 709 = .ok (.iconst 1, 1) := dk_4 (dk_at dksL_law_23 2 rfl rfl)
theorem dL_law_710 : decode cL_law 710 = .ok (.iadd, 1) := dk_96 (dk_at dksL_law_23 3 rfl rfl)
theorem dL_law_711 : decode cL_law 711 = .ok (.iaload, 1) := dk_46 (dk_at dksL_law_23 4 rfl rfl)
theorem dL_law_712 : decode cL_law 712 = .ok (.aload_n 0, 1) := dk_42 (dk_at dksL_law_23 5 rfl rfl)
theorem dL_law_713 : decode cL_law 713 = .ok (.iload 4, 2) := dk_21 4 (dk_at dksL_law_23 6 rfl rfl)
theorem dL_law_715 : decode cL_law 715 = .ok (.iconst 2, 1) := dk_5 (dk_at dksL_law_23 8 rfl rfl)
theorem dL_law_716 : decode cL_law 716 = .ok (.iadd, 1) := dk_96 (dk_at dksL_law_23 9 rfl rfl)
theorem dL_law_717 : decode cL_law 717 = .ok (.iaload, 1) := dk_46 (dk_at dksL_law_23 10 rfl rfl)
theorem dL_law_718 : decode cL_law 718 = .ok (.invokevirtual 163, 3) := dk_182 0 163 (dk_at dksL_law_23 11 rfl rfl)
theorem dL_law_721 : decode cL_law 721 = .ok (.istore 6, 2) := dk_54 6 (dk_at dksL_law_23 14 rfl rfl)
theorem dL_law_723 : decode cL_law 723 = .ok (.aload_n 2, 1) := dk_44 (dk_at dksL_law_23 16 rfl rfl)
theorem dL_law_724 : decode cL_law 724 = .ok (.invokevirtual 137, 3) := dk_182 0 137 (dk_at dksL_law_23 17 rfl rfl)
theorem dL_law_727 : decode cL_law 727 = .ok (.iload 5, 2) := dk_21 5 (dk_at dksL_law_23 20 rfl rfl)
theorem dL_law_729 : decode cL_law 729 = .ok (.if_icmp .eq 5, 3) := dk_159 0 5 (dk_at dksL_law_24 0 rfl rfl)
theorem dL_law_732 : decode cL_law 732 = .ok (.iconst 0, 1) := dk_3 (dk_at dksL_law_24 3 rfl rfl)
theorem dL_law_733 : decode cL_law 733 = .ok (.ireturn, 1) := dk_172 (dk_at dksL_law_24 4 rfl rfl)
theorem dL_law_734 : decode cL_law 734 = .ok (.iload 5, 2) := dk_21 5 (dk_at dksL_law_24 5 rfl rfl)
theorem dL_law_736 : decode cL_law 736 = .ok (.ifCond .ne 15, 3) := dk_154 0 15 (dk_at dksL_law_24 7 rfl rfl)
theorem dL_law_739 : decode cL_law 739 = .ok (.aload_n 3, 1) := dk_45 (dk_at dksL_law_24 10 rfl rfl)
theorem dL_law_740 : decode cL_law 740 = .ok (.iconst 0, 1) := dk_3 (dk_at dksL_law_24 11 rfl rfl)
theorem dL_law_741 : decode cL_law 741 = .ok (.laload, 1) := dk_47 (dk_at dksL_law_24 12 rfl rfl)
theorem dL_law_742 : decode cL_law 742 = .ok (.iload 6, 2) := dk_21 6 (dk_at dksL_law_24 13 rfl rfl)
theorem dL_law_744 : decode cL_law 744 = .ok (.i2l, 1) := dk_133 (dk_at dksL_law_24 15 rfl rfl)
theorem dL_law_745 : decode cL_law 745 = .ok (.lcmp, 1) := dk_148 (dk_at dksL_law_24 16 rfl rfl)
theorem dL_law_746 : decode cL_law 746 = .ok (.ifCond .eq 5, 3) := dk_153 0 5 (dk_at dksL_law_24 17 rfl rfl)
theorem dL_law_749 : decode cL_law 749 = .ok (.iconst 0, 1) := dk_3 (dk_at dksL_law_24 20 rfl rfl)
theorem dL_law_750 : decode cL_law 750 = .ok (.ireturn, 1) := dk_172 (dk_at dksL_law_24 21 rfl rfl)
theorem dL_law_751 : decode cL_law 751 = .ok (.goto 1952, 3) := dk_167 7 160 (dk_at dksL_law_25 0 rfl rfl)
theorem dL_law_754 : decode cL_law 754 = .ok (.aload_n 1, 1) := dk_43 (dk_at dksL_law_25 3 rfl rfl)
theorem dL_law_755 : decode cL_law 755 = .ok (.aload_n 0, 1) := dk_42 (dk_at dksL_law_25 4 rfl rfl)
theorem dL_law_756 : decode cL_law 756 = .ok (.iload 4, 2) := dk_21 4 (dk_at dksL_law_25 5 rfl rfl)
theorem dL_law_758 : decode cL_law 758 = .ok (.iconst 1, 1) := dk_4 (dk_at dksL_law_25 7 rfl rfl)
theorem dL_law_759 : decode cL_law 759 = .ok (.iadd, 1) := dk_96 (dk_at dksL_law_25 8 rfl rfl)
theorem dL_law_760 : decode cL_law 760 = .ok (.iaload, 1) := dk_46 (dk_at dksL_law_25 9 rfl rfl)
theorem dL_law_761 : decode cL_law 761 = .ok (.aload_n 3, 1) := dk_45 (dk_at dksL_law_25 10 rfl rfl)
theorem dL_law_762 : decode cL_law 762 = .ok (.invokestatic 164, 3) := dk_184 0 164 (dk_at dksL_law_25 11 rfl rfl)
theorem dL_law_765 : decode cL_law 765 = .ok (.istore 5, 2) := dk_54 5 (dk_at dksL_law_25 14 rfl rfl)
theorem dL_law_767 : decode cL_law 767 = .ok (.aload_n 2, 1) := dk_44 (dk_at dksL_law_25 16 rfl rfl)
theorem dL_law_768 : decode cL_law 768 = .ok (.aload_n 0, 1) := dk_42 (dk_at dksL_law_25 17 rfl rfl)
theorem dL_law_769 : decode cL_law 769 = .ok (.iload 4, 2) := dk_21 4 (dk_at dksL_law_25 18 rfl rfl)
theorem dL_law_771 : decode cL_law 771 = .ok (.iconst 1, 1) := dk_4 (dk_at dksL_law_25 20 rfl rfl)
theorem dL_law_772 : decode cL_law 772 = .ok (.iadd, 1) := dk_96 (dk_at dksL_law_25 21 rfl rfl)
theorem dL_law_773 : decode cL_law 773 = .ok (.iaload, 1) := dk_46 (dk_at dksL_law_25 22 rfl rfl)
theorem dL_law_774 : decode cL_law 774 = .ok (.invokevirtual 166, 3) := dk_182 0 166 (dk_at dksL_law_26 0 rfl rfl)
theorem dL_law_777 : decode cL_law 777 = .ok (.istore 6, 2) := dk_54 6 (dk_at dksL_law_26 3 rfl rfl)
theorem dL_law_779 : decode cL_law 779 = .ok (.aload_n 2, 1) := dk_44 (dk_at dksL_law_26 5 rfl rfl)
theorem dL_law_780 : decode cL_law 780 = .ok (.invokevirtual 137, 3) := dk_182 0 137 (dk_at dksL_law_26 6 rfl rfl)
theorem dL_law_783 : decode cL_law 783 = .ok (.iload 5, 2) := dk_21 5 (dk_at dksL_law_26 9 rfl rfl)
theorem dL_law_785 : decode cL_law 785 = .ok (.if_icmp .eq 5, 3) := dk_159 0 5 (dk_at dksL_law_26 11 rfl rfl)
theorem dL_law_788 : decode cL_law 788 = .ok (.iconst 0, 1) := dk_3 (dk_at dksL_law_26 14 rfl rfl)
theorem dL_law_789 : decode cL_law 789 = .ok (.ireturn, 1) := dk_172 (dk_at dksL_law_26 15 rfl rfl)
theorem dL_law_790 : decode cL_law 790 = .ok (.iload 5, 2) := dk_21 5 (dk_at dksL_law_26 16 rfl rfl)
theorem dL_law_792 : decode cL_law 792 = .ok (.ifCond .ne 15, 3) := dk_154 0 15 (dk_at dksL_law_26 18 rfl rfl)
theorem dL_law_795 : decode cL_law 795 = .ok (.aload_n 3, 1) := dk_45 (dk_at dksL_law_26 21 rfl rfl)
theorem dL_law_796 : decode cL_law 796 = .ok (.iconst 0, 1) := dk_3 (dk_at dksL_law_26 22 rfl rfl)
theorem dL_law_797 : decode cL_law 797 = .ok (.laload, 1) := dk_47 (dk_at dksL_law_26 23 rfl rfl)
theorem dL_law_798 : decode cL_law 798 = .ok (.iload 6, 2) := dk_21 6 (dk_at dksL_law_27 0 rfl rfl)
theorem dL_law_800 : decode cL_law 800 = .ok (.i2l, 1) := dk_133 (dk_at dksL_law_27 2 rfl rfl)
theorem dL_law_801 : decode cL_law 801 = .ok (.lcmp, 1) := dk_148 (dk_at dksL_law_27 3 rfl rfl)
theorem dL_law_802 : decode cL_law 802 = .ok (.ifCond .eq 5, 3) := dk_153 0 5 (dk_at dksL_law_27 4 rfl rfl)
theorem dL_law_805 : decode cL_law 805 = .ok (.iconst 0, 1) := dk_3 (dk_at dksL_law_27 7 rfl rfl)
theorem dL_law_806 : decode cL_law 806 = .ok (.ireturn, 1) := dk_172 (dk_at dksL_law_27 8 rfl rfl)
theorem dL_law_807 : decode cL_law 807 = .ok (.goto 1896, 3) := dk_167 7 104 (dk_at dksL_law_27 9 rfl rfl)
theorem dL_law_810 : decode cL_law 810 = .ok (.aload_n 1, 1) := dk_43 (dk_at dksL_law_27 12 rfl rfl)
theorem dL_law_811 : decode cL_law 811 = .ok (.aload_n 0, 1) := dk_42 (dk_at dksL_law_27 13 rfl rfl)
theorem dL_law_812 : decode cL_law 812 = .ok (.iload 4, 2) := dk_21 4 (dk_at dksL_law_27 14 rfl rfl)
theorem dL_law_814 : decode cL_law 814 = .ok (.iconst 1, 1) := dk_4 (dk_at dksL_law_27 16 rfl rfl)
theorem dL_law_815 : decode cL_law 815 = .ok (.iadd, 1) := dk_96 (dk_at dksL_law_27 17 rfl rfl)
theorem dL_law_816 : decode cL_law 816 = .ok (.iaload, 1) := dk_46 (dk_at dksL_law_27 18 rfl rfl)
theorem dL_law_817 : decode cL_law 817 = .ok (.aload_n 3, 1) := dk_45 (dk_at dksL_law_27 19 rfl rfl)
theorem dL_law_818 : decode cL_law 818 = .ok (.invokestatic 167, 3) := dk_184 0 167 (dk_at dksL_law_27 20 rfl rfl)
theorem dL_law_821 : decode cL_law 821 = .ok (.istore 5, 2) := dk_54 5 (dk_at dksL_law_28 0 rfl rfl)
theorem dL_law_823 : decode cL_law 823 = .ok (.aload_n 2, 1) := dk_44 (dk_at dksL_law_28 2 rfl rfl)
theorem dL_law_824 : decode cL_law 824 = .ok (.aload_n 0, 1) := dk_42 (dk_at dksL_law_28 3 rfl rfl)
theorem dL_law_825 : decode cL_law 825 = .ok (.iload 4, 2) := dk_21 4 (dk_at dksL_law_28 4 rfl rfl)
theorem dL_law_827 : decode cL_law 827 = .ok (.iconst 1, 1) := dk_4 (dk_at dksL_law_28 6 rfl rfl)
theorem dL_law_828 : decode cL_law 828 = .ok (.iadd, 1) := dk_96 (dk_at dksL_law_28 7 rfl rfl)
theorem dL_law_829 : decode cL_law 829 = .ok (.iaload, 1) := dk_46 (dk_at dksL_law_28 8 rfl rfl)
theorem dL_law_830 : decode cL_law 830 = .ok (.invokevirtual 169, 3) := dk_182 0 169 (dk_at dksL_law_28 9 rfl rfl)
theorem dL_law_833 : decode cL_law 833 = .ok (.istore 6, 2) := dk_54 6 (dk_at dksL_law_28 12 rfl rfl)
theorem dL_law_835 : decode cL_law 835 = .ok (.aload_n 2, 1) := dk_44 (dk_at dksL_law_28 14 rfl rfl)
theorem dL_law_836 : decode cL_law 836 = .ok (.invokevirtual 137, 3) := dk_182 0 137 (dk_at dksL_law_28 15 rfl rfl)
theorem dL_law_839 : decode cL_law 839 = .ok (.iload 5, 2) := dk_21 5 (dk_at dksL_law_28 18 rfl rfl)
theorem dL_law_841 : decode cL_law 841 = .ok (.if_icmp .eq 5, 3) := dk_159 0 5 (dk_at dksL_law_28 20 rfl rfl)
theorem dL_law_844 : decode cL_law 844 = .ok (.iconst 0, 1) := dk_3 (dk_at dksL_law_28 23 rfl rfl)
theorem dL_law_845 : decode cL_law 845 = .ok (.ireturn, 1) := dk_172 (dk_at dksL_law_29 0 rfl rfl)
theorem dL_law_846 : decode cL_law 846 = .ok (.iload 5, 2) := dk_21 5 (dk_at dksL_law_29 1 rfl rfl)
theorem dL_law_848 : decode cL_law 848 = .ok (.ifCond .ne 15, 3) := dk_154 0 15 (dk_at dksL_law_29 3 rfl rfl)
theorem dL_law_851 : decode cL_law 851 = .ok (.aload_n 3, 1) := dk_45 (dk_at dksL_law_29 6 rfl rfl)
theorem dL_law_852 : decode cL_law 852 = .ok (.iconst 0, 1) := dk_3 (dk_at dksL_law_29 7 rfl rfl)
theorem dL_law_853 : decode cL_law 853 = .ok (.laload, 1) := dk_47 (dk_at dksL_law_29 8 rfl rfl)
theorem dL_law_854 : decode cL_law 854 = .ok (.iload 6, 2) := dk_21 6 (dk_at dksL_law_29 9 rfl rfl)
theorem dL_law_856 : decode cL_law 856 = .ok (.i2l, 1) := dk_133 (dk_at dksL_law_29 11 rfl rfl)
theorem dL_law_857 : decode cL_law 857 = .ok (.lcmp, 1) := dk_148 (dk_at dksL_law_29 12 rfl rfl)
theorem dL_law_858 : decode cL_law 858 = .ok (.ifCond .eq 5, 3) := dk_153 0 5 (dk_at dksL_law_29 13 rfl rfl)
theorem dL_law_861 : decode cL_law 861 = .ok (.iconst 0, 1) := dk_3 (dk_at dksL_law_29 16 rfl rfl)
theorem dL_law_862 : decode cL_law 862 = .ok (.ireturn, 1) := dk_172 (dk_at dksL_law_29 17 rfl rfl)
theorem dL_law_863 : decode cL_law 863 = .ok (.goto 1840, 3) := dk_167 7 48 (dk_at dksL_law_29 18 rfl rfl)
theorem dL_law_866 : decode cL_law 866 = .ok (.aload_n 1, 1) := dk_43 (dk_at dksL_law_29 21 rfl rfl)
theorem dL_law_867 : decode cL_law 867 = .ok (.aload_n 0, 1) := dk_42 (dk_at dksL_law_29 22 rfl rfl)
theorem dL_law_868 : decode cL_law 868 = .ok (.iload 4, 2) := dk_21 4 (dk_at dksL_law_30 0 rfl rfl)
theorem dL_law_870 : decode cL_law 870 = .ok (.iconst 1, 1) := dk_4 (dk_at dksL_law_30 2 rfl rfl)
theorem dL_law_871 : decode cL_law 871 = .ok (.iadd, 1) := dk_96 (dk_at dksL_law_30 3 rfl rfl)
theorem dL_law_872 : decode cL_law 872 = .ok (.iaload, 1) := dk_46 (dk_at dksL_law_30 4 rfl rfl)
theorem dL_law_873 : decode cL_law 873 = .ok (.aload_n 0, 1) := dk_42 (dk_at dksL_law_30 5 rfl rfl)
theorem dL_law_874 : decode cL_law 874 = .ok (.iload 4, 2) := dk_21 4 (dk_at dksL_law_30 6 rfl rfl)
theorem dL_law_876 : decode cL_law 876 = .ok (.iconst 2, 1) := dk_5 (dk_at dksL_law_30 8 rfl rfl)
theorem dL_law_877 : decode cL_law 877 = .ok (.iadd, 1) := dk_96 (dk_at dksL_law_30 9 rfl rfl)
theorem dL_law_878 : decode cL_law 878 = .ok (.iaload, 1) := dk_46 (dk_at dksL_law_30 10 rfl rfl)
theorem dL_law_879 : decode cL_law 879 = .ok (.aload_n 3, 1) := dk_45 (dk_at dksL_law_30 11 rfl rfl)
theorem dL_law_880 : decode cL_law 880 = .ok (.invokestatic 170, 3) := dk_184 0 170 (dk_at dksL_law_30 12 rfl rfl)
theorem dL_law_883 : decode cL_law 883 = .ok (.istore 5, 2) := dk_54 5 (dk_at dksL_law_30 15 rfl rfl)
theorem dL_law_885 : decode cL_law 885 = .ok (.aload_n 2, 1) := dk_44 (dk_at dksL_law_30 17 rfl rfl)
theorem dL_law_886 : decode cL_law 886 = .ok (.aload_n 0, 1) := dk_42 (dk_at dksL_law_30 18 rfl rfl)
theorem dL_law_887 : decode cL_law 887 = .ok (.iload 4, 2) := dk_21 4 (dk_at dksL_law_30 19 rfl rfl)
theorem dL_law_889 : decode cL_law 889 = .ok (.iconst 1, 1) := dk_4 (dk_at dksL_law_30 21 rfl rfl)
theorem dL_law_890 : decode cL_law 890 = .ok (.iadd, 1) := dk_96 (dk_at dksL_law_30 22 rfl rfl)
theorem dL_law_891 : decode cL_law 891 = .ok (.iaload, 1) := dk_46 (dk_at dksL_law_30 23 rfl rfl)
theorem dL_law_892 : decode cL_law 892 = .ok (.aload_n 0, 1) := dk_42 (dk_at dksL_law_31 0 rfl rfl)
theorem dL_law_893 : decode cL_law 893 = .ok (.iload 4, 2) := dk_21 4 (dk_at dksL_law_31 1 rfl rfl)
theorem dL_law_895 : decode cL_law 895 = .ok (.iconst 2, 1) := dk_5 (dk_at dksL_law_31 3 rfl rfl)
theorem dL_law_896 : decode cL_law 896 = .ok (.iadd, 1) := dk_96 (dk_at dksL_law_31 4 rfl rfl)
theorem dL_law_897 : decode cL_law 897 = .ok (.iaload, 1) := dk_46 (dk_at dksL_law_31 5 rfl rfl)
theorem dL_law_898 : decode cL_law 898 = .ok (.invokevirtual 172, 3) := dk_182 0 172 (dk_at dksL_law_31 6 rfl rfl)
theorem dL_law_901 : decode cL_law 901 = .ok (.lstore 6, 2) := dk_55 6 (dk_at dksL_law_31 9 rfl rfl)
theorem dL_law_903 : decode cL_law 903 = .ok (.aload_n 2, 1) := dk_44 (dk_at dksL_law_31 11 rfl rfl)
theorem dL_law_904 : decode cL_law 904 = .ok (.invokevirtual 137, 3) := dk_182 0 137 (dk_at dksL_law_31 12 rfl rfl)
theorem dL_law_907 : decode cL_law 907 = .ok (.iload 5, 2) := dk_21 5 (dk_at dksL_law_31 15 rfl rfl)
theorem dL_law_909 : decode cL_law 909 = .ok (.if_icmp .eq 5, 3) := dk_159 0 5 (dk_at dksL_law_31 17 rfl rfl)
theorem dL_law_912 : decode cL_law 912 = .ok (.iconst 0, 1) := dk_3 (dk_at dksL_law_31 20 rfl rfl)
theorem dL_law_913 : decode cL_law 913 = .ok (.ireturn, 1) := dk_172 (dk_at dksL_law_31 21 rfl rfl)
theorem dL_law_914 : decode cL_law 914 = .ok (.iload 5, 2) := dk_21 5 (dk_at dksL_law_31 22 rfl rfl)
theorem dL_law_916 : decode cL_law 916 = .ok (.ifCond .ne 14, 3) := dk_154 0 14 (dk_at dksL_law_32 0 rfl rfl)
theorem dL_law_919 : decode cL_law 919 = .ok (.aload_n 3, 1) := dk_45 (dk_at dksL_law_32 3 rfl rfl)
theorem dL_law_920 : decode cL_law 920 = .ok (.iconst 0, 1) := dk_3 (dk_at dksL_law_32 4 rfl rfl)
theorem dL_law_921 : decode cL_law 921 = .ok (.laload, 1) := dk_47 (dk_at dksL_law_32 5 rfl rfl)
theorem dL_law_922 : decode cL_law 922 = .ok (.lload 6, 2) := dk_22 6 (dk_at dksL_law_32 6 rfl rfl)
theorem dL_law_924 : decode cL_law 924 = .ok (.lcmp, 1) := dk_148 (dk_at dksL_law_32 8 rfl rfl)
theorem dL_law_925 : decode cL_law 925 = .ok (.ifCond .eq 5, 3) := dk_153 0 5 (dk_at dksL_law_32 9 rfl rfl)
theorem dL_law_928 : decode cL_law 928 = .ok (.iconst 0, 1) := dk_3 (dk_at dksL_law_32 12 rfl rfl)
theorem dL_law_929 : decode cL_law 929 = .ok (.ireturn, 1) := dk_172 (dk_at dksL_law_32 13 rfl rfl)
theorem dL_law_930 : decode cL_law 930 = .ok (.goto 1773, 3) := dk_167 6 237 (dk_at dksL_law_32 14 rfl rfl)
theorem dL_law_933 : decode cL_law 933 = .ok (.aload_n 1, 1) := dk_43 (dk_at dksL_law_32 17 rfl rfl)
theorem dL_law_934 : decode cL_law 934 = .ok (.aload_n 0, 1) := dk_42 (dk_at dksL_law_32 18 rfl rfl)
theorem dL_law_935 : decode cL_law 935 = .ok (.iload 4, 2) := dk_21 4 (dk_at dksL_law_32 19 rfl rfl)
theorem dL_law_937 : decode cL_law 937 = .ok (.iconst 1, 1) := dk_4 (dk_at dksL_law_32 21 rfl rfl)
theorem dL_law_938 : decode cL_law 938 = .ok (.iadd, 1) := dk_96 (dk_at dksL_law_32 22 rfl rfl)
theorem dL_law_939 : decode cL_law 939 = .ok (.iaload, 1) := dk_46 (dk_at dksL_law_32 23 rfl rfl)
theorem dL_law_940 : decode cL_law 940 = .ok (.aload_n 0, 1) := dk_42 (dk_at dksL_law_33 0 rfl rfl)
theorem dL_law_941 : decode cL_law 941 = .ok (.iload 4, 2) := dk_21 4 (dk_at dksL_law_33 1 rfl rfl)
theorem dL_law_943 : decode cL_law 943 = .ok (.iconst 2, 1) := dk_5 (dk_at dksL_law_33 3 rfl rfl)
theorem dL_law_944 : decode cL_law 944 = .ok (.iadd, 1) := dk_96 (dk_at dksL_law_33 4 rfl rfl)
theorem dL_law_945 : decode cL_law 945 = .ok (.iaload, 1) := dk_46 (dk_at dksL_law_33 5 rfl rfl)
theorem dL_law_946 : decode cL_law 946 = .ok (.aload_n 0, 1) := dk_42 (dk_at dksL_law_33 6 rfl rfl)
theorem dL_law_947 : decode cL_law 947 = .ok (.iload 4, 2) := dk_21 4 (dk_at dksL_law_33 7 rfl rfl)
theorem dL_law_949 : decode cL_law 949 = .ok (.iconst 3, 1) := dk_6 (dk_at dksL_law_33 9 rfl rfl)
theorem dL_law_950 : decode cL_law 950 = .ok (.iadd, 1) := dk_96 (dk_at dksL_law_33 10 rfl rfl)
theorem dL_law_951 : decode cL_law 951 = .ok (.iaload, 1) := dk_46 (dk_at dksL_law_33 11 rfl rfl)
theorem dL_law_952 : decode cL_law 952 = .ok (.aload_n 0, 1) := dk_42 (dk_at dksL_law_33 12 rfl rfl)
theorem dL_law_953 : decode cL_law 953 = .ok (.iload 4, 2) := dk_21 4 (dk_at dksL_law_33 13 rfl rfl)
theorem dL_law_955 : decode cL_law 955 = .ok (.iconst 4, 1) := dk_7 (dk_at dksL_law_33 15 rfl rfl)
theorem dL_law_956 : decode cL_law 956 = .ok (.iadd, 1) := dk_96 (dk_at dksL_law_33 16 rfl rfl)
theorem dL_law_957 : decode cL_law 957 = .ok (.iaload, 1) := dk_46 (dk_at dksL_law_33 17 rfl rfl)
theorem dL_law_958 : decode cL_law 958 = .ok (.aload_n 3, 1) := dk_45 (dk_at dksL_law_33 18 rfl rfl)
theorem dL_law_959 : decode cL_law 959 = .ok (.invokestatic 173, 3) := dk_184 0 173 (dk_at dksL_law_33 19 rfl rfl)
theorem dL_law_962 : decode cL_law 962 = .ok (.istore 5, 2) := dk_54 5 (dk_at dksL_law_33 22 rfl rfl)
theorem dL_law_964 : decode cL_law 964 = .ok (.aload_n 2, 1) := dk_44 (dk_at dksL_law_34 0 rfl rfl)
theorem dL_law_965 : decode cL_law 965 = .ok (.aload_n 0, 1) := dk_42 (dk_at dksL_law_34 1 rfl rfl)
theorem dL_law_966 : decode cL_law 966 = .ok (.iload 4, 2) := dk_21 4 (dk_at dksL_law_34 2 rfl rfl)
theorem dL_law_968 : decode cL_law 968 = .ok (.iconst 1, 1) := dk_4 (dk_at dksL_law_34 4 rfl rfl)
theorem dL_law_969 : decode cL_law 969 = .ok (.iadd, 1) := dk_96 (dk_at dksL_law_34 5 rfl rfl)
theorem dL_law_970 : decode cL_law 970 = .ok (.iaload, 1) := dk_46 (dk_at dksL_law_34 6 rfl rfl)
theorem dL_law_971 : decode cL_law 971 = .ok (.aload_n 0, 1) := dk_42 (dk_at dksL_law_34 7 rfl rfl)
theorem dL_law_972 : decode cL_law 972 = .ok (.iload 4, 2) := dk_21 4 (dk_at dksL_law_34 8 rfl rfl)
theorem dL_law_974 : decode cL_law 974 = .ok (.iconst 2, 1) := dk_5 (dk_at dksL_law_34 10 rfl rfl)
theorem dL_law_975 : decode cL_law 975 = .ok (.iadd, 1) := dk_96 (dk_at dksL_law_34 11 rfl rfl)
theorem dL_law_976 : decode cL_law 976 = .ok (.iaload, 1) := dk_46 (dk_at dksL_law_34 12 rfl rfl)
theorem dL_law_977 : decode cL_law 977 = .ok (.aload_n 0, 1) := dk_42 (dk_at dksL_law_34 13 rfl rfl)
theorem dL_law_978 : decode cL_law 978 = .ok (.iload 4, 2) := dk_21 4 (dk_at dksL_law_34 14 rfl rfl)
theorem dL_law_980 : decode cL_law 980 = .ok (.iconst 3, 1) := dk_6 (dk_at dksL_law_34 16 rfl rfl)
theorem dL_law_981 : decode cL_law 981 = .ok (.iadd, 1) := dk_96 (dk_at dksL_law_34 17 rfl rfl)
theorem dL_law_982 : decode cL_law 982 = .ok (.iaload, 1) := dk_46 (dk_at dksL_law_34 18 rfl rfl)
theorem dL_law_983 : decode cL_law 983 = .ok (.aload_n 0, 1) := dk_42 (dk_at dksL_law_34 19 rfl rfl)
theorem dL_law_984 : decode cL_law 984 = .ok (.iload 4, 2) := dk_21 4 (dk_at dksL_law_34 20 rfl rfl)
theorem dL_law_986 : decode cL_law 986 = .ok (.iconst 4, 1) := dk_7 (dk_at dksL_law_34 22 rfl rfl)
theorem dL_law_987 : decode cL_law 987 = .ok (.iadd, 1) := dk_96 (dk_at dksL_law_34 23 rfl rfl)
theorem dL_law_988 : decode cL_law 988 = .ok (.iaload, 1) := dk_46 (dk_at dksL_law_35 0 rfl rfl)
theorem dL_law_989 : decode cL_law 989 = .ok (.invokevirtual 176, 3) := dk_182 0 176 (dk_at dksL_law_35 1 rfl rfl)
theorem dL_law_992 : decode cL_law 992 = .ok (.lstore 6, 2) := dk_55 6 (dk_at dksL_law_35 4 rfl rfl)
theorem dL_law_994 : decode cL_law 994 = .ok (.aload_n 2, 1) := dk_44 (dk_at dksL_law_35 6 rfl rfl)
theorem dL_law_995 : decode cL_law 995 = .ok (.invokevirtual 137, 3) := dk_182 0 137 (dk_at dksL_law_35 7 rfl rfl)
theorem dL_law_998 : decode cL_law 998 = .ok (.iload 5, 2) := dk_21 5 (dk_at dksL_law_35 10 rfl rfl)
theorem dL_law_1000 : decode cL_law 1000 = .ok (.if_icmp .eq 5, 3) := dk_159 0 5 (dk_at dksL_law_35 12 rfl rfl)
theorem dL_law_1003 : decode cL_law 1003 = .ok (.iconst 0, 1) := dk_3 (dk_at dksL_law_35 15 rfl rfl)
theorem dL_law_1004 : decode cL_law 1004 = .ok (.ireturn, 1) := dk_172 (dk_at dksL_law_35 16 rfl rfl)
theorem dL_law_1005 : decode cL_law 1005 = .ok (.iload 5, 2) := dk_21 5 (dk_at dksL_law_35 17 rfl rfl)
theorem dL_law_1007 : decode cL_law 1007 = .ok (.ifCond .ne 14, 3) := dk_154 0 14 (dk_at dksL_law_35 19 rfl rfl)
theorem dL_law_1010 : decode cL_law 1010 = .ok (.aload_n 3, 1) := dk_45 (dk_at dksL_law_35 22 rfl rfl)
theorem dL_law_1011 : decode cL_law 1011 = .ok (.iconst 0, 1) := dk_3 (dk_at dksL_law_35 23 rfl rfl)
theorem dL_law_1012 : decode cL_law 1012 = .ok (.laload, 1) := dk_47 (dk_at dksL_law_36 0 rfl rfl)
theorem dL_law_1013 : decode cL_law 1013 = .ok (.lload 6, 2) := dk_22 6 (dk_at dksL_law_36 1 rfl rfl)
theorem dL_law_1015 : decode cL_law 1015 = .ok (.lcmp, 1) := dk_148 (dk_at dksL_law_36 3 rfl rfl)
theorem dL_law_1016 : decode cL_law 1016 = .ok (.ifCond .eq 5, 3) := dk_153 0 5 (dk_at dksL_law_36 4 rfl rfl)
theorem dL_law_1019 : decode cL_law 1019 = .ok (.iconst 0, 1) := dk_3 (dk_at dksL_law_36 7 rfl rfl)
theorem dL_law_1020 : decode cL_law 1020 = .ok (.ireturn, 1) := dk_172 (dk_at dksL_law_36 8 rfl rfl)
theorem dL_law_1021 : decode cL_law 1021 = .ok (.goto 1682, 3) := dk_167 6 146 (dk_at dksL_law_36 9 rfl rfl)
theorem dL_law_1024 : decode cL_law 1024 = .ok (.aload_n 1, 1) := dk_43 (dk_at dksL_law_36 12 rfl rfl)
theorem dL_law_1025 : decode cL_law 1025 = .ok (.aload_n 0, 1) := dk_42 (dk_at dksL_law_36 13 rfl rfl)
theorem dL_law_1026 : decode cL_law 1026 = .ok (.iload 4, 2) := dk_21 4 (dk_at dksL_law_36 14 rfl rfl)
theorem dL_law_1028 : decode cL_law 1028 = .ok (.iconst 1, 1) := dk_4 (dk_at dksL_law_36 16 rfl rfl)
theorem dL_law_1029 : decode cL_law 1029 = .ok (.iadd, 1) := dk_96 (dk_at dksL_law_36 17 rfl rfl)
theorem dL_law_1030 : decode cL_law 1030 = .ok (.iaload, 1) := dk_46 (dk_at dksL_law_36 18 rfl rfl)
theorem dL_law_1031 : decode cL_law 1031 = .ok (.aload_n 3, 1) := dk_45 (dk_at dksL_law_36 19 rfl rfl)
theorem dL_law_1032 : decode cL_law 1032 = .ok (.invokestatic 177, 3) := dk_184 0 177 (dk_at dksL_law_36 20 rfl rfl)
theorem dL_law_1035 : decode cL_law 1035 = .ok (.istore 5, 2) := dk_54 5 (dk_at dksL_law_37 0 rfl rfl)
theorem dL_law_1037 : decode cL_law 1037 = .ok (.aload_n 2, 1) := dk_44 (dk_at dksL_law_37 2 rfl rfl)
theorem dL_law_1038 : decode cL_law 1038 = .ok (.aload_n 0, 1) := dk_42 (dk_at dksL_law_37 3 rfl rfl)
theorem dL_law_1039 : decode cL_law 1039 = .ok (.iload 4, 2) := dk_21 4 (dk_at dksL_law_37 4 rfl rfl)
theorem dL_law_1041 : decode cL_law 1041 = .ok (.iconst 1, 1) := dk_4 (dk_at dksL_law_37 6 rfl rfl)
theorem dL_law_1042 : decode cL_law 1042 = .ok (.iadd, 1) := dk_96 (dk_at dksL_law_37 7 rfl rfl)
theorem dL_law_1043 : decode cL_law 1043 = .ok (.iaload, 1) := dk_46 (dk_at dksL_law_37 8 rfl rfl)
theorem dL_law_1044 : decode cL_law 1044 = .ok (.invokevirtual 179, 3) := dk_182 0 179 (dk_at dksL_law_37 9 rfl rfl)
theorem dL_law_1047 : decode cL_law 1047 = .ok (.istore 6, 2) := dk_54 6 (dk_at dksL_law_37 12 rfl rfl)
theorem dL_law_1049 : decode cL_law 1049 = .ok (.aload_n 2, 1) := dk_44 (dk_at dksL_law_37 14 rfl rfl)
theorem dL_law_1050 : decode cL_law 1050 = .ok (.invokevirtual 137, 3) := dk_182 0 137 (dk_at dksL_law_37 15 rfl rfl)
theorem dL_law_1053 : decode cL_law 1053 = .ok (.iload 5, 2) := dk_21 5 (dk_at dksL_law_37 18 rfl rfl)
theorem dL_law_1055 : decode cL_law 1055 = .ok (.if_icmp .eq 5, 3) := dk_159 0 5 (dk_at dksL_law_37 20 rfl rfl)
theorem dL_law_1058 : decode cL_law 1058 = .ok (.iconst 0, 1) := dk_3 (dk_at dksL_law_37 23 rfl rfl)
theorem dL_law_1059 : decode cL_law 1059 = .ok (.ireturn, 1) := dk_172 (dk_at dksL_law_38 0 rfl rfl)
theorem dL_law_1060 : decode cL_law 1060 = .ok (.iload 5, 2) := dk_21 5 (dk_at dksL_law_38 1 rfl rfl)
theorem dL_law_1062 : decode cL_law 1062 = .ok (.ifCond .ne 15, 3) := dk_154 0 15 (dk_at dksL_law_38 3 rfl rfl)
theorem dL_law_1065 : decode cL_law 1065 = .ok (.aload_n 3, 1) := dk_45 (dk_at dksL_law_38 6 rfl rfl)
theorem dL_law_1066 : decode cL_law 1066 = .ok (.iconst 0, 1) := dk_3 (dk_at dksL_law_38 7 rfl rfl)
theorem dL_law_1067 : decode cL_law 1067 = .ok (.laload, 1) := dk_47 (dk_at dksL_law_38 8 rfl rfl)
theorem dL_law_1068 : decode cL_law 1068 = .ok (.iload 6, 2) := dk_21 6 (dk_at dksL_law_38 9 rfl rfl)
theorem dL_law_1070 : decode cL_law 1070 = .ok (.i2l, 1) := dk_133 (dk_at dksL_law_38 11 rfl rfl)
theorem dL_law_1071 : decode cL_law 1071 = .ok (.lcmp, 1) := dk_148 (dk_at dksL_law_38 12 rfl rfl)
theorem dL_law_1072 : decode cL_law 1072 = .ok (.ifCond .eq 5, 3) := dk_153 0 5 (dk_at dksL_law_38 13 rfl rfl)
theorem dL_law_1075 : decode cL_law 1075 = .ok (.iconst 0, 1) := dk_3 (dk_at dksL_law_38 16 rfl rfl)
theorem dL_law_1076 : decode cL_law 1076 = .ok (.ireturn, 1) := dk_172 (dk_at dksL_law_38 17 rfl rfl)
theorem dL_law_1077 : decode cL_law 1077 = .ok (.goto 1626, 3) := dk_167 6 90 (dk_at dksL_law_38 18 rfl rfl)
theorem dL_law_1080 : decode cL_law 1080 = .ok (.aload_n 1, 1) := dk_43 (dk_at dksL_law_38 21 rfl rfl)
theorem dL_law_1081 : decode cL_law 1081 = .ok (.aload_n 0, 1) := dk_42 (dk_at dksL_law_38 22 rfl rfl)
theorem dL_law_1082 : decode cL_law 1082 = .ok (.iload 4, 2) := dk_21 4 (dk_at dksL_law_39 0 rfl rfl)
theorem dL_law_1084 : decode cL_law 1084 = .ok (.iconst 1, 1) := dk_4 (dk_at dksL_law_39 2 rfl rfl)
theorem dL_law_1085 : decode cL_law 1085 = .ok (.iadd, 1) := dk_96 (dk_at dksL_law_39 3 rfl rfl)
theorem dL_law_1086 : decode cL_law 1086 = .ok (.iaload, 1) := dk_46 (dk_at dksL_law_39 4 rfl rfl)
theorem dL_law_1087 : decode cL_law 1087 = .ok (.aload_n 0, 1) := dk_42 (dk_at dksL_law_39 5 rfl rfl)
theorem dL_law_1088 : decode cL_law 1088 = .ok (.iload 4, 2) := dk_21 4 (dk_at dksL_law_39 6 rfl rfl)
theorem dL_law_1090 : decode cL_law 1090 = .ok (.iconst 2, 1) := dk_5 (dk_at dksL_law_39 8 rfl rfl)
theorem dL_law_1091 : decode cL_law 1091 = .ok (.iadd, 1) := dk_96 (dk_at dksL_law_39 9 rfl rfl)
theorem dL_law_1092 : decode cL_law 1092 = .ok (.iaload, 1) := dk_46 (dk_at dksL_law_39 10 rfl rfl)
theorem dL_law_1093 : decode cL_law 1093 = .ok (.aload_n 0, 1) := dk_42 (dk_at dksL_law_39 11 rfl rfl)
theorem dL_law_1094 : decode cL_law 1094 = .ok (.iload 4, 2) := dk_21 4 (dk_at dksL_law_39 12 rfl rfl)
theorem dL_law_1096 : decode cL_law 1096 = .ok (.iconst 3, 1) := dk_6 (dk_at dksL_law_39 14 rfl rfl)
theorem dL_law_1097 : decode cL_law 1097 = .ok (.iadd, 1) := dk_96 (dk_at dksL_law_39 15 rfl rfl)
theorem dL_law_1098 : decode cL_law 1098 = .ok (.iaload, 1) := dk_46 (dk_at dksL_law_39 16 rfl rfl)
theorem dL_law_1099 : decode cL_law 1099 = .ok (.aload_n 3, 1) := dk_45 (dk_at dksL_law_39 17 rfl rfl)
theorem dL_law_1100 : decode cL_law 1100 = .ok (.invokestatic 180, 3) := dk_184 0 180 (dk_at dksL_law_39 18 rfl rfl)
theorem dL_law_1103 : decode cL_law 1103 = .ok (.istore 5, 2) := dk_54 5 (dk_at dksL_law_39 21 rfl rfl)
theorem dL_law_1105 : decode cL_law 1105 = .ok (.aload_n 2, 1) := dk_44 (dk_at dksL_law_39 23 rfl rfl)
theorem dL_law_1106 : decode cL_law 1106 = .ok (.aload_n 0, 1) := dk_42 (dk_at dksL_law_40 0 rfl rfl)
theorem dL_law_1107 : decode cL_law 1107 = .ok (.iload 4, 2) := dk_21 4 (dk_at dksL_law_40 1 rfl rfl)
theorem dL_law_1109 : decode cL_law 1109 = .ok (.iconst 1, 1) := dk_4 (dk_at dksL_law_40 3 rfl rfl)
theorem dL_law_1110 : decode cL_law 1110 = .ok (.iadd, 1) := dk_96 (dk_at dksL_law_40 4 rfl rfl)
theorem dL_law_1111 : decode cL_law 1111 = .ok (.iaload, 1) := dk_46 (dk_at dksL_law_40 5 rfl rfl)
theorem dL_law_1112 : decode cL_law 1112 = .ok (.aload_n 0, 1) := dk_42 (dk_at dksL_law_40 6 rfl rfl)
theorem dL_law_1113 : decode cL_law 1113 = .ok (.iload 4, 2) := dk_21 4 (dk_at dksL_law_40 7 rfl rfl)
theorem dL_law_1115 : decode cL_law 1115 = .ok (.iconst 2, 1) := dk_5 (dk_at dksL_law_40 9 rfl rfl)
theorem dL_law_1116 : decode cL_law 1116 = .ok (.iadd, 1) := dk_96 (dk_at dksL_law_40 10 rfl rfl)
theorem dL_law_1117 : decode cL_law 1117 = .ok (.iaload, 1) := dk_46 (dk_at dksL_law_40 11 rfl rfl)
theorem dL_law_1118 : decode cL_law 1118 = .ok (.aload_n 0, 1) := dk_42 (dk_at dksL_law_40 12 rfl rfl)
theorem dL_law_1119 : decode cL_law 1119 = .ok (.iload 4, 2) := dk_21 4 (dk_at dksL_law_40 13 rfl rfl)
theorem dL_law_1121 : decode cL_law 1121 = .ok (.iconst 3, 1) := dk_6 (dk_at dksL_law_40 15 rfl rfl)
theorem dL_law_1122 : decode cL_law 1122 = .ok (.iadd, 1) := dk_96 (dk_at dksL_law_40 16 rfl rfl)
theorem dL_law_1123 : decode cL_law 1123 = .ok (.iaload, 1) := dk_46 (dk_at dksL_law_40 17 rfl rfl)
theorem dL_law_1124 : decode cL_law 1124 = .ok (.invokevirtual 183, 3) := dk_182 0 183 (dk_at dksL_law_40 18 rfl rfl)
theorem dL_law_1127 : decode cL_law 1127 = .ok (.lstore 6, 2) := dk_55 6 (dk_at dksL_law_40 21 rfl rfl)
theorem dL_law_1129 : decode cL_law 1129 = .ok (.aload_n 2, 1) := dk_44 (dk_at dksL_law_40 23 rfl rfl)
theorem dL_law_1130 : decode cL_law 1130 = .ok (.invokevirtual 137, 3) := dk_182 0 137 (dk_at dksL_law_41 0 rfl rfl)
theorem dL_law_1133 : decode cL_law 1133 = .ok (.iload 5, 2) := dk_21 5 (dk_at dksL_law_41 3 rfl rfl)
theorem dL_law_1135 : decode cL_law 1135 = .ok (.if_icmp .eq 5, 3) := dk_159 0 5 (dk_at dksL_law_41 5 rfl rfl)
theorem dL_law_1138 : decode cL_law 1138 = .ok (.iconst 0, 1) := dk_3 (dk_at dksL_law_41 8 rfl rfl)
theorem dL_law_1139 : decode cL_law 1139 = .ok (.ireturn, 1) := dk_172 (dk_at dksL_law_41 9 rfl rfl)
theorem dL_law_1140 : decode cL_law 1140 = .ok (.iload 5, 2) := dk_21 5 (dk_at dksL_law_41 10 rfl rfl)
theorem dL_law_1142 : decode cL_law 1142 = .ok (.ifCond .ne 14, 3) := dk_154 0 14 (dk_at dksL_law_41 12 rfl rfl)
theorem dL_law_1145 : decode cL_law 1145 = .ok (.aload_n 3, 1) := dk_45 (dk_at dksL_law_41 15 rfl rfl)
theorem dL_law_1146 : decode cL_law 1146 = .ok (.iconst 0, 1) := dk_3 (dk_at dksL_law_41 16 rfl rfl)
theorem dL_law_1147 : decode cL_law 1147 = .ok (.laload, 1) := dk_47 (dk_at dksL_law_41 17 rfl rfl)
theorem dL_law_1148 : decode cL_law 1148 = .ok (.lload 6, 2) := dk_22 6 (dk_at dksL_law_41 18 rfl rfl)
theorem dL_law_1150 : decode cL_law 1150 = .ok (.lcmp, 1) := dk_148 (dk_at dksL_law_41 20 rfl rfl)
theorem dL_law_1151 : decode cL_law 1151 = .ok (.ifCond .eq 5, 3) := dk_153 0 5 (dk_at dksL_law_41 21 rfl rfl)
theorem dL_law_1154 : decode cL_law 1154 = .ok (.iconst 0, 1) := dk_3 (dk_at dksL_law_42 0 rfl rfl)
theorem dL_law_1155 : decode cL_law 1155 = .ok (.ireturn, 1) := dk_172 (dk_at dksL_law_42 1 rfl rfl)
theorem dL_law_1156 : decode cL_law 1156 = .ok (.goto 1547, 3) := dk_167 6 11 (dk_at dksL_law_42 2 rfl rfl)
theorem dL_law_1159 : decode cL_law 1159 = .ok (.aload_n 1, 1) := dk_43 (dk_at dksL_law_42 5 rfl rfl)
theorem dL_law_1160 : decode cL_law 1160 = .ok (.aload_n 0, 1) := dk_42 (dk_at dksL_law_42 6 rfl rfl)
theorem dL_law_1161 : decode cL_law 1161 = .ok (.iload 4, 2) := dk_21 4 (dk_at dksL_law_42 7 rfl rfl)
theorem dL_law_1163 : decode cL_law 1163 = .ok (.iconst 1, 1) := dk_4 (dk_at dksL_law_42 9 rfl rfl)
theorem dL_law_1164 : decode cL_law 1164 = .ok (.iadd, 1) := dk_96 (dk_at dksL_law_42 10 rfl rfl)
theorem dL_law_1165 : decode cL_law 1165 = .ok (.iaload, 1) := dk_46 (dk_at dksL_law_42 11 rfl rfl)
theorem dL_law_1166 : decode cL_law 1166 = .ok (.aload_n 3, 1) := dk_45 (dk_at dksL_law_42 12 rfl rfl)
theorem dL_law_1167 : decode cL_law 1167 = .ok (.invokestatic 184, 3) := dk_184 0 184 (dk_at dksL_law_42 13 rfl rfl)
theorem dL_law_1170 : decode cL_law 1170 = .ok (.istore 5, 2) := dk_54 5 (dk_at dksL_law_42 16 rfl rfl)
theorem dL_law_1172 : decode cL_law 1172 = .ok (.aload_n 2, 1) := dk_44 (dk_at dksL_law_42 18 rfl rfl)
theorem dL_law_1173 : decode cL_law 1173 = .ok (.aload_n 0, 1) := dk_42 (dk_at dksL_law_42 19 rfl rfl)
theorem dL_law_1174 : decode cL_law 1174 = .ok (.iload 4, 2) := dk_21 4 (dk_at dksL_law_42 20 rfl rfl)
theorem dL_law_1176 : decode cL_law 1176 = .ok (.iconst 1, 1) := dk_4 (dk_at dksL_law_42 22 rfl rfl)
theorem dL_law_1177 : decode cL_law 1177 = .ok (.iadd, 1) := dk_96 (dk_at dksL_law_42 23 rfl rfl)
theorem dL_law_1178 : decode cL_law 1178 = .ok (.iaload, 1) := dk_46 (dk_at dksL_law_43 0 rfl rfl)
theorem dL_law_1179 : decode cL_law 1179 = .ok (.invokevirtual 186, 3) := dk_182 0 186 (dk_at dksL_law_43 1 rfl rfl)
theorem dL_law_1182 : decode cL_law 1182 = .ok (.lstore 6, 2) := dk_55 6 (dk_at dksL_law_43 4 rfl rfl)
theorem dL_law_1184 : decode cL_law 1184 = .ok (.aload_n 2, 1) := dk_44 (dk_at dksL_law_43 6 rfl rfl)
theorem dL_law_1185 : decode cL_law 1185 = .ok (.invokevirtual 137, 3) := dk_182 0 137 (dk_at dksL_law_43 7 rfl rfl)
theorem dL_law_1188 : decode cL_law 1188 = .ok (.iload 5, 2) := dk_21 5 (dk_at dksL_law_43 10 rfl rfl)
theorem dL_law_1190 : decode cL_law 1190 = .ok (.if_icmp .eq 5, 3) := dk_159 0 5 (dk_at dksL_law_43 12 rfl rfl)
theorem dL_law_1193 : decode cL_law 1193 = .ok (.iconst 0, 1) := dk_3 (dk_at dksL_law_43 15 rfl rfl)
theorem dL_law_1194 : decode cL_law 1194 = .ok (.ireturn, 1) := dk_172 (dk_at dksL_law_43 16 rfl rfl)
theorem dL_law_1195 : decode cL_law 1195 = .ok (.iload 5, 2) := dk_21 5 (dk_at dksL_law_43 17 rfl rfl)
theorem dL_law_1197 : decode cL_law 1197 = .ok (.ifCond .ne 14, 3) := dk_154 0 14 (dk_at dksL_law_43 19 rfl rfl)
theorem dL_law_1200 : decode cL_law 1200 = .ok (.aload_n 3, 1) := dk_45 (dk_at dksL_law_43 22 rfl rfl)
theorem dL_law_1201 : decode cL_law 1201 = .ok (.iconst 0, 1) := dk_3 (dk_at dksL_law_43 23 rfl rfl)
theorem dL_law_1202 : decode cL_law 1202 = .ok (.laload, 1) := dk_47 (dk_at dksL_law_44 0 rfl rfl)
theorem dL_law_1203 : decode cL_law 1203 = .ok (.lload 6, 2) := dk_22 6 (dk_at dksL_law_44 1 rfl rfl)
theorem dL_law_1205 : decode cL_law 1205 = .ok (.lcmp, 1) := dk_148 (dk_at dksL_law_44 3 rfl rfl)
theorem dL_law_1206 : decode cL_law 1206 = .ok (.ifCond .eq 5, 3) := dk_153 0 5 (dk_at dksL_law_44 4 rfl rfl)
theorem dL_law_1209 : decode cL_law 1209 = .ok (.iconst 0, 1) := dk_3 (dk_at dksL_law_44 7 rfl rfl)
theorem dL_law_1210 : decode cL_law 1210 = .ok (.ireturn, 1) := dk_172 (dk_at dksL_law_44 8 rfl rfl)
theorem dL_law_1211 : decode cL_law 1211 = .ok (.goto 1492, 3) := dk_167 5 212 (dk_at dksL_law_44 9 rfl rfl)
theorem dL_law_1214 : decode cL_law 1214 = .ok (.aload_n 1, 1) := dk_43 (dk_at dksL_law_44 12 rfl rfl)
theorem dL_law_1215 : decode cL_law 1215 = .ok (.invokevirtual 187, 3) := dk_182 0 187 (dk_at dksL_law_44 13 rfl rfl)
theorem dL_law_1218 : decode cL_law 1218 = .ok (.aload_n 2, 1) := dk_44 (dk_at dksL_law_44 16 rfl rfl)
theorem dL_law_1219 : decode cL_law 1219 = .ok (.invokevirtual 190, 3) := dk_182 0 190 (dk_at dksL_law_44 17 rfl rfl)
theorem dL_law_1222 : decode cL_law 1222 = .ok (.if_icmp .eq 1481, 3) := dk_159 5 201 (dk_at dksL_law_44 20 rfl rfl)
theorem dL_law_1225 : decode cL_law 1225 = .ok (.iconst 0, 1) := dk_3 (dk_at dksL_law_44 23 rfl rfl)
theorem dL_law_1226 : decode cL_law 1226 = .ok (.ireturn, 1) := dk_172 (dk_at dksL_law_45 0 rfl rfl)
theorem dL_law_1227 : decode cL_law 1227 = .ok (.aload_n 1, 1) := dk_43 (dk_at dksL_law_45 1 rfl rfl)
theorem dL_law_1228 : decode cL_law 1228 = .ok (.aload_n 0, 1) := dk_42 (dk_at dksL_law_45 2 rfl rfl)
theorem dL_law_1229 : decode cL_law 1229 = .ok (.iload 4, 2) := dk_21 4 (dk_at dksL_law_45 3 rfl rfl)
theorem dL_law_1231 : decode cL_law 1231 = .ok (.iconst 1, 1) := dk_4 (dk_at dksL_law_45 5 rfl rfl)
theorem dL_law_1232 : decode cL_law 1232 = .ok (.iadd, 1) := dk_96 (dk_at dksL_law_45 6 rfl rfl)
theorem dL_law_1233 : decode cL_law 1233 = .ok (.iaload, 1) := dk_46 (dk_at dksL_law_45 7 rfl rfl)
theorem dL_law_1234 : decode cL_law 1234 = .ok (.aload_n 0, 1) := dk_42 (dk_at dksL_law_45 8 rfl rfl)
theorem dL_law_1235 : decode cL_law 1235 = .ok (.iload 4, 2) := dk_21 4 (dk_at dksL_law_45 9 rfl rfl)
theorem dL_law_1237 : decode cL_law 1237 = .ok (.iconst 2, 1) := dk_5 (dk_at dksL_law_45 11 rfl rfl)
theorem dL_law_1238 : decode cL_law 1238 = .ok (.iadd, 1) := dk_96 (dk_at dksL_law_45 12 rfl rfl)
theorem dL_law_1239 : decode cL_law 1239 = .ok (.iaload, 1) := dk_46 (dk_at dksL_law_45 13 rfl rfl)
theorem dL_law_1240 : decode cL_law 1240 = .ok (.aload_n 3, 1) := dk_45 (dk_at dksL_law_45 14 rfl rfl)
theorem dL_law_1241 : decode cL_law 1241 = .ok (.invokestatic 191, 3) := dk_184 0 191 (dk_at dksL_law_45 15 rfl rfl)
theorem dL_law_1244 : decode cL_law 1244 = .ok (.istore 5, 2) := dk_54 5 (dk_at dksL_law_45 18 rfl rfl)
theorem dL_law_1246 : decode cL_law 1246 = .ok (.aload_n 2, 1) := dk_44 (dk_at dksL_law_45 20 rfl rfl)
theorem dL_law_1247 : decode cL_law 1247 = .ok (.aload_n 0, 1) := dk_42 (dk_at dksL_law_45 21 rfl rfl)
theorem dL_law_1248 : decode cL_law 1248 = .ok (.iload 4, 2) := dk_21 4 (dk_at dksL_law_45 22 rfl rfl)
theorem dL_law_1250 : decode cL_law 1250 = .ok (.iconst 1, 1) := dk_4 (dk_at dksL_law_46 0 rfl rfl)
theorem dL_law_1251 : decode cL_law 1251 = .ok (.iadd, 1) := dk_96 (dk_at dksL_law_46 1 rfl rfl)
theorem dL_law_1252 : decode cL_law 1252 = .ok (.iaload, 1) := dk_46 (dk_at dksL_law_46 2 rfl rfl)
theorem dL_law_1253 : decode cL_law 1253 = .ok (.aload_n 0, 1) := dk_42 (dk_at dksL_law_46 3 rfl rfl)
theorem dL_law_1254 : decode cL_law 1254 = .ok (.iload 4, 2) := dk_21 4 (dk_at dksL_law_46 4 rfl rfl)
theorem dL_law_1256 : decode cL_law 1256 = .ok (.iconst 2, 1) := dk_5 (dk_at dksL_law_46 6 rfl rfl)
theorem dL_law_1257 : decode cL_law 1257 = .ok (.iadd, 1) := dk_96 (dk_at dksL_law_46 7 rfl rfl)
theorem dL_law_1258 : decode cL_law 1258 = .ok (.iaload, 1) := dk_46 (dk_at dksL_law_46 8 rfl rfl)
theorem dL_law_1259 : decode cL_law 1259 = .ok (.invokevirtual 193, 3) := dk_182 0 193 (dk_at dksL_law_46 9 rfl rfl)
theorem dL_law_1262 : decode cL_law 1262 = .ok (.lstore 6, 2) := dk_55 6 (dk_at dksL_law_46 12 rfl rfl)
theorem dL_law_1264 : decode cL_law 1264 = .ok (.aload_n 2, 1) := dk_44 (dk_at dksL_law_46 14 rfl rfl)
theorem dL_law_1265 : decode cL_law 1265 = .ok (.invokevirtual 137, 3) := dk_182 0 137 (dk_at dksL_law_46 15 rfl rfl)
theorem dL_law_1268 : decode cL_law 1268 = .ok (.iload 5, 2) := dk_21 5 (dk_at dksL_law_46 18 rfl rfl)
theorem dL_law_1270 : decode cL_law 1270 = .ok (.if_icmp .eq 5, 3) := dk_159 0 5 (dk_at dksL_law_46 20 rfl rfl)
theorem dL_law_1273 : decode cL_law 1273 = .ok (.iconst 0, 1) := dk_3 (dk_at dksL_law_46 23 rfl rfl)
theorem dL_law_1274 : decode cL_law 1274 = .ok (.ireturn, 1) := dk_172 (dk_at dksL_law_47 0 rfl rfl)
theorem dL_law_1275 : decode cL_law 1275 = .ok (.iload 5, 2) := dk_21 5 (dk_at dksL_law_47 1 rfl rfl)
theorem dL_law_1277 : decode cL_law 1277 = .ok (.ifCond .ne 14, 3) := dk_154 0 14 (dk_at dksL_law_47 3 rfl rfl)
theorem dL_law_1280 : decode cL_law 1280 = .ok (.aload_n 3, 1) := dk_45 (dk_at dksL_law_47 6 rfl rfl)
theorem dL_law_1281 : decode cL_law 1281 = .ok (.iconst 0, 1) := dk_3 (dk_at dksL_law_47 7 rfl rfl)
theorem dL_law_1282 : decode cL_law 1282 = .ok (.laload, 1) := dk_47 (dk_at dksL_law_47 8 rfl rfl)
theorem dL_law_1283 : decode cL_law 1283 = .ok (.lload 6, 2) := dk_22 6 (dk_at dksL_law_47 9 rfl rfl)
theorem dL_law_1285 : decode cL_law 1285 = .ok (.lcmp, 1) := dk_148 (dk_at dksL_law_47 11 rfl rfl)
theorem dL_law_1286 : decode cL_law 1286 = .ok (.ifCond .eq 5, 3) := dk_153 0 5 (dk_at dksL_law_47 12 rfl rfl)
theorem dL_law_1289 : decode cL_law 1289 = .ok (.iconst 0, 1) := dk_3 (dk_at dksL_law_47 15 rfl rfl)
theorem dL_law_1290 : decode cL_law 1290 = .ok (.ireturn, 1) := dk_172 (dk_at dksL_law_47 16 rfl rfl)
theorem dL_law_1291 : decode cL_law 1291 = .ok (.goto 1412, 3) := dk_167 5 132 (dk_at dksL_law_47 17 rfl rfl)
theorem dL_law_1294 : decode cL_law 1294 = .ok (.aload_n 1, 1) := dk_43 (dk_at dksL_law_47 20 rfl rfl)
theorem dL_law_1295 : decode cL_law 1295 = .ok (.aload_n 0, 1) := dk_42 (dk_at dksL_law_47 21 rfl rfl)
theorem dL_law_1296 : decode cL_law 1296 = .ok (.iload 4, 2) := dk_21 4 (dk_at dksL_law_47 22 rfl rfl)
theorem dL_law_1298 : decode cL_law 1298 = .ok (.iconst 1, 1) := dk_4 (dk_at dksL_law_48 0 rfl rfl)
theorem dL_law_1299 : decode cL_law 1299 = .ok (.iadd, 1) := dk_96 (dk_at dksL_law_48 1 rfl rfl)
theorem dL_law_1300 : decode cL_law 1300 = .ok (.iaload, 1) := dk_46 (dk_at dksL_law_48 2 rfl rfl)
theorem dL_law_1301 : decode cL_law 1301 = .ok (.aload_n 0, 1) := dk_42 (dk_at dksL_law_48 3 rfl rfl)
theorem dL_law_1302 : decode cL_law 1302 = .ok (.iload 4, 2) := dk_21 4 (dk_at dksL_law_48 4 rfl rfl)
theorem dL_law_1304 : decode cL_law 1304 = .ok (.iconst 2, 1) := dk_5 (dk_at dksL_law_48 6 rfl rfl)
theorem dL_law_1305 : decode cL_law 1305 = .ok (.iadd, 1) := dk_96 (dk_at dksL_law_48 7 rfl rfl)
theorem dL_law_1306 : decode cL_law 1306 = .ok (.iaload, 1) := dk_46 (dk_at dksL_law_48 8 rfl rfl)
theorem dL_law_1307 : decode cL_law 1307 = .ok (.aload_n 3, 1) := dk_45 (dk_at dksL_law_48 9 rfl rfl)
theorem dL_law_1308 : decode cL_law 1308 = .ok (.invokestatic 194, 3) := dk_184 0 194 (dk_at dksL_law_48 10 rfl rfl)
theorem dL_law_1311 : decode cL_law 1311 = .ok (.istore 5, 2) := dk_54 5 (dk_at dksL_law_48 13 rfl rfl)
theorem dL_law_1313 : decode cL_law 1313 = .ok (.aload_n 2, 1) := dk_44 (dk_at dksL_law_48 15 rfl rfl)
theorem dL_law_1314 : decode cL_law 1314 = .ok (.aload_n 0, 1) := dk_42 (dk_at dksL_law_48 16 rfl rfl)
theorem dL_law_1315 : decode cL_law 1315 = .ok (.iload 4, 2) := dk_21 4 (dk_at dksL_law_48 17 rfl rfl)
theorem dL_law_1317 : decode cL_law 1317 = .ok (.iconst 1, 1) := dk_4 (dk_at dksL_law_48 19 rfl rfl)
theorem dL_law_1318 : decode cL_law 1318 = .ok (.iadd, 1) := dk_96 (dk_at dksL_law_48 20 rfl rfl)
theorem dL_law_1319 : decode cL_law 1319 = .ok (.iaload, 1) := dk_46 (dk_at dksL_law_48 21 rfl rfl)
theorem dL_law_1320 : decode cL_law 1320 = .ok (.aload_n 0, 1) := dk_42 (dk_at dksL_law_48 22 rfl rfl)
theorem dL_law_1321 : decode cL_law 1321 = .ok (.iload 4, 2) := dk_21 4 (dk_at dksL_law_49 0 rfl rfl)
theorem dL_law_1323 : decode cL_law 1323 = .ok (.iconst 2, 1) := dk_5 (dk_at dksL_law_49 2 rfl rfl)
theorem dL_law_1324 : decode cL_law 1324 = .ok (.iadd, 1) := dk_96 (dk_at dksL_law_49 3 rfl rfl)
theorem dL_law_1325 : decode cL_law 1325 = .ok (.iaload, 1) := dk_46 (dk_at dksL_law_49 4 rfl rfl)
theorem dL_law_1326 : decode cL_law 1326 = .ok (.invokevirtual 196, 3) := dk_182 0 196 (dk_at dksL_law_49 5 rfl rfl)
theorem dL_law_1329 : decode cL_law 1329 = .ok (.lstore 6, 2) := dk_55 6 (dk_at dksL_law_49 8 rfl rfl)
theorem dL_law_1331 : decode cL_law 1331 = .ok (.aload_n 2, 1) := dk_44 (dk_at dksL_law_49 10 rfl rfl)
theorem dL_law_1332 : decode cL_law 1332 = .ok (.invokevirtual 137, 3) := dk_182 0 137 (dk_at dksL_law_49 11 rfl rfl)
theorem dL_law_1335 : decode cL_law 1335 = .ok (.iload 5, 2) := dk_21 5 (dk_at dksL_law_49 14 rfl rfl)
theorem dL_law_1337 : decode cL_law 1337 = .ok (.if_icmp .eq 5, 3) := dk_159 0 5 (dk_at dksL_law_49 16 rfl rfl)
theorem dL_law_1340 : decode cL_law 1340 = .ok (.iconst 0, 1) := dk_3 (dk_at dksL_law_49 19 rfl rfl)
theorem dL_law_1341 : decode cL_law 1341 = .ok (.ireturn, 1) := dk_172 (dk_at dksL_law_49 20 rfl rfl)
theorem dL_law_1342 : decode cL_law 1342 = .ok (.iload 5, 2) := dk_21 5 (dk_at dksL_law_49 21 rfl rfl)
theorem dL_law_1344 : decode cL_law 1344 = .ok (.ifCond .ne 14, 3) := dk_154 0 14 (dk_at dksL_law_50 0 rfl rfl)
theorem dL_law_1347 : decode cL_law 1347 = .ok (.aload_n 3, 1) := dk_45 (dk_at dksL_law_50 3 rfl rfl)
theorem dL_law_1348 : decode cL_law 1348 = .ok (.iconst 0, 1) := dk_3 (dk_at dksL_law_50 4 rfl rfl)
theorem dL_law_1349 : decode cL_law 1349 = .ok (.laload, 1) := dk_47 (dk_at dksL_law_50 5 rfl rfl)
theorem dL_law_1350 : decode cL_law 1350 = .ok (.lload 6, 2) := dk_22 6 (dk_at dksL_law_50 6 rfl rfl)
theorem dL_law_1352 : decode cL_law 1352 = .ok (.lcmp, 1) := dk_148 (dk_at dksL_law_50 8 rfl rfl)
theorem dL_law_1353 : decode cL_law 1353 = .ok (.ifCond .eq 5, 3) := dk_153 0 5 (dk_at dksL_law_50 9 rfl rfl)
theorem dL_law_1356 : decode cL_law 1356 = .ok (.iconst 0, 1) := dk_3 (dk_at dksL_law_50 12 rfl rfl)
theorem dL_law_1357 : decode cL_law 1357 = .ok (.ireturn, 1) := dk_172 (dk_at dksL_law_50 13 rfl rfl)
theorem dL_law_1358 : decode cL_law 1358 = .ok (.goto 1345, 3) := dk_167 5 65 (dk_at dksL_law_50 14 rfl rfl)
theorem dL_law_1361 : decode cL_law 1361 = .ok (.aload_n 1, 1) := dk_43 (dk_at dksL_law_50 17 rfl rfl)
theorem dL_law_1362 : decode cL_law 1362 = .ok (.aload_n 0, 1) := dk_42 (dk_at dksL_law_50 18 rfl rfl)
theorem dL_law_1363 : decode cL_law 1363 = .ok (.iload 4, 2) := dk_21 4 (dk_at dksL_law_50 19 rfl rfl)
theorem dL_law_1365 : decode cL_law 1365 = .ok (.iconst 1, 1) := dk_4 (dk_at dksL_law_50 21 rfl rfl)
theorem dL_law_1366 : decode cL_law 1366 = .ok (.iadd, 1) := dk_96 (dk_at dksL_law_50 22 rfl rfl)
theorem dL_law_1367 : decode cL_law 1367 = .ok (.iaload, 1) := dk_46 (dk_at dksL_law_50 23 rfl rfl)
theorem dL_law_1368 : decode cL_law 1368 = .ok (.aload_n 3, 1) := dk_45 (dk_at dksL_law_51 0 rfl rfl)
theorem dL_law_1369 : decode cL_law 1369 = .ok (.invokestatic 197, 3) := dk_184 0 197 (dk_at dksL_law_51 1 rfl rfl)
theorem dL_law_1372 : decode cL_law 1372 = .ok (.istore 5, 2) := dk_54 5 (dk_at dksL_law_51 4 rfl rfl)
theorem dL_law_1374 : decode cL_law 1374 = .ok (.aload_n 2, 1) := dk_44 (dk_at dksL_law_51 6 rfl rfl)
theorem dL_law_1375 : decode cL_law 1375 = .ok (.aload_n 0, 1) := dk_42 (dk_at dksL_law_51 7 rfl rfl)
theorem dL_law_1376 : decode cL_law 1376 = .ok (.iload 4, 2) := dk_21 4 (dk_at dksL_law_51 8 rfl rfl)
theorem dL_law_1378 : decode cL_law 1378 = .ok (.iconst 1, 1) := dk_4 (dk_at dksL_law_51 10 rfl rfl)
theorem dL_law_1379 : decode cL_law 1379 = .ok (.iadd, 1) := dk_96 (dk_at dksL_law_51 11 rfl rfl)
theorem dL_law_1380 : decode cL_law 1380 = .ok (.iaload, 1) := dk_46 (dk_at dksL_law_51 12 rfl rfl)
theorem dL_law_1381 : decode cL_law 1381 = .ok (.invokevirtual 199, 3) := dk_182 0 199 (dk_at dksL_law_51 13 rfl rfl)
theorem dL_law_1384 : decode cL_law 1384 = .ok (.lstore 6, 2) := dk_55 6 (dk_at dksL_law_51 16 rfl rfl)
theorem dL_law_1386 : decode cL_law 1386 = .ok (.aload_n 2, 1) := dk_44 (dk_at dksL_law_51 18 rfl rfl)
theorem dL_law_1387 : decode cL_law 1387 = .ok (.invokevirtual 137, 3) := dk_182 0 137 (dk_at dksL_law_51 19 rfl rfl)
theorem dL_law_1390 : decode cL_law 1390 = .ok (.iload 5, 2) := dk_21 5 (dk_at dksL_law_51 22 rfl rfl)
theorem dL_law_1392 : decode cL_law 1392 = .ok (.if_icmp .eq 5, 3) := dk_159 0 5 (dk_at dksL_law_52 0 rfl rfl)
theorem dL_law_1395 : decode cL_law 1395 = .ok (.iconst 0, 1) := dk_3 (dk_at dksL_law_52 3 rfl rfl)
theorem dL_law_1396 : decode cL_law 1396 = .ok (.ireturn, 1) := dk_172 (dk_at dksL_law_52 4 rfl rfl)
theorem dL_law_1397 : decode cL_law 1397 = .ok (.iload 5, 2) := dk_21 5 (dk_at dksL_law_52 5 rfl rfl)
theorem dL_law_1399 : decode cL_law 1399 = .ok (.ifCond .ne 14, 3) := dk_154 0 14 (dk_at dksL_law_52 7 rfl rfl)
theorem dL_law_1402 : decode cL_law 1402 = .ok (.aload_n 3, 1) := dk_45 (dk_at dksL_law_52 10 rfl rfl)
theorem dL_law_1403 : decode cL_law 1403 = .ok (.iconst 0, 1) := dk_3 (dk_at dksL_law_52 11 rfl rfl)
theorem dL_law_1404 : decode cL_law 1404 = .ok (.laload, 1) := dk_47 (dk_at dksL_law_52 12 rfl rfl)
theorem dL_law_1405 : decode cL_law 1405 = .ok (.lload 6, 2) := dk_22 6 (dk_at dksL_law_52 13 rfl rfl)
theorem dL_law_1407 : decode cL_law 1407 = .ok (.lcmp, 1) := dk_148 (dk_at dksL_law_52 15 rfl rfl)
theorem dL_law_1408 : decode cL_law 1408 = .ok (.ifCond .eq 5, 3) := dk_153 0 5 (dk_at dksL_law_52 16 rfl rfl)
theorem dL_law_1411 : decode cL_law 1411 = .ok (.iconst 0, 1) := dk_3 (dk_at dksL_law_52 19 rfl rfl)
theorem dL_law_1412 : decode cL_law 1412 = .ok (.ireturn, 1) := dk_172 (dk_at dksL_law_52 20 rfl rfl)
theorem dL_law_1413 : decode cL_law 1413 = .ok (.goto 1290, 3) := dk_167 5 10 (dk_at dksL_law_52 21 rfl rfl)
theorem dL_law_1416 : decode cL_law 1416 = .ok (.aload_n 1, 1) := dk_43 (dk_at dksL_law_53 0 rfl rfl)
theorem dL_law_1417 : decode cL_law 1417 = .ok (.aload_n 0, 1) := dk_42 (dk_at dksL_law_53 1 rfl rfl)
theorem dL_law_1418 : decode cL_law 1418 = .ok (.iload 4, 2) := dk_21 4 (dk_at dksL_law_53 2 rfl rfl)
theorem dL_law_1420 : decode cL_law 1420 = .ok (.iconst 1, 1) := dk_4 (dk_at dksL_law_53 4 rfl rfl)
theorem dL_law_1421 : decode cL_law 1421 = .ok (.iadd, 1) := dk_96 (dk_at dksL_law_53 5 rfl rfl)
theorem dL_law_1422 : decode cL_law 1422 = .ok (.iaload, 1) := dk_46 (dk_at dksL_law_53 6 rfl rfl)
theorem dL_law_1423 : decode cL_law 1423 = .ok (.aload_n 3, 1) := dk_45 (dk_at dksL_law_53 7 rfl rfl)
theorem dL_law_1424 : decode cL_law 1424 = .ok (.invokestatic 200, 3) := dk_184 0 200 (dk_at dksL_law_53 8 rfl rfl)
theorem dL_law_1427 : decode cL_law 1427 = .ok (.istore 5, 2) := dk_54 5 (dk_at dksL_law_53 11 rfl rfl)
theorem dL_law_1429 : decode cL_law 1429 = .ok (.aload_n 2, 1) := dk_44 (dk_at dksL_law_53 13 rfl rfl)
theorem dL_law_1430 : decode cL_law 1430 = .ok (.aload_n 0, 1) := dk_42 (dk_at dksL_law_53 14 rfl rfl)
theorem dL_law_1431 : decode cL_law 1431 = .ok (.iload 4, 2) := dk_21 4 (dk_at dksL_law_53 15 rfl rfl)
theorem dL_law_1433 : decode cL_law 1433 = .ok (.iconst 1, 1) := dk_4 (dk_at dksL_law_53 17 rfl rfl)
theorem dL_law_1434 : decode cL_law 1434 = .ok (.iadd, 1) := dk_96 (dk_at dksL_law_53 18 rfl rfl)
theorem dL_law_1435 : decode cL_law 1435 = .ok (.iaload, 1) := dk_46 (dk_at dksL_law_53 19 rfl rfl)
theorem dL_law_1436 : decode cL_law 1436 = .ok (.invokevirtual 202, 3) := dk_182 0 202 (dk_at dksL_law_53 20 rfl rfl)
theorem dL_law_1439 : decode cL_law 1439 = .ok (.lstore 6, 2) := dk_55 6 (dk_at dksL_law_54 0 rfl rfl)
theorem dL_law_1441 : decode cL_law 1441 = .ok (.aload_n 2, 1) := dk_44 (dk_at dksL_law_54 2 rfl rfl)
theorem dL_law_1442 : decode cL_law 1442 = .ok (.invokevirtual 137, 3) := dk_182 0 137 (dk_at dksL_law_54 3 rfl rfl)
theorem dL_law_1445 : decode cL_law 1445 = .ok (.iload 5, 2) := dk_21 5 (dk_at dksL_law_54 6 rfl rfl)
theorem dL_law_1447 : decode cL_law 1447 = .ok (.if_icmp .eq 5, 3) := dk_159 0 5 (dk_at dksL_law_54 8 rfl rfl)
theorem dL_law_1450 : decode cL_law 1450 = .ok (.iconst 0, 1) := dk_3 (dk_at dksL_law_54 11 rfl rfl)
theorem dL_law_1451 : decode cL_law 1451 = .ok (.ireturn, 1) := dk_172 (dk_at dksL_law_54 12 rfl rfl)
theorem dL_law_1452 : decode cL_law 1452 = .ok (.iload 5, 2) := dk_21 5 (dk_at dksL_law_54 13 rfl rfl)
theorem dL_law_1454 : decode cL_law 1454 = .ok (.ifCond .ne 14, 3) := dk_154 0 14 (dk_at dksL_law_54 15 rfl rfl)
theorem dL_law_1457 : decode cL_law 1457 = .ok (.aload_n 3, 1) := dk_45 (dk_at dksL_law_54 18 rfl rfl)
theorem dL_law_1458 : decode cL_law 1458 = .ok (.iconst 0, 1) := dk_3 (dk_at dksL_law_54 19 rfl rfl)
theorem dL_law_1459 : decode cL_law 1459 = .ok (.laload, 1) := dk_47 (dk_at dksL_law_54 20 rfl rfl)
theorem dL_law_1460 : decode cL_law 1460 = .ok (.lload 6, 2) := dk_22 6 (dk_at dksL_law_54 21 rfl rfl)
theorem dL_law_1462 : decode cL_law 1462 = .ok (.lcmp, 1) := dk_148 (dk_at dksL_law_54 23 rfl rfl)
theorem dL_law_1463 : decode cL_law 1463 = .ok (.ifCond .eq 5, 3) := dk_153 0 5 (dk_at dksL_law_55 0 rfl rfl)
theorem dL_law_1466 : decode cL_law 1466 = .ok (.iconst 0, 1) := dk_3 (dk_at dksL_law_55 3 rfl rfl)
theorem dL_law_1467 : decode cL_law 1467 = .ok (.ireturn, 1) := dk_172 (dk_at dksL_law_55 4 rfl rfl)
theorem dL_law_1468 : decode cL_law 1468 = .ok (.goto 1235, 3) := dk_167 4 211 (dk_at dksL_law_55 5 rfl rfl)
theorem dL_law_1471 : decode cL_law 1471 = .ok (.aload_n 1, 1) := dk_43 (dk_at dksL_law_55 8 rfl rfl)
theorem dL_law_1472 : decode cL_law 1472 = .ok (.aload_n 0, 1) := dk_42 (dk_at dksL_law_55 9 rfl rfl)
theorem dL_law_1473 : decode cL_law 1473 = .ok (.iload 4, 2) := dk_21 4 (dk_at dksL_law_55 10 rfl rfl)
theorem dL_law_1475 : decode cL_law 1475 = .ok (.iconst 1, 1) := dk_4 (dk_at dksL_law_55 12 rfl rfl)
theorem dL_law_1476 : decode cL_law 1476 = .ok (.iadd, 1) := dk_96 (dk_at dksL_law_55 13 rfl rfl)
theorem dL_law_1477 : decode cL_law 1477 = .ok (.iaload, 1) := dk_46 (dk_at dksL_law_55 14 rfl rfl)
theorem dL_law_1478 : decode cL_law 1478 = .ok (.aload_n 0, 1) := dk_42 (dk_at dksL_law_55 15 rfl rfl)
theorem dL_law_1479 : decode cL_law 1479 = .ok (.iload 4, 2) := dk_21 4 (dk_at dksL_law_55 16 rfl rfl)
theorem dL_law_1481 : decode cL_law 1481 = .ok (.iconst 2, 1) := dk_5 (dk_at dksL_law_55 18 rfl rfl)
theorem dL_law_1482 : decode cL_law 1482 = .ok (.iadd, 1) := dk_96 (dk_at dksL_law_55 19 rfl rfl)
theorem dL_law_1483 : decode cL_law 1483 = .ok (.iaload, 1) := dk_46 (dk_at dksL_law_55 20 rfl rfl)
theorem dL_law_1484 : decode cL_law 1484 = .ok (.aload_n 0, 1) := dk_42 (dk_at dksL_law_55 21 rfl rfl)
theorem dL_law_1485 : decode cL_law 1485 = .ok (.iload 4, 2) := dk_21 4 (dk_at dksL_law_55 22 rfl rfl)
theorem dL_law_1487 : decode cL_law 1487 = .ok (.iconst 3, 1) := dk_6 (dk_at dksL_law_56 0 rfl rfl)
theorem dL_law_1488 : decode cL_law 1488 = .ok (.iadd, 1) := dk_96 (dk_at dksL_law_56 1 rfl rfl)
theorem dL_law_1489 : decode cL_law 1489 = .ok (.iaload, 1) := dk_46 (dk_at dksL_law_56 2 rfl rfl)
theorem dL_law_1490 : decode cL_law 1490 = .ok (.aload_n 3, 1) := dk_45 (dk_at dksL_law_56 3 rfl rfl)
theorem dL_law_1491 : decode cL_law 1491 = .ok (.invokestatic 203, 3) := dk_184 0 203 (dk_at dksL_law_56 4 rfl rfl)
theorem dL_law_1494 : decode cL_law 1494 = .ok (.istore 5, 2) := dk_54 5 (dk_at dksL_law_56 7 rfl rfl)
theorem dL_law_1496 : decode cL_law 1496 = .ok (.aload_n 2, 1) := dk_44 (dk_at dksL_law_56 9 rfl rfl)
theorem dL_law_1497 : decode cL_law 1497 = .ok (.aload_n 0, 1) := dk_42 (dk_at dksL_law_56 10 rfl rfl)
theorem dL_law_1498 : decode cL_law 1498 = .ok (.iload 4, 2) := dk_21 4 (dk_at dksL_law_56 11 rfl rfl)
theorem dL_law_1500 : decode cL_law 1500 = .ok (.iconst 1, 1) := dk_4 (dk_at dksL_law_56 13 rfl rfl)
theorem dL_law_1501 : decode cL_law 1501 = .ok (.iadd, 1) := dk_96 (dk_at dksL_law_56 14 rfl rfl)
theorem dL_law_1502 : decode cL_law 1502 = .ok (.iaload, 1) := dk_46 (dk_at dksL_law_56 15 rfl rfl)
theorem dL_law_1503 : decode cL_law 1503 = .ok (.aload_n 0, 1) := dk_42 (dk_at dksL_law_56 16 rfl rfl)
theorem dL_law_1504 : decode cL_law 1504 = .ok (.iload 4, 2) := dk_21 4 (dk_at dksL_law_56 17 rfl rfl)
theorem dL_law_1506 : decode cL_law 1506 = .ok (.iconst 2, 1) := dk_5 (dk_at dksL_law_56 19 rfl rfl)
theorem dL_law_1507 : decode cL_law 1507 = .ok (.iadd, 1) := dk_96 (dk_at dksL_law_56 20 rfl rfl)
theorem dL_law_1508 : decode cL_law 1508 = .ok (.iaload, 1) := dk_46 (dk_at dksL_law_56 21 rfl rfl)
theorem dL_law_1509 : decode cL_law 1509 = .ok (.aload_n 0, 1) := dk_42 (dk_at dksL_law_56 22 rfl rfl)
theorem dL_law_1510 : decode cL_law 1510 = .ok (.iload 4, 2) := dk_21 4 (dk_at dksL_law_57 0 rfl rfl)
theorem dL_law_1512 : decode cL_law 1512 = .ok (.iconst 3, 1) := dk_6 (dk_at dksL_law_57 2 rfl rfl)
theorem dL_law_1513 : decode cL_law 1513 = .ok (.iadd, 1) := dk_96 (dk_at dksL_law_57 3 rfl rfl)
theorem dL_law_1514 : decode cL_law 1514 = .ok (.iaload, 1) := dk_46 (dk_at dksL_law_57 4 rfl rfl)
theorem dL_law_1515 : decode cL_law 1515 = .ok (.invokevirtual 205, 3) := dk_182 0 205 (dk_at dksL_law_57 5 rfl rfl)
theorem dL_law_1518 : decode cL_law 1518 = .ok (.lstore 6, 2) := dk_55 6 (dk_at dksL_law_57 8 rfl rfl)
theorem dL_law_1520 : decode cL_law 1520 = .ok (.aload_n 2, 1) := dk_44 (dk_at dksL_law_57 10 rfl rfl)
theorem dL_law_1521 : decode cL_law 1521 = .ok (.invokevirtual 137, 3) := dk_182 0 137 (dk_at dksL_law_57 11 rfl rfl)
theorem dL_law_1524 : decode cL_law 1524 = .ok (.iload 5, 2) := dk_21 5 (dk_at dksL_law_57 14 rfl rfl)
theorem dL_law_1526 : decode cL_law 1526 = .ok (.if_icmp .eq 5, 3) := dk_159 0 5 (dk_at dksL_law_57 16 rfl rfl)
theorem dL_law_1529 : decode cL_law 1529 = .ok (.iconst 0, 1) := dk_3 (dk_at dksL_law_57 19 rfl rfl)
theorem dL_law_1530 : decode cL_law 1530 = .ok (.ireturn, 1) := dk_172 (dk_at dksL_law_57 20 rfl rfl)
theorem dL_law_1531 : decode cL_law 1531 = .ok (.iload 5, 2) := dk_21 5 (dk_at dksL_law_57 21 rfl rfl)
theorem dL_law_1533 : decode cL_law 1533 = .ok (.ifCond .ne 14, 3) := dk_154 0 14 (dk_at dksL_law_58 0 rfl rfl)
theorem dL_law_1536 : decode cL_law 1536 = .ok (.aload_n 3, 1) := dk_45 (dk_at dksL_law_58 3 rfl rfl)
theorem dL_law_1537 : decode cL_law 1537 = .ok (.iconst 0, 1) := dk_3 (dk_at dksL_law_58 4 rfl rfl)
theorem dL_law_1538 : decode cL_law 1538 = .ok (.laload, 1) := dk_47 (dk_at dksL_law_58 5 rfl rfl)
theorem dL_law_1539 : decode cL_law 1539 = .ok (.lload 6, 2) := dk_22 6 (dk_at dksL_law_58 6 rfl rfl)
theorem dL_law_1541 : decode cL_law 1541 = .ok (.lcmp, 1) := dk_148 (dk_at dksL_law_58 8 rfl rfl)
theorem dL_law_1542 : decode cL_law 1542 = .ok (.ifCond .eq 5, 3) := dk_153 0 5 (dk_at dksL_law_58 9 rfl rfl)
theorem dL_law_1545 : decode cL_law 1545 = .ok (.iconst 0, 1) := dk_3 (dk_at dksL_law_58 12 rfl rfl)
theorem dL_law_1546 : decode cL_law 1546 = .ok (.ireturn, 1) := dk_172 (dk_at dksL_law_58 13 rfl rfl)
theorem dL_law_1547 : decode cL_law 1547 = .ok (.goto 1156, 3) := dk_167 4 132 (dk_at dksL_law_58 14 rfl rfl)
theorem dL_law_1550 : decode cL_law 1550 = .ok (.aload_n 1, 1) := dk_43 (dk_at dksL_law_58 17 rfl rfl)
theorem dL_law_1551 : decode cL_law 1551 = .ok (.aload_n 0, 1) := dk_42 (dk_at dksL_law_58 18 rfl rfl)
theorem dL_law_1552 : decode cL_law 1552 = .ok (.iload 4, 2) := dk_21 4 (dk_at dksL_law_58 19 rfl rfl)
theorem dL_law_1554 : decode cL_law 1554 = .ok (.iconst 1, 1) := dk_4 (dk_at dksL_law_58 21 rfl rfl)
theorem dL_law_1555 : decode cL_law 1555 = .ok (.iadd, 1) := dk_96 (dk_at dksL_law_58 22 rfl rfl)
theorem dL_law_1556 : decode cL_law 1556 = .ok (.iaload, 1) := dk_46 (dk_at dksL_law_58 23 rfl rfl)
theorem dL_law_1557 : decode cL_law 1557 = .ok (.aload_n 3, 1) := dk_45 (dk_at dksL_law_59 0 rfl rfl)
theorem dL_law_1558 : decode cL_law 1558 = .ok (.invokestatic 206, 3) := dk_184 0 206 (dk_at dksL_law_59 1 rfl rfl)
theorem dL_law_1561 : decode cL_law 1561 = .ok (.istore 5, 2) := dk_54 5 (dk_at dksL_law_59 4 rfl rfl)
theorem dL_law_1563 : decode cL_law 1563 = .ok (.aload_n 2, 1) := dk_44 (dk_at dksL_law_59 6 rfl rfl)
theorem dL_law_1564 : decode cL_law 1564 = .ok (.aload_n 0, 1) := dk_42 (dk_at dksL_law_59 7 rfl rfl)
theorem dL_law_1565 : decode cL_law 1565 = .ok (.iload 4, 2) := dk_21 4 (dk_at dksL_law_59 8 rfl rfl)
theorem dL_law_1567 : decode cL_law 1567 = .ok (.iconst 1, 1) := dk_4 (dk_at dksL_law_59 10 rfl rfl)
theorem dL_law_1568 : decode cL_law 1568 = .ok (.iadd, 1) := dk_96 (dk_at dksL_law_59 11 rfl rfl)
theorem dL_law_1569 : decode cL_law 1569 = .ok (.iaload, 1) := dk_46 (dk_at dksL_law_59 12 rfl rfl)
theorem dL_law_1570 : decode cL_law 1570 = .ok (.invokevirtual 208, 3) := dk_182 0 208 (dk_at dksL_law_59 13 rfl rfl)
theorem dL_law_1573 : decode cL_law 1573 = .ok (.istore 6, 2) := dk_54 6 (dk_at dksL_law_59 16 rfl rfl)
theorem dL_law_1575 : decode cL_law 1575 = .ok (.aload_n 2, 1) := dk_44 (dk_at dksL_law_59 18 rfl rfl)
theorem dL_law_1576 : decode cL_law 1576 = .ok (.invokevirtual 137, 3) := dk_182 0 137 (dk_at dksL_law_59 19 rfl rfl)
theorem dL_law_1579 : decode cL_law 1579 = .ok (.iload 5, 2) := dk_21 5 (dk_at dksL_law_59 22 rfl rfl)
theorem dL_law_1581 : decode cL_law 1581 = .ok (.if_icmp .eq 5, 3) := dk_159 0 5 (dk_at dksL_law_60 0 rfl rfl)
theorem dL_law_1584 : decode cL_law 1584 = .ok (.iconst 0, 1) := dk_3 (dk_at dksL_law_60 3 rfl rfl)
theorem dL_law_1585 : decode cL_law 1585 = .ok (.ireturn, 1) := dk_172 (dk_at dksL_law_60 4 rfl rfl)
theorem dL_law_1586 : decode cL_law 1586 = .ok (.iload 5, 2) := dk_21 5 (dk_at dksL_law_60 5 rfl rfl)
theorem dL_law_1588 : decode cL_law 1588 = .ok (.ifCond .ne 15, 3) := dk_154 0 15 (dk_at dksL_law_60 7 rfl rfl)
theorem dL_law_1591 : decode cL_law 1591 = .ok (.aload_n 3, 1) := dk_45 (dk_at dksL_law_60 10 rfl rfl)
theorem dL_law_1592 : decode cL_law 1592 = .ok (.iconst 0, 1) := dk_3 (dk_at dksL_law_60 11 rfl rfl)
theorem dL_law_1593 : decode cL_law 1593 = .ok (.laload, 1) := dk_47 (dk_at dksL_law_60 12 rfl rfl)
theorem dL_law_1594 : decode cL_law 1594 = .ok (.iload 6, 2) := dk_21 6 (dk_at dksL_law_60 13 rfl rfl)
theorem dL_law_1596 : decode cL_law 1596 = .ok (.i2l, 1) := dk_133 (dk_at dksL_law_60 15 rfl rfl)
theorem dL_law_1597 : decode cL_law 1597 = .ok (.lcmp, 1) := dk_148 (dk_at dksL_law_60 16 rfl rfl)
theorem dL_law_1598 : decode cL_law 1598 = .ok (.ifCond .eq 5, 3) := dk_153 0 5 (dk_at dksL_law_60 17 rfl rfl)
theorem dL_law_1601 : decode cL_law 1601 = .ok (.iconst 0, 1) := dk_3 (dk_at dksL_law_60 20 rfl rfl)
theorem dL_law_1602 : decode cL_law 1602 = .ok (.ireturn, 1) := dk_172 (dk_at dksL_law_60 21 rfl rfl)
theorem dL_law_1603 : decode cL_law 1603 = .ok (.goto 1100, 3) := dk_167 4 76 (dk_at dksL_law_61 0 rfl rfl)
theorem dL_law_1606 : decode cL_law 1606 = .ok (.aload_n 1, 1) := dk_43 (dk_at dksL_law_61 3 rfl rfl)
theorem dL_law_1607 : decode cL_law 1607 = .ok (.aload_n 0, 1) := dk_42 (dk_at dksL_law_61 4 rfl rfl)
theorem dL_law_1608 : decode cL_law 1608 = .ok (.iload 4, 2) := dk_21 4 (dk_at dksL_law_61 5 rfl rfl)
theorem dL_law_1610 : decode cL_law 1610 = .ok (.iconst 1, 1) := dk_4 (dk_at dksL_law_61 7 rfl rfl)
theorem dL_law_1611 : decode cL_law 1611 = .ok (.iadd, 1) := dk_96 (dk_at dksL_law_61 8 rfl rfl)
theorem dL_law_1612 : decode cL_law 1612 = .ok (.iaload, 1) := dk_46 (dk_at dksL_law_61 9 rfl rfl)
theorem dL_law_1613 : decode cL_law 1613 = .ok (.aload_n 0, 1) := dk_42 (dk_at dksL_law_61 10 rfl rfl)
theorem dL_law_1614 : decode cL_law 1614 = .ok (.iload 4, 2) := dk_21 4 (dk_at dksL_law_61 11 rfl rfl)
theorem dL_law_1616 : decode cL_law 1616 = .ok (.iconst 2, 1) := dk_5 (dk_at dksL_law_61 13 rfl rfl)
theorem dL_law_1617 : decode cL_law 1617 = .ok (.iadd, 1) := dk_96 (dk_at dksL_law_61 14 rfl rfl)
theorem dL_law_1618 : decode cL_law 1618 = .ok (.iaload, 1) := dk_46 (dk_at dksL_law_61 15 rfl rfl)
theorem dL_law_1619 : decode cL_law 1619 = .ok (.aload_n 0, 1) := dk_42 (dk_at dksL_law_61 16 rfl rfl)
theorem dL_law_1620 : decode cL_law 1620 = .ok (.iload 4, 2) := dk_21 4 (dk_at dksL_law_61 17 rfl rfl)
theorem dL_law_1622 : decode cL_law 1622 = .ok (.iconst 3, 1) := dk_6 (dk_at dksL_law_61 19 rfl rfl)
theorem dL_law_1623 : decode cL_law 1623 = .ok (.iadd, 1) := dk_96 (dk_at dksL_law_61 20 rfl rfl)
theorem dL_law_1624 : decode cL_law 1624 = .ok (.iaload, 1) := dk_46 (dk_at dksL_law_61 21 rfl rfl)
theorem dL_law_1625 : decode cL_law 1625 = .ok (.aload_n 3, 1) := dk_45 (dk_at dksL_law_61 22 rfl rfl)
theorem dL_law_1626 : decode cL_law 1626 = .ok (.invokestatic 209, 3) := dk_184 0 209 (dk_at dksL_law_62 0 rfl rfl)
theorem dL_law_1629 : decode cL_law 1629 = .ok (.istore 5, 2) := dk_54 5 (dk_at dksL_law_62 3 rfl rfl)
theorem dL_law_1631 : decode cL_law 1631 = .ok (.aload_n 2, 1) := dk_44 (dk_at dksL_law_62 5 rfl rfl)
theorem dL_law_1632 : decode cL_law 1632 = .ok (.aload_n 0, 1) := dk_42 (dk_at dksL_law_62 6 rfl rfl)
theorem dL_law_1633 : decode cL_law 1633 = .ok (.iload 4, 2) := dk_21 4 (dk_at dksL_law_62 7 rfl rfl)
theorem dL_law_1635 : decode cL_law 1635 = .ok (.iconst 1, 1) := dk_4 (dk_at dksL_law_62 9 rfl rfl)
theorem dL_law_1636 : decode cL_law 1636 = .ok (.iadd, 1) := dk_96 (dk_at dksL_law_62 10 rfl rfl)
theorem dL_law_1637 : decode cL_law 1637 = .ok (.iaload, 1) := dk_46 (dk_at dksL_law_62 11 rfl rfl)
theorem dL_law_1638 : decode cL_law 1638 = .ok (.aload_n 0, 1) := dk_42 (dk_at dksL_law_62 12 rfl rfl)
theorem dL_law_1639 : decode cL_law 1639 = .ok (.iload 4, 2) := dk_21 4 (dk_at dksL_law_62 13 rfl rfl)
theorem dL_law_1641 : decode cL_law 1641 = .ok (.iconst 2, 1) := dk_5 (dk_at dksL_law_62 15 rfl rfl)
theorem dL_law_1642 : decode cL_law 1642 = .ok (.iadd, 1) := dk_96 (dk_at dksL_law_62 16 rfl rfl)
theorem dL_law_1643 : decode cL_law 1643 = .ok (.iaload, 1) := dk_46 (dk_at dksL_law_62 17 rfl rfl)
theorem dL_law_1644 : decode cL_law 1644 = .ok (.aload_n 0, 1) := dk_42 (dk_at dksL_law_62 18 rfl rfl)
theorem dL_law_1645 : decode cL_law 1645 = .ok (.iload 4, 2) := dk_21 4 (dk_at dksL_law_62 19 rfl rfl)
theorem dL_law_1647 : decode cL_law 1647 = .ok (.iconst 3, 1) := dk_6 (dk_at dksL_law_62 21 rfl rfl)
theorem dL_law_1648 : decode cL_law 1648 = .ok (.iadd, 1) := dk_96 (dk_at dksL_law_62 22 rfl rfl)
theorem dL_law_1649 : decode cL_law 1649 = .ok (.iaload, 1) := dk_46 (dk_at dksL_law_62 23 rfl rfl)
theorem dL_law_1650 : decode cL_law 1650 = .ok (.invokevirtual 211, 3) := dk_182 0 211 (dk_at dksL_law_63 0 rfl rfl)
theorem dL_law_1653 : decode cL_law 1653 = .ok (.lstore 6, 2) := dk_55 6 (dk_at dksL_law_63 3 rfl rfl)
theorem dL_law_1655 : decode cL_law 1655 = .ok (.aload_n 2, 1) := dk_44 (dk_at dksL_law_63 5 rfl rfl)
theorem dL_law_1656 : decode cL_law 1656 = .ok (.invokevirtual 137, 3) := dk_182 0 137 (dk_at dksL_law_63 6 rfl rfl)
theorem dL_law_1659 : decode cL_law 1659 = .ok (.iload 5, 2) := dk_21 5 (dk_at dksL_law_63 9 rfl rfl)
theorem dL_law_1661 : decode cL_law 1661 = .ok (.if_icmp .eq 5, 3) := dk_159 0 5 (dk_at dksL_law_63 11 rfl rfl)
theorem dL_law_1664 : decode cL_law 1664 = .ok (.iconst 0, 1) := dk_3 (dk_at dksL_law_63 14 rfl rfl)
theorem dL_law_1665 : decode cL_law 1665 = .ok (.ireturn, 1) := dk_172 (dk_at dksL_law_63 15 rfl rfl)
theorem dL_law_1666 : decode cL_law 1666 = .ok (.iload 5, 2) := dk_21 5 (dk_at dksL_law_63 16 rfl rfl)
theorem dL_law_1668 : decode cL_law 1668 = .ok (.ifCond .ne 14, 3) := dk_154 0 14 (dk_at dksL_law_63 18 rfl rfl)
theorem dL_law_1671 : decode cL_law 1671 = .ok (.aload_n 3, 1) := dk_45 (dk_at dksL_law_63 21 rfl rfl)
theorem dL_law_1672 : decode cL_law 1672 = .ok (.iconst 0, 1) := dk_3 (dk_at dksL_law_63 22 rfl rfl)
theorem dL_law_1673 : decode cL_law 1673 = .ok (.laload, 1) := dk_47 (dk_at dksL_law_63 23 rfl rfl)
theorem dL_law_1674 : decode cL_law 1674 = .ok (.lload 6, 2) := dk_22 6 (dk_at dksL_law_64 0 rfl rfl)
theorem dL_law_1676 : decode cL_law 1676 = .ok (.lcmp, 1) := dk_148 (dk_at dksL_law_64 2 rfl rfl)
theorem dL_law_1677 : decode cL_law 1677 = .ok (.ifCond .eq 5, 3) := dk_153 0 5 (dk_at dksL_law_64 3 rfl rfl)
theorem dL_law_1680 : decode cL_law 1680 = .ok (.iconst 0, 1) := dk_3 (dk_at dksL_law_64 6 rfl rfl)
theorem dL_law_1681 : decode cL_law 1681 = .ok (.ireturn, 1) := dk_172 (dk_at dksL_law_64 7 rfl rfl)
theorem dL_law_1682 : decode cL_law 1682 = .ok (.goto 1021, 3) := dk_167 3 253 (dk_at dksL_law_64 8 rfl rfl)
theorem dL_law_1685 : decode cL_law 1685 = .ok (.aload_n 1, 1) := dk_43 (dk_at dksL_law_64 11 rfl rfl)
theorem dL_law_1686 : decode cL_law 1686 = .ok (.aload_n 0, 1) := dk_42 (dk_at dksL_law_64 12 rfl rfl)
theorem dL_law_1687 : decode cL_law 1687 = .ok (.iload 4, 2) := dk_21 4 (dk_at dksL_law_64 13 rfl rfl)
theorem dL_law_1689 : decode cL_law 1689 = .ok (.iconst 1, 1) := dk_4 (dk_at dksL_law_64 15 rfl rfl)
theorem dL_law_1690 : decode cL_law 1690 = .ok (.iadd, 1) := dk_96 (dk_at dksL_law_64 16 rfl rfl)
theorem dL_law_1691 : decode cL_law 1691 = .ok (.iaload, 1) := dk_46 (dk_at dksL_law_64 17 rfl rfl)
theorem dL_law_1692 : decode cL_law 1692 = .ok (.aload_n 0, 1) := dk_42 (dk_at dksL_law_64 18 rfl rfl)
theorem dL_law_1693 : decode cL_law 1693 = .ok (.iload 4, 2) := dk_21 4 (dk_at dksL_law_64 19 rfl rfl)
theorem dL_law_1695 : decode cL_law 1695 = .ok (.iconst 2, 1) := dk_5 (dk_at dksL_law_64 21 rfl rfl)
theorem dL_law_1696 : decode cL_law 1696 = .ok (.iadd, 1) := dk_96 (dk_at dksL_law_64 22 rfl rfl)
theorem dL_law_1697 : decode cL_law 1697 = .ok (.iaload, 1) := dk_46 (dk_at dksL_law_64 23 rfl rfl)
theorem dL_law_1698 : decode cL_law 1698 = .ok (.aload_n 3, 1) := dk_45 (dk_at dksL_law_65 0 rfl rfl)
theorem dL_law_1699 : decode cL_law 1699 = .ok (.invokestatic 212, 3) := dk_184 0 212 (dk_at dksL_law_65 1 rfl rfl)
theorem dL_law_1702 : decode cL_law 1702 = .ok (.istore 5, 2) := dk_54 5 (dk_at dksL_law_65 4 rfl rfl)
theorem dL_law_1704 : decode cL_law 1704 = .ok (.aload_n 2, 1) := dk_44 (dk_at dksL_law_65 6 rfl rfl)
theorem dL_law_1705 : decode cL_law 1705 = .ok (.aload_n 0, 1) := dk_42 (dk_at dksL_law_65 7 rfl rfl)
theorem dL_law_1706 : decode cL_law 1706 = .ok (.iload 4, 2) := dk_21 4 (dk_at dksL_law_65 8 rfl rfl)
theorem dL_law_1708 : decode cL_law 1708 = .ok (.iconst 1, 1) := dk_4 (dk_at dksL_law_65 10 rfl rfl)
theorem dL_law_1709 : decode cL_law 1709 = .ok (.iadd, 1) := dk_96 (dk_at dksL_law_65 11 rfl rfl)
theorem dL_law_1710 : decode cL_law 1710 = .ok (.iaload, 1) := dk_46 (dk_at dksL_law_65 12 rfl rfl)
theorem dL_law_1711 : decode cL_law 1711 = .ok (.aload_n 0, 1) := dk_42 (dk_at dksL_law_65 13 rfl rfl)
theorem dL_law_1712 : decode cL_law 1712 = .ok (.iload 4, 2) := dk_21 4 (dk_at dksL_law_65 14 rfl rfl)
theorem dL_law_1714 : decode cL_law 1714 = .ok (.iconst 2, 1) := dk_5 (dk_at dksL_law_65 16 rfl rfl)
theorem dL_law_1715 : decode cL_law 1715 = .ok (.iadd, 1) := dk_96 (dk_at dksL_law_65 17 rfl rfl)
theorem dL_law_1716 : decode cL_law 1716 = .ok (.iaload, 1) := dk_46 (dk_at dksL_law_65 18 rfl rfl)
theorem dL_law_1717 : decode cL_law 1717 = .ok (.invokevirtual 214, 3) := dk_182 0 214 (dk_at dksL_law_65 19 rfl rfl)
theorem dL_law_1720 : decode cL_law 1720 = .ok (.lstore 6, 2) := dk_55 6 (dk_at dksL_law_65 22 rfl rfl)
theorem dL_law_1722 : decode cL_law 1722 = .ok (.aload_n 2, 1) := dk_44 (dk_at dksL_law_66 0 rfl rfl)
theorem dL_law_1723 : decode cL_law 1723 = .ok (.invokevirtual 137, 3) := dk_182 0 137 (dk_at dksL_law_66 1 rfl rfl)
theorem dL_law_1726 : decode cL_law 1726 = .ok (.iload 5, 2) := dk_21 5 (dk_at dksL_law_66 4 rfl rfl)
theorem dL_law_1728 : decode cL_law 1728 = .ok (.if_icmp .eq 5, 3) := dk_159 0 5 (dk_at dksL_law_66 6 rfl rfl)
theorem dL_law_1731 : decode cL_law 1731 = .ok (.iconst 0, 1) := dk_3 (dk_at dksL_law_66 9 rfl rfl)
theorem dL_law_1732 : decode cL_law 1732 = .ok (.ireturn, 1) := dk_172 (dk_at dksL_law_66 10 rfl rfl)
theorem dL_law_1733 : decode cL_law 1733 = .ok (.iload 5, 2) := dk_21 5 (dk_at dksL_law_66 11 rfl rfl)
theorem dL_law_1735 : decode cL_law 1735 = .ok (.ifCond .ne 14, 3) := dk_154 0 14 (dk_at dksL_law_66 13 rfl rfl)
theorem dL_law_1738 : decode cL_law 1738 = .ok (.aload_n 3, 1) := dk_45 (dk_at dksL_law_66 16 rfl rfl)
theorem dL_law_1739 : decode cL_law 1739 = .ok (.iconst 0, 1) := dk_3 (dk_at dksL_law_66 17 rfl rfl)
theorem dL_law_1740 : decode cL_law 1740 = .ok (.laload, 1) := dk_47 (dk_at dksL_law_66 18 rfl rfl)
theorem dL_law_1741 : decode cL_law 1741 = .ok (.lload 6, 2) := dk_22 6 (dk_at dksL_law_66 19 rfl rfl)
theorem dL_law_1743 : decode cL_law 1743 = .ok (.lcmp, 1) := dk_148 (dk_at dksL_law_66 21 rfl rfl)
theorem dL_law_1744 : decode cL_law 1744 = .ok (.ifCond .eq 5, 3) := dk_153 0 5 (dk_at dksL_law_67 0 rfl rfl)
theorem dL_law_1747 : decode cL_law 1747 = .ok (.iconst 0, 1) := dk_3 (dk_at dksL_law_67 3 rfl rfl)
theorem dL_law_1748 : decode cL_law 1748 = .ok (.ireturn, 1) := dk_172 (dk_at dksL_law_67 4 rfl rfl)
theorem dL_law_1749 : decode cL_law 1749 = .ok (.goto 954, 3) := dk_167 3 186 (dk_at dksL_law_67 5 rfl rfl)
theorem dL_law_1752 : decode cL_law 1752 = .ok (.aload_n 1, 1) := dk_43 (dk_at dksL_law_67 8 rfl rfl)
theorem dL_law_1753 : decode cL_law 1753 = .ok (.aload_n 0, 1) := dk_42 (dk_at dksL_law_67 9 rfl rfl)
theorem dL_law_1754 : decode cL_law 1754 = .ok (.iload 4, 2) := dk_21 4 (dk_at dksL_law_67 10 rfl rfl)
theorem dL_law_1756 : decode cL_law 1756 = .ok (.iconst 1, 1) := dk_4 (dk_at dksL_law_67 12 rfl rfl)
theorem dL_law_1757 : decode cL_law 1757 = .ok (.iadd, 1) := dk_96 (dk_at dksL_law_67 13 rfl rfl)
theorem dL_law_1758 : decode cL_law 1758 = .ok (.iaload, 1) := dk_46 (dk_at dksL_law_67 14 rfl rfl)
theorem dL_law_1759 : decode cL_law 1759 = .ok (.aload_n 0, 1) := dk_42 (dk_at dksL_law_67 15 rfl rfl)
theorem dL_law_1760 : decode cL_law 1760 = .ok (.iload 4, 2) := dk_21 4 (dk_at dksL_law_67 16 rfl rfl)
theorem dL_law_1762 : decode cL_law 1762 = .ok (.iconst 2, 1) := dk_5 (dk_at dksL_law_67 18 rfl rfl)
theorem dL_law_1763 : decode cL_law 1763 = .ok (.iadd, 1) := dk_96 (dk_at dksL_law_67 19 rfl rfl)
theorem dL_law_1764 : decode cL_law 1764 = .ok (.iaload, 1) := dk_46 (dk_at dksL_law_67 20 rfl rfl)
theorem dL_law_1765 : decode cL_law 1765 = .ok (.aload_n 3, 1) := dk_45 (dk_at dksL_law_67 21 rfl rfl)
theorem dL_law_1766 : decode cL_law 1766 = .ok (.invokestatic 215, 3) := dk_184 0 215 (dk_at dksL_law_68 0 rfl rfl)
theorem dL_law_1769 : decode cL_law 1769 = .ok (.istore 5, 2) := dk_54 5 (dk_at dksL_law_68 3 rfl rfl)
theorem dL_law_1771 : decode cL_law 1771 = .ok (.aload_n 2, 1) := dk_44 (dk_at dksL_law_68 5 rfl rfl)
theorem dL_law_1772 : decode cL_law 1772 = .ok (.aload_n 0, 1) := dk_42 (dk_at dksL_law_68 6 rfl rfl)
theorem dL_law_1773 : decode cL_law 1773 = .ok (.iload 4, 2) := dk_21 4 (dk_at dksL_law_68 7 rfl rfl)
theorem dL_law_1775 : decode cL_law 1775 = .ok (.iconst 1, 1) := dk_4 (dk_at dksL_law_68 9 rfl rfl)
theorem dL_law_1776 : decode cL_law 1776 = .ok (.iadd, 1) := dk_96 (dk_at dksL_law_68 10 rfl rfl)
theorem dL_law_1777 : decode cL_law 1777 = .ok (.iaload, 1) := dk_46 (dk_at dksL_law_68 11 rfl rfl)
theorem dL_law_1778 : decode cL_law 1778 = .ok (.aload_n 0, 1) := dk_42 (dk_at dksL_law_68 12 rfl rfl)
theorem dL_law_1779 : decode cL_law 1779 = .ok (.iload 4, 2) := dk_21 4 (dk_at dksL_law_68 13 rfl rfl)
theorem dL_law_1781 : decode cL_law 1781 = .ok (.iconst 2, 1) := dk_5 (dk_at dksL_law_68 15 rfl rfl)
theorem dL_law_1782 : decode cL_law 1782 = .ok (.iadd, 1) := dk_96 (dk_at dksL_law_68 16 rfl rfl)
theorem dL_law_1783 : decode cL_law 1783 = .ok (.iaload, 1) := dk_46 (dk_at dksL_law_68 17 rfl rfl)
theorem dL_law_1784 : decode cL_law 1784 = .ok (.invokevirtual 217, 3) := dk_182 0 217 (dk_at dksL_law_68 18 rfl rfl)
theorem dL_law_1787 : decode cL_law 1787 = .ok (.lstore 6, 2) := dk_55 6 (dk_at dksL_law_68 21 rfl rfl)
theorem dL_law_1789 : decode cL_law 1789 = .ok (.aload_n 2, 1) := dk_44 (dk_at dksL_law_68 23 rfl rfl)
theorem dL_law_1790 : decode cL_law 1790 = .ok (.invokevirtual 137, 3) := dk_182 0 137 (dk_at dksL_law_69 0 rfl rfl)
theorem dL_law_1793 : decode cL_law 1793 = .ok (.iload 5, 2) := dk_21 5 (dk_at dksL_law_69 3 rfl rfl)
theorem dL_law_1795 : decode cL_law 1795 = .ok (.if_icmp .eq 5, 3) := dk_159 0 5 (dk_at dksL_law_69 5 rfl rfl)
theorem dL_law_1798 : decode cL_law 1798 = .ok (.iconst 0, 1) := dk_3 (dk_at dksL_law_69 8 rfl rfl)
theorem dL_law_1799 : decode cL_law 1799 = .ok (.ireturn, 1) := dk_172 (dk_at dksL_law_69 9 rfl rfl)
theorem dL_law_1800 : decode cL_law 1800 = .ok (.iload 5, 2) := dk_21 5 (dk_at dksL_law_69 10 rfl rfl)
theorem dL_law_1802 : decode cL_law 1802 = .ok (.ifCond .ne 14, 3) := dk_154 0 14 (dk_at dksL_law_69 12 rfl rfl)
theorem dL_law_1805 : decode cL_law 1805 = .ok (.aload_n 3, 1) := dk_45 (dk_at dksL_law_69 15 rfl rfl)
theorem dL_law_1806 : decode cL_law 1806 = .ok (.iconst 0, 1) := dk_3 (dk_at dksL_law_69 16 rfl rfl)
theorem dL_law_1807 : decode cL_law 1807 = .ok (.laload, 1) := dk_47 (dk_at dksL_law_69 17 rfl rfl)
theorem dL_law_1808 : decode cL_law 1808 = .ok (.lload 6, 2) := dk_22 6 (dk_at dksL_law_69 18 rfl rfl)
theorem dL_law_1810 : decode cL_law 1810 = .ok (.lcmp, 1) := dk_148 (dk_at dksL_law_69 20 rfl rfl)
theorem dL_law_1811 : decode cL_law 1811 = .ok (.ifCond .eq 5, 3) := dk_153 0 5 (dk_at dksL_law_69 21 rfl rfl)
theorem dL_law_1814 : decode cL_law 1814 = .ok (.iconst 0, 1) := dk_3 (dk_at dksL_law_70 0 rfl rfl)
theorem dL_law_1815 : decode cL_law 1815 = .ok (.ireturn, 1) := dk_172 (dk_at dksL_law_70 1 rfl rfl)
theorem dL_law_1816 : decode cL_law 1816 = .ok (.goto 887, 3) := dk_167 3 119 (dk_at dksL_law_70 2 rfl rfl)
theorem dL_law_1819 : decode cL_law 1819 = .ok (.aload_n 1, 1) := dk_43 (dk_at dksL_law_70 5 rfl rfl)
theorem dL_law_1820 : decode cL_law 1820 = .ok (.invokevirtual 218, 3) := dk_182 0 218 (dk_at dksL_law_70 6 rfl rfl)
theorem dL_law_1823 : decode cL_law 1823 = .ok (.aload_n 2, 1) := dk_44 (dk_at dksL_law_70 9 rfl rfl)
theorem dL_law_1824 : decode cL_law 1824 = .ok (.invokevirtual 221, 3) := dk_182 0 221 (dk_at dksL_law_70 10 rfl rfl)
theorem dL_law_1827 : decode cL_law 1827 = .ok (.if_icmp .eq 876, 3) := dk_159 3 108 (dk_at dksL_law_70 13 rfl rfl)
theorem dL_law_1830 : decode cL_law 1830 = .ok (.iconst 0, 1) := dk_3 (dk_at dksL_law_70 16 rfl rfl)
theorem dL_law_1831 : decode cL_law 1831 = .ok (.ireturn, 1) := dk_172 (dk_at dksL_law_70 17 rfl rfl)
theorem dL_law_1832 : decode cL_law 1832 = .ok (.aload_n 1, 1) := dk_43 (dk_at dksL_law_70 18 rfl rfl)
theorem dL_law_1833 : decode cL_law 1833 = .ok (.invokevirtual 222, 3) := dk_182 0 222 (dk_at dksL_law_70 19 rfl rfl)
theorem dL_law_1836 : decode cL_law 1836 = .ok (.aload_n 2, 1) := dk_44 (dk_at dksL_law_70 22 rfl rfl)
theorem dL_law_1837 : decode cL_law 1837 = .ok (.invokevirtual 225, 3) := dk_182 0 225 (dk_at dksL_law_71 0 rfl rfl)
theorem dL_law_1840 : decode cL_law 1840 = .ok (.if_icmp .eq 863, 3) := dk_159 3 95 (dk_at dksL_law_71 3 rfl rfl)
theorem dL_law_1843 : decode cL_law 1843 = .ok (.iconst 0, 1) := dk_3 (dk_at dksL_law_71 6 rfl rfl)
theorem dL_law_1844 : decode cL_law 1844 = .ok (.ireturn, 1) := dk_172 (dk_at dksL_law_71 7 rfl rfl)
theorem dL_law_1845 : decode cL_law 1845 = .ok (.aload_n 1, 1) := dk_43 (dk_at dksL_law_71 8 rfl rfl)
theorem dL_law_1846 : decode cL_law 1846 = .ok (.aload_n 0, 1) := dk_42 (dk_at dksL_law_71 9 rfl rfl)
theorem dL_law_1847 : decode cL_law 1847 = .ok (.iload 4, 2) := dk_21 4 (dk_at dksL_law_71 10 rfl rfl)
theorem dL_law_1849 : decode cL_law 1849 = .ok (.iconst 1, 1) := dk_4 (dk_at dksL_law_71 12 rfl rfl)
theorem dL_law_1850 : decode cL_law 1850 = .ok (.iadd, 1) := dk_96 (dk_at dksL_law_71 13 rfl rfl)
theorem dL_law_1851 : decode cL_law 1851 = .ok (.iaload, 1) := dk_46 (dk_at dksL_law_71 14 rfl rfl)
theorem dL_law_1852 : decode cL_law 1852 = .ok (.aload_n 3, 1) := dk_45 (dk_at dksL_law_71 15 rfl rfl)
theorem dL_law_1853 : decode cL_law 1853 = .ok (.invokestatic 226, 3) := dk_184 0 226 (dk_at dksL_law_71 16 rfl rfl)
theorem dL_law_1856 : decode cL_law 1856 = .ok (.istore 5, 2) := dk_54 5 (dk_at dksL_law_71 19 rfl rfl)
theorem dL_law_1858 : decode cL_law 1858 = .ok (.aload_n 2, 1) := dk_44 (dk_at dksL_law_71 21 rfl rfl)
theorem dL_law_1859 : decode cL_law 1859 = .ok (.aload_n 0, 1) := dk_42 (dk_at dksL_law_71 22 rfl rfl)
theorem dL_law_1860 : decode cL_law 1860 = .ok (.iload 4, 2) := dk_21 4 (dk_at dksL_law_72 0 rfl rfl)
theorem dL_law_1862 : decode cL_law 1862 = .ok (.iconst 1, 1) := dk_4 (dk_at dksL_law_72 2 rfl rfl)
theorem dL_law_1863 : decode cL_law 1863 = .ok (.iadd, 1) := dk_96 (dk_at dksL_law_72 3 rfl rfl)
theorem dL_law_1864 : decode cL_law 1864 = .ok (.iaload, 1) := dk_46 (dk_at dksL_law_72 4 rfl rfl)
theorem dL_law_1865 : decode cL_law 1865 = .ok (.invokevirtual 228, 3) := dk_182 0 228 (dk_at dksL_law_72 5 rfl rfl)
theorem dL_law_1868 : decode cL_law 1868 = .ok (.lstore 6, 2) := dk_55 6 (dk_at dksL_law_72 8 rfl rfl)
theorem dL_law_1870 : decode cL_law 1870 = .ok (.aload_n 2, 1) := dk_44 (dk_at dksL_law_72 10 rfl rfl)
theorem dL_law_1871 : decode cL_law 1871 = .ok (.invokevirtual 137, 3) := dk_182 0 137 (dk_at dksL_law_72 11 rfl rfl)
theorem dL_law_1874 : decode cL_law 1874 = .ok (.iload 5, 2) := dk_21 5 (dk_at dksL_law_72 14 rfl rfl)
theorem dL_law_1876 : decode cL_law 1876 = .ok (.if_icmp .eq 5, 3) := dk_159 0 5 (dk_at dksL_law_72 16 rfl rfl)
theorem dL_law_1879 : decode cL_law 1879 = .ok (.iconst 0, 1) := dk_3 (dk_at dksL_law_72 19 rfl rfl)
theorem dL_law_1880 : decode cL_law 1880 = .ok (.ireturn, 1) := dk_172 (dk_at dksL_law_72 20 rfl rfl)
theorem dL_law_1881 : decode cL_law 1881 = .ok (.iload 5, 2) := dk_21 5 (dk_at dksL_law_72 21 rfl rfl)
theorem dL_law_1883 : decode cL_law 1883 = .ok (.ifCond .ne 14, 3) := dk_154 0 14 (dk_at dksL_law_73 0 rfl rfl)
theorem dL_law_1886 : decode cL_law 1886 = .ok (.aload_n 3, 1) := dk_45 (dk_at dksL_law_73 3 rfl rfl)
theorem dL_law_1887 : decode cL_law 1887 = .ok (.iconst 0, 1) := dk_3 (dk_at dksL_law_73 4 rfl rfl)
theorem dL_law_1888 : decode cL_law 1888 = .ok (.laload, 1) := dk_47 (dk_at dksL_law_73 5 rfl rfl)
theorem dL_law_1889 : decode cL_law 1889 = .ok (.lload 6, 2) := dk_22 6 (dk_at dksL_law_73 6 rfl rfl)
theorem dL_law_1891 : decode cL_law 1891 = .ok (.lcmp, 1) := dk_148 (dk_at dksL_law_73 8 rfl rfl)
theorem dL_law_1892 : decode cL_law 1892 = .ok (.ifCond .eq 5, 3) := dk_153 0 5 (dk_at dksL_law_73 9 rfl rfl)
theorem dL_law_1895 : decode cL_law 1895 = .ok (.iconst 0, 1) := dk_3 (dk_at dksL_law_73 12 rfl rfl)
theorem dL_law_1896 : decode cL_law 1896 = .ok (.ireturn, 1) := dk_172 (dk_at dksL_law_73 13 rfl rfl)
theorem dL_law_1897 : decode cL_law 1897 = .ok (.goto 806, 3) := dk_167 3 38 (dk_at dksL_law_73 14 rfl rfl)
theorem dL_law_1900 : decode cL_law 1900 = .ok (.aload_n 1, 1) := dk_43 (dk_at dksL_law_73 17 rfl rfl)
theorem dL_law_1901 : decode cL_law 1901 = .ok (.aload_n 0, 1) := dk_42 (dk_at dksL_law_73 18 rfl rfl)
theorem dL_law_1902 : decode cL_law 1902 = .ok (.iload 4, 2) := dk_21 4 (dk_at dksL_law_73 19 rfl rfl)
theorem dL_law_1904 : decode cL_law 1904 = .ok (.iconst 1, 1) := dk_4 (dk_at dksL_law_73 21 rfl rfl)
theorem dL_law_1905 : decode cL_law 1905 = .ok (.iadd, 1) := dk_96 (dk_at dksL_law_73 22 rfl rfl)
theorem dL_law_1906 : decode cL_law 1906 = .ok (.iaload, 1) := dk_46 (dk_at dksL_law_73 23 rfl rfl)
theorem dL_law_1907 : decode cL_law 1907 = .ok (.aload_n 0, 1) := dk_42 (dk_at dksL_law_74 0 rfl rfl)
theorem dL_law_1908 : decode cL_law 1908 = .ok (.iload 4, 2) := dk_21 4 (dk_at dksL_law_74 1 rfl rfl)
theorem dL_law_1910 : decode cL_law 1910 = .ok (.iconst 2, 1) := dk_5 (dk_at dksL_law_74 3 rfl rfl)
theorem dL_law_1911 : decode cL_law 1911 = .ok (.iadd, 1) := dk_96 (dk_at dksL_law_74 4 rfl rfl)
theorem dL_law_1912 : decode cL_law 1912 = .ok (.iaload, 1) := dk_46 (dk_at dksL_law_74 5 rfl rfl)
theorem dL_law_1913 : decode cL_law 1913 = .ok (.aload_n 3, 1) := dk_45 (dk_at dksL_law_74 6 rfl rfl)
theorem dL_law_1914 : decode cL_law 1914 = .ok (.invokestatic 229, 3) := dk_184 0 229 (dk_at dksL_law_74 7 rfl rfl)
theorem dL_law_1917 : decode cL_law 1917 = .ok (.istore 5, 2) := dk_54 5 (dk_at dksL_law_74 10 rfl rfl)
theorem dL_law_1919 : decode cL_law 1919 = .ok (.aload_n 2, 1) := dk_44 (dk_at dksL_law_74 12 rfl rfl)
theorem dL_law_1920 : decode cL_law 1920 = .ok (.aload_n 0, 1) := dk_42 (dk_at dksL_law_74 13 rfl rfl)
theorem dL_law_1921 : decode cL_law 1921 = .ok (.iload 4, 2) := dk_21 4 (dk_at dksL_law_74 14 rfl rfl)
theorem dL_law_1923 : decode cL_law 1923 = .ok (.iconst 1, 1) := dk_4 (dk_at dksL_law_74 16 rfl rfl)
theorem dL_law_1924 : decode cL_law 1924 = .ok (.iadd, 1) := dk_96 (dk_at dksL_law_74 17 rfl rfl)
theorem dL_law_1925 : decode cL_law 1925 = .ok (.iaload, 1) := dk_46 (dk_at dksL_law_74 18 rfl rfl)
theorem dL_law_1926 : decode cL_law 1926 = .ok (.aload_n 0, 1) := dk_42 (dk_at dksL_law_74 19 rfl rfl)
theorem dL_law_1927 : decode cL_law 1927 = .ok (.iload 4, 2) := dk_21 4 (dk_at dksL_law_74 20 rfl rfl)
theorem dL_law_1929 : decode cL_law 1929 = .ok (.iconst 2, 1) := dk_5 (dk_at dksL_law_74 22 rfl rfl)
theorem dL_law_1930 : decode cL_law 1930 = .ok (.iadd, 1) := dk_96 (dk_at dksL_law_74 23 rfl rfl)
theorem dL_law_1931 : decode cL_law 1931 = .ok (.iaload, 1) := dk_46 (dk_at dksL_law_75 0 rfl rfl)
theorem dL_law_1932 : decode cL_law 1932 = .ok (.invokevirtual 231, 3) := dk_182 0 231 (dk_at dksL_law_75 1 rfl rfl)
theorem dL_law_1935 : decode cL_law 1935 = .ok (.lstore 6, 2) := dk_55 6 (dk_at dksL_law_75 4 rfl rfl)
theorem dL_law_1937 : decode cL_law 1937 = .ok (.aload_n 2, 1) := dk_44 (dk_at dksL_law_75 6 rfl rfl)
theorem dL_law_1938 : decode cL_law 1938 = .ok (.invokevirtual 137, 3) := dk_182 0 137 (dk_at dksL_law_75 7 rfl rfl)
theorem dL_law_1941 : decode cL_law 1941 = .ok (.iload 5, 2) := dk_21 5 (dk_at dksL_law_75 10 rfl rfl)
theorem dL_law_1943 : decode cL_law 1943 = .ok (.if_icmp .eq 5, 3) := dk_159 0 5 (dk_at dksL_law_75 12 rfl rfl)
theorem dL_law_1946 : decode cL_law 1946 = .ok (.iconst 0, 1) := dk_3 (dk_at dksL_law_75 15 rfl rfl)
theorem dL_law_1947 : decode cL_law 1947 = .ok (.ireturn, 1) := dk_172 (dk_at dksL_law_75 16 rfl rfl)
theorem dL_law_1948 : decode cL_law 1948 = .ok (.iload 5, 2) := dk_21 5 (dk_at dksL_law_75 17 rfl rfl)
theorem dL_law_1950 : decode cL_law 1950 = .ok (.ifCond .ne 14, 3) := dk_154 0 14 (dk_at dksL_law_75 19 rfl rfl)
theorem dL_law_1953 : decode cL_law 1953 = .ok (.aload_n 3, 1) := dk_45 (dk_at dksL_law_75 22 rfl rfl)
theorem dL_law_1954 : decode cL_law 1954 = .ok (.iconst 0, 1) := dk_3 (dk_at dksL_law_75 23 rfl rfl)
theorem dL_law_1955 : decode cL_law 1955 = .ok (.laload, 1) := dk_47 (dk_at dksL_law_76 0 rfl rfl)
theorem dL_law_1956 : decode cL_law 1956 = .ok (.lload 6, 2) := dk_22 6 (dk_at dksL_law_76 1 rfl rfl)
theorem dL_law_1958 : decode cL_law 1958 = .ok (.lcmp, 1) := dk_148 (dk_at dksL_law_76 3 rfl rfl)
theorem dL_law_1959 : decode cL_law 1959 = .ok (.ifCond .eq 5, 3) := dk_153 0 5 (dk_at dksL_law_76 4 rfl rfl)
theorem dL_law_1962 : decode cL_law 1962 = .ok (.iconst 0, 1) := dk_3 (dk_at dksL_law_76 7 rfl rfl)
theorem dL_law_1963 : decode cL_law 1963 = .ok (.ireturn, 1) := dk_172 (dk_at dksL_law_76 8 rfl rfl)
theorem dL_law_1964 : decode cL_law 1964 = .ok (.goto 739, 3) := dk_167 2 227 (dk_at dksL_law_76 9 rfl rfl)
theorem dL_law_1967 : decode cL_law 1967 = .ok (.aload_n 1, 1) := dk_43 (dk_at dksL_law_76 12 rfl rfl)
theorem dL_law_1968 : decode cL_law 1968 = .ok (.aload_n 0, 1) := dk_42 (dk_at dksL_law_76 13 rfl rfl)
theorem dL_law_1969 : decode cL_law 1969 = .ok (.iload 4, 2) := dk_21 4 (dk_at dksL_law_76 14 rfl rfl)
theorem dL_law_1971 : decode cL_law 1971 = .ok (.iconst 1, 1) := dk_4 (dk_at dksL_law_76 16 rfl rfl)
theorem dL_law_1972 : decode cL_law 1972 = .ok (.iadd, 1) := dk_96 (dk_at dksL_law_76 17 rfl rfl)
theorem dL_law_1973 : decode cL_law 1973 = .ok (.iaload, 1) := dk_46 (dk_at dksL_law_76 18 rfl rfl)
theorem dL_law_1974 : decode cL_law 1974 = .ok (.aload_n 0, 1) := dk_42 (dk_at dksL_law_76 19 rfl rfl)
theorem dL_law_1975 : decode cL_law 1975 = .ok (.iload 4, 2) := dk_21 4 (dk_at dksL_law_76 20 rfl rfl)
theorem dL_law_1977 : decode cL_law 1977 = .ok (.iconst 2, 1) := dk_5 (dk_at dksL_law_76 22 rfl rfl)
theorem dL_law_1978 : decode cL_law 1978 = .ok (.iadd, 1) := dk_96 (dk_at dksL_law_76 23 rfl rfl)
theorem dL_law_1979 : decode cL_law 1979 = .ok (.iaload, 1) := dk_46 (dk_at dksL_law_77 0 rfl rfl)
theorem dL_law_1980 : decode cL_law 1980 = .ok (.aload_n 3, 1) := dk_45 (dk_at dksL_law_77 1 rfl rfl)
theorem dL_law_1981 : decode cL_law 1981 = .ok (.invokestatic 232, 3) := dk_184 0 232 (dk_at dksL_law_77 2 rfl rfl)
theorem dL_law_1984 : decode cL_law 1984 = .ok (.istore 5, 2) := dk_54 5 (dk_at dksL_law_77 5 rfl rfl)
theorem dL_law_1986 : decode cL_law 1986 = .ok (.aload_n 2, 1) := dk_44 (dk_at dksL_law_77 7 rfl rfl)
theorem dL_law_1987 : decode cL_law 1987 = .ok (.aload_n 0, 1) := dk_42 (dk_at dksL_law_77 8 rfl rfl)
theorem dL_law_1988 : decode cL_law 1988 = .ok (.iload 4, 2) := dk_21 4 (dk_at dksL_law_77 9 rfl rfl)
theorem dL_law_1990 : decode cL_law 1990 = .ok (.iconst 1, 1) := dk_4 (dk_at dksL_law_77 11 rfl rfl)
theorem dL_law_1991 : decode cL_law 1991 = .ok (.iadd, 1) := dk_96 (dk_at dksL_law_77 12 rfl rfl)
theorem dL_law_1992 : decode cL_law 1992 = .ok (.iaload, 1) := dk_46 (dk_at dksL_law_77 13 rfl rfl)
theorem dL_law_1993 : decode cL_law 1993 = .ok (.aload_n 0, 1) := dk_42 (dk_at dksL_law_77 14 rfl rfl)
theorem dL_law_1994 : decode cL_law 1994 = .ok (.iload 4, 2) := dk_21 4 (dk_at dksL_law_77 15 rfl rfl)
theorem dL_law_1996 : decode cL_law 1996 = .ok (.iconst 2, 1) := dk_5 (dk_at dksL_law_77 17 rfl rfl)
theorem dL_law_1997 : decode cL_law 1997 = .ok (.iadd, 1) := dk_96 (dk_at dksL_law_77 18 rfl rfl)
theorem dL_law_1998 : decode cL_law 1998 = .ok (.iaload, 1) := dk_46 (dk_at dksL_law_77 19 rfl rfl)
theorem dL_law_1999 : decode cL_law 1999 = .ok (.invokevirtual 234, 3) := dk_182 0 234 (dk_at dksL_law_77 20 rfl rfl)
theorem dL_law_2002 : decode cL_law 2002 = .ok (.lstore 6, 2) := dk_55 6 (dk_at dksL_law_78 0 rfl rfl)
theorem dL_law_2004 : decode cL_law 2004 = .ok (.aload_n 2, 1) := dk_44 (dk_at dksL_law_78 2 rfl rfl)
theorem dL_law_2005 : decode cL_law 2005 = .ok (.invokevirtual 137, 3) := dk_182 0 137 (dk_at dksL_law_78 3 rfl rfl)
theorem dL_law_2008 : decode cL_law 2008 = .ok (.iload 5, 2) := dk_21 5 (dk_at dksL_law_78 6 rfl rfl)
theorem dL_law_2010 : decode cL_law 2010 = .ok (.if_icmp .eq 5, 3) := dk_159 0 5 (dk_at dksL_law_78 8 rfl rfl)
theorem dL_law_2013 : decode cL_law 2013 = .ok (.iconst 0, 1) := dk_3 (dk_at dksL_law_78 11 rfl rfl)
theorem dL_law_2014 : decode cL_law 2014 = .ok (.ireturn, 1) := dk_172 (dk_at dksL_law_78 12 rfl rfl)
theorem dL_law_2015 : decode cL_law 2015 = .ok (.iload 5, 2) := dk_21 5 (dk_at dksL_law_78 13 rfl rfl)
theorem dL_law_2017 : decode cL_law 2017 = .ok (.ifCond .ne 14, 3) := dk_154 0 14 (dk_at dksL_law_78 15 rfl rfl)
theorem dL_law_2020 : decode cL_law 2020 = .ok (.aload_n 3, 1) := dk_45 (dk_at dksL_law_78 18 rfl rfl)
theorem dL_law_2021 : decode cL_law 2021 = .ok (.iconst 0, 1) := dk_3 (dk_at dksL_law_78 19 rfl rfl)
theorem dL_law_2022 : decode cL_law 2022 = .ok (.laload, 1) := dk_47 (dk_at dksL_law_78 20 rfl rfl)
theorem dL_law_2023 : decode cL_law 2023 = .ok (.lload 6, 2) := dk_22 6 (dk_at dksL_law_78 21 rfl rfl)
theorem dL_law_2025 : decode cL_law 2025 = .ok (.lcmp, 1) := dk_148 (dk_at dksL_law_78 23 rfl rfl)
theorem dL_law_2026 : decode cL_law 2026 = .ok (.ifCond .eq 5, 3) := dk_153 0 5 (dk_at dksL_law_79 0 rfl rfl)
theorem dL_law_2029 : decode cL_law 2029 = .ok (.iconst 0, 1) := dk_3 (dk_at dksL_law_79 3 rfl rfl)
theorem dL_law_2030 : decode cL_law 2030 = .ok (.ireturn, 1) := dk_172 (dk_at dksL_law_79 4 rfl rfl)
theorem dL_law_2031 : decode cL_law 2031 = .ok (.goto 672, 3) := dk_167 2 160 (dk_at dksL_law_79 5 rfl rfl)
theorem dL_law_2034 : decode cL_law 2034 = .ok (.aload_n 1, 1) := dk_43 (dk_at dksL_law_79 8 rfl rfl)
theorem dL_law_2035 : decode cL_law 2035 = .ok (.invokevirtual 235, 3) := dk_182 0 235 (dk_at dksL_law_79 9 rfl rfl)
theorem dL_law_2038 : decode cL_law 2038 = .ok (.aload_n 2, 1) := dk_44 (dk_at dksL_law_79 12 rfl rfl)
theorem dL_law_2039 : decode cL_law 2039 = .ok (.invokevirtual 238, 3) := dk_182 0 238 (dk_at dksL_law_79 13 rfl rfl)
theorem dL_law_2042 : decode cL_law 2042 = .ok (.if_icmp .eq 661, 3) := dk_159 2 149 (dk_at dksL_law_79 16 rfl rfl)
theorem dL_law_2045 : decode cL_law 2045 = .ok (.iconst 0, 1) := dk_3 (dk_at dksL_law_79 19 rfl rfl)
theorem dL_law_2046 : decode cL_law 2046 = .ok (.ireturn, 1) := dk_172 (dk_at dksL_law_79 20 rfl rfl)
theorem dL_law_2047 : decode cL_law 2047 = .ok (.aload_n 1, 1) := dk_43 (dk_at dksL_law_79 21 rfl rfl)
theorem dL_law_2048 : decode cL_law 2048 = .ok (.aload_n 0, 1) := dk_42 (dk_at dksL_law_79 22 rfl rfl)
theorem dL_law_2049 : decode cL_law 2049 = .ok (.iload 4, 2) := dk_21 4 (dk_at dksL_law_80 0 rfl rfl)
theorem dL_law_2051 : decode cL_law 2051 = .ok (.iconst 1, 1) := dk_4 (dk_at dksL_law_80 2 rfl rfl)
theorem dL_law_2052 : decode cL_law 2052 = .ok (.iadd, 1) := dk_96 (dk_at dksL_law_80 3 rfl rfl)
theorem dL_law_2053 : decode cL_law 2053 = .ok (.iaload, 1) := dk_46 (dk_at dksL_law_80 4 rfl rfl)
theorem dL_law_2054 : decode cL_law 2054 = .ok (.aload_n 3, 1) := dk_45 (dk_at dksL_law_80 5 rfl rfl)
theorem dL_law_2055 : decode cL_law 2055 = .ok (.invokestatic 239, 3) := dk_184 0 239 (dk_at dksL_law_80 6 rfl rfl)
theorem dL_law_2058 : decode cL_law 2058 = .ok (.istore 5, 2) := dk_54 5 (dk_at dksL_law_80 9 rfl rfl)
theorem dL_law_2060 : decode cL_law 2060 = .ok (.aload_n 2, 1) := dk_44 (dk_at dksL_law_80 11 rfl rfl)
theorem dL_law_2061 : decode cL_law 2061 = .ok (.aload_n 0, 1) := dk_42 (dk_at dksL_law_80 12 rfl rfl)
theorem dL_law_2062 : decode cL_law 2062 = .ok (.iload 4, 2) := dk_21 4 (dk_at dksL_law_80 13 rfl rfl)
theorem dL_law_2064 : decode cL_law 2064 = .ok (.iconst 1, 1) := dk_4 (dk_at dksL_law_80 15 rfl rfl)
theorem dL_law_2065 : decode cL_law 2065 = .ok (.iadd, 1) := dk_96 (dk_at dksL_law_80 16 rfl rfl)
theorem dL_law_2066 : decode cL_law 2066 = .ok (.iaload, 1) := dk_46 (dk_at dksL_law_80 17 rfl rfl)
theorem dL_law_2067 : decode cL_law 2067 = .ok (.invokevirtual 241, 3) := dk_182 0 241 (dk_at dksL_law_80 18 rfl rfl)
theorem dL_law_2070 : decode cL_law 2070 = .ok (.lstore 6, 2) := dk_55 6 (dk_at dksL_law_80 21 rfl rfl)
theorem dL_law_2072 : decode cL_law 2072 = .ok (.aload_n 2, 1) := dk_44 (dk_at dksL_law_80 23 rfl rfl)
theorem dL_law_2073 : decode cL_law 2073 = .ok (.invokevirtual 137, 3) := dk_182 0 137 (dk_at dksL_law_81 0 rfl rfl)
theorem dL_law_2076 : decode cL_law 2076 = .ok (.iload 5, 2) := dk_21 5 (dk_at dksL_law_81 3 rfl rfl)
theorem dL_law_2078 : decode cL_law 2078 = .ok (.if_icmp .eq 5, 3) := dk_159 0 5 (dk_at dksL_law_81 5 rfl rfl)
theorem dL_law_2081 : decode cL_law 2081 = .ok (.iconst 0, 1) := dk_3 (dk_at dksL_law_81 8 rfl rfl)
theorem dL_law_2082 : decode cL_law 2082 = .ok (.ireturn, 1) := dk_172 (dk_at dksL_law_81 9 rfl rfl)
theorem dL_law_2083 : decode cL_law 2083 = .ok (.iload 5, 2) := dk_21 5 (dk_at dksL_law_81 10 rfl rfl)
theorem dL_law_2085 : decode cL_law 2085 = .ok (.ifCond .ne 14, 3) := dk_154 0 14 (dk_at dksL_law_81 12 rfl rfl)
theorem dL_law_2088 : decode cL_law 2088 = .ok (.aload_n 3, 1) := dk_45 (dk_at dksL_law_81 15 rfl rfl)
theorem dL_law_2089 : decode cL_law 2089 = .ok (.iconst 0, 1) := dk_3 (dk_at dksL_law_81 16 rfl rfl)
theorem dL_law_2090 : decode cL_law 2090 = .ok (.laload, 1) := dk_47 (dk_at dksL_law_81 17 rfl rfl)
theorem dL_law_2091 : decode cL_law 2091 = .ok (.lload 6, 2) := dk_22 6 (dk_at dksL_law_81 18 rfl rfl)
theorem dL_law_2093 : decode cL_law 2093 = .ok (.lcmp, 1) := dk_148 (dk_at dksL_law_81 20 rfl rfl)
theorem dL_law_2094 : decode cL_law 2094 = .ok (.ifCond .eq 5, 3) := dk_153 0 5 (dk_at dksL_law_81 21 rfl rfl)
theorem dL_law_2097 : decode cL_law 2097 = .ok (.iconst 0, 1) := dk_3 (dk_at dksL_law_82 0 rfl rfl)
theorem dL_law_2098 : decode cL_law 2098 = .ok (.ireturn, 1) := dk_172 (dk_at dksL_law_82 1 rfl rfl)
theorem dL_law_2099 : decode cL_law 2099 = .ok (.goto 604, 3) := dk_167 2 92 (dk_at dksL_law_82 2 rfl rfl)
theorem dL_law_2102 : decode cL_law 2102 = .ok (.aload_n 1, 1) := dk_43 (dk_at dksL_law_82 5 rfl rfl)
theorem dL_law_2103 : decode cL_law 2103 = .ok (.aload_n 0, 1) := dk_42 (dk_at dksL_law_82 6 rfl rfl)
theorem dL_law_2104 : decode cL_law 2104 = .ok (.iload 4, 2) := dk_21 4 (dk_at dksL_law_82 7 rfl rfl)
theorem dL_law_2106 : decode cL_law 2106 = .ok (.iconst 1, 1) := dk_4 (dk_at dksL_law_82 9 rfl rfl)
theorem dL_law_2107 : decode cL_law 2107 = .ok (.iadd, 1) := dk_96 (dk_at dksL_law_82 10 rfl rfl)
theorem dL_law_2108 : decode cL_law 2108 = .ok (.iaload, 1) := dk_46 (dk_at dksL_law_82 11 rfl rfl)
theorem dL_law_2109 : decode cL_law 2109 = .ok (.aload_n 0, 1) := dk_42 (dk_at dksL_law_82 12 rfl rfl)
theorem dL_law_2110 : decode cL_law 2110 = .ok (.iload 4, 2) := dk_21 4 (dk_at dksL_law_82 13 rfl rfl)
theorem dL_law_2112 : decode cL_law 2112 = .ok (.iconst 2, 1) := dk_5 (dk_at dksL_law_82 15 rfl rfl)
theorem dL_law_2113 : decode cL_law 2113 = .ok (.iadd, 1) := dk_96 (dk_at dksL_law_82 16 rfl rfl)
theorem dL_law_2114 : decode cL_law 2114 = .ok (.iaload, 1) := dk_46 (dk_at dksL_law_82 17 rfl rfl)
theorem dL_law_2115 : decode cL_law 2115 = .ok (.aload_n 0, 1) := dk_42 (dk_at dksL_law_82 18 rfl rfl)
theorem dL_law_2116 : decode cL_law 2116 = .ok (.iload 4, 2) := dk_21 4 (dk_at dksL_law_82 19 rfl rfl)
theorem dL_law_2118 : decode cL_law 2118 = .ok (.iconst 3, 1) := dk_6 (dk_at dksL_law_82 21 rfl rfl)
theorem dL_law_2119 : decode cL_law 2119 = .ok (.iadd, 1) := dk_96 (dk_at dksL_law_82 22 rfl rfl)
theorem dL_law_2120 : decode cL_law 2120 = .ok (.iaload, 1) := dk_46 (dk_at dksL_law_82 23 rfl rfl)
theorem dL_law_2121 : decode cL_law 2121 = .ok (.aload_n 3, 1) := dk_45 (dk_at dksL_law_83 0 rfl rfl)
theorem dL_law_2122 : decode cL_law 2122 = .ok (.invokestatic 242, 3) := dk_184 0 242 (dk_at dksL_law_83 1 rfl rfl)
theorem dL_law_2125 : decode cL_law 2125 = .ok (.istore 5, 2) := dk_54 5 (dk_at dksL_law_83 4 rfl rfl)
theorem dL_law_2127 : decode cL_law 2127 = .ok (.aload_n 2, 1) := dk_44 (dk_at dksL_law_83 6 rfl rfl)
theorem dL_law_2128 : decode cL_law 2128 = .ok (.aload_n 0, 1) := dk_42 (dk_at dksL_law_83 7 rfl rfl)
theorem dL_law_2129 : decode cL_law 2129 = .ok (.iload 4, 2) := dk_21 4 (dk_at dksL_law_83 8 rfl rfl)
theorem dL_law_2131 : decode cL_law 2131 = .ok (.iconst 1, 1) := dk_4 (dk_at dksL_law_83 10 rfl rfl)
theorem dL_law_2132 : decode cL_law 2132 = .ok (.iadd, 1) := dk_96 (dk_at dksL_law_83 11 rfl rfl)
theorem dL_law_2133 : decode cL_law 2133 = .ok (.iaload, 1) := dk_46 (dk_at dksL_law_83 12 rfl rfl)
theorem dL_law_2134 : decode cL_law 2134 = .ok (.aload_n 0, 1) := dk_42 (dk_at dksL_law_83 13 rfl rfl)
theorem dL_law_2135 : decode cL_law 2135 = .ok (.iload 4, 2) := dk_21 4 (dk_at dksL_law_83 14 rfl rfl)
theorem dL_law_2137 : decode cL_law 2137 = .ok (.iconst 2, 1) := dk_5 (dk_at dksL_law_83 16 rfl rfl)
theorem dL_law_2138 : decode cL_law 2138 = .ok (.iadd, 1) := dk_96 (dk_at dksL_law_83 17 rfl rfl)
theorem dL_law_2139 : decode cL_law 2139 = .ok (.iaload, 1) := dk_46 (dk_at dksL_law_83 18 rfl rfl)
theorem dL_law_2140 : decode cL_law 2140 = .ok (.aload_n 0, 1) := dk_42 (dk_at dksL_law_83 19 rfl rfl)
theorem dL_law_2141 : decode cL_law 2141 = .ok (.iload 4, 2) := dk_21 4 (dk_at dksL_law_83 20 rfl rfl)
theorem dL_law_2143 : decode cL_law 2143 = .ok (.iconst 3, 1) := dk_6 (dk_at dksL_law_83 22 rfl rfl)
theorem dL_law_2144 : decode cL_law 2144 = .ok (.iadd, 1) := dk_96 (dk_at dksL_law_83 23 rfl rfl)
theorem dL_law_2145 : decode cL_law 2145 = .ok (.iaload, 1) := dk_46 (dk_at dksL_law_84 0 rfl rfl)
theorem dL_law_2146 : decode cL_law 2146 = .ok (.invokevirtual 244, 3) := dk_182 0 244 (dk_at dksL_law_84 1 rfl rfl)
theorem dL_law_2149 : decode cL_law 2149 = .ok (.lstore 6, 2) := dk_55 6 (dk_at dksL_law_84 4 rfl rfl)
theorem dL_law_2151 : decode cL_law 2151 = .ok (.aload_n 2, 1) := dk_44 (dk_at dksL_law_84 6 rfl rfl)
theorem dL_law_2152 : decode cL_law 2152 = .ok (.invokevirtual 137, 3) := dk_182 0 137 (dk_at dksL_law_84 7 rfl rfl)
theorem dL_law_2155 : decode cL_law 2155 = .ok (.iload 5, 2) := dk_21 5 (dk_at dksL_law_84 10 rfl rfl)
theorem dL_law_2157 : decode cL_law 2157 = .ok (.if_icmp .eq 5, 3) := dk_159 0 5 (dk_at dksL_law_84 12 rfl rfl)
theorem dL_law_2160 : decode cL_law 2160 = .ok (.iconst 0, 1) := dk_3 (dk_at dksL_law_84 15 rfl rfl)
theorem dL_law_2161 : decode cL_law 2161 = .ok (.ireturn, 1) := dk_172 (dk_at dksL_law_84 16 rfl rfl)
theorem dL_law_2162 : decode cL_law 2162 = .ok (.iload 5, 2) := dk_21 5 (dk_at dksL_law_84 17 rfl rfl)
theorem dL_law_2164 : decode cL_law 2164 = .ok (.ifCond .ne 14, 3) := dk_154 0 14 (dk_at dksL_law_84 19 rfl rfl)
theorem dL_law_2167 : decode cL_law 2167 = .ok (.aload_n 3, 1) := dk_45 (dk_at dksL_law_84 22 rfl rfl)
theorem dL_law_2168 : decode cL_law 2168 = .ok (.iconst 0, 1) := dk_3 (dk_at dksL_law_84 23 rfl rfl)
theorem dL_law_2169 : decode cL_law 2169 = .ok (.laload, 1) := dk_47 (dk_at dksL_law_85 0 rfl rfl)
theorem dL_law_2170 : decode cL_law 2170 = .ok (.lload 6, 2) := dk_22 6 (dk_at dksL_law_85 1 rfl rfl)
theorem dL_law_2172 : decode cL_law 2172 = .ok (.lcmp, 1) := dk_148 (dk_at dksL_law_85 3 rfl rfl)
theorem dL_law_2173 : decode cL_law 2173 = .ok (.ifCond .eq 5, 3) := dk_153 0 5 (dk_at dksL_law_85 4 rfl rfl)
theorem dL_law_2176 : decode cL_law 2176 = .ok (.iconst 0, 1) := dk_3 (dk_at dksL_law_85 7 rfl rfl)
theorem dL_law_2177 : decode cL_law 2177 = .ok (.ireturn, 1) := dk_172 (dk_at dksL_law_85 8 rfl rfl)
theorem dL_law_2178 : decode cL_law 2178 = .ok (.goto 525, 3) := dk_167 2 13 (dk_at dksL_law_85 9 rfl rfl)
theorem dL_law_2181 : decode cL_law 2181 = .ok (.aload_n 1, 1) := dk_43 (dk_at dksL_law_85 12 rfl rfl)
theorem dL_law_2182 : decode cL_law 2182 = .ok (.invokevirtual 245, 3) := dk_182 0 245 (dk_at dksL_law_85 13 rfl rfl)
theorem dL_law_2185 : decode cL_law 2185 = .ok (.aload_n 2, 1) := dk_44 (dk_at dksL_law_85 16 rfl rfl)
theorem dL_law_2186 : decode cL_law 2186 = .ok (.invokevirtual 248, 3) := dk_182 0 248 (dk_at dksL_law_85 17 rfl rfl)
theorem dL_law_2189 : decode cL_law 2189 = .ok (.if_icmp .eq 514, 3) := dk_159 2 2 (dk_at dksL_law_85 20 rfl rfl)
theorem dL_law_2192 : decode cL_law 2192 = .ok (.iconst 0, 1) := dk_3 (dk_at dksL_law_85 23 rfl rfl)
theorem dL_law_2193 : decode cL_law 2193 = .ok (.ireturn, 1) := dk_172 (dk_at dksL_law_86 0 rfl rfl)
theorem dL_law_2194 : decode cL_law 2194 = .ok (.aload_n 1, 1) := dk_43 (dk_at dksL_law_86 1 rfl rfl)
theorem dL_law_2195 : decode cL_law 2195 = .ok (.aload_n 0, 1) := dk_42 (dk_at dksL_law_86 2 rfl rfl)
theorem dL_law_2196 : decode cL_law 2196 = .ok (.iload 4, 2) := dk_21 4 (dk_at dksL_law_86 3 rfl rfl)
theorem dL_law_2198 : decode cL_law 2198 = .ok (.iconst 1, 1) := dk_4 (dk_at dksL_law_86 5 rfl rfl)
theorem dL_law_2199 : decode cL_law 2199 = .ok (.iadd, 1) := dk_96 (dk_at dksL_law_86 6 rfl rfl)
theorem dL_law_2200 : decode cL_law 2200 = .ok (.iaload, 1) := dk_46 (dk_at dksL_law_86 7 rfl rfl)
theorem dL_law_2201 : decode cL_law 2201 = .ok (.aload_n 0, 1) := dk_42 (dk_at dksL_law_86 8 rfl rfl)
theorem dL_law_2202 : decode cL_law 2202 = .ok (.iload 4, 2) := dk_21 4 (dk_at dksL_law_86 9 rfl rfl)
theorem dL_law_2204 : decode cL_law 2204 = .ok (.iconst 2, 1) := dk_5 (dk_at dksL_law_86 11 rfl rfl)
theorem dL_law_2205 : decode cL_law 2205 = .ok (.iadd, 1) := dk_96 (dk_at dksL_law_86 12 rfl rfl)
theorem dL_law_2206 : decode cL_law 2206 = .ok (.iaload, 1) := dk_46 (dk_at dksL_law_86 13 rfl rfl)
theorem dL_law_2207 : decode cL_law 2207 = .ok (.aload_n 0, 1) := dk_42 (dk_at dksL_law_86 14 rfl rfl)
theorem dL_law_2208 : decode cL_law 2208 = .ok (.iload 4, 2) := dk_21 4 (dk_at dksL_law_86 15 rfl rfl)
theorem dL_law_2210 : decode cL_law 2210 = .ok (.iconst 3, 1) := dk_6 (dk_at dksL_law_86 17 rfl rfl)
theorem dL_law_2211 : decode cL_law 2211 = .ok (.iadd, 1) := dk_96 (dk_at dksL_law_86 18 rfl rfl)
theorem dL_law_2212 : decode cL_law 2212 = .ok (.iaload, 1) := dk_46 (dk_at dksL_law_86 19 rfl rfl)
theorem dL_law_2213 : decode cL_law 2213 = .ok (.aload_n 3, 1) := dk_45 (dk_at dksL_law_86 20 rfl rfl)
theorem dL_law_2214 : decode cL_law 2214 = .ok (.invokestatic 249, 3) := dk_184 0 249 (dk_at dksL_law_86 21 rfl rfl)
theorem dL_law_2217 : decode cL_law 2217 = .ok (.istore 5, 2) := dk_54 5 (dk_at dksL_law_87 0 rfl rfl)
theorem dL_law_2219 : decode cL_law 2219 = .ok (.aload_n 2, 1) := dk_44 (dk_at dksL_law_87 2 rfl rfl)
theorem dL_law_2220 : decode cL_law 2220 = .ok (.aload_n 0, 1) := dk_42 (dk_at dksL_law_87 3 rfl rfl)
theorem dL_law_2221 : decode cL_law 2221 = .ok (.iload 4, 2) := dk_21 4 (dk_at dksL_law_87 4 rfl rfl)
theorem dL_law_2223 : decode cL_law 2223 = .ok (.iconst 1, 1) := dk_4 (dk_at dksL_law_87 6 rfl rfl)
theorem dL_law_2224 : decode cL_law 2224 = .ok (.iadd, 1) := dk_96 (dk_at dksL_law_87 7 rfl rfl)
theorem dL_law_2225 : decode cL_law 2225 = .ok (.iaload, 1) := dk_46 (dk_at dksL_law_87 8 rfl rfl)
theorem dL_law_2226 : decode cL_law 2226 = .ok (.aload_n 0, 1) := dk_42 (dk_at dksL_law_87 9 rfl rfl)
theorem dL_law_2227 : decode cL_law 2227 = .ok (.iload 4, 2) := dk_21 4 (dk_at dksL_law_87 10 rfl rfl)
theorem dL_law_2229 : decode cL_law 2229 = .ok (.iconst 2, 1) := dk_5 (dk_at dksL_law_87 12 rfl rfl)
theorem dL_law_2230 : decode cL_law 2230 = .ok (.iadd, 1) := dk_96 (dk_at dksL_law_87 13 rfl rfl)
theorem dL_law_2231 : decode cL_law 2231 = .ok (.iaload, 1) := dk_46 (dk_at dksL_law_87 14 rfl rfl)
theorem dL_law_2232 : decode cL_law 2232 = .ok (.aload_n 0, 1) := dk_42 (dk_at dksL_law_87 15 rfl rfl)
theorem dL_law_2233 : decode cL_law 2233 = .ok (.iload 4, 2) := dk_21 4 (dk_at dksL_law_87 16 rfl rfl)
theorem dL_law_2235 : decode cL_law 2235 = .ok (.iconst 3, 1) := dk_6 (dk_at dksL_law_87 18 rfl rfl)
theorem dL_law_2236 : decode cL_law 2236 = .ok (.iadd, 1) := dk_96 (dk_at dksL_law_87 19 rfl rfl)
theorem dL_law_2237 : decode cL_law 2237 = .ok (.iaload, 1) := dk_46 (dk_at dksL_law_87 20 rfl rfl)
theorem dL_law_2238 : decode cL_law 2238 = .ok (.invokevirtual 251, 3) := dk_182 0 251 (dk_at dksL_law_87 21 rfl rfl)
theorem dL_law_2241 : decode cL_law 2241 = .ok (.istore 6, 2) := dk_54 6 (dk_at dksL_law_88 0 rfl rfl)
theorem dL_law_2243 : decode cL_law 2243 = .ok (.aload_n 2, 1) := dk_44 (dk_at dksL_law_88 2 rfl rfl)
theorem dL_law_2244 : decode cL_law 2244 = .ok (.invokevirtual 137, 3) := dk_182 0 137 (dk_at dksL_law_88 3 rfl rfl)
theorem dL_law_2247 : decode cL_law 2247 = .ok (.iload 5, 2) := dk_21 5 (dk_at dksL_law_88 6 rfl rfl)
theorem dL_law_2249 : decode cL_law 2249 = .ok (.if_icmp .eq 5, 3) := dk_159 0 5 (dk_at dksL_law_88 8 rfl rfl)
theorem dL_law_2252 : decode cL_law 2252 = .ok (.iconst 0, 1) := dk_3 (dk_at dksL_law_88 11 rfl rfl)
theorem dL_law_2253 : decode cL_law 2253 = .ok (.ireturn, 1) := dk_172 (dk_at dksL_law_88 12 rfl rfl)
theorem dL_law_2254 : decode cL_law 2254 = .ok (.iload 5, 2) := dk_21 5 (dk_at dksL_law_88 13 rfl rfl)
theorem dL_law_2256 : decode cL_law 2256 = .ok (.ifCond .ne 15, 3) := dk_154 0 15 (dk_at dksL_law_88 15 rfl rfl)
theorem dL_law_2259 : decode cL_law 2259 = .ok (.aload_n 3, 1) := dk_45 (dk_at dksL_law_88 18 rfl rfl)
theorem dL_law_2260 : decode cL_law 2260 = .ok (.iconst 0, 1) := dk_3 (dk_at dksL_law_88 19 rfl rfl)
theorem dL_law_2261 : decode cL_law 2261 = .ok (.laload, 1) := dk_47 (dk_at dksL_law_88 20 rfl rfl)
theorem dL_law_2262 : decode cL_law 2262 = .ok (.iload 6, 2) := dk_21 6 (dk_at dksL_law_88 21 rfl rfl)
theorem dL_law_2264 : decode cL_law 2264 = .ok (.i2l, 1) := dk_133 (dk_at dksL_law_88 23 rfl rfl)
theorem dL_law_2265 : decode cL_law 2265 = .ok (.lcmp, 1) := dk_148 (dk_at dksL_law_89 0 rfl rfl)
theorem dL_law_2266 : decode cL_law 2266 = .ok (.ifCond .eq 5, 3) := dk_153 0 5 (dk_at dksL_law_89 1 rfl rfl)
theorem dL_law_2269 : decode cL_law 2269 = .ok (.iconst 0, 1) := dk_3 (dk_at dksL_law_89 4 rfl rfl)
theorem dL_law_2270 : decode cL_law 2270 = .ok (.ireturn, 1) := dk_172 (dk_at dksL_law_89 5 rfl rfl)
theorem dL_law_2271 : decode cL_law 2271 = .ok (.goto 432, 3) := dk_167 1 176 (dk_at dksL_law_89 6 rfl rfl)
theorem dL_law_2274 : decode cL_law 2274 = .ok (.aload_n 1, 1) := dk_43 (dk_at dksL_law_89 9 rfl rfl)
theorem dL_law_2275 : decode cL_law 2275 = .ok (.aload_n 0, 1) := dk_42 (dk_at dksL_law_89 10 rfl rfl)
theorem dL_law_2276 : decode cL_law 2276 = .ok (.iload 4, 2) := dk_21 4 (dk_at dksL_law_89 11 rfl rfl)
theorem dL_law_2278 : decode cL_law 2278 = .ok (.iconst 1, 1) := dk_4 (dk_at dksL_law_89 13 rfl rfl)
theorem dL_law_2279 : decode cL_law 2279 = .ok (.iadd, 1) := dk_96 (dk_at dksL_law_89 14 rfl rfl)
theorem dL_law_2280 : decode cL_law 2280 = .ok (.iaload, 1) := dk_46 (dk_at dksL_law_89 15 rfl rfl)
theorem dL_law_2281 : decode cL_law 2281 = .ok (.aload_n 0, 1) := dk_42 (dk_at dksL_law_89 16 rfl rfl)
theorem dL_law_2282 : decode cL_law 2282 = .ok (.iload 4, 2) := dk_21 4 (dk_at dksL_law_89 17 rfl rfl)
theorem dL_law_2284 : decode cL_law 2284 = .ok (.iconst 2, 1) := dk_5 (dk_at dksL_law_89 19 rfl rfl)
theorem dL_law_2285 : decode cL_law 2285 = .ok (.iadd, 1) := dk_96 (dk_at dksL_law_89 20 rfl rfl)
theorem dL_law_2286 : decode cL_law 2286 = .ok (.iaload, 1) := dk_46 (dk_at dksL_law_89 21 rfl rfl)
theorem dL_law_2287 : decode cL_law 2287 = .ok (.aload_n 0, 1) := dk_42 (dk_at dksL_law_89 22 rfl rfl)
theorem dL_law_2288 : decode cL_law 2288 = .ok (.iload 4, 2) := dk_21 4 (dk_at dksL_law_90 0 rfl rfl)
theorem dL_law_2290 : decode cL_law 2290 = .ok (.iconst 3, 1) := dk_6 (dk_at dksL_law_90 2 rfl rfl)
theorem dL_law_2291 : decode cL_law 2291 = .ok (.iadd, 1) := dk_96 (dk_at dksL_law_90 3 rfl rfl)
theorem dL_law_2292 : decode cL_law 2292 = .ok (.iaload, 1) := dk_46 (dk_at dksL_law_90 4 rfl rfl)
theorem dL_law_2293 : decode cL_law 2293 = .ok (.aload_n 3, 1) := dk_45 (dk_at dksL_law_90 5 rfl rfl)
theorem dL_law_2294 : decode cL_law 2294 = .ok (.invokestatic 252, 3) := dk_184 0 252 (dk_at dksL_law_90 6 rfl rfl)
theorem dL_law_2297 : decode cL_law 2297 = .ok (.istore 5, 2) := dk_54 5 (dk_at dksL_law_90 9 rfl rfl)
theorem dL_law_2299 : decode cL_law 2299 = .ok (.aload_n 2, 1) := dk_44 (dk_at dksL_law_90 11 rfl rfl)
theorem dL_law_2300 : decode cL_law 2300 = .ok (.aload_n 0, 1) := dk_42 (dk_at dksL_law_90 12 rfl rfl)
theorem dL_law_2301 : decode cL_law 2301 = .ok (.iload 4, 2) := dk_21 4 (dk_at dksL_law_90 13 rfl rfl)
theorem dL_law_2303 : decode cL_law 2303 = .ok (.iconst 1, 1) := dk_4 (dk_at dksL_law_90 15 rfl rfl)
theorem dL_law_2304 : decode cL_law 2304 = .ok (.iadd, 1) := dk_96 (dk_at dksL_law_90 16 rfl rfl)
theorem dL_law_2305 : decode cL_law 2305 = .ok (.iaload, 1) := dk_46 (dk_at dksL_law_90 17 rfl rfl)
theorem dL_law_2306 : decode cL_law 2306 = .ok (.aload_n 0, 1) := dk_42 (dk_at dksL_law_90 18 rfl rfl)
theorem dL_law_2307 : decode cL_law 2307 = .ok (.iload 4, 2) := dk_21 4 (dk_at dksL_law_90 19 rfl rfl)
theorem dL_law_2309 : decode cL_law 2309 = .ok (.iconst 2, 1) := dk_5 (dk_at dksL_law_90 21 rfl rfl)
theorem dL_law_2310 : decode cL_law 2310 = .ok (.iadd, 1) := dk_96 (dk_at dksL_law_90 22 rfl rfl)
theorem dL_law_2311 : decode cL_law 2311 = .ok (.iaload, 1) := dk_46 (dk_at dksL_law_90 23 rfl rfl)
theorem dL_law_2312 : decode cL_law 2312 = .ok (.aload_n 0, 1) := dk_42 (dk_at dksL_law_91 0 rfl rfl)
theorem dL_law_2313 : decode cL_law 2313 = .ok (.iload 4, 2) := dk_21 4 (dk_at dksL_law_91 1 rfl rfl)
theorem dL_law_2315 : decode cL_law 2315 = .ok (.iconst 3, 1) := dk_6 (dk_at dksL_law_91 3 rfl rfl)
theorem dL_law_2316 : decode cL_law 2316 = .ok (.iadd, 1) := dk_96 (dk_at dksL_law_91 4 rfl rfl)
theorem dL_law_2317 : decode cL_law 2317 = .ok (.iaload, 1) := dk_46 (dk_at dksL_law_91 5 rfl rfl)
theorem dL_law_2318 : decode cL_law 2318 = .ok (.invokevirtual 254, 3) := dk_182 0 254 (dk_at dksL_law_91 6 rfl rfl)
theorem dL_law_2321 : decode cL_law 2321 = .ok (.istore 6, 2) := dk_54 6 (dk_at dksL_law_91 9 rfl rfl)
theorem dL_law_2323 : decode cL_law 2323 = .ok (.aload_n 2, 1) := dk_44 (dk_at dksL_law_91 11 rfl rfl)
theorem dL_law_2324 : decode cL_law 2324 = .ok (.invokevirtual 137, 3) := dk_182 0 137 (dk_at dksL_law_91 12 rfl rfl)
theorem dL_law_2327 : decode cL_law 2327 = .ok (.iload 5, 2) := dk_21 5 (dk_at dksL_law_91 15 rfl rfl)
theorem dL_law_2329 : decode cL_law 2329 = .ok (.if_icmp .eq 5, 3) := dk_159 0 5 (dk_at dksL_law_91 17 rfl rfl)
theorem dL_law_2332 : decode cL_law 2332 = .ok (.iconst 0, 1) := dk_3 (dk_at dksL_law_91 20 rfl rfl)
theorem dL_law_2333 : decode cL_law 2333 = .ok (.ireturn, 1) := dk_172 (dk_at dksL_law_91 21 rfl rfl)
theorem dL_law_2334 : decode cL_law 2334 = .ok (.iload 5, 2) := dk_21 5 (dk_at dksL_law_91 22 rfl rfl)
theorem dL_law_2336 : decode cL_law 2336 = .ok (.ifCond .ne 15, 3) := dk_154 0 15 (dk_at dksL_law_92 0 rfl rfl)
theorem dL_law_2339 : decode cL_law 2339 = .ok (.aload_n 3, 1) := dk_45 (dk_at dksL_law_92 3 rfl rfl)
theorem dL_law_2340 : decode cL_law 2340 = .ok (.iconst 0, 1) := dk_3 (dk_at dksL_law_92 4 rfl rfl)
theorem dL_law_2341 : decode cL_law 2341 = .ok (.laload, 1) := dk_47 (dk_at dksL_law_92 5 rfl rfl)
theorem dL_law_2342 : decode cL_law 2342 = .ok (.iload 6, 2) := dk_21 6 (dk_at dksL_law_92 6 rfl rfl)
theorem dL_law_2344 : decode cL_law 2344 = .ok (.i2l, 1) := dk_133 (dk_at dksL_law_92 8 rfl rfl)
theorem dL_law_2345 : decode cL_law 2345 = .ok (.lcmp, 1) := dk_148 (dk_at dksL_law_92 9 rfl rfl)
theorem dL_law_2346 : decode cL_law 2346 = .ok (.ifCond .eq 5, 3) := dk_153 0 5 (dk_at dksL_law_92 10 rfl rfl)
theorem dL_law_2349 : decode cL_law 2349 = .ok (.iconst 0, 1) := dk_3 (dk_at dksL_law_92 13 rfl rfl)
theorem dL_law_2350 : decode cL_law 2350 = .ok (.ireturn, 1) := dk_172 (dk_at dksL_law_92 14 rfl rfl)
theorem dL_law_2351 : decode cL_law 2351 = .ok (.goto 352, 3) := dk_167 1 96 (dk_at dksL_law_92 15 rfl rfl)
theorem dL_law_2354 : decode cL_law 2354 = .ok (.aload_n 1, 1) := dk_43 (dk_at dksL_law_92 18 rfl rfl)
theorem dL_law_2355 : decode cL_law 2355 = .ok (.aload_n 0, 1) := dk_42 (dk_at dksL_law_92 19 rfl rfl)
theorem dL_law_2356 : decode cL_law 2356 = .ok (.iload 4, 2) := dk_21 4 (dk_at dksL_law_92 20 rfl rfl)
theorem dL_law_2358 : decode cL_law 2358 = .ok (.iconst 1, 1) := dk_4 (dk_at dksL_law_92 22 rfl rfl)
theorem dL_law_2359 : decode cL_law 2359 = .ok (.iadd, 1) := dk_96 (dk_at dksL_law_92 23 rfl rfl)
theorem dL_law_2360 : decode cL_law 2360 = .ok (.iaload, 1) := dk_46 (dk_at dksL_law_93 0 rfl rfl)
theorem dL_law_2361 : decode cL_law 2361 = .ok (.aload_n 0, 1) := dk_42 (dk_at dksL_law_93 1 rfl rfl)
theorem dL_law_2362 : decode cL_law 2362 = .ok (.iload 4, 2) := dk_21 4 (dk_at dksL_law_93 2 rfl rfl)
theorem dL_law_2364 : decode cL_law 2364 = .ok (.iconst 2, 1) := dk_5 (dk_at dksL_law_93 4 rfl rfl)
theorem dL_law_2365 : decode cL_law 2365 = .ok (.iadd, 1) := dk_96 (dk_at dksL_law_93 5 rfl rfl)
theorem dL_law_2366 : decode cL_law 2366 = .ok (.iaload, 1) := dk_46 (dk_at dksL_law_93 6 rfl rfl)
theorem dL_law_2367 : decode cL_law 2367 = .ok (.aload_n 3, 1) := dk_45 (dk_at dksL_law_93 7 rfl rfl)
theorem dL_law_2368 : decode cL_law 2368 = .ok (.invokestatic 255, 3) := dk_184 0 255 (dk_at dksL_law_93 8 rfl rfl)
theorem dL_law_2371 : decode cL_law 2371 = .ok (.istore 5, 2) := dk_54 5 (dk_at dksL_law_93 11 rfl rfl)
theorem dL_law_2373 : decode cL_law 2373 = .ok (.aload_n 2, 1) := dk_44 (dk_at dksL_law_93 13 rfl rfl)
theorem dL_law_2374 : decode cL_law 2374 = .ok (.aload_n 0, 1) := dk_42 (dk_at dksL_law_93 14 rfl rfl)
theorem dL_law_2375 : decode cL_law 2375 = .ok (.iload 4, 2) := dk_21 4 (dk_at dksL_law_93 15 rfl rfl)
theorem dL_law_2377 : decode cL_law 2377 = .ok (.iconst 1, 1) := dk_4 (dk_at dksL_law_93 17 rfl rfl)
theorem dL_law_2378 : decode cL_law 2378 = .ok (.iadd, 1) := dk_96 (dk_at dksL_law_93 18 rfl rfl)
theorem dL_law_2379 : decode cL_law 2379 = .ok (.iaload, 1) := dk_46 (dk_at dksL_law_93 19 rfl rfl)
theorem dL_law_2380 : decode cL_law 2380 = .ok (.aload_n 0, 1) := dk_42 (dk_at dksL_law_93 20 rfl rfl)
theorem dL_law_2381 : decode cL_law 2381 = .ok (.iload 4, 2) := dk_21 4 (dk_at dksL_law_93 21 rfl rfl)
theorem dL_law_2383 : decode cL_law 2383 = .ok (.iconst 2, 1) := dk_5 (dk_at dksL_law_93 23 rfl rfl)
theorem dL_law_2384 : decode cL_law 2384 = .ok (.iadd, 1) := dk_96 (dk_at dksL_law_94 0 rfl rfl)
theorem dL_law_2385 : decode cL_law 2385 = .ok (.iaload, 1) := dk_46 (dk_at dksL_law_94 1 rfl rfl)
theorem dL_law_2386 : decode cL_law 2386 = .ok (.invokevirtual 257, 3) := dk_182 1 1 (dk_at dksL_law_94 2 rfl rfl)
theorem dL_law_2389 : decode cL_law 2389 = .ok (.istore 6, 2) := dk_54 6 (dk_at dksL_law_94 5 rfl rfl)
theorem dL_law_2391 : decode cL_law 2391 = .ok (.aload_n 2, 1) := dk_44 (dk_at dksL_law_94 7 rfl rfl)
theorem dL_law_2392 : decode cL_law 2392 = .ok (.invokevirtual 137, 3) := dk_182 0 137 (dk_at dksL_law_94 8 rfl rfl)
theorem dL_law_2395 : decode cL_law 2395 = .ok (.iload 5, 2) := dk_21 5 (dk_at dksL_law_94 11 rfl rfl)
theorem dL_law_2397 : decode cL_law 2397 = .ok (.if_icmp .eq 5, 3) := dk_159 0 5 (dk_at dksL_law_94 13 rfl rfl)
theorem dL_law_2400 : decode cL_law 2400 = .ok (.iconst 0, 1) := dk_3 (dk_at dksL_law_94 16 rfl rfl)
theorem dL_law_2401 : decode cL_law 2401 = .ok (.ireturn, 1) := dk_172 (dk_at dksL_law_94 17 rfl rfl)
theorem dL_law_2402 : decode cL_law 2402 = .ok (.iload 5, 2) := dk_21 5 (dk_at dksL_law_94 18 rfl rfl)
theorem dL_law_2404 : decode cL_law 2404 = .ok (.ifCond .ne 15, 3) := dk_154 0 15 (dk_at dksL_law_94 20 rfl rfl)
theorem dL_law_2407 : decode cL_law 2407 = .ok (.aload_n 3, 1) := dk_45 (dk_at dksL_law_94 23 rfl rfl)
theorem dL_law_2408 : decode cL_law 2408 = .ok (.iconst 0, 1) := dk_3 (dk_at dksL_law_95 0 rfl rfl)
theorem dL_law_2409 : decode cL_law 2409 = .ok (.laload, 1) := dk_47 (dk_at dksL_law_95 1 rfl rfl)
theorem dL_law_2410 : decode cL_law 2410 = .ok (.iload 6, 2) := dk_21 6 (dk_at dksL_law_95 2 rfl rfl)
theorem dL_law_2412 : decode cL_law 2412 = .ok (.i2l, 1) := dk_133 (dk_at dksL_law_95 4 rfl rfl)
theorem dL_law_2413 : decode cL_law 2413 = .ok (.lcmp, 1) := dk_148 (dk_at dksL_law_95 5 rfl rfl)
theorem dL_law_2414 : decode cL_law 2414 = .ok (.ifCond .eq 5, 3) := dk_153 0 5 (dk_at dksL_law_95 6 rfl rfl)
theorem dL_law_2417 : decode cL_law 2417 = .ok (.iconst 0, 1) := dk_3 (dk_at dksL_law_95 9 rfl rfl)
theorem dL_law_2418 : decode cL_law 2418 = .ok (.ireturn, 1) := dk_172 (dk_at dksL_law_95 10 rfl rfl)
theorem dL_law_2419 : decode cL_law 2419 = .ok (.goto 284, 3) := dk_167 1 28 (dk_at dksL_law_95 11 rfl rfl)
theorem dL_law_2422 : decode cL_law 2422 = .ok (.aload_n 1, 1) := dk_43 (dk_at dksL_law_95 14 rfl rfl)
theorem dL_law_2423 : decode cL_law 2423 = .ok (.aload_n 0, 1) := dk_42 (dk_at dksL_law_95 15 rfl rfl)
theorem dL_law_2424 : decode cL_law 2424 = .ok (.iload 4, 2) := dk_21 4 (dk_at dksL_law_95 16 rfl rfl)
theorem dL_law_2426 : decode cL_law 2426 = .ok (.iconst 1, 1) := dk_4 (dk_at dksL_law_95 18 rfl rfl)
theorem dL_law_2427 : decode cL_law 2427 = .ok (.iadd, 1) := dk_96 (dk_at dksL_law_95 19 rfl rfl)
theorem dL_law_2428 : decode cL_law 2428 = .ok (.iaload, 1) := dk_46 (dk_at dksL_law_95 20 rfl rfl)
theorem dL_law_2429 : decode cL_law 2429 = .ok (.aload_n 3, 1) := dk_45 (dk_at dksL_law_95 21 rfl rfl)
theorem dL_law_2430 : decode cL_law 2430 = .ok (.invokestatic 258, 3) := dk_184 1 2 (dk_at dksL_law_96 0 rfl rfl)
theorem dL_law_2433 : decode cL_law 2433 = .ok (.istore 5, 2) := dk_54 5 (dk_at dksL_law_96 3 rfl rfl)
theorem dL_law_2435 : decode cL_law 2435 = .ok (.aload_n 2, 1) := dk_44 (dk_at dksL_law_96 5 rfl rfl)
theorem dL_law_2436 : decode cL_law 2436 = .ok (.aload_n 0, 1) := dk_42 (dk_at dksL_law_96 6 rfl rfl)
theorem dL_law_2437 : decode cL_law 2437 = .ok (.iload 4, 2) := dk_21 4 (dk_at dksL_law_96 7 rfl rfl)
theorem dL_law_2439 : decode cL_law 2439 = .ok (.iconst 1, 1) := dk_4 (dk_at dksL_law_96 9 rfl rfl)
theorem dL_law_2440 : decode cL_law 2440 = .ok (.iadd, 1) := dk_96 (dk_at dksL_law_96 10 rfl rfl)
theorem dL_law_2441 : decode cL_law 2441 = .ok (.iaload, 1) := dk_46 (dk_at dksL_law_96 11 rfl rfl)
theorem dL_law_2442 : decode cL_law 2442 = .ok (.invokevirtual 260, 3) := dk_182 1 4 (dk_at dksL_law_96 12 rfl rfl)
theorem dL_law_2445 : decode cL_law 2445 = .ok (.istore 6, 2) := dk_54 6 (dk_at dksL_law_96 15 rfl rfl)
theorem dL_law_2447 : decode cL_law 2447 = .ok (.aload_n 2, 1) := dk_44 (dk_at dksL_law_96 17 rfl rfl)
theorem dL_law_2448 : decode cL_law 2448 = .ok (.invokevirtual 137, 3) := dk_182 0 137 (dk_at dksL_law_96 18 rfl rfl)
theorem dL_law_2451 : decode cL_law 2451 = .ok (.iload 5, 2) := dk_21 5 (dk_at dksL_law_96 21 rfl rfl)
theorem dL_law_2453 : decode cL_law 2453 = .ok (.if_icmp .eq 5, 3) := dk_159 0 5 (dk_at dksL_law_97 0 rfl rfl)
theorem dL_law_2456 : decode cL_law 2456 = .ok (.iconst 0, 1) := dk_3 (dk_at dksL_law_97 3 rfl rfl)
theorem dL_law_2457 : decode cL_law 2457 = .ok (.ireturn, 1) := dk_172 (dk_at dksL_law_97 4 rfl rfl)
theorem dL_law_2458 : decode cL_law 2458 = .ok (.iload 5, 2) := dk_21 5 (dk_at dksL_law_97 5 rfl rfl)
theorem dL_law_2460 : decode cL_law 2460 = .ok (.ifCond .ne 15, 3) := dk_154 0 15 (dk_at dksL_law_97 7 rfl rfl)
theorem dL_law_2463 : decode cL_law 2463 = .ok (.aload_n 3, 1) := dk_45 (dk_at dksL_law_97 10 rfl rfl)
theorem dL_law_2464 : decode cL_law 2464 = .ok (.iconst 0, 1) := dk_3 (dk_at dksL_law_97 11 rfl rfl)
theorem dL_law_2465 : decode cL_law 2465 = .ok (.laload, 1) := dk_47 (dk_at dksL_law_97 12 rfl rfl)
theorem dL_law_2466 : decode cL_law 2466 = .ok (.iload 6, 2) := dk_21 6 (dk_at dksL_law_97 13 rfl rfl)
theorem dL_law_2468 : decode cL_law 2468 = .ok (.i2l, 1) := dk_133 (dk_at dksL_law_97 15 rfl rfl)
theorem dL_law_2469 : decode cL_law 2469 = .ok (.lcmp, 1) := dk_148 (dk_at dksL_law_97 16 rfl rfl)
theorem dL_law_2470 : decode cL_law 2470 = .ok (.ifCond .eq 5, 3) := dk_153 0 5 (dk_at dksL_law_97 17 rfl rfl)
theorem dL_law_2473 : decode cL_law 2473 = .ok (.iconst 0, 1) := dk_3 (dk_at dksL_law_97 20 rfl rfl)
theorem dL_law_2474 : decode cL_law 2474 = .ok (.ireturn, 1) := dk_172 (dk_at dksL_law_97 21 rfl rfl)
theorem dL_law_2475 : decode cL_law 2475 = .ok (.goto 228, 3) := dk_167 0 228 (dk_at dksL_law_98 0 rfl rfl)
theorem dL_law_2478 : decode cL_law 2478 = .ok (.aload_n 1, 1) := dk_43 (dk_at dksL_law_98 3 rfl rfl)
theorem dL_law_2479 : decode cL_law 2479 = .ok (.aload_n 0, 1) := dk_42 (dk_at dksL_law_98 4 rfl rfl)
theorem dL_law_2480 : decode cL_law 2480 = .ok (.iload 4, 2) := dk_21 4 (dk_at dksL_law_98 5 rfl rfl)
theorem dL_law_2482 : decode cL_law 2482 = .ok (.iconst 1, 1) := dk_4 (dk_at dksL_law_98 7 rfl rfl)
theorem dL_law_2483 : decode cL_law 2483 = .ok (.iadd, 1) := dk_96 (dk_at dksL_law_98 8 rfl rfl)
theorem dL_law_2484 : decode cL_law 2484 = .ok (.iaload, 1) := dk_46 (dk_at dksL_law_98 9 rfl rfl)
theorem dL_law_2485 : decode cL_law 2485 = .ok (.aload_n 0, 1) := dk_42 (dk_at dksL_law_98 10 rfl rfl)
theorem dL_law_2486 : decode cL_law 2486 = .ok (.iload 4, 2) := dk_21 4 (dk_at dksL_law_98 11 rfl rfl)
theorem dL_law_2488 : decode cL_law 2488 = .ok (.iconst 2, 1) := dk_5 (dk_at dksL_law_98 13 rfl rfl)
theorem dL_law_2489 : decode cL_law 2489 = .ok (.iadd, 1) := dk_96 (dk_at dksL_law_98 14 rfl rfl)
theorem dL_law_2490 : decode cL_law 2490 = .ok (.iaload, 1) := dk_46 (dk_at dksL_law_98 15 rfl rfl)
theorem dL_law_2491 : decode cL_law 2491 = .ok (.aload_n 3, 1) := dk_45 (dk_at dksL_law_98 16 rfl rfl)
theorem dL_law_2492 : decode cL_law 2492 = .ok (.invokestatic 261, 3) := dk_184 1 5 (dk_at dksL_law_98 17 rfl rfl)
theorem dL_law_2495 : decode cL_law 2495 = .ok (.istore 5, 2) := dk_54 5 (dk_at dksL_law_98 20 rfl rfl)
theorem dL_law_2497 : decode cL_law 2497 = .ok (.aload_n 2, 1) := dk_44 (dk_at dksL_law_98 22 rfl rfl)
theorem dL_law_2498 : decode cL_law 2498 = .ok (.aload_n 0, 1) := dk_42 (dk_at dksL_law_98 23 rfl rfl)
theorem dL_law_2499 : decode cL_law 2499 = .ok (.iload 4, 2) := dk_21 4 (dk_at dksL_law_99 0 rfl rfl)
theorem dL_law_2501 : decode cL_law 2501 = .ok (.iconst 1, 1) := dk_4 (dk_at dksL_law_99 2 rfl rfl)
theorem dL_law_2502 : decode cL_law 2502 = .ok (.iadd, 1) := dk_96 (dk_at dksL_law_99 3 rfl rfl)
theorem dL_law_2503 : decode cL_law 2503 = .ok (.iaload, 1) := dk_46 (dk_at dksL_law_99 4 rfl rfl)
theorem dL_law_2504 : decode cL_law 2504 = .ok (.aload_n 0, 1) := dk_42 (dk_at dksL_law_99 5 rfl rfl)
theorem dL_law_2505 : decode cL_law 2505 = .ok (.iload 4, 2) := dk_21 4 (dk_at dksL_law_99 6 rfl rfl)
theorem dL_law_2507 : decode cL_law 2507 = .ok (.iconst 2, 1) := dk_5 (dk_at dksL_law_99 8 rfl rfl)
theorem dL_law_2508 : decode cL_law 2508 = .ok (.iadd, 1) := dk_96 (dk_at dksL_law_99 9 rfl rfl)
theorem dL_law_2509 : decode cL_law 2509 = .ok (.iaload, 1) := dk_46 (dk_at dksL_law_99 10 rfl rfl)
theorem dL_law_2510 : decode cL_law 2510 = .ok (.invokevirtual 263, 3) := dk_182 1 7 (dk_at dksL_law_99 11 rfl rfl)
theorem dL_law_2513 : decode cL_law 2513 = .ok (.istore 6, 2) := dk_54 6 (dk_at dksL_law_99 14 rfl rfl)
theorem dL_law_2515 : decode cL_law 2515 = .ok (.aload_n 2, 1) := dk_44 (dk_at dksL_law_99 16 rfl rfl)
theorem dL_law_2516 : decode cL_law 2516 = .ok (.invokevirtual 137, 3) := dk_182 0 137 (dk_at dksL_law_99 17 rfl rfl)
theorem dL_law_2519 : decode cL_law 2519 = .ok (.iload 5, 2) := dk_21 5 (dk_at dksL_law_99 20 rfl rfl)
theorem dL_law_2521 : decode cL_law 2521 = .ok (.if_icmp .eq 5, 3) := dk_159 0 5 (dk_at dksL_law_100 0 rfl rfl)
theorem dL_law_2524 : decode cL_law 2524 = .ok (.iconst 0, 1) := dk_3 (dk_at dksL_law_100 3 rfl rfl)
theorem dL_law_2525 : decode cL_law 2525 = .ok (.ireturn, 1) := dk_172 (dk_at dksL_law_100 4 rfl rfl)
theorem dL_law_2526 : decode cL_law 2526 = .ok (.iload 5, 2) := dk_21 5 (dk_at dksL_law_100 5 rfl rfl)
theorem dL_law_2528 : decode cL_law 2528 = .ok (.ifCond .ne 15, 3) := dk_154 0 15 (dk_at dksL_law_100 7 rfl rfl)
theorem dL_law_2531 : decode cL_law 2531 = .ok (.aload_n 3, 1) := dk_45 (dk_at dksL_law_100 10 rfl rfl)
theorem dL_law_2532 : decode cL_law 2532 = .ok (.iconst 0, 1) := dk_3 (dk_at dksL_law_100 11 rfl rfl)
theorem dL_law_2533 : decode cL_law 2533 = .ok (.laload, 1) := dk_47 (dk_at dksL_law_100 12 rfl rfl)
theorem dL_law_2534 : decode cL_law 2534 = .ok (.iload 6, 2) := dk_21 6 (dk_at dksL_law_100 13 rfl rfl)
theorem dL_law_2536 : decode cL_law 2536 = .ok (.i2l, 1) := dk_133 (dk_at dksL_law_100 15 rfl rfl)
theorem dL_law_2537 : decode cL_law 2537 = .ok (.lcmp, 1) := dk_148 (dk_at dksL_law_100 16 rfl rfl)
theorem dL_law_2538 : decode cL_law 2538 = .ok (.ifCond .eq 5, 3) := dk_153 0 5 (dk_at dksL_law_100 17 rfl rfl)
theorem dL_law_2541 : decode cL_law 2541 = .ok (.iconst 0, 1) := dk_3 (dk_at dksL_law_100 20 rfl rfl)
theorem dL_law_2542 : decode cL_law 2542 = .ok (.ireturn, 1) := dk_172 (dk_at dksL_law_100 21 rfl rfl)
theorem dL_law_2543 : decode cL_law 2543 = .ok (.goto 160, 3) := dk_167 0 160 (dk_at dksL_law_101 0 rfl rfl)
theorem dL_law_2546 : decode cL_law 2546 = .ok (.aload_n 1, 1) := dk_43 (dk_at dksL_law_101 3 rfl rfl)
theorem dL_law_2547 : decode cL_law 2547 = .ok (.aload_n 0, 1) := dk_42 (dk_at dksL_law_101 4 rfl rfl)
theorem dL_law_2548 : decode cL_law 2548 = .ok (.iload 4, 2) := dk_21 4 (dk_at dksL_law_101 5 rfl rfl)
theorem dL_law_2550 : decode cL_law 2550 = .ok (.iconst 1, 1) := dk_4 (dk_at dksL_law_101 7 rfl rfl)
theorem dL_law_2551 : decode cL_law 2551 = .ok (.iadd, 1) := dk_96 (dk_at dksL_law_101 8 rfl rfl)
theorem dL_law_2552 : decode cL_law 2552 = .ok (.iaload, 1) := dk_46 (dk_at dksL_law_101 9 rfl rfl)
theorem dL_law_2553 : decode cL_law 2553 = .ok (.aload_n 0, 1) := dk_42 (dk_at dksL_law_101 10 rfl rfl)
theorem dL_law_2554 : decode cL_law 2554 = .ok (.iload 4, 2) := dk_21 4 (dk_at dksL_law_101 11 rfl rfl)
theorem dL_law_2556 : decode cL_law 2556 = .ok (.iconst 2, 1) := dk_5 (dk_at dksL_law_101 13 rfl rfl)
theorem dL_law_2557 : decode cL_law 2557 = .ok (.iadd, 1) := dk_96 (dk_at dksL_law_101 14 rfl rfl)
theorem dL_law_2558 : decode cL_law 2558 = .ok (.iaload, 1) := dk_46 (dk_at dksL_law_101 15 rfl rfl)
theorem dL_law_2559 : decode cL_law 2559 = .ok (.aload_n 3, 1) := dk_45 (dk_at dksL_law_101 16 rfl rfl)
theorem dL_law_2560 : decode cL_law 2560 = .ok (.invokestatic 264, 3) := dk_184 1 8 (dk_at dksL_law_101 17 rfl rfl)
theorem dL_law_2563 : decode cL_law 2563 = .ok (.istore 5, 2) := dk_54 5 (dk_at dksL_law_101 20 rfl rfl)
theorem dL_law_2565 : decode cL_law 2565 = .ok (.aload_n 2, 1) := dk_44 (dk_at dksL_law_101 22 rfl rfl)
theorem dL_law_2566 : decode cL_law 2566 = .ok (.aload_n 0, 1) := dk_42 (dk_at dksL_law_101 23 rfl rfl)
theorem dL_law_2567 : decode cL_law 2567 = .ok (.iload 4, 2) := dk_21 4 (dk_at dksL_law_102 0 rfl rfl)
theorem dL_law_2569 : decode cL_law 2569 = .ok (.iconst 1, 1) := dk_4 (dk_at dksL_law_102 2 rfl rfl)
theorem dL_law_2570 : decode cL_law 2570 = .ok (.iadd, 1) := dk_96 (dk_at dksL_law_102 3 rfl rfl)
theorem dL_law_2571 : decode cL_law 2571 = .ok (.iaload, 1) := dk_46 (dk_at dksL_law_102 4 rfl rfl)
theorem dL_law_2572 : decode cL_law 2572 = .ok (.aload_n 0, 1) := dk_42 (dk_at dksL_law_102 5 rfl rfl)
theorem dL_law_2573 : decode cL_law 2573 = .ok (.iload 4, 2) := dk_21 4 (dk_at dksL_law_102 6 rfl rfl)
theorem dL_law_2575 : decode cL_law 2575 = .ok (.iconst 2, 1) := dk_5 (dk_at dksL_law_102 8 rfl rfl)
theorem dL_law_2576 : decode cL_law 2576 = .ok (.iadd, 1) := dk_96 (dk_at dksL_law_102 9 rfl rfl)
theorem dL_law_2577 : decode cL_law 2577 = .ok (.iaload, 1) := dk_46 (dk_at dksL_law_102 10 rfl rfl)
theorem dL_law_2578 : decode cL_law 2578 = .ok (.invokevirtual 266, 3) := dk_182 1 10 (dk_at dksL_law_102 11 rfl rfl)
theorem dL_law_2581 : decode cL_law 2581 = .ok (.istore 6, 2) := dk_54 6 (dk_at dksL_law_102 14 rfl rfl)
theorem dL_law_2583 : decode cL_law 2583 = .ok (.aload_n 2, 1) := dk_44 (dk_at dksL_law_102 16 rfl rfl)
theorem dL_law_2584 : decode cL_law 2584 = .ok (.invokevirtual 137, 3) := dk_182 0 137 (dk_at dksL_law_102 17 rfl rfl)
theorem dL_law_2587 : decode cL_law 2587 = .ok (.iload 5, 2) := dk_21 5 (dk_at dksL_law_102 20 rfl rfl)
theorem dL_law_2589 : decode cL_law 2589 = .ok (.if_icmp .eq 5, 3) := dk_159 0 5 (dk_at dksL_law_103 0 rfl rfl)
theorem dL_law_2592 : decode cL_law 2592 = .ok (.iconst 0, 1) := dk_3 (dk_at dksL_law_103 3 rfl rfl)
theorem dL_law_2593 : decode cL_law 2593 = .ok (.ireturn, 1) := dk_172 (dk_at dksL_law_103 4 rfl rfl)
theorem dL_law_2594 : decode cL_law 2594 = .ok (.iload 5, 2) := dk_21 5 (dk_at dksL_law_103 5 rfl rfl)
theorem dL_law_2596 : decode cL_law 2596 = .ok (.ifCond .ne 15, 3) := dk_154 0 15 (dk_at dksL_law_103 7 rfl rfl)
theorem dL_law_2599 : decode cL_law 2599 = .ok (.aload_n 3, 1) := dk_45 (dk_at dksL_law_103 10 rfl rfl)
theorem dL_law_2600 : decode cL_law 2600 = .ok (.iconst 0, 1) := dk_3 (dk_at dksL_law_103 11 rfl rfl)
theorem dL_law_2601 : decode cL_law 2601 = .ok (.laload, 1) := dk_47 (dk_at dksL_law_103 12 rfl rfl)
theorem dL_law_2602 : decode cL_law 2602 = .ok (.iload 6, 2) := dk_21 6 (dk_at dksL_law_103 13 rfl rfl)
theorem dL_law_2604 : decode cL_law 2604 = .ok (.i2l, 1) := dk_133 (dk_at dksL_law_103 15 rfl rfl)
theorem dL_law_2605 : decode cL_law 2605 = .ok (.lcmp, 1) := dk_148 (dk_at dksL_law_103 16 rfl rfl)
theorem dL_law_2606 : decode cL_law 2606 = .ok (.ifCond .eq 5, 3) := dk_153 0 5 (dk_at dksL_law_103 17 rfl rfl)
theorem dL_law_2609 : decode cL_law 2609 = .ok (.iconst 0, 1) := dk_3 (dk_at dksL_law_103 20 rfl rfl)
theorem dL_law_2610 : decode cL_law 2610 = .ok (.ireturn, 1) := dk_172 (dk_at dksL_law_103 21 rfl rfl)
theorem dL_law_2611 : decode cL_law 2611 = .ok (.goto 92, 3) := dk_167 0 92 (dk_at dksL_law_104 0 rfl rfl)
theorem dL_law_2614 : decode cL_law 2614 = .ok (.aload_n 1, 1) := dk_43 (dk_at dksL_law_104 3 rfl rfl)
theorem dL_law_2615 : decode cL_law 2615 = .ok (.invokevirtual 267, 3) := dk_182 1 11 (dk_at dksL_law_104 4 rfl rfl)
theorem dL_law_2618 : decode cL_law 2618 = .ok (.aload_n 2, 1) := dk_44 (dk_at dksL_law_104 7 rfl rfl)
theorem dL_law_2619 : decode cL_law 2619 = .ok (.invokevirtual 270, 3) := dk_182 1 14 (dk_at dksL_law_104 8 rfl rfl)
theorem dL_law_2622 : decode cL_law 2622 = .ok (.if_icmp .eq 81, 3) := dk_159 0 81 (dk_at dksL_law_104 11 rfl rfl)
theorem dL_law_2625 : decode cL_law 2625 = .ok (.iconst 0, 1) := dk_3 (dk_at dksL_law_104 14 rfl rfl)
theorem dL_law_2626 : decode cL_law 2626 = .ok (.ireturn, 1) := dk_172 (dk_at dksL_law_104 15 rfl rfl)
theorem dL_law_2627 : decode cL_law 2627 = .ok (.aload_n 1, 1) := dk_43 (dk_at dksL_law_104 16 rfl rfl)
theorem dL_law_2628 : decode cL_law 2628 = .ok (.invokevirtual 271, 3) := dk_182 1 15 (dk_at dksL_law_104 17 rfl rfl)
theorem dL_law_2631 : decode cL_law 2631 = .ok (.aload_n 2, 1) := dk_44 (dk_at dksL_law_104 20 rfl rfl)
theorem dL_law_2632 : decode cL_law 2632 = .ok (.invokevirtual 274, 3) := dk_182 1 18 (dk_at dksL_law_104 21 rfl rfl)
theorem dL_law_2635 : decode cL_law 2635 = .ok (.if_icmp .eq 68, 3) := dk_159 0 68 (dk_at dksL_law_105 0 rfl rfl)
theorem dL_law_2638 : decode cL_law 2638 = .ok (.iconst 0, 1) := dk_3 (dk_at dksL_law_105 3 rfl rfl)
theorem dL_law_2639 : decode cL_law 2639 = .ok (.ireturn, 1) := dk_172 (dk_at dksL_law_105 4 rfl rfl)
theorem dL_law_2640 : decode cL_law 2640 = .ok (.aload_n 1, 1) := dk_43 (dk_at dksL_law_105 5 rfl rfl)
theorem dL_law_2641 : decode cL_law 2641 = .ok (.invokevirtual 275, 3) := dk_182 1 19 (dk_at dksL_law_105 6 rfl rfl)
theorem dL_law_2644 : decode cL_law 2644 = .ok (.aload_n 2, 1) := dk_44 (dk_at dksL_law_105 9 rfl rfl)
theorem dL_law_2645 : decode cL_law 2645 = .ok (.invokevirtual 278, 3) := dk_182 1 22 (dk_at dksL_law_105 10 rfl rfl)
theorem dL_law_2648 : decode cL_law 2648 = .ok (.if_icmp .eq 55, 3) := dk_159 0 55 (dk_at dksL_law_105 13 rfl rfl)
theorem dL_law_2651 : decode cL_law 2651 = .ok (.iconst 0, 1) := dk_3 (dk_at dksL_law_105 16 rfl rfl)
theorem dL_law_2652 : decode cL_law 2652 = .ok (.ireturn, 1) := dk_172 (dk_at dksL_law_105 17 rfl rfl)
theorem dL_law_2653 : decode cL_law 2653 = .ok (.aload_n 1, 1) := dk_43 (dk_at dksL_law_105 18 rfl rfl)
theorem dL_law_2654 : decode cL_law 2654 = .ok (.aload_n 0, 1) := dk_42 (dk_at dksL_law_105 19 rfl rfl)
theorem dL_law_2655 : decode cL_law 2655 = .ok (.iload 4, 2) := dk_21 4 (dk_at dksL_law_105 20 rfl rfl)
theorem dL_law_2657 : decode cL_law 2657 = .ok (.iconst 1, 1) := dk_4 (dk_at dksL_law_105 22 rfl rfl)
theorem dL_law_2658 : decode cL_law 2658 = .ok (.iadd, 1) := dk_96 (dk_at dksL_law_105 23 rfl rfl)
theorem dL_law_2659 : decode cL_law 2659 = .ok (.iaload, 1) := dk_46 (dk_at dksL_law_106 0 rfl rfl)
theorem dL_law_2660 : decode cL_law 2660 = .ok (.invokevirtual 279, 3) := dk_182 1 23 (dk_at dksL_law_106 1 rfl rfl)
theorem dL_law_2663 : decode cL_law 2663 = .ok (.aload_n 2, 1) := dk_44 (dk_at dksL_law_106 4 rfl rfl)
theorem dL_law_2664 : decode cL_law 2664 = .ok (.aload_n 0, 1) := dk_42 (dk_at dksL_law_106 5 rfl rfl)
theorem dL_law_2665 : decode cL_law 2665 = .ok (.iload 4, 2) := dk_21 4 (dk_at dksL_law_106 6 rfl rfl)
theorem dL_law_2667 : decode cL_law 2667 = .ok (.iconst 1, 1) := dk_4 (dk_at dksL_law_106 8 rfl rfl)
theorem dL_law_2668 : decode cL_law 2668 = .ok (.iadd, 1) := dk_96 (dk_at dksL_law_106 9 rfl rfl)
theorem dL_law_2669 : decode cL_law 2669 = .ok (.iaload, 1) := dk_46 (dk_at dksL_law_106 10 rfl rfl)
theorem dL_law_2670 : decode cL_law 2670 = .ok (.invokevirtual 282, 3) := dk_182 1 26 (dk_at dksL_law_106 11 rfl rfl)
theorem dL_law_2673 : decode cL_law 2673 = .ok (.if_icmp .eq 30, 3) := dk_159 0 30 (dk_at dksL_law_106 14 rfl rfl)
theorem dL_law_2676 : decode cL_law 2676 = .ok (.iconst 0, 1) := dk_3 (dk_at dksL_law_106 17 rfl rfl)
theorem dL_law_2677 : decode cL_law 2677 = .ok (.ireturn, 1) := dk_172 (dk_at dksL_law_106 18 rfl rfl)
theorem dL_law_2678 : decode cL_law 2678 = .ok (.aload_n 1, 1) := dk_43 (dk_at dksL_law_106 19 rfl rfl)
theorem dL_law_2679 : decode cL_law 2679 = .ok (.aload_n 0, 1) := dk_42 (dk_at dksL_law_106 20 rfl rfl)
theorem dL_law_2680 : decode cL_law 2680 = .ok (.iload 4, 2) := dk_21 4 (dk_at dksL_law_106 21 rfl rfl)
theorem dL_law_2682 : decode cL_law 2682 = .ok (.iconst 1, 1) := dk_4 (dk_at dksL_law_106 23 rfl rfl)
theorem dL_law_2683 : decode cL_law 2683 = .ok (.iadd, 1) := dk_96 (dk_at dksL_law_107 0 rfl rfl)
theorem dL_law_2684 : decode cL_law 2684 = .ok (.iaload, 1) := dk_46 (dk_at dksL_law_107 1 rfl rfl)
theorem dL_law_2685 : decode cL_law 2685 = .ok (.invokevirtual 283, 3) := dk_182 1 27 (dk_at dksL_law_107 2 rfl rfl)
theorem dL_law_2688 : decode cL_law 2688 = .ok (.aload_n 2, 1) := dk_44 (dk_at dksL_law_107 5 rfl rfl)
theorem dL_law_2689 : decode cL_law 2689 = .ok (.aload_n 0, 1) := dk_42 (dk_at dksL_law_107 6 rfl rfl)
theorem dL_law_2690 : decode cL_law 2690 = .ok (.iload 4, 2) := dk_21 4 (dk_at dksL_law_107 7 rfl rfl)
theorem dL_law_2692 : decode cL_law 2692 = .ok (.iconst 1, 1) := dk_4 (dk_at dksL_law_107 9 rfl rfl)
theorem dL_law_2693 : decode cL_law 2693 = .ok (.iadd, 1) := dk_96 (dk_at dksL_law_107 10 rfl rfl)
theorem dL_law_2694 : decode cL_law 2694 = .ok (.iaload, 1) := dk_46 (dk_at dksL_law_107 11 rfl rfl)
theorem dL_law_2695 : decode cL_law 2695 = .ok (.invokevirtual 286, 3) := dk_182 1 30 (dk_at dksL_law_107 12 rfl rfl)
theorem dL_law_2698 : decode cL_law 2698 = .ok (.if_icmp .eq 5, 3) := dk_159 0 5 (dk_at dksL_law_107 15 rfl rfl)
theorem dL_law_2701 : decode cL_law 2701 = .ok (.iconst 0, 1) := dk_3 (dk_at dksL_law_107 18 rfl rfl)
theorem dL_law_2702 : decode cL_law 2702 = .ok (.ireturn, 1) := dk_172 (dk_at dksL_law_107 19 rfl rfl)
theorem dL_law_2703 : decode cL_law 2703 = .ok (.iinc 4 6, 3) := dk_132 4 6 (dk_at dksL_law_107 20 rfl rfl)
theorem dL_law_2706 : decode cL_law 2706 = .ok (.goto (-2683), 3) := dk_167 245 133 (dk_at dksL_law_108 0 rfl rfl)
theorem dL_law_2709 : decode cL_law 2709 = .ok (.iconst 1, 1) := dk_4 (dk_at dksL_law_108 3 rfl rfl)
theorem dL_law_2710 : decode cL_law 2710 = .ok (.ireturn, 1) := dk_172 (dk_at dksL_law_108 4 rfl rfl)
