-- ===== PART A: goes FIRST, ahead of the names: the tables' words, and 'selects' of the private methods out of them =====
/-- a private method of a class that the tables say can be made, by its rows of tables_1 -/
def lw_okq (q : MethodName × Nat) : Prop := (q.1.cls ≠ "java/lang/invoke/MethodHandle" ∧ q.1.cls ≠ "java/lang/invoke/VarHandle") ∧ Cond.instantiable q.1.cls q.2 ∈ tables_1 ∧ Cond.privateMethod q.1 ∈ tables_1 ∧ Cond.instanceMethod q.1 ∈ tables_1
set_option maxRecDepth 100000
theorem lw_t1 {w : Cond} (h : w ∈ tables_1_1) : w ∈ tables_1 := List.mem_append_left _ h
theorem lw_t2 {w : Cond} (h : w ∈ tables_1_2) : w ∈ tables_1 := List.mem_append_right _ (List.mem_append_left _ h)
theorem lw_t3 {w : Cond} (h : w ∈ tables_1_3) : w ∈ tables_1 := List.mem_append_right _ (List.mem_append_right _ (List.mem_append_left _ h))
theorem lw_t4 {w : Cond} (h : w ∈ tables_1_4) : w ∈ tables_1 := List.mem_append_right _ (List.mem_append_right _ (List.mem_append_right _ (List.mem_append_left _ h)))
theorem lw_t5 {w : Cond} (h : w ∈ tables_1_5) : w ∈ tables_1 := List.mem_append_right _ (List.mem_append_right _ (List.mem_append_right _ (List.mem_append_right _ (List.mem_append_left _ h))))
theorem lw_t6 {w : Cond} (h : w ∈ tables_1_6) : w ∈ tables_1 := List.mem_append_right _ (List.mem_append_right _ (List.mem_append_right _ (List.mem_append_right _ (List.mem_append_right _ (List.mem_append_left _ h)))))
theorem lw_t7 {w : Cond} (h : w ∈ tables_1_7) : w ∈ tables_1 := List.mem_append_right _ (List.mem_append_right _ (List.mem_append_right _ (List.mem_append_right _ (List.mem_append_right _ (List.mem_append_right _ (List.mem_append_left _ h))))))
theorem lw_t8 {w : Cond} (h : w ∈ tables_1_8) : w ∈ tables_1 := List.mem_append_right _ (List.mem_append_right _ (List.mem_append_right _ (List.mem_append_right _ (List.mem_append_right _ (List.mem_append_right _ (List.mem_append_right _ (List.mem_append_left _ h)))))))
theorem lw_t9 {w : Cond} (h : w ∈ tables_1_9) : w ∈ tables_1 := List.mem_append_right _ (List.mem_append_right _ (List.mem_append_right _ (List.mem_append_right _ (List.mem_append_right _ (List.mem_append_right _ (List.mem_append_right _ (List.mem_append_right _ (List.mem_append_left _ h))))))))
theorem lw_t10 {w : Cond} (h : w ∈ tables_1_10) : w ∈ tables_1 := List.mem_append_right _ (List.mem_append_right _ (List.mem_append_right _ (List.mem_append_right _ (List.mem_append_right _ (List.mem_append_right _ (List.mem_append_right _ (List.mem_append_right _ (List.mem_append_right _ (List.mem_append_left _ h)))))))))
theorem lw_t11 {w : Cond} (h : w ∈ tables_1_11) : w ∈ tables_1 := List.mem_append_right _ (List.mem_append_right _ (List.mem_append_right _ (List.mem_append_right _ (List.mem_append_right _ (List.mem_append_right _ (List.mem_append_right _ (List.mem_append_right _ (List.mem_append_right _ (List.mem_append_right _ h)))))))))
theorem lw_p0 : lw_okq (⟨"CardCups", "asTold", "()LCardCups$How;"⟩, 17) := ⟨⟨by decide +kernel, by decide +kernel⟩, lw_t1 (List.mem_of_getElem? (i := 39) rfl), lw_t2 (List.mem_of_getElem? (i := 171) rfl), lw_t2 (List.mem_of_getElem? (i := 172) rfl)⟩
theorem lw_p1 : lw_okq (⟨"CardCups", "run", "(LCardCups$How;)LCardCups$Flow;"⟩, 17) := ⟨⟨by decide +kernel, by decide +kernel⟩, lw_t1 (List.mem_of_getElem? (i := 39) rfl), lw_t2 (List.mem_of_getElem? (i := 186) rfl), lw_t2 (List.mem_of_getElem? (i := 187) rfl)⟩
theorem lw_p2 : lw_okq (⟨"CardCups$Flow", "falls", "(I)V"⟩, 11) := ⟨⟨by decide +kernel, by decide +kernel⟩, lw_t1 (List.mem_of_getElem? (i := 78) rfl), lw_t2 (List.mem_of_getElem? (i := 232) rfl), lw_t2 (List.mem_of_getElem? (i := 233) rfl)⟩
theorem lw_p3 : lw_okq (⟨"CardCups$Flow", "last", "()I"⟩, 11) := ⟨⟨by decide +kernel, by decide +kernel⟩, lw_t1 (List.mem_of_getElem? (i := 78) rfl), lw_t2 (List.mem_of_getElem? (i := 236) rfl), lw_t2 (List.mem_of_getElem? (i := 237) rfl)⟩
theorem lw_p4 : lw_okq (⟨"CardCups$Flow", "turns", "()V"⟩, 11) := ⟨⟨by decide +kernel, by decide +kernel⟩, lw_t1 (List.mem_of_getElem? (i := 78) rfl), lw_t3 (List.mem_of_getElem? (i := 4) rfl), lw_t3 (List.mem_of_getElem? (i := 5) rfl)⟩
theorem lw_p5 : lw_okq (⟨"CardCups$Flow", "only", "(LCardCups$Book;LCardCups$Sight;)V"⟩, 11) := ⟨⟨by decide +kernel, by decide +kernel⟩, lw_t1 (List.mem_of_getElem? (i := 78) rfl), lw_t3 (List.mem_of_getElem? (i := 8) rfl), lw_t3 (List.mem_of_getElem? (i := 9) rfl)⟩
theorem lw_p6 : lw_okq (⟨"CardCups$Flow", "steps", "(LCardCups$Step;LCardCups$Sight;)V"⟩, 11) := ⟨⟨by decide +kernel, by decide +kernel⟩, lw_t1 (List.mem_of_getElem? (i := 78) rfl), lw_t3 (List.mem_of_getElem? (i := 36) rfl), lw_t3 (List.mem_of_getElem? (i := 37) rfl)⟩
theorem lw_p7 : lw_okq (⟨"CardCups$Turn", "turns", "(LCardCups$State;)V"⟩, 3) := ⟨⟨by decide +kernel, by decide +kernel⟩, lw_t3 (List.mem_of_getElem? (i := 153) rfl), lw_t3 (List.mem_of_getElem? (i := 151) rfl), lw_t3 (List.mem_of_getElem? (i := 152) rfl)⟩
theorem lw_p8 : lw_okq (⟨"CardCups$Flow", "ends", "(I)V"⟩, 11) := ⟨⟨by decide +kernel, by decide +kernel⟩, lw_t1 (List.mem_of_getElem? (i := 78) rfl), lw_t3 (List.mem_of_getElem? (i := 157) rfl), lw_t3 (List.mem_of_getElem? (i := 158) rfl)⟩
theorem lw_p9 : lw_okq (⟨"CardCups$Flow", "is", "(ILCardCups$State;LCardCups$Sight;)Z"⟩, 11) := ⟨⟨by decide +kernel, by decide +kernel⟩, lw_t1 (List.mem_of_getElem? (i := 78) rfl), lw_t3 (List.mem_of_getElem? (i := 171) rfl), lw_t3 (List.mem_of_getElem? (i := 172) rfl)⟩
theorem lw_p10 : lw_okq (⟨"CardCups", "starting", "(I)J"⟩, 17) := ⟨⟨by decide +kernel, by decide +kernel⟩, lw_t1 (List.mem_of_getElem? (i := 39) rfl), lw_t3 (List.mem_of_getElem? (i := 201) rfl), lw_t3 (List.mem_of_getElem? (i := 202) rfl)⟩
theorem lw_p11 : lw_okq (⟨"CardCups", "within", "(III)V"⟩, 17) := ⟨⟨by decide +kernel, by decide +kernel⟩, lw_t1 (List.mem_of_getElem? (i := 39) rfl), lw_t4 (List.mem_of_getElem? (i := 7) rfl), lw_t4 (List.mem_of_getElem? (i := 8) rfl)⟩
theorem lw_p12 : lw_okq (⟨"java/lang/Throwable", "fillInStackTrace", "(I)Ljava/lang/Throwable;"⟩, 6) := ⟨⟨by decide +kernel, by decide +kernel⟩, lw_t4 (List.mem_of_getElem? (i := 49) rfl), lw_t4 (List.mem_of_getElem? (i := 47) rfl), lw_t4 (List.mem_of_getElem? (i := 48) rfl)⟩
theorem lw_p13 : lw_okq (⟨"CardCups", "reader", "(I)LCardCups$Reader;"⟩, 17) := ⟨⟨by decide +kernel, by decide +kernel⟩, lw_t1 (List.mem_of_getElem? (i := 39) rfl), lw_t4 (List.mem_of_getElem? (i := 77) rfl), lw_t4 (List.mem_of_getElem? (i := 78) rfl)⟩
theorem lw_p14 : lw_okq (⟨"CardCups$Reader", "byteAt", "(I)I"⟩, 4) := ⟨⟨by decide +kernel, by decide +kernel⟩, lw_t4 (List.mem_of_getElem? (i := 81) rfl), lw_t4 (List.mem_of_getElem? (i := 145) rfl), lw_t4 (List.mem_of_getElem? (i := 146) rfl)⟩
theorem lw_p15 : lw_okq (⟨"CardCups$OfficeReader", "clause", "()V"⟩, 5) := ⟨⟨by decide +kernel, by decide +kernel⟩, lw_t4 (List.mem_of_getElem? (i := 75) rfl), lw_t4 (List.mem_of_getElem? (i := 149) rfl), lw_t4 (List.mem_of_getElem? (i := 150) rfl)⟩
def lw_privs_1 : List (MethodName × Nat) := [(⟨"CardCups", "asTold", "()LCardCups$How;"⟩, 17), (⟨"CardCups", "run", "(LCardCups$How;)LCardCups$Flow;"⟩, 17), (⟨"CardCups$Flow", "falls", "(I)V"⟩, 11), (⟨"CardCups$Flow", "last", "()I"⟩, 11), (⟨"CardCups$Flow", "turns", "()V"⟩, 11), (⟨"CardCups$Flow", "only", "(LCardCups$Book;LCardCups$Sight;)V"⟩, 11), (⟨"CardCups$Flow", "steps", "(LCardCups$Step;LCardCups$Sight;)V"⟩, 11), (⟨"CardCups$Turn", "turns", "(LCardCups$State;)V"⟩, 3), (⟨"CardCups$Flow", "ends", "(I)V"⟩, 11), (⟨"CardCups$Flow", "is", "(ILCardCups$State;LCardCups$Sight;)Z"⟩, 11), (⟨"CardCups", "starting", "(I)J"⟩, 17), (⟨"CardCups", "within", "(III)V"⟩, 17), (⟨"java/lang/Throwable", "fillInStackTrace", "(I)Ljava/lang/Throwable;"⟩, 6), (⟨"CardCups", "reader", "(I)LCardCups$Reader;"⟩, 17), (⟨"CardCups$Reader", "byteAt", "(I)I"⟩, 4), (⟨"CardCups$OfficeReader", "clause", "()V"⟩, 5)]
theorem lw_r1 : ∀ q ∈ lw_privs_1, lw_okq q := List.forall_mem_cons.mpr ⟨lw_p0, List.forall_mem_cons.mpr ⟨lw_p1, List.forall_mem_cons.mpr ⟨lw_p2, List.forall_mem_cons.mpr ⟨lw_p3, List.forall_mem_cons.mpr ⟨lw_p4, List.forall_mem_cons.mpr ⟨lw_p5, List.forall_mem_cons.mpr ⟨lw_p6, List.forall_mem_cons.mpr ⟨lw_p7, List.forall_mem_cons.mpr ⟨lw_p8, List.forall_mem_cons.mpr ⟨lw_p9, List.forall_mem_cons.mpr ⟨lw_p10, List.forall_mem_cons.mpr ⟨lw_p11, List.forall_mem_cons.mpr ⟨lw_p12, List.forall_mem_cons.mpr ⟨lw_p13, List.forall_mem_cons.mpr ⟨lw_p14, List.forall_mem_cons.mpr ⟨lw_p15, fun _ h => absurd h List.not_mem_nil⟩⟩⟩⟩⟩⟩⟩⟩⟩⟩⟩⟩⟩⟩⟩⟩
theorem lw_p16 : lw_okq (⟨"CardCups", "faulty", "(LCardCups$Wrong;)I"⟩, 17) := ⟨⟨by decide +kernel, by decide +kernel⟩, lw_t1 (List.mem_of_getElem? (i := 39) rfl), lw_t5 (List.mem_of_getElem? (i := 29) rfl), lw_t5 (List.mem_of_getElem? (i := 30) rfl)⟩
theorem lw_p17 : lw_okq (⟨"CardCups", "personOf", "(I)V"⟩, 17) := ⟨⟨by decide +kernel, by decide +kernel⟩, lw_t1 (List.mem_of_getElem? (i := 39) rfl), lw_t5 (List.mem_of_getElem? (i := 41) rfl), lw_t5 (List.mem_of_getElem? (i := 42) rfl)⟩
theorem lw_p18 : lw_okq (⟨"CardCups", "isThere", "(II)V"⟩, 17) := ⟨⟨by decide +kernel, by decide +kernel⟩, lw_t1 (List.mem_of_getElem? (i := 39) rfl), lw_t5 (List.mem_of_getElem? (i := 45) rfl), lw_t5 (List.mem_of_getElem? (i := 46) rfl)⟩
theorem lw_p19 : lw_okq (⟨"CardCups$HabitReader", "any", "()LCardCups$Term;"⟩, 3) := ⟨⟨by decide +kernel, by decide +kernel⟩, lw_t5 (List.mem_of_getElem? (i := 65) rfl), lw_t5 (List.mem_of_getElem? (i := 136) rfl), lw_t5 (List.mem_of_getElem? (i := 137) rfl)⟩
theorem lw_p20 : lw_okq (⟨"CardCups$HabitReader", "each", "()LCardCups$Term;"⟩, 3) := ⟨⟨by decide +kernel, by decide +kernel⟩, lw_t5 (List.mem_of_getElem? (i := 65) rfl), lw_t5 (List.mem_of_getElem? (i := 140) rfl), lw_t5 (List.mem_of_getElem? (i := 141) rfl)⟩
theorem lw_p21 : lw_okq (⟨"CardCups$HabitReader", "one", "()LCardCups$Term;"⟩, 3) := ⟨⟨by decide +kernel, by decide +kernel⟩, lw_t5 (List.mem_of_getElem? (i := 65) rfl), lw_t5 (List.mem_of_getElem? (i := 144) rfl), lw_t5 (List.mem_of_getElem? (i := 145) rfl)⟩
theorem lw_p22 : lw_okq (⟨"CardCups$HabitReader", "sum", "()LCardCups$Term;"⟩, 3) := ⟨⟨by decide +kernel, by decide +kernel⟩, lw_t5 (List.mem_of_getElem? (i := 65) rfl), lw_t5 (List.mem_of_getElem? (i := 169) rfl), lw_t5 (List.mem_of_getElem? (i := 170) rfl)⟩
theorem lw_p23 : lw_okq (⟨"CardCups$HabitReader", "product", "()LCardCups$Term;"⟩, 3) := ⟨⟨by decide +kernel, by decide +kernel⟩, lw_t5 (List.mem_of_getElem? (i := 65) rfl), lw_t5 (List.mem_of_getElem? (i := 173) rfl), lw_t5 (List.mem_of_getElem? (i := 174) rfl)⟩
theorem lw_p24 : lw_okq (⟨"CardCups$HabitReader", "value", "()LCardCups$Term;"⟩, 3) := ⟨⟨by decide +kernel, by decide +kernel⟩, lw_t5 (List.mem_of_getElem? (i := 65) rfl), lw_t5 (List.mem_of_getElem? (i := 177) rfl), lw_t5 (List.mem_of_getElem? (i := 178) rfl)⟩
theorem lw_p25 : lw_okq (⟨"CardCups", "line", "(LCardCups$Reader;LCardCups$Book;)V"⟩, 17) := ⟨⟨by decide +kernel, by decide +kernel⟩, lw_t1 (List.mem_of_getElem? (i := 39) rfl), lw_t6 (List.mem_of_getElem? (i := 64) rfl), lw_t6 (List.mem_of_getElem? (i := 65) rfl)⟩
theorem lw_p26 : lw_okq (⟨"CardCups", "visitOf", "(I)V"⟩, 17) := ⟨⟨by decide +kernel, by decide +kernel⟩, lw_t1 (List.mem_of_getElem? (i := 39) rfl), lw_t6 (List.mem_of_getElem? (i := 90) rfl), lw_t6 (List.mem_of_getElem? (i := 91) rfl)⟩
theorem lw_p27 : lw_okq (⟨"CardCups", "partOf", "(I)V"⟩, 17) := ⟨⟨by decide +kernel, by decide +kernel⟩, lw_t1 (List.mem_of_getElem? (i := 39) rfl), lw_t6 (List.mem_of_getElem? (i := 162) rfl), lw_t6 (List.mem_of_getElem? (i := 163) rfl)⟩
theorem lw_p28 : lw_okq (⟨"CardCups", "begun", "(I)LCardCups$Flow;"⟩, 17) := ⟨⟨by decide +kernel, by decide +kernel⟩, lw_t1 (List.mem_of_getElem? (i := 39) rfl), lw_t6 (List.mem_of_getElem? (i := 224) rfl), lw_t6 (List.mem_of_getElem? (i := 225) rfl)⟩
theorem lw_p29 : lw_okq (⟨"CardCups$Flow", "taking", "(I)J"⟩, 11) := ⟨⟨by decide +kernel, by decide +kernel⟩, lw_t1 (List.mem_of_getElem? (i := 78) rfl), lw_t7 (List.mem_of_getElem? (i := 3) rfl), lw_t7 (List.mem_of_getElem? (i := 4) rfl)⟩
theorem lw_p30 : lw_okq (⟨"CardCups$Flow", "partsOf", "(II)J"⟩, 11) := ⟨⟨by decide +kernel, by decide +kernel⟩, lw_t1 (List.mem_of_getElem? (i := 78) rfl), lw_t7 (List.mem_of_getElem? (i := 7) rfl), lw_t7 (List.mem_of_getElem? (i := 8) rfl)⟩
theorem lw_p31 : lw_okq (⟨"CardCups$Flow", "seeing", "(JLCardCups$State;)J"⟩, 11) := ⟨⟨by decide +kernel, by decide +kernel⟩, lw_t1 (List.mem_of_getElem? (i := 78) rfl), lw_t7 (List.mem_of_getElem? (i := 11) rfl), lw_t7 (List.mem_of_getElem? (i := 12) rfl)⟩
def lw_privs_2 : List (MethodName × Nat) := [(⟨"CardCups", "faulty", "(LCardCups$Wrong;)I"⟩, 17), (⟨"CardCups", "personOf", "(I)V"⟩, 17), (⟨"CardCups", "isThere", "(II)V"⟩, 17), (⟨"CardCups$HabitReader", "any", "()LCardCups$Term;"⟩, 3), (⟨"CardCups$HabitReader", "each", "()LCardCups$Term;"⟩, 3), (⟨"CardCups$HabitReader", "one", "()LCardCups$Term;"⟩, 3), (⟨"CardCups$HabitReader", "sum", "()LCardCups$Term;"⟩, 3), (⟨"CardCups$HabitReader", "product", "()LCardCups$Term;"⟩, 3), (⟨"CardCups$HabitReader", "value", "()LCardCups$Term;"⟩, 3), (⟨"CardCups", "line", "(LCardCups$Reader;LCardCups$Book;)V"⟩, 17), (⟨"CardCups", "visitOf", "(I)V"⟩, 17), (⟨"CardCups", "partOf", "(I)V"⟩, 17), (⟨"CardCups", "begun", "(I)LCardCups$Flow;"⟩, 17), (⟨"CardCups$Flow", "taking", "(I)J"⟩, 11), (⟨"CardCups$Flow", "partsOf", "(II)J"⟩, 11), (⟨"CardCups$Flow", "seeing", "(JLCardCups$State;)J"⟩, 11)]
theorem lw_r2 : ∀ q ∈ lw_privs_2, lw_okq q := List.forall_mem_cons.mpr ⟨lw_p16, List.forall_mem_cons.mpr ⟨lw_p17, List.forall_mem_cons.mpr ⟨lw_p18, List.forall_mem_cons.mpr ⟨lw_p19, List.forall_mem_cons.mpr ⟨lw_p20, List.forall_mem_cons.mpr ⟨lw_p21, List.forall_mem_cons.mpr ⟨lw_p22, List.forall_mem_cons.mpr ⟨lw_p23, List.forall_mem_cons.mpr ⟨lw_p24, List.forall_mem_cons.mpr ⟨lw_p25, List.forall_mem_cons.mpr ⟨lw_p26, List.forall_mem_cons.mpr ⟨lw_p27, List.forall_mem_cons.mpr ⟨lw_p28, List.forall_mem_cons.mpr ⟨lw_p29, List.forall_mem_cons.mpr ⟨lw_p30, List.forall_mem_cons.mpr ⟨lw_p31, fun _ h => absurd h List.not_mem_nil⟩⟩⟩⟩⟩⟩⟩⟩⟩⟩⟩⟩⟩⟩⟩⟩
theorem lw_p32 : lw_okq (⟨"CardCups$Flow", "owning", "(I)J"⟩, 11) := ⟨⟨by decide +kernel, by decide +kernel⟩, lw_t1 (List.mem_of_getElem? (i := 78) rfl), lw_t7 (List.mem_of_getElem? (i := 15) rfl), lw_t7 (List.mem_of_getElem? (i := 16) rfl)⟩
theorem lw_p33 : lw_okq (⟨"CardCups", "drawn", "(II)LCardCups$Day;"⟩, 17) := ⟨⟨by decide +kernel, by decide +kernel⟩, lw_t1 (List.mem_of_getElem? (i := 39) rfl), lw_t7 (List.mem_of_getElem? (i := 94) rfl), lw_t7 (List.mem_of_getElem? (i := 95) rfl)⟩
theorem lw_p34 : lw_okq (⟨"CardCups", "changes", "()V"⟩, 17) := ⟨⟨by decide +kernel, by decide +kernel⟩, lw_t1 (List.mem_of_getElem? (i := 39) rfl), lw_t7 (List.mem_of_getElem? (i := 165) rfl), lw_t7 (List.mem_of_getElem? (i := 166) rfl)⟩
theorem lw_p35 : lw_okq (⟨"CardCupsModel", "clears", "()V"⟩, 65) := ⟨⟨by decide +kernel, by decide +kernel⟩, lw_t7 (List.mem_of_getElem? (i := 199) rfl), lw_t7 (List.mem_of_getElem? (i := 205) rfl), lw_t7 (List.mem_of_getElem? (i := 206) rfl)⟩
theorem lw_p36 : lw_okq (⟨"CardCupsModel", "sets", "()V"⟩, 65) := ⟨⟨by decide +kernel, by decide +kernel⟩, lw_t7 (List.mem_of_getElem? (i := 199) rfl), lw_t7 (List.mem_of_getElem? (i := 209) rfl), lw_t7 (List.mem_of_getElem? (i := 210) rfl)⟩
theorem lw_p37 : lw_okq (⟨"CardCupsModel", "copies", "([I[II)V"⟩, 65) := ⟨⟨by decide +kernel, by decide +kernel⟩, lw_t7 (List.mem_of_getElem? (i := 199) rfl), lw_t7 (List.mem_of_getElem? (i := 213) rfl), lw_t7 (List.mem_of_getElem? (i := 214) rfl)⟩
theorem lw_p38 : lw_okq (⟨"CardCupsModel", "may", "(ZII)Z"⟩, 65) := ⟨⟨by decide +kernel, by decide +kernel⟩, lw_t7 (List.mem_of_getElem? (i := 199) rfl), lw_t8 (List.mem_of_getElem? (i := 185) rfl), lw_t8 (List.mem_of_getElem? (i := 186) rfl)⟩
theorem lw_p39 : lw_okq (⟨"CardCupsModel", "begins", "(I)V"⟩, 65) := ⟨⟨by decide +kernel, by decide +kernel⟩, lw_t7 (List.mem_of_getElem? (i := 199) rfl), lw_t8 (List.mem_of_getElem? (i := 189) rfl), lw_t8 (List.mem_of_getElem? (i := 190) rfl)⟩
theorem lw_p40 : lw_okq (⟨"CardCupsModel", "fine", "()Z"⟩, 65) := ⟨⟨by decide +kernel, by decide +kernel⟩, lw_t7 (List.mem_of_getElem? (i := 199) rfl), lw_t8 (List.mem_of_getElem? (i := 193) rfl), lw_t8 (List.mem_of_getElem? (i := 194) rfl)⟩
theorem lw_p41 : lw_okq (⟨"CardCupsModel", "isMore", "()Z"⟩, 65) := ⟨⟨by decide +kernel, by decide +kernel⟩, lw_t7 (List.mem_of_getElem? (i := 199) rfl), lw_t8 (List.mem_of_getElem? (i := 197) rfl), lw_t8 (List.mem_of_getElem? (i := 198) rfl)⟩
theorem lw_p42 : lw_okq (⟨"CardCupsModel", "here", "()I"⟩, 65) := ⟨⟨by decide +kernel, by decide +kernel⟩, lw_t7 (List.mem_of_getElem? (i := 199) rfl), lw_t8 (List.mem_of_getElem? (i := 201) rfl), lw_t8 (List.mem_of_getElem? (i := 202) rfl)⟩
theorem lw_p43 : lw_okq (⟨"CardCupsModel", "clauseHere", "()I"⟩, 65) := ⟨⟨by decide +kernel, by decide +kernel⟩, lw_t7 (List.mem_of_getElem? (i := 199) rfl), lw_t8 (List.mem_of_getElem? (i := 205) rfl), lw_t8 (List.mem_of_getElem? (i := 206) rfl)⟩
theorem lw_p44 : lw_okq (⟨"CardCupsModel", "standsHere", "(Ljava/lang/String;)Z"⟩, 65) := ⟨⟨by decide +kernel, by decide +kernel⟩, lw_t7 (List.mem_of_getElem? (i := 199) rfl), lw_t8 (List.mem_of_getElem? (i := 210) rfl), lw_t8 (List.mem_of_getElem? (i := 211) rfl)⟩
theorem lw_p45 : lw_okq (⟨"CardCupsModel", "word", "()I"⟩, 65) := ⟨⟨by decide +kernel, by decide +kernel⟩, lw_t7 (List.mem_of_getElem? (i := 199) rfl), lw_t8 (List.mem_of_getElem? (i := 219) rfl), lw_t8 (List.mem_of_getElem? (i := 220) rfl)⟩
theorem lw_p46 : lw_okq (⟨"CardCupsModel", "wrong", "(II)V"⟩, 65) := ⟨⟨by decide +kernel, by decide +kernel⟩, lw_t7 (List.mem_of_getElem? (i := 199) rfl), lw_t8 (List.mem_of_getElem? (i := 234) rfl), lw_t8 (List.mem_of_getElem? (i := 235) rfl)⟩
theorem lw_p47 : lw_okq (⟨"CardCupsModel", "pass", "()V"⟩, 65) := ⟨⟨by decide +kernel, by decide +kernel⟩, lw_t7 (List.mem_of_getElem? (i := 199) rfl), lw_t8 (List.mem_of_getElem? (i := 238) rfl), lw_t8 (List.mem_of_getElem? (i := 239) rfl)⟩
def lw_privs_3 : List (MethodName × Nat) := [(⟨"CardCups$Flow", "owning", "(I)J"⟩, 11), (⟨"CardCups", "drawn", "(II)LCardCups$Day;"⟩, 17), (⟨"CardCups", "changes", "()V"⟩, 17), (⟨"CardCupsModel", "clears", "()V"⟩, 65), (⟨"CardCupsModel", "sets", "()V"⟩, 65), (⟨"CardCupsModel", "copies", "([I[II)V"⟩, 65), (⟨"CardCupsModel", "may", "(ZII)Z"⟩, 65), (⟨"CardCupsModel", "begins", "(I)V"⟩, 65), (⟨"CardCupsModel", "fine", "()Z"⟩, 65), (⟨"CardCupsModel", "isMore", "()Z"⟩, 65), (⟨"CardCupsModel", "here", "()I"⟩, 65), (⟨"CardCupsModel", "clauseHere", "()I"⟩, 65), (⟨"CardCupsModel", "standsHere", "(Ljava/lang/String;)Z"⟩, 65), (⟨"CardCupsModel", "word", "()I"⟩, 65), (⟨"CardCupsModel", "wrong", "(II)V"⟩, 65), (⟨"CardCupsModel", "pass", "()V"⟩, 65)]
theorem lw_r3 : ∀ q ∈ lw_privs_3, lw_okq q := List.forall_mem_cons.mpr ⟨lw_p32, List.forall_mem_cons.mpr ⟨lw_p33, List.forall_mem_cons.mpr ⟨lw_p34, List.forall_mem_cons.mpr ⟨lw_p35, List.forall_mem_cons.mpr ⟨lw_p36, List.forall_mem_cons.mpr ⟨lw_p37, List.forall_mem_cons.mpr ⟨lw_p38, List.forall_mem_cons.mpr ⟨lw_p39, List.forall_mem_cons.mpr ⟨lw_p40, List.forall_mem_cons.mpr ⟨lw_p41, List.forall_mem_cons.mpr ⟨lw_p42, List.forall_mem_cons.mpr ⟨lw_p43, List.forall_mem_cons.mpr ⟨lw_p44, List.forall_mem_cons.mpr ⟨lw_p45, List.forall_mem_cons.mpr ⟨lw_p46, List.forall_mem_cons.mpr ⟨lw_p47, fun _ h => absurd h List.not_mem_nil⟩⟩⟩⟩⟩⟩⟩⟩⟩⟩⟩⟩⟩⟩⟩⟩
theorem lw_p48 : lw_okq (⟨"CardCupsModel", "readClause", "(I)V"⟩, 65) := ⟨⟨by decide +kernel, by decide +kernel⟩, lw_t7 (List.mem_of_getElem? (i := 199) rfl), lw_t9 (List.mem_of_getElem? (i := 2) rfl), lw_t9 (List.mem_of_getElem? (i := 3) rfl)⟩
theorem lw_p49 : lw_okq (⟨"CardCupsModel", "readNumber", "(II)I"⟩, 65) := ⟨⟨by decide +kernel, by decide +kernel⟩, lw_t7 (List.mem_of_getElem? (i := 199) rfl), lw_t9 (List.mem_of_getElem? (i := 6) rfl), lw_t9 (List.mem_of_getElem? (i := 7) rfl)⟩
theorem lw_p50 : lw_okq (⟨"CardCupsModel", "puts", "([I[IIII)I"⟩, 65) := ⟨⟨by decide +kernel, by decide +kernel⟩, lw_t7 (List.mem_of_getElem? (i := 199) rfl), lw_t9 (List.mem_of_getElem? (i := 13) rfl), lw_t9 (List.mem_of_getElem? (i := 14) rfl)⟩
theorem lw_p51 : lw_okq (⟨"CardCupsModel", "sign", "(I)V"⟩, 65) := ⟨⟨by decide +kernel, by decide +kernel⟩, lw_t7 (List.mem_of_getElem? (i := 199) rfl), lw_t9 (List.mem_of_getElem? (i := 17) rfl), lw_t9 (List.mem_of_getElem? (i := 18) rfl)⟩
theorem lw_p52 : lw_okq (⟨"CardCupsModel", "result", "(I)I"⟩, 65) := ⟨⟨by decide +kernel, by decide +kernel⟩, lw_t7 (List.mem_of_getElem? (i := 199) rfl), lw_t9 (List.mem_of_getElem? (i := 21) rfl), lw_t9 (List.mem_of_getElem? (i := 22) rfl)⟩
theorem lw_p53 : lw_okq (⟨"CardCupsModel", "isPerson", "(II)Z"⟩, 65) := ⟨⟨by decide +kernel, by decide +kernel⟩, lw_t7 (List.mem_of_getElem? (i := 199) rfl), lw_t9 (List.mem_of_getElem? (i := 29) rfl), lw_t9 (List.mem_of_getElem? (i := 30) rfl)⟩
theorem lw_p54 : lw_okq (⟨"CardCupsModel", "isTold", "(I)Z"⟩, 65) := ⟨⟨by decide +kernel, by decide +kernel⟩, lw_t7 (List.mem_of_getElem? (i := 199) rfl), lw_t9 (List.mem_of_getElem? (i := 36) rfl), lw_t9 (List.mem_of_getElem? (i := 37) rfl)⟩
theorem lw_p55 : lw_okq (⟨"CardCupsModel", "readHabit", "(II)I"⟩, 65) := ⟨⟨by decide +kernel, by decide +kernel⟩, lw_t7 (List.mem_of_getElem? (i := 199) rfl), lw_t9 (List.mem_of_getElem? (i := 40) rfl), lw_t9 (List.mem_of_getElem? (i := 41) rfl)⟩
theorem lw_p56 : lw_okq (⟨"CardCupsModel", "readStep", "()V"⟩, 65) := ⟨⟨by decide +kernel, by decide +kernel⟩, lw_t7 (List.mem_of_getElem? (i := 199) rfl), lw_t9 (List.mem_of_getElem? (i := 44) rfl), lw_t9 (List.mem_of_getElem? (i := 45) rfl)⟩
theorem lw_p57 : lw_okq (⟨"CardCupsModel", "readAny", "()V"⟩, 65) := ⟨⟨by decide +kernel, by decide +kernel⟩, lw_t7 (List.mem_of_getElem? (i := 199) rfl), lw_t9 (List.mem_of_getElem? (i := 61) rfl), lw_t9 (List.mem_of_getElem? (i := 62) rfl)⟩
theorem lw_p58 : lw_okq (⟨"CardCupsModel", "readAll", "()V"⟩, 65) := ⟨⟨by decide +kernel, by decide +kernel⟩, lw_t7 (List.mem_of_getElem? (i := 199) rfl), lw_t9 (List.mem_of_getElem? (i := 65) rfl), lw_t9 (List.mem_of_getElem? (i := 66) rfl)⟩
theorem lw_p59 : lw_okq (⟨"CardCupsModel", "readOne", "()V"⟩, 65) := ⟨⟨by decide +kernel, by decide +kernel⟩, lw_t7 (List.mem_of_getElem? (i := 199) rfl), lw_t9 (List.mem_of_getElem? (i := 69) rfl), lw_t9 (List.mem_of_getElem? (i := 70) rfl)⟩
theorem lw_p60 : lw_okq (⟨"CardCupsModel", "opensOne", "(I)V"⟩, 65) := ⟨⟨by decide +kernel, by decide +kernel⟩, lw_t7 (List.mem_of_getElem? (i := 199) rfl), lw_t9 (List.mem_of_getElem? (i := 73) rfl), lw_t9 (List.mem_of_getElem? (i := 74) rfl)⟩
theorem lw_p61 : lw_okq (⟨"CardCupsModel", "emit", "(II)V"⟩, 65) := ⟨⟨by decide +kernel, by decide +kernel⟩, lw_t7 (List.mem_of_getElem? (i := 199) rfl), lw_t9 (List.mem_of_getElem? (i := 78) rfl), lw_t9 (List.mem_of_getElem? (i := 79) rfl)⟩
theorem lw_p62 : lw_okq (⟨"CardCupsModel", "readSum", "()V"⟩, 65) := ⟨⟨by decide +kernel, by decide +kernel⟩, lw_t7 (List.mem_of_getElem? (i := 199) rfl), lw_t9 (List.mem_of_getElem? (i := 82) rfl), lw_t9 (List.mem_of_getElem? (i := 83) rfl)⟩
theorem lw_p63 : lw_okq (⟨"CardCupsModel", "readProduct", "()V"⟩, 65) := ⟨⟨by decide +kernel, by decide +kernel⟩, lw_t7 (List.mem_of_getElem? (i := 199) rfl), lw_t9 (List.mem_of_getElem? (i := 86) rfl), lw_t9 (List.mem_of_getElem? (i := 87) rfl)⟩
def lw_privs_4 : List (MethodName × Nat) := [(⟨"CardCupsModel", "readClause", "(I)V"⟩, 65), (⟨"CardCupsModel", "readNumber", "(II)I"⟩, 65), (⟨"CardCupsModel", "puts", "([I[IIII)I"⟩, 65), (⟨"CardCupsModel", "sign", "(I)V"⟩, 65), (⟨"CardCupsModel", "result", "(I)I"⟩, 65), (⟨"CardCupsModel", "isPerson", "(II)Z"⟩, 65), (⟨"CardCupsModel", "isTold", "(I)Z"⟩, 65), (⟨"CardCupsModel", "readHabit", "(II)I"⟩, 65), (⟨"CardCupsModel", "readStep", "()V"⟩, 65), (⟨"CardCupsModel", "readAny", "()V"⟩, 65), (⟨"CardCupsModel", "readAll", "()V"⟩, 65), (⟨"CardCupsModel", "readOne", "()V"⟩, 65), (⟨"CardCupsModel", "opensOne", "(I)V"⟩, 65), (⟨"CardCupsModel", "emit", "(II)V"⟩, 65), (⟨"CardCupsModel", "readSum", "()V"⟩, 65), (⟨"CardCupsModel", "readProduct", "()V"⟩, 65)]
theorem lw_r4 : ∀ q ∈ lw_privs_4, lw_okq q := List.forall_mem_cons.mpr ⟨lw_p48, List.forall_mem_cons.mpr ⟨lw_p49, List.forall_mem_cons.mpr ⟨lw_p50, List.forall_mem_cons.mpr ⟨lw_p51, List.forall_mem_cons.mpr ⟨lw_p52, List.forall_mem_cons.mpr ⟨lw_p53, List.forall_mem_cons.mpr ⟨lw_p54, List.forall_mem_cons.mpr ⟨lw_p55, List.forall_mem_cons.mpr ⟨lw_p56, List.forall_mem_cons.mpr ⟨lw_p57, List.forall_mem_cons.mpr ⟨lw_p58, List.forall_mem_cons.mpr ⟨lw_p59, List.forall_mem_cons.mpr ⟨lw_p60, List.forall_mem_cons.mpr ⟨lw_p61, List.forall_mem_cons.mpr ⟨lw_p62, List.forall_mem_cons.mpr ⟨lw_p63, fun _ h => absurd h List.not_mem_nil⟩⟩⟩⟩⟩⟩⟩⟩⟩⟩⟩⟩⟩⟩⟩⟩
theorem lw_p64 : lw_okq (⟨"CardCupsModel", "readUnit", "()V"⟩, 65) := ⟨⟨by decide +kernel, by decide +kernel⟩, lw_t7 (List.mem_of_getElem? (i := 199) rfl), lw_t9 (List.mem_of_getElem? (i := 90) rfl), lw_t9 (List.mem_of_getElem? (i := 91) rfl)⟩
theorem lw_p65 : lw_okq (⟨"CardCupsModel", "isVisit", "(II)Z"⟩, 65) := ⟨⟨by decide +kernel, by decide +kernel⟩, lw_t7 (List.mem_of_getElem? (i := 199) rfl), lw_t9 (List.mem_of_getElem? (i := 121) rfl), lw_t9 (List.mem_of_getElem? (i := 122) rfl)⟩
theorem lw_p66 : lw_okq (⟨"CardCupsModel", "whichOf", "(I)I"⟩, 65) := ⟨⟨by decide +kernel, by decide +kernel⟩, lw_t7 (List.mem_of_getElem? (i := 199) rfl), lw_t9 (List.mem_of_getElem? (i := 125) rfl), lw_t9 (List.mem_of_getElem? (i := 126) rfl)⟩
theorem lw_p67 : lw_okq (⟨"CardCupsModel", "sinceOf", "(I)I"⟩, 65) := ⟨⟨by decide +kernel, by decide +kernel⟩, lw_t7 (List.mem_of_getElem? (i := 199) rfl), lw_t9 (List.mem_of_getElem? (i := 129) rfl), lw_t9 (List.mem_of_getElem? (i := 130) rfl)⟩
theorem lw_p68 : lw_okq (⟨"CardCupsModel", "plain", "()V"⟩, 65) := ⟨⟨by decide +kernel, by decide +kernel⟩, lw_t7 (List.mem_of_getElem? (i := 199) rfl), lw_t9 (List.mem_of_getElem? (i := 145) rfl), lw_t9 (List.mem_of_getElem? (i := 146) rfl)⟩
theorem lw_p69 : lw_okq (⟨"CardCupsModel", "goes", "(I)V"⟩, 65) := ⟨⟨by decide +kernel, by decide +kernel⟩, lw_t7 (List.mem_of_getElem? (i := 199) rfl), lw_t9 (List.mem_of_getElem? (i := 149) rfl), lw_t9 (List.mem_of_getElem? (i := 150) rfl)⟩
theorem lw_p70 : lw_okq (⟨"CardCupsModel", "begin", "()V"⟩, 65) := ⟨⟨by decide +kernel, by decide +kernel⟩, lw_t7 (List.mem_of_getElem? (i := 199) rfl), lw_t9 (List.mem_of_getElem? (i := 153) rfl), lw_t9 (List.mem_of_getElem? (i := 154) rfl)⟩
theorem lw_p71 : lw_okq (⟨"CardCupsModel", "comes", "(I)V"⟩, 65) := ⟨⟨by decide +kernel, by decide +kernel⟩, lw_t7 (List.mem_of_getElem? (i := 199) rfl), lw_t9 (List.mem_of_getElem? (i := 161) rfl), lw_t9 (List.mem_of_getElem? (i := 162) rfl)⟩
theorem lw_p72 : lw_okq (⟨"CardCupsModel", "falls", "()V"⟩, 65) := ⟨⟨by decide +kernel, by decide +kernel⟩, lw_t7 (List.mem_of_getElem? (i := 199) rfl), lw_t9 (List.mem_of_getElem? (i := 165) rfl), lw_t9 (List.mem_of_getElem? (i := 166) rfl)⟩
theorem lw_p73 : lw_okq (⟨"CardCupsModel", "stateOf", "(I)V"⟩, 65) := ⟨⟨by decide +kernel, by decide +kernel⟩, lw_t7 (List.mem_of_getElem? (i := 199) rfl), lw_t9 (List.mem_of_getElem? (i := 169) rfl), lw_t9 (List.mem_of_getElem? (i := 170) rfl)⟩
theorem lw_p74 : lw_okq (⟨"CardCupsModel", "gives", "(IJ)V"⟩, 65) := ⟨⟨by decide +kernel, by decide +kernel⟩, lw_t7 (List.mem_of_getElem? (i := 199) rfl), lw_t9 (List.mem_of_getElem? (i := 174) rfl), lw_t9 (List.mem_of_getElem? (i := 175) rfl)⟩
theorem lw_p75 : lw_okq (⟨"CardCupsModel", "takesNext", "()V"⟩, 65) := ⟨⟨by decide +kernel, by decide +kernel⟩, lw_t7 (List.mem_of_getElem? (i := 199) rfl), lw_t9 (List.mem_of_getElem? (i := 178) rfl), lw_t9 (List.mem_of_getElem? (i := 179) rfl)⟩
theorem lw_p76 : lw_okq (⟨"CardCupsModel", "keepsBook", "(I)V"⟩, 65) := ⟨⟨by decide +kernel, by decide +kernel⟩, lw_t7 (List.mem_of_getElem? (i := 199) rfl), lw_t9 (List.mem_of_getElem? (i := 182) rfl), lw_t9 (List.mem_of_getElem? (i := 183) rfl)⟩
theorem lw_p77 : lw_okq (⟨"CardCupsModel", "isLine", "(II)Z"⟩, 65) := ⟨⟨by decide +kernel, by decide +kernel⟩, lw_t7 (List.mem_of_getElem? (i := 199) rfl), lw_t9 (List.mem_of_getElem? (i := 186) rfl), lw_t9 (List.mem_of_getElem? (i := 187) rfl)⟩
theorem lw_p78 : lw_okq (⟨"CardCupsModel", "isWarm", "(I)Z"⟩, 65) := ⟨⟨by decide +kernel, by decide +kernel⟩, lw_t7 (List.mem_of_getElem? (i := 199) rfl), lw_t9 (List.mem_of_getElem? (i := 190) rfl), lw_t9 (List.mem_of_getElem? (i := 191) rfl)⟩
theorem lw_p79 : lw_okq (⟨"CardCupsModel", "habitOf", "(I)I"⟩, 65) := ⟨⟨by decide +kernel, by decide +kernel⟩, lw_t7 (List.mem_of_getElem? (i := 199) rfl), lw_t9 (List.mem_of_getElem? (i := 194) rfl), lw_t9 (List.mem_of_getElem? (i := 195) rfl)⟩
def lw_privs_5 : List (MethodName × Nat) := [(⟨"CardCupsModel", "readUnit", "()V"⟩, 65), (⟨"CardCupsModel", "isVisit", "(II)Z"⟩, 65), (⟨"CardCupsModel", "whichOf", "(I)I"⟩, 65), (⟨"CardCupsModel", "sinceOf", "(I)I"⟩, 65), (⟨"CardCupsModel", "plain", "()V"⟩, 65), (⟨"CardCupsModel", "goes", "(I)V"⟩, 65), (⟨"CardCupsModel", "begin", "()V"⟩, 65), (⟨"CardCupsModel", "comes", "(I)V"⟩, 65), (⟨"CardCupsModel", "falls", "()V"⟩, 65), (⟨"CardCupsModel", "stateOf", "(I)V"⟩, 65), (⟨"CardCupsModel", "gives", "(IJ)V"⟩, 65), (⟨"CardCupsModel", "takesNext", "()V"⟩, 65), (⟨"CardCupsModel", "keepsBook", "(I)V"⟩, 65), (⟨"CardCupsModel", "isLine", "(II)Z"⟩, 65), (⟨"CardCupsModel", "isWarm", "(I)Z"⟩, 65), (⟨"CardCupsModel", "habitOf", "(I)I"⟩, 65)]
theorem lw_r5 : ∀ q ∈ lw_privs_5, lw_okq q := List.forall_mem_cons.mpr ⟨lw_p64, List.forall_mem_cons.mpr ⟨lw_p65, List.forall_mem_cons.mpr ⟨lw_p66, List.forall_mem_cons.mpr ⟨lw_p67, List.forall_mem_cons.mpr ⟨lw_p68, List.forall_mem_cons.mpr ⟨lw_p69, List.forall_mem_cons.mpr ⟨lw_p70, List.forall_mem_cons.mpr ⟨lw_p71, List.forall_mem_cons.mpr ⟨lw_p72, List.forall_mem_cons.mpr ⟨lw_p73, List.forall_mem_cons.mpr ⟨lw_p74, List.forall_mem_cons.mpr ⟨lw_p75, List.forall_mem_cons.mpr ⟨lw_p76, List.forall_mem_cons.mpr ⟨lw_p77, List.forall_mem_cons.mpr ⟨lw_p78, List.forall_mem_cons.mpr ⟨lw_p79, fun _ h => absurd h List.not_mem_nil⟩⟩⟩⟩⟩⟩⟩⟩⟩⟩⟩⟩⟩⟩⟩⟩
theorem lw_p80 : lw_okq (⟨"CardCupsModel", "goesStep", "(III)V"⟩, 65) := ⟨⟨by decide +kernel, by decide +kernel⟩, lw_t7 (List.mem_of_getElem? (i := 199) rfl), lw_t9 (List.mem_of_getElem? (i := 198) rfl), lw_t9 (List.mem_of_getElem? (i := 199) rfl)⟩
theorem lw_p81 : lw_okq (⟨"CardCupsModel", "findFacts", "(I)V"⟩, 65) := ⟨⟨by decide +kernel, by decide +kernel⟩, lw_t7 (List.mem_of_getElem? (i := 199) rfl), lw_t9 (List.mem_of_getElem? (i := 202) rfl), lw_t9 (List.mem_of_getElem? (i := 203) rfl)⟩
theorem lw_p82 : lw_okq (⟨"CardCupsModel", "isSo", "(II)Z"⟩, 65) := ⟨⟨by decide +kernel, by decide +kernel⟩, lw_t7 (List.mem_of_getElem? (i := 199) rfl), lw_t9 (List.mem_of_getElem? (i := 206) rfl), lw_t9 (List.mem_of_getElem? (i := 207) rfl)⟩
theorem lw_p83 : lw_okq (⟨"CardCupsModel", "does", "(IJI)V"⟩, 65) := ⟨⟨by decide +kernel, by decide +kernel⟩, lw_t7 (List.mem_of_getElem? (i := 199) rfl), lw_t9 (List.mem_of_getElem? (i := 213) rfl), lw_t9 (List.mem_of_getElem? (i := 214) rfl)⟩
theorem lw_p84 : lw_okq (⟨"CardCupsModel", "takes", "(JI)V"⟩, 65) := ⟨⟨by decide +kernel, by decide +kernel⟩, lw_t7 (List.mem_of_getElem? (i := 199) rfl), lw_t9 (List.mem_of_getElem? (i := 217) rfl), lw_t9 (List.mem_of_getElem? (i := 218) rfl)⟩
theorem lw_p85 : lw_okq (⟨"CardCupsModel", "starts", "(JI)V"⟩, 65) := ⟨⟨by decide +kernel, by decide +kernel⟩, lw_t7 (List.mem_of_getElem? (i := 199) rfl), lw_t9 (List.mem_of_getElem? (i := 221) rfl), lw_t9 (List.mem_of_getElem? (i := 222) rfl)⟩
theorem lw_p86 : lw_okq (⟨"CardCupsModel", "ends", "(I)V"⟩, 65) := ⟨⟨by decide +kernel, by decide +kernel⟩, lw_t7 (List.mem_of_getElem? (i := 199) rfl), lw_t9 (List.mem_of_getElem? (i := 225) rfl), lw_t9 (List.mem_of_getElem? (i := 226) rfl)⟩
theorem lw_p87 : lw_okq (⟨"CardCupsModel", "likelyOf", "(II)J"⟩, 65) := ⟨⟨by decide +kernel, by decide +kernel⟩, lw_t7 (List.mem_of_getElem? (i := 199) rfl), lw_t9 (List.mem_of_getElem? (i := 229) rfl), lw_t9 (List.mem_of_getElem? (i := 230) rfl)⟩
theorem lw_p88 : lw_okq (⟨"CardCupsModel", "isOf", "(II)Z"⟩, 65) := ⟨⟨by decide +kernel, by decide +kernel⟩, lw_t7 (List.mem_of_getElem? (i := 199) rfl), lw_t9 (List.mem_of_getElem? (i := 233) rfl), lw_t9 (List.mem_of_getElem? (i := 234) rfl)⟩
theorem lw_p89 : lw_okq (⟨"CardCupsModel", "partsOf", "(III)J"⟩, 65) := ⟨⟨by decide +kernel, by decide +kernel⟩, lw_t7 (List.mem_of_getElem? (i := 199) rfl), lw_t10 (List.mem_of_getElem? (i := 5) rfl), lw_t10 (List.mem_of_getElem? (i := 6) rfl)⟩
theorem lw_p90 : lw_okq (⟨"CardCupsModel", "isPart", "(I)Z"⟩, 65) := ⟨⟨by decide +kernel, by decide +kernel⟩, lw_t7 (List.mem_of_getElem? (i := 199) rfl), lw_t10 (List.mem_of_getElem? (i := 24) rfl), lw_t10 (List.mem_of_getElem? (i := 25) rfl)⟩
theorem lw_p91 : lw_okq (⟨"CardCupsModel", "goesAll", "()V"⟩, 65) := ⟨⟨by decide +kernel, by decide +kernel⟩, lw_t7 (List.mem_of_getElem? (i := 199) rfl), lw_t10 (List.mem_of_getElem? (i := 28) rfl), lw_t10 (List.mem_of_getElem? (i := 29) rfl)⟩
theorem lw_p92 : lw_okq (⟨"CardCupsModel", "costNow", "()J"⟩, 65) := ⟨⟨by decide +kernel, by decide +kernel⟩, lw_t7 (List.mem_of_getElem? (i := 199) rfl), lw_t10 (List.mem_of_getElem? (i := 49) rfl), lw_t10 (List.mem_of_getElem? (i := 50) rfl)⟩
theorem lw_p93 : lw_okq (⟨"CardCupsModel", "all", "()J"⟩, 65) := ⟨⟨by decide +kernel, by decide +kernel⟩, lw_t7 (List.mem_of_getElem? (i := 199) rfl), lw_t10 (List.mem_of_getElem? (i := 57) rfl), lw_t10 (List.mem_of_getElem? (i := 58) rfl)⟩
theorem lw_p94 : lw_okq (⟨"CardCupsModel", "goesGiven", "(I)V"⟩, 65) := ⟨⟨by decide +kernel, by decide +kernel⟩, lw_t7 (List.mem_of_getElem? (i := 199) rfl), lw_t10 (List.mem_of_getElem? (i := 65) rfl), lw_t10 (List.mem_of_getElem? (i := 66) rfl)⟩
theorem lw_p95 : lw_okq (⟨"CardCupsModel", "share", "(JI)J"⟩, 65) := ⟨⟨by decide +kernel, by decide +kernel⟩, lw_t7 (List.mem_of_getElem? (i := 199) rfl), lw_t10 (List.mem_of_getElem? (i := 69) rfl), lw_t10 (List.mem_of_getElem? (i := 70) rfl)⟩
def lw_privs_6 : List (MethodName × Nat) := [(⟨"CardCupsModel", "goesStep", "(III)V"⟩, 65), (⟨"CardCupsModel", "findFacts", "(I)V"⟩, 65), (⟨"CardCupsModel", "isSo", "(II)Z"⟩, 65), (⟨"CardCupsModel", "does", "(IJI)V"⟩, 65), (⟨"CardCupsModel", "takes", "(JI)V"⟩, 65), (⟨"CardCupsModel", "starts", "(JI)V"⟩, 65), (⟨"CardCupsModel", "ends", "(I)V"⟩, 65), (⟨"CardCupsModel", "likelyOf", "(II)J"⟩, 65), (⟨"CardCupsModel", "isOf", "(II)Z"⟩, 65), (⟨"CardCupsModel", "partsOf", "(III)J"⟩, 65), (⟨"CardCupsModel", "isPart", "(I)Z"⟩, 65), (⟨"CardCupsModel", "goesAll", "()V"⟩, 65), (⟨"CardCupsModel", "costNow", "()J"⟩, 65), (⟨"CardCupsModel", "all", "()J"⟩, 65), (⟨"CardCupsModel", "goesGiven", "(I)V"⟩, 65), (⟨"CardCupsModel", "share", "(JI)J"⟩, 65)]
theorem lw_r6 : ∀ q ∈ lw_privs_6, lw_okq q := List.forall_mem_cons.mpr ⟨lw_p80, List.forall_mem_cons.mpr ⟨lw_p81, List.forall_mem_cons.mpr ⟨lw_p82, List.forall_mem_cons.mpr ⟨lw_p83, List.forall_mem_cons.mpr ⟨lw_p84, List.forall_mem_cons.mpr ⟨lw_p85, List.forall_mem_cons.mpr ⟨lw_p86, List.forall_mem_cons.mpr ⟨lw_p87, List.forall_mem_cons.mpr ⟨lw_p88, List.forall_mem_cons.mpr ⟨lw_p89, List.forall_mem_cons.mpr ⟨lw_p90, List.forall_mem_cons.mpr ⟨lw_p91, List.forall_mem_cons.mpr ⟨lw_p92, List.forall_mem_cons.mpr ⟨lw_p93, List.forall_mem_cons.mpr ⟨lw_p94, List.forall_mem_cons.mpr ⟨lw_p95, fun _ h => absurd h List.not_mem_nil⟩⟩⟩⟩⟩⟩⟩⟩⟩⟩⟩⟩⟩⟩⟩⟩
theorem lw_p96 : lw_okq (⟨"CardCupsModel", "worthOf", "(I)J"⟩, 65) := ⟨⟨by decide +kernel, by decide +kernel⟩, lw_t7 (List.mem_of_getElem? (i := 199) rfl), lw_t10 (List.mem_of_getElem? (i := 77) rfl), lw_t10 (List.mem_of_getElem? (i := 78) rfl)⟩
theorem lw_p97 : lw_okq (⟨"CardCupsModel", "takeCost", "(J)J"⟩, 65) := ⟨⟨by decide +kernel, by decide +kernel⟩, lw_t7 (List.mem_of_getElem? (i := 199) rfl), lw_t10 (List.mem_of_getElem? (i := 81) rfl), lw_t10 (List.mem_of_getElem? (i := 82) rfl)⟩
theorem lw_p98 : lw_okq (⟨"CardCupsModel", "trueNow", "()J"⟩, 65) := ⟨⟨by decide +kernel, by decide +kernel⟩, lw_t7 (List.mem_of_getElem? (i := 199) rfl), lw_t10 (List.mem_of_getElem? (i := 97) rfl), lw_t10 (List.mem_of_getElem? (i := 98) rfl)⟩
theorem lw_p99 : lw_okq (⟨"CardCupsModel", "leastWithout", "(Z)I"⟩, 65) := ⟨⟨by decide +kernel, by decide +kernel⟩, lw_t7 (List.mem_of_getElem? (i := 199) rfl), lw_t10 (List.mem_of_getElem? (i := 105) rfl), lw_t10 (List.mem_of_getElem? (i := 106) rfl)⟩
theorem lw_p100 : lw_okq (⟨"CardCupsModel", "dayGoes", "(II)V"⟩, 65) := ⟨⟨by decide +kernel, by decide +kernel⟩, lw_t7 (List.mem_of_getElem? (i := 199) rfl), lw_t10 (List.mem_of_getElem? (i := 145) rfl), lw_t10 (List.mem_of_getElem? (i := 146) rfl)⟩
theorem lw_p101 : lw_okq (⟨"CardCupsModel", "draws", "(I)I"⟩, 65) := ⟨⟨by decide +kernel, by decide +kernel⟩, lw_t7 (List.mem_of_getElem? (i := 199) rfl), lw_t10 (List.mem_of_getElem? (i := 149) rfl), lw_t10 (List.mem_of_getElem? (i := 150) rfl)⟩
theorem lw_p102 : lw_okq (⟨"CardCupsModel", "dayDoes", "(II)V"⟩, 65) := ⟨⟨by decide +kernel, by decide +kernel⟩, lw_t7 (List.mem_of_getElem? (i := 199) rfl), lw_t10 (List.mem_of_getElem? (i := 154) rfl), lw_t10 (List.mem_of_getElem? (i := 155) rfl)⟩
theorem lw_p103 : lw_okq (⟨"CardCupsModel", "keepsVisits", "()V"⟩, 65) := ⟨⟨by decide +kernel, by decide +kernel⟩, lw_t7 (List.mem_of_getElem? (i := 199) rfl), lw_t10 (List.mem_of_getElem? (i := 166) rfl), lw_t10 (List.mem_of_getElem? (i := 167) rfl)⟩
theorem lw_p104 : lw_okq (⟨"CardCupsModel", "leaves", "(I)V"⟩, 65) := ⟨⟨by decide +kernel, by decide +kernel⟩, lw_t7 (List.mem_of_getElem? (i := 199) rfl), lw_t10 (List.mem_of_getElem? (i := 174) rfl), lw_t10 (List.mem_of_getElem? (i := 175) rfl)⟩
theorem lw_p105 : lw_okq (⟨"CardCupsModel", "keepsAll", "(IZ)V"⟩, 65) := ⟨⟨by decide +kernel, by decide +kernel⟩, lw_t7 (List.mem_of_getElem? (i := 199) rfl), lw_t10 (List.mem_of_getElem? (i := 194) rfl), lw_t10 (List.mem_of_getElem? (i := 195) rfl)⟩
theorem lw_p106 : lw_okq (⟨"CardCupsModel", "keepsRow", "(I[IIZ)I"⟩, 65) := ⟨⟨by decide +kernel, by decide +kernel⟩, lw_t7 (List.mem_of_getElem? (i := 199) rfl), lw_t10 (List.mem_of_getElem? (i := 198) rfl), lw_t10 (List.mem_of_getElem? (i := 199) rfl)⟩
def lw_privs_7 : List (MethodName × Nat) := [(⟨"CardCupsModel", "worthOf", "(I)J"⟩, 65), (⟨"CardCupsModel", "takeCost", "(J)J"⟩, 65), (⟨"CardCupsModel", "trueNow", "()J"⟩, 65), (⟨"CardCupsModel", "leastWithout", "(Z)I"⟩, 65), (⟨"CardCupsModel", "dayGoes", "(II)V"⟩, 65), (⟨"CardCupsModel", "draws", "(I)I"⟩, 65), (⟨"CardCupsModel", "dayDoes", "(II)V"⟩, 65), (⟨"CardCupsModel", "keepsVisits", "()V"⟩, 65), (⟨"CardCupsModel", "leaves", "(I)V"⟩, 65), (⟨"CardCupsModel", "keepsAll", "(IZ)V"⟩, 65), (⟨"CardCupsModel", "keepsRow", "(I[IIZ)I"⟩, 65)]
theorem lw_r7 : ∀ q ∈ lw_privs_7, lw_okq q := List.forall_mem_cons.mpr ⟨lw_p96, List.forall_mem_cons.mpr ⟨lw_p97, List.forall_mem_cons.mpr ⟨lw_p98, List.forall_mem_cons.mpr ⟨lw_p99, List.forall_mem_cons.mpr ⟨lw_p100, List.forall_mem_cons.mpr ⟨lw_p101, List.forall_mem_cons.mpr ⟨lw_p102, List.forall_mem_cons.mpr ⟨lw_p103, List.forall_mem_cons.mpr ⟨lw_p104, List.forall_mem_cons.mpr ⟨lw_p105, List.forall_mem_cons.mpr ⟨lw_p106, fun _ h => absurd h List.not_mem_nil⟩⟩⟩⟩⟩⟩⟩⟩⟩⟩⟩
def lw_privs : List (MethodName × Nat) := lw_privs_1 ++ (lw_privs_2 ++ (lw_privs_3 ++ (lw_privs_4 ++ (lw_privs_5 ++ (lw_privs_6 ++ (lw_privs_7))))))
def lw_tbl : List Cond := k2_sels lw_privs ++ tables_1
theorem lw_privs_ok : ∀ q ∈ lw_privs, lw_okq q := by
  show ∀ q ∈ lw_privs_1 ++ (lw_privs_2 ++ (lw_privs_3 ++ (lw_privs_4 ++ (lw_privs_5 ++ (lw_privs_6 ++ (lw_privs_7)))))), lw_okq q
  exact List.forall_mem_append.mpr ⟨lw_r1, List.forall_mem_append.mpr ⟨lw_r2, List.forall_mem_append.mpr ⟨lw_r3, List.forall_mem_append.mpr ⟨lw_r4, List.forall_mem_append.mpr ⟨lw_r5, List.forall_mem_append.mpr ⟨lw_r6, lw_r7⟩⟩⟩⟩⟩⟩
-- ===== ONE list of words for every method: the tables' words that hold all through a run =====
def lw_all : List Cond := lw_tbl.filter goodWord
/-- a word of the tables by its place: claim/WORDS.tsv -/
theorem lw_w {w : Cond} (i : Nat) (h : lw_tbl[i]? = some w) (g : goodWord w = true) : w ∈ lw_all := List.mem_filter.mpr ⟨List.mem_of_getElem? h, g⟩
theorem lw_all_tbl {w : Cond} (h : w ∈ lw_all) : w ∈ lw_tbl := (List.mem_filter.mp h).1
theorem lw_self : GoodIn lw_all lw_all := fun w h => ⟨h, good_of_word (List.mem_filter.mp h).2⟩
/-- a class's field words, by their places -/
theorem lw_in (ws : List Cond) (ps : List Nat) (hp : ws = ps.filterMap (fun i => lw_tbl[i]?)) (hg : ws.all goodWord = true) : ∀ w ∈ ws, w ∈ lw_all := by
  intro w h
  have h1 := List.all_eq_true.mp hg w h
  rw [hp] at h
  obtain ⟨i, -, hi⟩ := List.mem_filterMap.mp h
  exact lw_w i hi h1
/-- the words of a contract for the method y with code b, L locals, answer r -/
abbrev ws_ (y : MethodName) (b : ByteArray) (L : Nat) (r : Option FieldType) : List Cond := Cond.code y b L r :: lw_all
theorem lw_meth {y : MethodName} {b : ByteArray} {L : Nat} {r : Option FieldType} (h : Cond.code y b L r ∈ lw_all) : GoodIn lw_all (ws_ y b L r) := by
  intro w hw
  rcases List.mem_cons.mp hw with e | e
  · rw [e]
    exact lw_self _ h
  · exact lw_self _ e
theorem lw_app {a c : List Cond} (ha : ∀ w ∈ a, w ∈ lw_all) (hc : GoodIn lw_all c) : GoodIn lw_all (a ++ c) := by
  intro w hw
  rcases List.mem_append.mp hw with e | e
  · exact lw_self w (ha w e)
  · exact hc w e
/-- what a call through an object asks: cwV n hts (lw_V ..) -/
theorem lw_V {own : String} {idx : Nat} {C : String} {y : MethodName} {b : ByteArray} {L : Nat} {r : Option FieldType} (h1 : Cond.methodLink own idx y ∈ lw_all) (h2 : Cond.instanceMethod y ∈ lw_all) (h3 : Cond.selects C y y ∈ lw_all) (h4 : Cond.initialized C ∈ lw_all) (h5 : Cond.code y b L r ∈ lw_all) : GoodIn lw_all (wsV own idx C y (ws_ y b L r)) := by
  refine lw_app ?_ (lw_meth h5)
  intro w hw
  simp only [List.mem_cons, List.not_mem_nil, or_false] at hw
  rcases hw with e | e | e | e
  · rw [e]; exact h1
  · rw [e]; exact h2
  · rw [e]; exact h3
  · rw [e]; exact h4
/-- what a static call asks: va_cwS n hts (lw_S ..) -/
theorem lw_S {own : String} {idx : Nat} {y : MethodName} {b : ByteArray} {L : Nat} {r : Option FieldType} (h1 : Cond.methodLink own idx y ∈ lw_all) (h2 : Cond.static y ∈ lw_all) (h3 : Cond.initialized y.cls ∈ lw_all) (h4 : Cond.code y b L r ∈ lw_all) : GoodIn lw_all (va_wsS own idx y (ws_ y b L r)) := by
  refine lw_app ?_ (lw_meth h4)
  intro w hw
  simp only [List.mem_cons, List.not_mem_nil, or_false] at hw
  rcases hw with e | e | e
  · rw [e]; exact h1
  · rw [e]; exact h2
  · rw [e]; exact h3
/-- the words of a contract for a method WITH HANDLERS (hh: its table) -/
abbrev wsW_ (y : MethodName) (b : ByteArray) (L : Nat) (r : Option FieldType) (hh : List (Nat × Nat × Nat × Nat)) : List Cond := Cond.codeWith y b L r hh :: lw_all
theorem lw_methW {y : MethodName} {b : ByteArray} {L : Nat} {r : Option FieldType} {hh : List (Nat × Nat × Nat × Nat)} (h : Cond.codeWith y b L r hh ∈ lw_all) : GoodIn lw_all (wsW_ y b L r hh) := by
  intro w hw
  rcases List.mem_cons.mp hw with e | e
  · rw [e]
    exact lw_self _ h
  · exact lw_self _ e
/-- any list of words by their places (lw_in), good -/
theorem lw_good {ws : List Cond} (h : ∀ w ∈ ws, w ∈ lw_all) : GoodIn lw_all ws := fun w hw => lw_self w (h w hw)
/-- what a call of a method with handlers asks: vx_cwVW n hts (lw_VW ..), vx_cwSW n hts (lw_SW ..) -/
theorem lw_VW {own : String} {idx : Nat} {C : String} {y : MethodName} {b : ByteArray} {L : Nat} {r : Option FieldType} {hh : List (Nat × Nat × Nat × Nat)} (h1 : Cond.methodLink own idx y ∈ lw_all) (h2 : Cond.instanceMethod y ∈ lw_all) (h3 : Cond.selects C y y ∈ lw_all) (h4 : Cond.initialized C ∈ lw_all) (h5 : Cond.codeWith y b L r hh ∈ lw_all) : GoodIn lw_all (wsV own idx C y (wsW_ y b L r hh)) := by
  refine lw_app ?_ (lw_methW h5)
  intro w hw
  simp only [List.mem_cons, List.not_mem_nil, or_false] at hw
  rcases hw with e | e | e | e
  · rw [e]; exact h1
  · rw [e]; exact h2
  · rw [e]; exact h3
  · rw [e]; exact h4
theorem lw_SW {own : String} {idx : Nat} {y : MethodName} {b : ByteArray} {L : Nat} {r : Option FieldType} {hh : List (Nat × Nat × Nat × Nat)} (h1 : Cond.methodLink own idx y ∈ lw_all) (h2 : Cond.static y ∈ lw_all) (h3 : Cond.initialized y.cls ∈ lw_all) (h4 : Cond.codeWith y b L r hh ∈ lw_all) : GoodIn lw_all (va_wsS own idx y (wsW_ y b L r hh)) := by
  refine lw_app ?_ (lw_methW h4)
  intro w hw
  simp only [List.mem_cons, List.not_mem_nil, or_false] at hw
  rcases hw with e | e | e
  · rw [e]; exact h1
  · rw [e]; exact h2
  · rw [e]; exact h3
/-- a word by its place in its run of the tables -/
theorem lw_at {r : List Cond} (hr : ∀ w ∈ r, w ∈ lw_tbl) {w : Cond} (i : Nat) (h : r[i]? = some w) : w ∈ lw_tbl := hr w (List.mem_of_getElem? h)
theorem lw_g {w : Cond} (h : w ∈ lw_tbl) (g : goodWord w = true) : w ∈ lw_all := List.mem_filter.mpr ⟨h, g⟩
theorem lw_ms : ∀ w ∈ k2_sels lw_privs, w ∈ lw_tbl := fun w h => show w ∈ k2_sels lw_privs ++ tables_1 from List.mem_append_left _ h
theorem lw_m1 : ∀ w ∈ tables_1_1, w ∈ lw_tbl := fun w h => show w ∈ k2_sels lw_privs ++ tables_1 from List.mem_append_right (k2_sels lw_privs) (show w ∈ tables_1 from List.mem_append_left _ h)
theorem lw_m2 : ∀ w ∈ tables_1_2, w ∈ lw_tbl := fun w h => show w ∈ k2_sels lw_privs ++ tables_1 from List.mem_append_right (k2_sels lw_privs) (show w ∈ tables_1 from List.mem_append_right _ (List.mem_append_left _ h))
theorem lw_m3 : ∀ w ∈ tables_1_3, w ∈ lw_tbl := fun w h => show w ∈ k2_sels lw_privs ++ tables_1 from List.mem_append_right (k2_sels lw_privs) (show w ∈ tables_1 from List.mem_append_right _ (List.mem_append_right _ (List.mem_append_left _ h)))
theorem lw_m4 : ∀ w ∈ tables_1_4, w ∈ lw_tbl := fun w h => show w ∈ k2_sels lw_privs ++ tables_1 from List.mem_append_right (k2_sels lw_privs) (show w ∈ tables_1 from List.mem_append_right _ (List.mem_append_right _ (List.mem_append_right _ (List.mem_append_left _ h))))
theorem lw_m5 : ∀ w ∈ tables_1_5, w ∈ lw_tbl := fun w h => show w ∈ k2_sels lw_privs ++ tables_1 from List.mem_append_right (k2_sels lw_privs) (show w ∈ tables_1 from List.mem_append_right _ (List.mem_append_right _ (List.mem_append_right _ (List.mem_append_right _ (List.mem_append_left _ h)))))
theorem lw_m6 : ∀ w ∈ tables_1_6, w ∈ lw_tbl := fun w h => show w ∈ k2_sels lw_privs ++ tables_1 from List.mem_append_right (k2_sels lw_privs) (show w ∈ tables_1 from List.mem_append_right _ (List.mem_append_right _ (List.mem_append_right _ (List.mem_append_right _ (List.mem_append_right _ (List.mem_append_left _ h))))))
theorem lw_m7 : ∀ w ∈ tables_1_7, w ∈ lw_tbl := fun w h => show w ∈ k2_sels lw_privs ++ tables_1 from List.mem_append_right (k2_sels lw_privs) (show w ∈ tables_1 from List.mem_append_right _ (List.mem_append_right _ (List.mem_append_right _ (List.mem_append_right _ (List.mem_append_right _ (List.mem_append_right _ (List.mem_append_left _ h)))))))
theorem lw_m8 : ∀ w ∈ tables_1_8, w ∈ lw_tbl := fun w h => show w ∈ k2_sels lw_privs ++ tables_1 from List.mem_append_right (k2_sels lw_privs) (show w ∈ tables_1 from List.mem_append_right _ (List.mem_append_right _ (List.mem_append_right _ (List.mem_append_right _ (List.mem_append_right _ (List.mem_append_right _ (List.mem_append_right _ (List.mem_append_left _ h))))))))
theorem lw_m9 : ∀ w ∈ tables_1_9, w ∈ lw_tbl := fun w h => show w ∈ k2_sels lw_privs ++ tables_1 from List.mem_append_right (k2_sels lw_privs) (show w ∈ tables_1 from List.mem_append_right _ (List.mem_append_right _ (List.mem_append_right _ (List.mem_append_right _ (List.mem_append_right _ (List.mem_append_right _ (List.mem_append_right _ (List.mem_append_right _ (List.mem_append_left _ h)))))))))
theorem lw_m10 : ∀ w ∈ tables_1_10, w ∈ lw_tbl := fun w h => show w ∈ k2_sels lw_privs ++ tables_1 from List.mem_append_right (k2_sels lw_privs) (show w ∈ tables_1 from List.mem_append_right _ (List.mem_append_right _ (List.mem_append_right _ (List.mem_append_right _ (List.mem_append_right _ (List.mem_append_right _ (List.mem_append_right _ (List.mem_append_right _ (List.mem_append_right _ (List.mem_append_left _ h))))))))))
theorem lw_m11 : ∀ w ∈ tables_1_11, w ∈ lw_tbl := fun w h => show w ∈ k2_sels lw_privs ++ tables_1 from List.mem_append_right (k2_sels lw_privs) (show w ∈ tables_1 from List.mem_append_right _ (List.mem_append_right _ (List.mem_append_right _ (List.mem_append_right _ (List.mem_append_right _ (List.mem_append_right _ (List.mem_append_right _ (List.mem_append_right _ (List.mem_append_right _ (List.mem_append_right _ h))))))))))
theorem qs0 : (Cond.selects "CardCups" ⟨"CardCups", "asTold", "()LCardCups$How;"⟩ ⟨"CardCups", "asTold", "()LCardCups$How;"⟩) ∈ lw_all := lw_g (lw_at lw_ms 0 rfl) rfl
theorem qs1 : (Cond.selects "CardCups" ⟨"CardCups", "run", "(LCardCups$How;)LCardCups$Flow;"⟩ ⟨"CardCups", "run", "(LCardCups$How;)LCardCups$Flow;"⟩) ∈ lw_all := lw_g (lw_at lw_ms 1 rfl) rfl
theorem qs2 : (Cond.selects "CardCups$Flow" ⟨"CardCups$Flow", "falls", "(I)V"⟩ ⟨"CardCups$Flow", "falls", "(I)V"⟩) ∈ lw_all := lw_g (lw_at lw_ms 2 rfl) rfl
theorem qs3 : (Cond.selects "CardCups$Flow" ⟨"CardCups$Flow", "last", "()I"⟩ ⟨"CardCups$Flow", "last", "()I"⟩) ∈ lw_all := lw_g (lw_at lw_ms 3 rfl) rfl
theorem qs4 : (Cond.selects "CardCups$Flow" ⟨"CardCups$Flow", "turns", "()V"⟩ ⟨"CardCups$Flow", "turns", "()V"⟩) ∈ lw_all := lw_g (lw_at lw_ms 4 rfl) rfl
theorem qs5 : (Cond.selects "CardCups$Flow" ⟨"CardCups$Flow", "only", "(LCardCups$Book;LCardCups$Sight;)V"⟩ ⟨"CardCups$Flow", "only", "(LCardCups$Book;LCardCups$Sight;)V"⟩) ∈ lw_all := lw_g (lw_at lw_ms 5 rfl) rfl
theorem qs6 : (Cond.selects "CardCups$Flow" ⟨"CardCups$Flow", "steps", "(LCardCups$Step;LCardCups$Sight;)V"⟩ ⟨"CardCups$Flow", "steps", "(LCardCups$Step;LCardCups$Sight;)V"⟩) ∈ lw_all := lw_g (lw_at lw_ms 6 rfl) rfl
theorem qs7 : (Cond.selects "CardCups$Turn" ⟨"CardCups$Turn", "turns", "(LCardCups$State;)V"⟩ ⟨"CardCups$Turn", "turns", "(LCardCups$State;)V"⟩) ∈ lw_all := lw_g (lw_at lw_ms 7 rfl) rfl
theorem qs8 : (Cond.selects "CardCups$Flow" ⟨"CardCups$Flow", "ends", "(I)V"⟩ ⟨"CardCups$Flow", "ends", "(I)V"⟩) ∈ lw_all := lw_g (lw_at lw_ms 8 rfl) rfl
theorem qs9 : (Cond.selects "CardCups$Flow" ⟨"CardCups$Flow", "is", "(ILCardCups$State;LCardCups$Sight;)Z"⟩ ⟨"CardCups$Flow", "is", "(ILCardCups$State;LCardCups$Sight;)Z"⟩) ∈ lw_all := lw_g (lw_at lw_ms 9 rfl) rfl
theorem qs10 : (Cond.selects "CardCups" ⟨"CardCups", "starting", "(I)J"⟩ ⟨"CardCups", "starting", "(I)J"⟩) ∈ lw_all := lw_g (lw_at lw_ms 10 rfl) rfl
theorem qs11 : (Cond.selects "CardCups" ⟨"CardCups", "within", "(III)V"⟩ ⟨"CardCups", "within", "(III)V"⟩) ∈ lw_all := lw_g (lw_at lw_ms 11 rfl) rfl
theorem qs12 : (Cond.selects "java/lang/Throwable" ⟨"java/lang/Throwable", "fillInStackTrace", "(I)Ljava/lang/Throwable;"⟩ ⟨"java/lang/Throwable", "fillInStackTrace", "(I)Ljava/lang/Throwable;"⟩) ∈ lw_all := lw_g (lw_at lw_ms 12 rfl) rfl
theorem qs13 : (Cond.selects "CardCups" ⟨"CardCups", "reader", "(I)LCardCups$Reader;"⟩ ⟨"CardCups", "reader", "(I)LCardCups$Reader;"⟩) ∈ lw_all := lw_g (lw_at lw_ms 13 rfl) rfl
theorem qs14 : (Cond.selects "CardCups$Reader" ⟨"CardCups$Reader", "byteAt", "(I)I"⟩ ⟨"CardCups$Reader", "byteAt", "(I)I"⟩) ∈ lw_all := lw_g (lw_at lw_ms 14 rfl) rfl
theorem qs15 : (Cond.selects "CardCups$OfficeReader" ⟨"CardCups$OfficeReader", "clause", "()V"⟩ ⟨"CardCups$OfficeReader", "clause", "()V"⟩) ∈ lw_all := lw_g (lw_at lw_ms 15 rfl) rfl
theorem qs16 : (Cond.selects "CardCups" ⟨"CardCups", "faulty", "(LCardCups$Wrong;)I"⟩ ⟨"CardCups", "faulty", "(LCardCups$Wrong;)I"⟩) ∈ lw_all := lw_g (lw_at lw_ms 16 rfl) rfl
theorem qs17 : (Cond.selects "CardCups" ⟨"CardCups", "personOf", "(I)V"⟩ ⟨"CardCups", "personOf", "(I)V"⟩) ∈ lw_all := lw_g (lw_at lw_ms 17 rfl) rfl
theorem qs18 : (Cond.selects "CardCups" ⟨"CardCups", "isThere", "(II)V"⟩ ⟨"CardCups", "isThere", "(II)V"⟩) ∈ lw_all := lw_g (lw_at lw_ms 18 rfl) rfl
theorem qs19 : (Cond.selects "CardCups$HabitReader" ⟨"CardCups$HabitReader", "any", "()LCardCups$Term;"⟩ ⟨"CardCups$HabitReader", "any", "()LCardCups$Term;"⟩) ∈ lw_all := lw_g (lw_at lw_ms 19 rfl) rfl
theorem qs20 : (Cond.selects "CardCups$HabitReader" ⟨"CardCups$HabitReader", "each", "()LCardCups$Term;"⟩ ⟨"CardCups$HabitReader", "each", "()LCardCups$Term;"⟩) ∈ lw_all := lw_g (lw_at lw_ms 20 rfl) rfl
theorem qs21 : (Cond.selects "CardCups$HabitReader" ⟨"CardCups$HabitReader", "one", "()LCardCups$Term;"⟩ ⟨"CardCups$HabitReader", "one", "()LCardCups$Term;"⟩) ∈ lw_all := lw_g (lw_at lw_ms 21 rfl) rfl
theorem qs22 : (Cond.selects "CardCups$HabitReader" ⟨"CardCups$HabitReader", "sum", "()LCardCups$Term;"⟩ ⟨"CardCups$HabitReader", "sum", "()LCardCups$Term;"⟩) ∈ lw_all := lw_g (lw_at lw_ms 22 rfl) rfl
theorem qs23 : (Cond.selects "CardCups$HabitReader" ⟨"CardCups$HabitReader", "product", "()LCardCups$Term;"⟩ ⟨"CardCups$HabitReader", "product", "()LCardCups$Term;"⟩) ∈ lw_all := lw_g (lw_at lw_ms 23 rfl) rfl
theorem qs24 : (Cond.selects "CardCups$HabitReader" ⟨"CardCups$HabitReader", "value", "()LCardCups$Term;"⟩ ⟨"CardCups$HabitReader", "value", "()LCardCups$Term;"⟩) ∈ lw_all := lw_g (lw_at lw_ms 24 rfl) rfl
theorem qs25 : (Cond.selects "CardCups" ⟨"CardCups", "line", "(LCardCups$Reader;LCardCups$Book;)V"⟩ ⟨"CardCups", "line", "(LCardCups$Reader;LCardCups$Book;)V"⟩) ∈ lw_all := lw_g (lw_at lw_ms 25 rfl) rfl
theorem qs26 : (Cond.selects "CardCups" ⟨"CardCups", "visitOf", "(I)V"⟩ ⟨"CardCups", "visitOf", "(I)V"⟩) ∈ lw_all := lw_g (lw_at lw_ms 26 rfl) rfl
theorem qs27 : (Cond.selects "CardCups" ⟨"CardCups", "partOf", "(I)V"⟩ ⟨"CardCups", "partOf", "(I)V"⟩) ∈ lw_all := lw_g (lw_at lw_ms 27 rfl) rfl
theorem qs28 : (Cond.selects "CardCups" ⟨"CardCups", "begun", "(I)LCardCups$Flow;"⟩ ⟨"CardCups", "begun", "(I)LCardCups$Flow;"⟩) ∈ lw_all := lw_g (lw_at lw_ms 28 rfl) rfl
theorem qs29 : (Cond.selects "CardCups$Flow" ⟨"CardCups$Flow", "taking", "(I)J"⟩ ⟨"CardCups$Flow", "taking", "(I)J"⟩) ∈ lw_all := lw_g (lw_at lw_ms 29 rfl) rfl
theorem qs30 : (Cond.selects "CardCups$Flow" ⟨"CardCups$Flow", "partsOf", "(II)J"⟩ ⟨"CardCups$Flow", "partsOf", "(II)J"⟩) ∈ lw_all := lw_g (lw_at lw_ms 30 rfl) rfl
theorem qs31 : (Cond.selects "CardCups$Flow" ⟨"CardCups$Flow", "seeing", "(JLCardCups$State;)J"⟩ ⟨"CardCups$Flow", "seeing", "(JLCardCups$State;)J"⟩) ∈ lw_all := lw_g (lw_at lw_ms 31 rfl) rfl
theorem qs32 : (Cond.selects "CardCups$Flow" ⟨"CardCups$Flow", "owning", "(I)J"⟩ ⟨"CardCups$Flow", "owning", "(I)J"⟩) ∈ lw_all := lw_g (lw_at lw_ms 32 rfl) rfl
theorem qs33 : (Cond.selects "CardCups" ⟨"CardCups", "drawn", "(II)LCardCups$Day;"⟩ ⟨"CardCups", "drawn", "(II)LCardCups$Day;"⟩) ∈ lw_all := lw_g (lw_at lw_ms 33 rfl) rfl
theorem qs34 : (Cond.selects "CardCups" ⟨"CardCups", "changes", "()V"⟩ ⟨"CardCups", "changes", "()V"⟩) ∈ lw_all := lw_g (lw_at lw_ms 34 rfl) rfl
theorem qs35 : (Cond.selects "CardCupsModel" ⟨"CardCupsModel", "clears", "()V"⟩ ⟨"CardCupsModel", "clears", "()V"⟩) ∈ lw_all := lw_g (lw_at lw_ms 35 rfl) rfl
theorem qs36 : (Cond.selects "CardCupsModel" ⟨"CardCupsModel", "sets", "()V"⟩ ⟨"CardCupsModel", "sets", "()V"⟩) ∈ lw_all := lw_g (lw_at lw_ms 36 rfl) rfl
theorem qs37 : (Cond.selects "CardCupsModel" ⟨"CardCupsModel", "copies", "([I[II)V"⟩ ⟨"CardCupsModel", "copies", "([I[II)V"⟩) ∈ lw_all := lw_g (lw_at lw_ms 37 rfl) rfl
theorem qs38 : (Cond.selects "CardCupsModel" ⟨"CardCupsModel", "may", "(ZII)Z"⟩ ⟨"CardCupsModel", "may", "(ZII)Z"⟩) ∈ lw_all := lw_g (lw_at lw_ms 38 rfl) rfl
theorem qs39 : (Cond.selects "CardCupsModel" ⟨"CardCupsModel", "begins", "(I)V"⟩ ⟨"CardCupsModel", "begins", "(I)V"⟩) ∈ lw_all := lw_g (lw_at lw_ms 39 rfl) rfl
theorem qs40 : (Cond.selects "CardCupsModel" ⟨"CardCupsModel", "fine", "()Z"⟩ ⟨"CardCupsModel", "fine", "()Z"⟩) ∈ lw_all := lw_g (lw_at lw_ms 40 rfl) rfl
theorem qs41 : (Cond.selects "CardCupsModel" ⟨"CardCupsModel", "isMore", "()Z"⟩ ⟨"CardCupsModel", "isMore", "()Z"⟩) ∈ lw_all := lw_g (lw_at lw_ms 41 rfl) rfl
theorem qs42 : (Cond.selects "CardCupsModel" ⟨"CardCupsModel", "here", "()I"⟩ ⟨"CardCupsModel", "here", "()I"⟩) ∈ lw_all := lw_g (lw_at lw_ms 42 rfl) rfl
theorem qs43 : (Cond.selects "CardCupsModel" ⟨"CardCupsModel", "clauseHere", "()I"⟩ ⟨"CardCupsModel", "clauseHere", "()I"⟩) ∈ lw_all := lw_g (lw_at lw_ms 43 rfl) rfl
theorem qs44 : (Cond.selects "CardCupsModel" ⟨"CardCupsModel", "standsHere", "(Ljava/lang/String;)Z"⟩ ⟨"CardCupsModel", "standsHere", "(Ljava/lang/String;)Z"⟩) ∈ lw_all := lw_g (lw_at lw_ms 44 rfl) rfl
theorem qs45 : (Cond.selects "CardCupsModel" ⟨"CardCupsModel", "word", "()I"⟩ ⟨"CardCupsModel", "word", "()I"⟩) ∈ lw_all := lw_g (lw_at lw_ms 45 rfl) rfl
theorem qs46 : (Cond.selects "CardCupsModel" ⟨"CardCupsModel", "wrong", "(II)V"⟩ ⟨"CardCupsModel", "wrong", "(II)V"⟩) ∈ lw_all := lw_g (lw_at lw_ms 46 rfl) rfl
theorem qs47 : (Cond.selects "CardCupsModel" ⟨"CardCupsModel", "pass", "()V"⟩ ⟨"CardCupsModel", "pass", "()V"⟩) ∈ lw_all := lw_g (lw_at lw_ms 47 rfl) rfl
theorem qs48 : (Cond.selects "CardCupsModel" ⟨"CardCupsModel", "readClause", "(I)V"⟩ ⟨"CardCupsModel", "readClause", "(I)V"⟩) ∈ lw_all := lw_g (lw_at lw_ms 48 rfl) rfl
theorem qs49 : (Cond.selects "CardCupsModel" ⟨"CardCupsModel", "readNumber", "(II)I"⟩ ⟨"CardCupsModel", "readNumber", "(II)I"⟩) ∈ lw_all := lw_g (lw_at lw_ms 49 rfl) rfl
theorem qs50 : (Cond.selects "CardCupsModel" ⟨"CardCupsModel", "puts", "([I[IIII)I"⟩ ⟨"CardCupsModel", "puts", "([I[IIII)I"⟩) ∈ lw_all := lw_g (lw_at lw_ms 50 rfl) rfl
theorem qs51 : (Cond.selects "CardCupsModel" ⟨"CardCupsModel", "sign", "(I)V"⟩ ⟨"CardCupsModel", "sign", "(I)V"⟩) ∈ lw_all := lw_g (lw_at lw_ms 51 rfl) rfl
theorem qs52 : (Cond.selects "CardCupsModel" ⟨"CardCupsModel", "result", "(I)I"⟩ ⟨"CardCupsModel", "result", "(I)I"⟩) ∈ lw_all := lw_g (lw_at lw_ms 52 rfl) rfl
theorem qs53 : (Cond.selects "CardCupsModel" ⟨"CardCupsModel", "isPerson", "(II)Z"⟩ ⟨"CardCupsModel", "isPerson", "(II)Z"⟩) ∈ lw_all := lw_g (lw_at lw_ms 53 rfl) rfl
theorem qs54 : (Cond.selects "CardCupsModel" ⟨"CardCupsModel", "isTold", "(I)Z"⟩ ⟨"CardCupsModel", "isTold", "(I)Z"⟩) ∈ lw_all := lw_g (lw_at lw_ms 54 rfl) rfl
theorem qs55 : (Cond.selects "CardCupsModel" ⟨"CardCupsModel", "readHabit", "(II)I"⟩ ⟨"CardCupsModel", "readHabit", "(II)I"⟩) ∈ lw_all := lw_g (lw_at lw_ms 55 rfl) rfl
theorem qs56 : (Cond.selects "CardCupsModel" ⟨"CardCupsModel", "readStep", "()V"⟩ ⟨"CardCupsModel", "readStep", "()V"⟩) ∈ lw_all := lw_g (lw_at lw_ms 56 rfl) rfl
theorem qs57 : (Cond.selects "CardCupsModel" ⟨"CardCupsModel", "readAny", "()V"⟩ ⟨"CardCupsModel", "readAny", "()V"⟩) ∈ lw_all := lw_g (lw_at lw_ms 57 rfl) rfl
theorem qs58 : (Cond.selects "CardCupsModel" ⟨"CardCupsModel", "readAll", "()V"⟩ ⟨"CardCupsModel", "readAll", "()V"⟩) ∈ lw_all := lw_g (lw_at lw_ms 58 rfl) rfl
theorem qs59 : (Cond.selects "CardCupsModel" ⟨"CardCupsModel", "readOne", "()V"⟩ ⟨"CardCupsModel", "readOne", "()V"⟩) ∈ lw_all := lw_g (lw_at lw_ms 59 rfl) rfl
theorem qs60 : (Cond.selects "CardCupsModel" ⟨"CardCupsModel", "opensOne", "(I)V"⟩ ⟨"CardCupsModel", "opensOne", "(I)V"⟩) ∈ lw_all := lw_g (lw_at lw_ms 60 rfl) rfl
theorem qs61 : (Cond.selects "CardCupsModel" ⟨"CardCupsModel", "emit", "(II)V"⟩ ⟨"CardCupsModel", "emit", "(II)V"⟩) ∈ lw_all := lw_g (lw_at lw_ms 61 rfl) rfl
theorem qs62 : (Cond.selects "CardCupsModel" ⟨"CardCupsModel", "readSum", "()V"⟩ ⟨"CardCupsModel", "readSum", "()V"⟩) ∈ lw_all := lw_g (lw_at lw_ms 62 rfl) rfl
theorem qs63 : (Cond.selects "CardCupsModel" ⟨"CardCupsModel", "readProduct", "()V"⟩ ⟨"CardCupsModel", "readProduct", "()V"⟩) ∈ lw_all := lw_g (lw_at lw_ms 63 rfl) rfl
theorem qs64 : (Cond.selects "CardCupsModel" ⟨"CardCupsModel", "readUnit", "()V"⟩ ⟨"CardCupsModel", "readUnit", "()V"⟩) ∈ lw_all := lw_g (lw_at lw_ms 64 rfl) rfl
theorem qs65 : (Cond.selects "CardCupsModel" ⟨"CardCupsModel", "isVisit", "(II)Z"⟩ ⟨"CardCupsModel", "isVisit", "(II)Z"⟩) ∈ lw_all := lw_g (lw_at lw_ms 65 rfl) rfl
theorem qs66 : (Cond.selects "CardCupsModel" ⟨"CardCupsModel", "whichOf", "(I)I"⟩ ⟨"CardCupsModel", "whichOf", "(I)I"⟩) ∈ lw_all := lw_g (lw_at lw_ms 66 rfl) rfl
theorem qs67 : (Cond.selects "CardCupsModel" ⟨"CardCupsModel", "sinceOf", "(I)I"⟩ ⟨"CardCupsModel", "sinceOf", "(I)I"⟩) ∈ lw_all := lw_g (lw_at lw_ms 67 rfl) rfl
theorem qs68 : (Cond.selects "CardCupsModel" ⟨"CardCupsModel", "plain", "()V"⟩ ⟨"CardCupsModel", "plain", "()V"⟩) ∈ lw_all := lw_g (lw_at lw_ms 68 rfl) rfl
theorem qs69 : (Cond.selects "CardCupsModel" ⟨"CardCupsModel", "goes", "(I)V"⟩ ⟨"CardCupsModel", "goes", "(I)V"⟩) ∈ lw_all := lw_g (lw_at lw_ms 69 rfl) rfl
theorem qs70 : (Cond.selects "CardCupsModel" ⟨"CardCupsModel", "begin", "()V"⟩ ⟨"CardCupsModel", "begin", "()V"⟩) ∈ lw_all := lw_g (lw_at lw_ms 70 rfl) rfl
theorem qs71 : (Cond.selects "CardCupsModel" ⟨"CardCupsModel", "comes", "(I)V"⟩ ⟨"CardCupsModel", "comes", "(I)V"⟩) ∈ lw_all := lw_g (lw_at lw_ms 71 rfl) rfl
theorem qs72 : (Cond.selects "CardCupsModel" ⟨"CardCupsModel", "falls", "()V"⟩ ⟨"CardCupsModel", "falls", "()V"⟩) ∈ lw_all := lw_g (lw_at lw_ms 72 rfl) rfl
theorem qs73 : (Cond.selects "CardCupsModel" ⟨"CardCupsModel", "stateOf", "(I)V"⟩ ⟨"CardCupsModel", "stateOf", "(I)V"⟩) ∈ lw_all := lw_g (lw_at lw_ms 73 rfl) rfl
theorem qs74 : (Cond.selects "CardCupsModel" ⟨"CardCupsModel", "gives", "(IJ)V"⟩ ⟨"CardCupsModel", "gives", "(IJ)V"⟩) ∈ lw_all := lw_g (lw_at lw_ms 74 rfl) rfl
theorem qs75 : (Cond.selects "CardCupsModel" ⟨"CardCupsModel", "takesNext", "()V"⟩ ⟨"CardCupsModel", "takesNext", "()V"⟩) ∈ lw_all := lw_g (lw_at lw_ms 75 rfl) rfl
theorem qs76 : (Cond.selects "CardCupsModel" ⟨"CardCupsModel", "keepsBook", "(I)V"⟩ ⟨"CardCupsModel", "keepsBook", "(I)V"⟩) ∈ lw_all := lw_g (lw_at lw_ms 76 rfl) rfl
theorem qs77 : (Cond.selects "CardCupsModel" ⟨"CardCupsModel", "isLine", "(II)Z"⟩ ⟨"CardCupsModel", "isLine", "(II)Z"⟩) ∈ lw_all := lw_g (lw_at lw_ms 77 rfl) rfl
theorem qs78 : (Cond.selects "CardCupsModel" ⟨"CardCupsModel", "isWarm", "(I)Z"⟩ ⟨"CardCupsModel", "isWarm", "(I)Z"⟩) ∈ lw_all := lw_g (lw_at lw_ms 78 rfl) rfl
theorem qs79 : (Cond.selects "CardCupsModel" ⟨"CardCupsModel", "habitOf", "(I)I"⟩ ⟨"CardCupsModel", "habitOf", "(I)I"⟩) ∈ lw_all := lw_g (lw_at lw_ms 79 rfl) rfl
theorem qs80 : (Cond.selects "CardCupsModel" ⟨"CardCupsModel", "goesStep", "(III)V"⟩ ⟨"CardCupsModel", "goesStep", "(III)V"⟩) ∈ lw_all := lw_g (lw_at lw_ms 80 rfl) rfl
theorem qs81 : (Cond.selects "CardCupsModel" ⟨"CardCupsModel", "findFacts", "(I)V"⟩ ⟨"CardCupsModel", "findFacts", "(I)V"⟩) ∈ lw_all := lw_g (lw_at lw_ms 81 rfl) rfl
theorem qs82 : (Cond.selects "CardCupsModel" ⟨"CardCupsModel", "isSo", "(II)Z"⟩ ⟨"CardCupsModel", "isSo", "(II)Z"⟩) ∈ lw_all := lw_g (lw_at lw_ms 82 rfl) rfl
theorem qs83 : (Cond.selects "CardCupsModel" ⟨"CardCupsModel", "does", "(IJI)V"⟩ ⟨"CardCupsModel", "does", "(IJI)V"⟩) ∈ lw_all := lw_g (lw_at lw_ms 83 rfl) rfl
theorem qs84 : (Cond.selects "CardCupsModel" ⟨"CardCupsModel", "takes", "(JI)V"⟩ ⟨"CardCupsModel", "takes", "(JI)V"⟩) ∈ lw_all := lw_g (lw_at lw_ms 84 rfl) rfl
theorem qs85 : (Cond.selects "CardCupsModel" ⟨"CardCupsModel", "starts", "(JI)V"⟩ ⟨"CardCupsModel", "starts", "(JI)V"⟩) ∈ lw_all := lw_g (lw_at lw_ms 85 rfl) rfl
theorem qs86 : (Cond.selects "CardCupsModel" ⟨"CardCupsModel", "ends", "(I)V"⟩ ⟨"CardCupsModel", "ends", "(I)V"⟩) ∈ lw_all := lw_g (lw_at lw_ms 86 rfl) rfl
theorem qs87 : (Cond.selects "CardCupsModel" ⟨"CardCupsModel", "likelyOf", "(II)J"⟩ ⟨"CardCupsModel", "likelyOf", "(II)J"⟩) ∈ lw_all := lw_g (lw_at lw_ms 87 rfl) rfl
theorem qs88 : (Cond.selects "CardCupsModel" ⟨"CardCupsModel", "isOf", "(II)Z"⟩ ⟨"CardCupsModel", "isOf", "(II)Z"⟩) ∈ lw_all := lw_g (lw_at lw_ms 88 rfl) rfl
theorem qs89 : (Cond.selects "CardCupsModel" ⟨"CardCupsModel", "partsOf", "(III)J"⟩ ⟨"CardCupsModel", "partsOf", "(III)J"⟩) ∈ lw_all := lw_g (lw_at lw_ms 89 rfl) rfl
theorem qs90 : (Cond.selects "CardCupsModel" ⟨"CardCupsModel", "isPart", "(I)Z"⟩ ⟨"CardCupsModel", "isPart", "(I)Z"⟩) ∈ lw_all := lw_g (lw_at lw_ms 90 rfl) rfl
theorem qs91 : (Cond.selects "CardCupsModel" ⟨"CardCupsModel", "goesAll", "()V"⟩ ⟨"CardCupsModel", "goesAll", "()V"⟩) ∈ lw_all := lw_g (lw_at lw_ms 91 rfl) rfl
theorem qs92 : (Cond.selects "CardCupsModel" ⟨"CardCupsModel", "costNow", "()J"⟩ ⟨"CardCupsModel", "costNow", "()J"⟩) ∈ lw_all := lw_g (lw_at lw_ms 92 rfl) rfl
theorem qs93 : (Cond.selects "CardCupsModel" ⟨"CardCupsModel", "all", "()J"⟩ ⟨"CardCupsModel", "all", "()J"⟩) ∈ lw_all := lw_g (lw_at lw_ms 93 rfl) rfl
theorem qs94 : (Cond.selects "CardCupsModel" ⟨"CardCupsModel", "goesGiven", "(I)V"⟩ ⟨"CardCupsModel", "goesGiven", "(I)V"⟩) ∈ lw_all := lw_g (lw_at lw_ms 94 rfl) rfl
theorem qs95 : (Cond.selects "CardCupsModel" ⟨"CardCupsModel", "share", "(JI)J"⟩ ⟨"CardCupsModel", "share", "(JI)J"⟩) ∈ lw_all := lw_g (lw_at lw_ms 95 rfl) rfl
theorem qs96 : (Cond.selects "CardCupsModel" ⟨"CardCupsModel", "worthOf", "(I)J"⟩ ⟨"CardCupsModel", "worthOf", "(I)J"⟩) ∈ lw_all := lw_g (lw_at lw_ms 96 rfl) rfl
theorem qs97 : (Cond.selects "CardCupsModel" ⟨"CardCupsModel", "takeCost", "(J)J"⟩ ⟨"CardCupsModel", "takeCost", "(J)J"⟩) ∈ lw_all := lw_g (lw_at lw_ms 97 rfl) rfl
theorem qs98 : (Cond.selects "CardCupsModel" ⟨"CardCupsModel", "trueNow", "()J"⟩ ⟨"CardCupsModel", "trueNow", "()J"⟩) ∈ lw_all := lw_g (lw_at lw_ms 98 rfl) rfl
theorem qs99 : (Cond.selects "CardCupsModel" ⟨"CardCupsModel", "leastWithout", "(Z)I"⟩ ⟨"CardCupsModel", "leastWithout", "(Z)I"⟩) ∈ lw_all := lw_g (lw_at lw_ms 99 rfl) rfl
theorem qs100 : (Cond.selects "CardCupsModel" ⟨"CardCupsModel", "dayGoes", "(II)V"⟩ ⟨"CardCupsModel", "dayGoes", "(II)V"⟩) ∈ lw_all := lw_g (lw_at lw_ms 100 rfl) rfl
theorem qs101 : (Cond.selects "CardCupsModel" ⟨"CardCupsModel", "draws", "(I)I"⟩ ⟨"CardCupsModel", "draws", "(I)I"⟩) ∈ lw_all := lw_g (lw_at lw_ms 101 rfl) rfl
theorem qs102 : (Cond.selects "CardCupsModel" ⟨"CardCupsModel", "dayDoes", "(II)V"⟩ ⟨"CardCupsModel", "dayDoes", "(II)V"⟩) ∈ lw_all := lw_g (lw_at lw_ms 102 rfl) rfl
theorem qs103 : (Cond.selects "CardCupsModel" ⟨"CardCupsModel", "keepsVisits", "()V"⟩ ⟨"CardCupsModel", "keepsVisits", "()V"⟩) ∈ lw_all := lw_g (lw_at lw_ms 103 rfl) rfl
theorem qs104 : (Cond.selects "CardCupsModel" ⟨"CardCupsModel", "leaves", "(I)V"⟩ ⟨"CardCupsModel", "leaves", "(I)V"⟩) ∈ lw_all := lw_g (lw_at lw_ms 104 rfl) rfl
theorem qs105 : (Cond.selects "CardCupsModel" ⟨"CardCupsModel", "keepsAll", "(IZ)V"⟩ ⟨"CardCupsModel", "keepsAll", "(IZ)V"⟩) ∈ lw_all := lw_g (lw_at lw_ms 105 rfl) rfl
theorem qs106 : (Cond.selects "CardCupsModel" ⟨"CardCupsModel", "keepsRow", "(I[IIZ)I"⟩ ⟨"CardCupsModel", "keepsRow", "(I[IIZ)I"⟩) ∈ lw_all := lw_g (lw_at lw_ms 106 rfl) rfl
theorem q638 : (Jvm.Cond.interfaceMethod "CardCups$Term" "CardCups$Term" "on" "(LCardCups$Sight;)I") ∈ lw_tbl := lw_at lw_m3 51 rfl
set_option maxRecDepth 100000
theorem q639 : (Jvm.Cond.declares ({ cls := "CardCups$Term", name := "on", desc := "(LCardCups$Sight;)I" } : Jvm.MethodName)) ∈ lw_tbl := lw_at lw_m3 52 rfl
theorem q129 : (Jvm.Cond.initialized "java/lang/System") ∈ lw_all := lw_g (lw_at lw_m1 22 rfl) rfl
set_option maxRecDepth 100000
theorem q526 : (Jvm.Cond.static ({ cls := "java/lang/System", name := "arraycopy", desc := "(Ljava/lang/Object;ILjava/lang/Object;II)V" } : Jvm.MethodName)) ∈ lw_all := lw_g (lw_at lw_m2 179 rfl) rfl
theorem q527 : (Jvm.Cond.native ({ cls := "java/lang/System", name := "arraycopy", desc := "(Ljava/lang/Object;ILjava/lang/Object;II)V" } : Jvm.MethodName)) ∈ lw_all := lw_g (lw_at lw_m2 180 rfl) rfl
theorem q176 : (Jvm.Cond.arrayClass Jvm.ClassFile.FieldType.byte) ∈ lw_all := lw_g (lw_at lw_m1 69 rfl) rfl
set_option maxRecDepth 100000
theorem q177 : (Jvm.Cond.arrayClass Jvm.ClassFile.FieldType.int) ∈ lw_all := lw_g (lw_at lw_m1 70 rfl) rfl
theorem q178 : (Jvm.Cond.arrayOver (Jvm.ClassFile.FieldType.object "CardCups$Calendar")) ∈ lw_tbl := lw_at lw_m1 71 rfl
theorem q180 : (Jvm.Cond.arrayOver (Jvm.ClassFile.FieldType.array (Jvm.ClassFile.FieldType.object "CardCups$Calendar"))) ∈ lw_tbl := lw_at lw_m1 73 rfl
theorem q181 : (Jvm.Cond.arrayClass (Jvm.ClassFile.FieldType.object "CardCups$Calendar")) ∈ lw_all := lw_g (lw_at lw_m1 74 rfl) rfl
theorem q183 : (Jvm.Cond.arrayOver (Jvm.ClassFile.FieldType.object "CardCups$Habit")) ∈ lw_tbl := lw_at lw_m1 76 rfl
theorem q278 : (Jvm.Cond.arrayClass Jvm.ClassFile.FieldType.long) ∈ lw_all := lw_g (lw_at lw_m1 171 rfl) rfl
theorem q931 : (Jvm.Cond.arrayOver (Jvm.ClassFile.FieldType.object "java/lang/String")) ∈ lw_tbl := lw_at lw_m4 104 rfl
theorem q1175 : (Jvm.Cond.arrayOver (Jvm.ClassFile.FieldType.object "CardCups$Step")) ∈ lw_tbl := lw_at lw_m5 108 rfl
