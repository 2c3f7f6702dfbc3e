/-! special rows: String's own methods over constants, calls by Term, calls of a Step -/
set_option maxRecDepth 100000
def mJ4_coder : MD := (yJ4_coder, cJ4_coder, 1, (some .byte), [])
theorem wsJ4_coder : wsM mJ4_coder = ws_ yJ4_coder cJ4_coder 1 (some .byte) := rfl
theorem mokJ4_coder : MOK mJ4_coder 0 := by decide +kernel
def mJ4_isLatin1 : MD := (yJ4_isLatin1, cJ4_isLatin1, 1, (some .boolean), [])
theorem wsJ4_isLatin1 : wsM mJ4_isLatin1 = ws_ yJ4_isLatin1 cJ4_isLatin1 1 (some .boolean) := rfl
theorem mokJ4_isLatin1 : MOK mJ4_isLatin1 0 := by decide +kernel
def mJ4_length : MD := (yJ4_length, cJ4_length, 1, (some .int), [])
theorem wsJ4_length : wsM mJ4_length = ws_ yJ4_length cJ4_length 1 (some .int) := rfl
theorem mokJ4_length : MOK mJ4_length 0 := by decide +kernel
def mJ6_checkIndex : MD := (yJ6_checkIndex, cJ6_checkIndex, 3, (some .int), [])
theorem wsJ6_checkIndex : wsM mJ6_checkIndex = ws_ yJ6_checkIndex cJ6_checkIndex 3 (some .int) := rfl
theorem mokJ6_checkIndex : MOK mJ6_checkIndex 3 := by decide +kernel
def mJ4_checkIndex : MD := (yJ4_checkIndex, cJ4_checkIndex, 2, none, [])
theorem wsJ4_checkIndex : wsM mJ4_checkIndex = ws_ yJ4_checkIndex cJ4_checkIndex 2 none := rfl
theorem mokJ4_checkIndex : MOK mJ4_checkIndex 2 := by decide +kernel
def mJ5_charAt : MD := (yJ5_charAt, cJ5_charAt, 2, (some .char), [])
theorem wsJ5_charAt : wsM mJ5_charAt = ws_ yJ5_charAt cJ5_charAt 2 (some .char) := rfl
theorem mokJ5_charAt : MOK mJ5_charAt 2 := by decide +kernel
def mJ4_charAt : MD := (yJ4_charAt, cJ4_charAt, 2, (some .char), [])
theorem wsJ4_charAt : wsM mJ4_charAt = ws_ yJ4_charAt cJ4_charAt 2 (some .char) := rfl
theorem mokJ4_charAt : MOK mJ4_charAt 1 := by decide +kernel
def mX15_on : MD := (yX15_on, cX15_on, 2, (some .int), [])
theorem wsX15_on : wsM mX15_on = ws_ yX15_on cX15_on 2 (some .int) := rfl
theorem mokX15_on : MOK mX15_on 1 := by decide +kernel
def mX16_on : MD := (yX16_on, cX16_on, 2, (some .int), [])
theorem wsX16_on : wsM mX16_on = ws_ yX16_on cX16_on 2 (some .int) := rfl
theorem mokX16_on : MOK mX16_on 1 := by decide +kernel
def mX17_on : MD := (yX17_on, cX17_on, 2, (some .int), [])
theorem wsX17_on : wsM mX17_on = ws_ yX17_on cX17_on 2 (some .int) := rfl
theorem mokX17_on : MOK mX17_on 1 := by decide +kernel
def mX18_on : MD := (yX18_on, cX18_on, 4, (some .int), [])
theorem wsX18_on : wsM mX18_on = ws_ yX18_on cX18_on 4 (some .int) := rfl
theorem mokX18_on : MOK mX18_on 1 := by decide +kernel
def mX19_isSo : MD := (yX19_isSo, cX19_isSo, 2, (some .boolean), [])
theorem wsX19_isSo : wsM mX19_isSo = ws_ yX19_isSo cX19_isSo 2 (some .boolean) := rfl
theorem mokX19_isSo : MOK mX19_isSo 1 := by decide +kernel
def mX19_doing : MD := (yX19_doing, cX19_doing, 3, (some .long), [])
theorem wsX19_doing : wsM mX19_doing = ws_ yX19_doing cX19_doing 3 (some .long) := rfl
theorem mokX19_doing : MOK mX19_doing 1 := by decide +kernel
def mX19_isDrawn : MD := (yX19_isDrawn, cX19_isDrawn, 2, (some .boolean), [])
theorem wsX19_isDrawn : wsM mX19_isDrawn = ws_ yX19_isDrawn cX19_isDrawn 2 (some .boolean) := rfl
theorem mokX19_isDrawn : MOK mX19_isDrawn 1 := by decide +kernel
def mX20_flows : MD := (yX20_flows, cX20_flows, 5, none, [])
theorem wsX20_flows : wsM mX20_flows = ws_ yX20_flows cX20_flows 5 none := rfl
theorem mokX20_flows : MOK mX20_flows 3 := by decide +kernel
def mX21_flows : MD := (yX21_flows, cX21_flows, 7, none, [])
theorem wsX21_flows : wsM mX21_flows = ws_ yX21_flows cX21_flows 7 none := rfl
theorem mokX21_flows : MOK mX21_flows 3 := by decide +kernel
def mX22_flows : MD := (yX22_flows, cX22_flows, 7, none, [])
theorem wsX22_flows : wsM mX22_flows = ws_ yX22_flows cX22_flows 7 none := rfl
theorem mokX22_flows : MOK mX22_flows 3 := by decide +kernel
def mX23_flows : MD := (yX23_flows, cX23_flows, 5, none, [])
theorem wsX23_flows : wsM mX23_flows = ws_ yX23_flows cX23_flows 5 none := rfl
theorem mokX23_flows : MOK mX23_flows 3 := by decide +kernel
def mX24_flows : MD := (yX24_flows, cX24_flows, 5, none, [])
theorem wsX24_flows : wsM mX24_flows = ws_ yX24_flows cX24_flows 5 none := rfl
theorem mokX24_flows : MOK mX24_flows 3 := by decide +kernel
def mX25_flows : MD := (yX25_flows, cX25_flows, 5, none, [])
theorem wsX25_flows : wsM mX25_flows = ws_ yX25_flows cX25_flows 5 none := rfl
theorem mokX25_flows : MOK mX25_flows 3 := by decide +kernel
def mX20_on : MD := (yX20_on, cX20_on, 2, none, [])
theorem wsX20_on : wsM mX20_on = ws_ yX20_on cX20_on 2 none := rfl
theorem mokX20_on : MOK mX20_on 1 := by decide +kernel
def mX21_on : MD := (yX21_on, cX21_on, 2, none, [])
theorem wsX21_on : wsM mX21_on = ws_ yX21_on cX21_on 2 none := rfl
theorem mokX21_on : MOK mX21_on 1 := by decide +kernel
def mX22_on : MD := (yX22_on, cX22_on, 2, none, [])
theorem wsX22_on : wsM mX22_on = ws_ yX22_on cX22_on 2 none := rfl
theorem mokX22_on : MOK mX22_on 1 := by decide +kernel
def mX23_on : MD := (yX23_on, cX23_on, 2, none, [])
theorem wsX23_on : wsM mX23_on = ws_ yX23_on cX23_on 2 none := rfl
theorem mokX23_on : MOK mX23_on 1 := by decide +kernel
def mX24_on : MD := (yX24_on, cX24_on, 2, none, [])
theorem wsX24_on : wsM mX24_on = ws_ yX24_on cX24_on 2 none := rfl
theorem mokX24_on : MOK mX24_on 1 := by decide +kernel
def mX25_on : MD := (yX25_on, cX25_on, 2, none, [])
theorem wsX25_on : wsM mX25_on = ws_ yX25_on cX25_on 2 none := rfl
theorem mokX25_on : MOK mX25_on 1 := by decide +kernel
theorem lw_cons {w : Cond} {l : List Cond} (h : w ∈ lw_all) (hl : ∀ x ∈ l, x ∈ lw_all) : ∀ x ∈ w :: l, x ∈ lw_all := List.forall_mem_cons.mpr ⟨h, hl⟩
theorem lw_nil : ∀ x ∈ ([] : List Cond), x ∈ lw_all := fun _ h => nomatch h
theorem str_len {i : Nat} {q : String × Nat × String × List Int32} (h : strTab[i]? = some q) : q.2.2.2.length < 100 := by
  have h1 : ∀ q ∈ strTab, q.2.2.2.length < 100 := by decide +kernel
  exact h1 q (List.mem_of_getElem? h)
theorem str_ch {i : Nat} {q : String × Nat × String × List Int32} (h : strTab[i]? = some q) : ∀ x ∈ q.2.2.2, ∃ n : Nat, 97 ≤ n ∧ n ≤ 122 ∧ x = nI n := by
  have h1 : ∀ q ∈ strTab, ∀ x ∈ q.2.2.2, ∃ n : Fin 123, 97 ≤ n.val ∧ x = nI n.val := by decide +kernel
  intro x hx
  obtain ⟨n, h2, h3⟩ := h1 q (List.mem_of_getElem? h) x hx
  exact ⟨n.val, h2, by omega, h3⟩
section STRS
variable {G : GC} {σ : PS} {i : Nat} {q : String × Nat × String × List Int32}
theorem coder_call (hi : strTab[i]? = some q) : Call G mJ4_coder 3 0 [.ref (gk G i)] σ (fun v s => s = σ ∧ v = some (.int 0)) (fun _ _ _ => False) := by
  refine Call.of (by decide +kernel) wsJ4_coder rfl (Nat.le_of_ble_eq_true rfl) ?_
  show At G mJ4_coder 3 _ _ 0 0 [(0, .ref (gk G i))] [] σ
  refine g_gets dJ4_coder_0 (fun U h => h.2.2.2.2.2.2.1) q1004 ?_
  refine g_if_eq (tgt := 13) dJ4_coder_3 (by decide) (fun c => absurd c (by decide)) (fun _ => ?_)
  refine g_aload_n dJ4_coder_6 rfl 0 rfl ?_
  refine g_strC dJ4_coder_7 hi q2517 ?_
  refine g_goto (tgt := 14) dJ4_coder_10 (by decide) ?_
  exact g_zret rfl rfl dJ4_coder_14 ⟨rfl, rfl⟩
theorem isLatin1_call (hi : strTab[i]? = some q) : Call G mJ4_isLatin1 3 0 [.ref (gk G i)] σ (fun v s => s = σ ∧ v = some (.int 1)) (fun _ _ _ => False) := by
  refine Call.of (by decide +kernel) wsJ4_isLatin1 rfl (Nat.le_of_ble_eq_true rfl) ?_
  show At G mJ4_isLatin1 3 _ _ 0 0 [(0, .ref (gk G i))] [] σ
  refine g_gets dJ4_isLatin1_0 (fun U h => h.2.2.2.2.2.2.1) q1004 ?_
  refine g_if_eq (tgt := 17) dJ4_isLatin1_3 (by decide) (fun c => absurd c (by decide)) (fun _ => ?_)
  refine g_aload_n dJ4_isLatin1_6 rfl 0 rfl ?_
  refine g_strC dJ4_isLatin1_7 hi q2517 ?_
  refine g_if_ne (tgt := 17) dJ4_isLatin1_10 (by decide) (fun c => absurd rfl c) (fun _ => ?_)
  refine g_iconst (v := 1) dJ4_isLatin1_13 (by decide) ?_
  refine g_goto (tgt := 18) dJ4_isLatin1_14 (by decide) ?_
  exact g_zret rfl rfl dJ4_isLatin1_18 ⟨rfl, rfl⟩
theorem strlen_call (hi : strTab[i]? = some q) : Call G mJ4_length 4 0 [.ref (gk G i)] σ (fun v s => s = σ ∧ v = some (.int (nI q.2.2.2.length))) (fun _ _ _ => False) := by
  refine Call.of (by decide +kernel) wsJ4_length rfl (Nat.le_of_ble_eq_true rfl) ?_
  show At G mJ4_length 4 _ _ 0 0 [(0, .ref (gk G i))] [] σ
  refine g_aload_n dJ4_length_0 rfl 0 rfl ?_
  refine g_strV dJ4_length_1 hi q2516 ?_
  refine g_strL dJ4_length_4 hi ?_
  refine g_aload_n dJ4_length_5 rfl 0 rfl ?_
  refine g_callStr (N := mJ4_coder) (As := []) (st := [.int (nI q.2.2.2.length)]) dJ4_length_6 wsJ4_coder (lw_V q1000 q1001 q1002 q123 q1003) rfl mokJ4_coder rfl hi (by decide) (by decide) (by simp [Value.category]) (coder_call hi) (fun _ s9 hq => ?_)
  obtain ⟨es, rfl⟩ := hq
  refine g_tops2 es ?_
  refine At.stk (st' := [.int 0, .int (nI q.2.2.2.length)]) rfl ?_
  refine g_ishr dJ4_length_9 ?_
  refine g_iret rfl dJ4_length_10 ⟨rfl, ?_⟩
  rw [sc_shr0 (by have := str_len hi; omega)]
theorem checkIndex6_call {k n : Nat} {x : Option Nat} (hk : k < n) (hn : n < 100) : Call G mJ6_checkIndex 3 0 [.int (nI k), .int (nI n), va_rf x] σ (fun v s => s = σ ∧ v = some (.int (nI k))) (fun _ _ _ => False) := by
  refine Call.of (by decide +kernel) wsJ6_checkIndex rfl (by cases x <;> exact Nat.le_of_ble_eq_true rfl) ?_
  have e0 : lv_args 0 [.int (nI k), .int (nI n), va_rf x] = [(0, .int (nI k)), (1, .int (nI n)), (2, va_rf x)] := by cases x <;> rfl
  rw [e0]
  refine g_iload_n dJ6_checkIndex_0 rfl 0 rfl ?_
  refine g_if_lt (tgt := 9) dJ6_checkIndex_1 (by decide) (fun c => absurd c (nI_pos (by omega))) (fun _ => ?_)
  refine g_iload_n dJ6_checkIndex_4 rfl 0 rfl ?_
  refine g_iload_n dJ6_checkIndex_5 rfl 1 rfl ?_
  refine g_icmp_lt (tgt := 16) dJ6_checkIndex_6 (by decide) (fun _ => ?_) (fun c => absurd (nI_lt hk (by omega)) c)
  refine g_iload_n dJ6_checkIndex_16 rfl 0 rfl ?_
  exact g_iret rfl dJ6_checkIndex_17 ⟨rfl, rfl⟩
theorem checkIndex4_call {k n : Nat} (hk : k < n) (hn : n < 100) : Call G mJ4_checkIndex 4 0 [.int (nI k), .int (nI n)] σ (fun v s => s = σ ∧ v = none) (fun _ _ _ => False) := by
  refine Call.of (by decide +kernel) wsJ4_checkIndex rfl (Nat.le_of_ble_eq_true rfl) ?_
  show At G mJ4_checkIndex 4 _ _ 0 0 [(0, .int (nI k)), (1, .int (nI n))] [] σ
  refine g_iload_n dJ4_checkIndex_0 rfl 0 rfl ?_
  refine g_iload_n dJ4_checkIndex_1 rfl 1 rfl ?_
  refine g_getsq dJ4_checkIndex_2 (fun U h => h.2.2.2.2.2.2.2.1) q1020 (fun x => ?_)
  refine g_callS (N := mJ6_checkIndex) (st := []) (As := [.int (nI k), .int (nI n), va_rf x]) dJ4_checkIndex_5 wsJ6_checkIndex (lw_S q1022 q1023 q125 q1024) mokJ6_checkIndex rfl (by decide) (by decide) (Nat.zero_le _) (Nat.zero_le _) (checkIndex6_call hk hn) (fun E q s hx => hx.elim) (fun _ s9 hq => ?_)
  obtain ⟨es, rfl⟩ := hq
  refine g_tops2 es ?_
  refine At.stk (st' := [.int (nI k)]) rfl ?_
  refine g_pop dJ4_checkIndex_8 rfl ?_
  exact g_vret rfl dJ4_checkIndex_9 ⟨rfl, rfl⟩
theorem latin1_call (hi : strTab[i]? = some q) {k : Nat} (hk : k < q.2.2.2.length) : Call G mJ5_charAt 5 0 [.ref (gv G i), .int (nI k)] σ (fun v s => s = σ ∧ v = some (.int (q.2.2.2.getD k 0))) (fun _ _ _ => False) := by
  have hl := str_len hi
  refine Call.of (by decide +kernel) wsJ5_charAt rfl (Nat.le_of_ble_eq_true rfl) ?_
  show At G mJ5_charAt 5 _ _ 0 0 [(0, .ref (gv G i)), (1, .int (nI k))] [] σ
  refine g_iload_n dJ5_charAt_0 rfl 1 rfl ?_
  refine g_aload_n dJ5_charAt_1 rfl 0 rfl ?_
  refine g_strL dJ5_charAt_2 hi ?_
  refine g_callS (N := mJ4_checkIndex) (st := []) (As := [.int (nI k), .int (nI q.2.2.2.length)]) dJ5_charAt_3 wsJ4_checkIndex (lw_S q1017 q1018 q123 q1019) mokJ4_checkIndex rfl (by decide) (by decide) (Nat.zero_le _) (Nat.zero_le _) (checkIndex4_call hk hl) (fun E q s hx => hx.elim) (fun _ s9 hq => ?_)
  obtain ⟨es, rfl⟩ := hq
  refine g_tops2 es ?_
  refine At.stk (st' := []) rfl ?_
  refine g_aload_n dJ5_charAt_6 rfl 0 rfl ?_
  refine g_iload_n dJ5_charAt_7 rfl 1 rfl ?_
  refine g_strB dJ5_charAt_8 hi (vp_in_nI hk (by omega)) ?_
  refine g_sipush (v := 255) dJ5_charAt_9 (by decide) ?_
  refine g_iand dJ5_charAt_12 ?_
  refine g_i2c dJ5_charAt_13 ?_
  have e1 : (q.2.2.2.getD (nI k).toNatClampNeg 0) = q.2.2.2.getD k 0 := by rw [nI_clamp (by omega)]
  obtain ⟨n, h1, h2, h3⟩ := str_ch hi (q.2.2.2.getD k 0) (by rw [List.getD_eq_getElem?_getD, List.getElem?_eq_getElem hk]; exact List.getElem_mem hk)
  have e2 : ∀ n : Fin 123, (((nI n.val) &&& 255).toUInt32 % 65536).toInt32 = nI n.val ∧ narrow .char (.int (nI n.val)) = .int (nI n.val) := by decide +kernel
  have e3 := e2 ⟨n, by omega⟩
  rw [e1, h3]
  rw [e3.1]
  exact g_zret rfl e3.2 dJ5_charAt_14 ⟨rfl, rfl⟩
theorem charAt_call (hi : strTab[i]? = some q) {k : Nat} (hk : k < q.2.2.2.length) : Call G mJ4_charAt 6 0 [.ref (gk G i), .int (nI k)] σ (fun v s => s = σ ∧ v = some (.int (q.2.2.2.getD k 0))) (fun _ _ _ => False) := by
  refine Call.of (by decide +kernel) wsJ4_charAt rfl (Nat.le_of_ble_eq_true rfl) ?_
  show At G mJ4_charAt 6 _ _ 0 0 [(0, .ref (gk G i)), (1, .int (nI k))] [] σ
  refine g_aload_n dJ4_charAt_0 rfl 0 rfl ?_
  refine g_callStr (N := mJ4_isLatin1) (As := []) (st := []) dJ4_charAt_1 wsJ4_isLatin1 (lw_V q1010 q1011 q1012 q123 q1013) rfl mokJ4_isLatin1 rfl hi (by decide) (by decide) (Nat.zero_le _) (isLatin1_call hi) (fun _ s9 hq => ?_)
  obtain ⟨es, rfl⟩ := hq
  refine g_tops2 es ?_
  refine At.stk (st' := [.int 1]) rfl ?_
  refine g_if_eq (tgt := 16) dJ4_charAt_4 (by decide) (fun c => absurd c (by decide)) (fun _ => ?_)
  refine g_aload_n dJ4_charAt_7 rfl 0 rfl ?_
  refine g_strV dJ4_charAt_8 hi q2516 ?_
  refine g_iload_n dJ4_charAt_11 rfl 1 rfl ?_
  refine g_callS (N := mJ5_charAt) (st := []) (As := [.ref (gv G i), .int (nI k)]) dJ4_charAt_12 wsJ5_charAt (lw_S q1014 q1015 q124 q1016) mokJ5_charAt rfl (by decide) (by decide) (Nat.zero_le _) (Nat.zero_le _) (latin1_call hi hk) (fun E q s hx => hx.elim) (fun _ s9 hq => ?_)
  obtain ⟨es, rfl⟩ := hq
  refine g_tops2 es ?_
  refine At.stk (st' := [.int (q.2.2.2.getD k 0)]) rfl ?_
  obtain ⟨n, h1, h2, h3⟩ := str_ch hi (q.2.2.2.getD k 0) (by rw [List.getD_eq_getElem?_getD, List.getElem?_eq_getElem hk]; exact List.getElem_mem hk)
  have e2 : ∀ n : Fin 123, narrow .char (.int (nI n.val)) = .int (nI n.val) := by decide +kernel
  have e3 := e2 ⟨n, by omega⟩
  rw [h3]
  exact g_zret rfl e3 dJ4_charAt_15 ⟨rfl, rfl⟩
theorem strlen_callP (hi : strTab[i]? = some q) : CallP G mJ4_length 4 [.ref (gk G i)] (fun v => v = some (.int (nI q.2.2.2.length))) := fun _ => strlen_call hi
theorem charAt_callP (hi : strTab[i]? = some q) {k : Nat} (hk : k < q.2.2.2.length) : CallP G mJ4_charAt 6 [.ref (gk G i), .int (nI k)] (fun v => v = some (.int (q.2.2.2.getD k 0))) := fun _ => charAt_call hi hk
end STRS
/-- a call by the interface Term: of whichever of its four classes -/
def CallT (G : GC) (r a : Nat) (As : List Value) (σ : PS) (P : Option Value → Prop) : Prop :=
  (∃ fs, Ob σ 15 a fs ∧ CallO G mX15_on r (.ref a :: As) σ P) ∨ (∃ fs, Ob σ 16 a fs ∧ CallO G mX16_on r (.ref a :: As) σ P) ∨ (∃ fs, Ob σ 17 a fs ∧ CallO G mX17_on r (.ref a :: As) σ P) ∨ (∃ fs, Ob σ 18 a fs ∧ CallO G mX18_on r (.ref a :: As) σ P)
def CallS_isSo (G : GC) (r a : Nat) (As : List Value) (σ : PS) (P : Option Value → Prop) : Prop := ∃ (κ : Nat) (fs : List Value), (20 ≤ κ ∧ κ ≤ 25) ∧ Ob σ κ a fs ∧ CallO G mX19_isSo r (.ref a :: As) σ P
def CallS_doing (G : GC) (r a : Nat) (As : List Value) (σ : PS) (P : Option Value → Prop) : Prop := ∃ (κ : Nat) (fs : List Value), (20 ≤ κ ∧ κ ≤ 25) ∧ Ob σ κ a fs ∧ CallO G mX19_doing r (.ref a :: As) σ P
def CallS_isDrawn (G : GC) (r a : Nat) (As : List Value) (σ : PS) (Q : Option Value → PS → Prop) : Prop := ∃ (κ : Nat) (fs : List Value), (20 ≤ κ ∧ κ ≤ 25) ∧ Ob σ κ a fs ∧ Call G mX19_isDrawn r 0 (.ref a :: As) σ Q (fun _ _ _ => False)
def CallS_flows (G : GC) (r a : Nat) (As : List Value) (σ : PS) (Q : Option Value → PS → Prop) : Prop :=
  (∃ fs, Ob σ 20 a fs ∧ Call G mX20_flows r 0 (.ref a :: As) σ Q (fun _ _ _ => False)) ∨ (∃ fs, Ob σ 21 a fs ∧ Call G mX21_flows r 0 (.ref a :: As) σ Q (fun _ _ _ => False)) ∨ (∃ fs, Ob σ 22 a fs ∧ Call G mX22_flows r 0 (.ref a :: As) σ Q (fun _ _ _ => False)) ∨ (∃ fs, Ob σ 23 a fs ∧ Call G mX23_flows r 0 (.ref a :: As) σ Q (fun _ _ _ => False)) ∨ (∃ fs, Ob σ 24 a fs ∧ Call G mX24_flows r 0 (.ref a :: As) σ Q (fun _ _ _ => False)) ∨ (∃ fs, Ob σ 25 a fs ∧ Call G mX25_flows r 0 (.ref a :: As) σ Q (fun _ _ _ => False))
def CallS_on (G : GC) (r a : Nat) (As : List Value) (σ : PS) (Q : Option Value → PS → Prop) : Prop :=
  (∃ fs, Ob σ 20 a fs ∧ Call G mX20_on r 0 (.ref a :: As) σ Q (fun _ _ _ => False)) ∨ (∃ fs, Ob σ 21 a fs ∧ Call G mX21_on r 0 (.ref a :: As) σ Q (fun _ _ _ => False)) ∨ (∃ fs, Ob σ 22 a fs ∧ Call G mX22_on r 0 (.ref a :: As) σ Q (fun _ _ _ => False)) ∨ (∃ fs, Ob σ 23 a fs ∧ Call G mX23_on r 0 (.ref a :: As) σ Q (fun _ _ _ => False)) ∨ (∃ fs, Ob σ 24 a fs ∧ Call G mX24_on r 0 (.ref a :: As) σ Q (fun _ _ _ => False)) ∨ (∃ fs, Ob σ 25 a fs ∧ Call G mX25_on r 0 (.ref a :: As) σ Q (fun _ _ _ => False))
section SROWS
variable {G : GC} {M : MD} {r : Nat} {Q : Option Value → PS → Prop} {X : String → Nat → PS → Prop} {b pc : Nat} {ls : List (Nat × Value)} {st : List Value} {σ : PS}

theorem g_callT {rc idx cnt a : Nat} {As : List Value} {P : Option Value → Prop} (d : decode M.2.1 pc = .ok (.invokeinterface idx cnt, 5)) (hl : Cond.methodLink M.1.cls idx yTerm ∈ lw_all) (hn : As.length = 1) (hr : rc + 1 ≤ r) (hst : (st.map fun v => v.category).sum ≤ 8) (h : CallT G rc a As σ P) (kk : ∀ v, P v → At G M r Q X b (pc + 5) ls (v.toList ++ st) σ) : At G M r Q X b pc ls (As.reverse ++ .ref a :: st) σ := by
  rcases h with ⟨fs, hO, hC⟩ | ⟨fs, hO, hC⟩ | ⟨fs, hO, hC⟩ | ⟨fs, hO, hC⟩
  · exact g_callF (n := 0) (N := mX15_on) (q := (RX15, TX15, 1)) d wsX15_on (lw_app (lw_cons hl (lw_cons q648 (lw_cons q650 (lw_cons q133 lw_nil)))) (lw_meth q652)) (fun U h => h.2.2.2.2.1.1) hn cl15 hr (by decide) (Nat.zero_le _) hst hO hC (fun _ _ _ h => h.elim) (fun v s h => by obtain ⟨rfl, h⟩ := h; exact kk v h)
  · exact g_callF (n := 0) (N := mX16_on) (q := (RX16, TX16, 1)) d wsX16_on (lw_app (lw_cons hl (lw_cons q656 (lw_cons q658 (lw_cons q134 lw_nil)))) (lw_meth q660)) (fun U h => h.2.2.2.2.1.2.1) hn cl16 hr (by decide) (Nat.zero_le _) hst hO hC (fun _ _ _ h => h.elim) (fun v s h => by obtain ⟨rfl, h⟩ := h; exact kk v h)
  · exact g_callF (n := 0) (N := mX17_on) (q := (RX17, TX17, 1)) d wsX17_on (lw_app (lw_cons hl (lw_cons q641 (lw_cons q643 (lw_cons q135 lw_nil)))) (lw_meth q645)) (fun U h => h.2.2.2.2.1.2.2.1) hn cl17 hr (by decide) (Nat.zero_le _) hst hO hC (fun _ _ _ h => h.elim) (fun v s h => by obtain ⟨rfl, h⟩ := h; exact kk v h)
  · exact g_callF (n := 0) (N := mX18_on) (q := (RX18, TX18, 3)) d wsX18_on (lw_app (lw_cons hl (lw_cons q662 (lw_cons q664 (lw_cons q136 lw_nil)))) (lw_meth q666)) (fun U h => h.2.2.2.2.1.2.2.2) hn cl18 hr (by decide) (Nat.zero_le _) hst hO hC (fun _ _ _ h => h.elim) (fun v s h => by obtain ⟨rfl, h⟩ := h; exact kk v h)
theorem g_callS_isSo {rc idx a : Nat} {As : List Value} {P : Option Value → Prop} (d : decode M.2.1 pc = .ok (.invokevirtual idx, 3)) (hl : Cond.methodLink M.1.cls idx yX19_isSo ∈ lw_all) (hn : As.length = 1) (hr : rc + 1 ≤ r) (hst : (st.map fun v => v.category).sum ≤ 8) (h : CallS_isSo G rc a As σ P) (kk : ∀ v, P v → At G M r Q X b (pc + 3) ls (v.toList ++ st) σ) : At G M r Q X b pc ls (As.reverse ++ .ref a :: st) σ := by
  obtain ⟨κ, fs, hκ, hO, hC⟩ := h
  have hk : κ = 20 ∨ κ = 21 ∨ κ = 22 ∨ κ = 23 ∨ κ = 24 ∨ κ = 25 := by omega
  rcases hk with rfl | rfl | rfl | rfl | rfl | rfl
  · exact g_callU (N := mX19_isSo) (x := yX19_isSo) (owner := RX19) (q := (RX20, TX20, 2)) d wsX19_isSo (lw_app (lw_cons hl (lw_cons q628 (lw_cons q631 (lw_cons q627 (lw_cons q137 lw_nil))))) (lw_meth q635)) (Or.inl rfl) (by decide +kernel) hn cl20 hr (by decide) (Nat.zero_le _) hst hO hC (fun _ _ _ h => h.elim) (fun v s h => by obtain ⟨rfl, h⟩ := h; exact kk v h)
  · exact g_callU (N := mX19_isSo) (x := yX19_isSo) (owner := RX19) (q := (RX21, TX21, 2)) d wsX19_isSo (lw_app (lw_cons hl (lw_cons q628 (lw_cons q633 (lw_cons q627 (lw_cons q137 lw_nil))))) (lw_meth q635)) (Or.inl rfl) (by decide +kernel) hn cl21 hr (by decide) (Nat.zero_le _) hst hO hC (fun _ _ _ h => h.elim) (fun v s h => by obtain ⟨rfl, h⟩ := h; exact kk v h)
  · exact g_callU (N := mX19_isSo) (x := yX19_isSo) (owner := RX19) (q := (RX22, TX22, 2)) d wsX19_isSo (lw_app (lw_cons hl (lw_cons q628 (lw_cons q630 (lw_cons q627 (lw_cons q137 lw_nil))))) (lw_meth q635)) (Or.inl rfl) (by decide +kernel) hn cl22 hr (by decide) (Nat.zero_le _) hst hO hC (fun _ _ _ h => h.elim) (fun v s h => by obtain ⟨rfl, h⟩ := h; exact kk v h)
  · exact g_callU (N := mX19_isSo) (x := yX19_isSo) (owner := RX19) (q := (RX23, TX23, 2)) d wsX19_isSo (lw_app (lw_cons hl (lw_cons q628 (lw_cons q632 (lw_cons q627 (lw_cons q137 lw_nil))))) (lw_meth q635)) (Or.inl rfl) (by decide +kernel) hn cl23 hr (by decide) (Nat.zero_le _) hst hO hC (fun _ _ _ h => h.elim) (fun v s h => by obtain ⟨rfl, h⟩ := h; exact kk v h)
  · exact g_callU (N := mX19_isSo) (x := yX19_isSo) (owner := RX19) (q := (RX24, TX24, 2)) d wsX19_isSo (lw_app (lw_cons hl (lw_cons q628 (lw_cons q629 (lw_cons q627 (lw_cons q137 lw_nil))))) (lw_meth q635)) (Or.inl rfl) (by decide +kernel) hn cl24 hr (by decide) (Nat.zero_le _) hst hO hC (fun _ _ _ h => h.elim) (fun v s h => by obtain ⟨rfl, h⟩ := h; exact kk v h)
  · exact g_callU (N := mX19_isSo) (x := yX19_isSo) (owner := RX19) (q := (RX25, TX25, 3)) d wsX19_isSo (lw_app (lw_cons hl (lw_cons q628 (lw_cons q634 (lw_cons q627 (lw_cons q137 lw_nil))))) (lw_meth q635)) (Or.inl rfl) (by decide +kernel) hn cl25 hr (by decide) (Nat.zero_le _) hst hO hC (fun _ _ _ h => h.elim) (fun v s h => by obtain ⟨rfl, h⟩ := h; exact kk v h)
theorem g_callS_doing {rc idx a : Nat} {As : List Value} {P : Option Value → Prop} (d : decode M.2.1 pc = .ok (.invokevirtual idx, 3)) (hl : Cond.methodLink M.1.cls idx yX19_doing ∈ lw_all) (hn : As.length = 1) (hr : rc + 1 ≤ r) (hst : (st.map fun v => v.category).sum ≤ 8) (h : CallS_doing G rc a As σ P) (kk : ∀ v, P v → At G M r Q X b (pc + 3) ls (v.toList ++ st) σ) : At G M r Q X b pc ls (As.reverse ++ .ref a :: st) σ := by
  obtain ⟨κ, fs, hκ, hO, hC⟩ := h
  have hk : κ = 20 ∨ κ = 21 ∨ κ = 22 ∨ κ = 23 ∨ κ = 24 ∨ κ = 25 := by omega
  rcases hk with rfl | rfl | rfl | rfl | rfl | rfl
  · exact g_callU (N := mX19_doing) (x := yX19_doing) (owner := RX19) (q := (RX20, TX20, 2)) d wsX19_doing (lw_app (lw_cons hl (lw_cons q671 (lw_cons q674 (lw_cons q670 (lw_cons q137 lw_nil))))) (lw_meth q678)) (Or.inl rfl) (by decide +kernel) hn cl20 hr (by decide) (Nat.zero_le _) hst hO hC (fun _ _ _ h => h.elim) (fun v s h => by obtain ⟨rfl, h⟩ := h; exact kk v h)
  · exact g_callU (N := mX19_doing) (x := yX19_doing) (owner := RX19) (q := (RX21, TX21, 2)) d wsX19_doing (lw_app (lw_cons hl (lw_cons q671 (lw_cons q676 (lw_cons q670 (lw_cons q137 lw_nil))))) (lw_meth q678)) (Or.inl rfl) (by decide +kernel) hn cl21 hr (by decide) (Nat.zero_le _) hst hO hC (fun _ _ _ h => h.elim) (fun v s h => by obtain ⟨rfl, h⟩ := h; exact kk v h)
  · exact g_callU (N := mX19_doing) (x := yX19_doing) (owner := RX19) (q := (RX22, TX22, 2)) d wsX19_doing (lw_app (lw_cons hl (lw_cons q671 (lw_cons q673 (lw_cons q670 (lw_cons q137 lw_nil))))) (lw_meth q678)) (Or.inl rfl) (by decide +kernel) hn cl22 hr (by decide) (Nat.zero_le _) hst hO hC (fun _ _ _ h => h.elim) (fun v s h => by obtain ⟨rfl, h⟩ := h; exact kk v h)
  · exact g_callU (N := mX19_doing) (x := yX19_doing) (owner := RX19) (q := (RX23, TX23, 2)) d wsX19_doing (lw_app (lw_cons hl (lw_cons q671 (lw_cons q675 (lw_cons q670 (lw_cons q137 lw_nil))))) (lw_meth q678)) (Or.inl rfl) (by decide +kernel) hn cl23 hr (by decide) (Nat.zero_le _) hst hO hC (fun _ _ _ h => h.elim) (fun v s h => by obtain ⟨rfl, h⟩ := h; exact kk v h)
  · exact g_callU (N := mX19_doing) (x := yX19_doing) (owner := RX19) (q := (RX24, TX24, 2)) d wsX19_doing (lw_app (lw_cons hl (lw_cons q671 (lw_cons q672 (lw_cons q670 (lw_cons q137 lw_nil))))) (lw_meth q678)) (Or.inl rfl) (by decide +kernel) hn cl24 hr (by decide) (Nat.zero_le _) hst hO hC (fun _ _ _ h => h.elim) (fun v s h => by obtain ⟨rfl, h⟩ := h; exact kk v h)
  · exact g_callU (N := mX19_doing) (x := yX19_doing) (owner := RX19) (q := (RX25, TX25, 3)) d wsX19_doing (lw_app (lw_cons hl (lw_cons q671 (lw_cons q677 (lw_cons q670 (lw_cons q137 lw_nil))))) (lw_meth q678)) (Or.inl rfl) (by decide +kernel) hn cl25 hr (by decide) (Nat.zero_le _) hst hO hC (fun _ _ _ h => h.elim) (fun v s h => by obtain ⟨rfl, h⟩ := h; exact kk v h)
theorem g_callS_isDrawn {rc idx a : Nat} {As : List Value} {Qc : Option Value → PS → Prop} (d : decode M.2.1 pc = .ok (.invokevirtual idx, 3)) (hl : Cond.methodLink M.1.cls idx yX19_isDrawn ∈ lw_all) (hn : As.length = 1) (hr : rc + 1 ≤ r) (hst : (st.map fun v => v.category).sum ≤ 8) (h : CallS_isDrawn G rc a As σ Qc) (kk : ∀ v σ', Qc v σ' → At G M r Q X b (pc + 3) ls (v.toList ++ st) σ') : At G M r Q X b pc ls (As.reverse ++ .ref a :: st) σ := by
  obtain ⟨κ, fs, hκ, hO, hC⟩ := h
  have hk : κ = 20 ∨ κ = 21 ∨ κ = 22 ∨ κ = 23 ∨ κ = 24 ∨ κ = 25 := by omega
  rcases hk with rfl | rfl | rfl | rfl | rfl | rfl
  · exact g_callU (N := mX19_isDrawn) (x := yX19_isDrawn) (owner := RX19) (q := (RX20, TX20, 2)) d wsX19_isDrawn (lw_app (lw_cons hl (lw_cons q1661 (lw_cons q1664 (lw_cons q1660 (lw_cons q137 lw_nil))))) (lw_meth q1668)) (Or.inl rfl) (by decide +kernel) hn cl20 hr (by decide) (Nat.zero_le _) hst hO hC (fun _ _ _ h => h.elim) kk
  · exact g_callU (N := mX19_isDrawn) (x := yX19_isDrawn) (owner := RX19) (q := (RX21, TX21, 2)) d wsX19_isDrawn (lw_app (lw_cons hl (lw_cons q1661 (lw_cons q1666 (lw_cons q1660 (lw_cons q137 lw_nil))))) (lw_meth q1668)) (Or.inl rfl) (by decide +kernel) hn cl21 hr (by decide) (Nat.zero_le _) hst hO hC (fun _ _ _ h => h.elim) kk
  · exact g_callU (N := mX19_isDrawn) (x := yX19_isDrawn) (owner := RX19) (q := (RX22, TX22, 2)) d wsX19_isDrawn (lw_app (lw_cons hl (lw_cons q1661 (lw_cons q1663 (lw_cons q1660 (lw_cons q137 lw_nil))))) (lw_meth q1668)) (Or.inl rfl) (by decide +kernel) hn cl22 hr (by decide) (Nat.zero_le _) hst hO hC (fun _ _ _ h => h.elim) kk
  · exact g_callU (N := mX19_isDrawn) (x := yX19_isDrawn) (owner := RX19) (q := (RX23, TX23, 2)) d wsX19_isDrawn (lw_app (lw_cons hl (lw_cons q1661 (lw_cons q1665 (lw_cons q1660 (lw_cons q137 lw_nil))))) (lw_meth q1668)) (Or.inl rfl) (by decide +kernel) hn cl23 hr (by decide) (Nat.zero_le _) hst hO hC (fun _ _ _ h => h.elim) kk
  · exact g_callU (N := mX19_isDrawn) (x := yX19_isDrawn) (owner := RX19) (q := (RX24, TX24, 2)) d wsX19_isDrawn (lw_app (lw_cons hl (lw_cons q1661 (lw_cons q1662 (lw_cons q1660 (lw_cons q137 lw_nil))))) (lw_meth q1668)) (Or.inl rfl) (by decide +kernel) hn cl24 hr (by decide) (Nat.zero_le _) hst hO hC (fun _ _ _ h => h.elim) kk
  · exact g_callU (N := mX19_isDrawn) (x := yX19_isDrawn) (owner := RX19) (q := (RX25, TX25, 3)) d wsX19_isDrawn (lw_app (lw_cons hl (lw_cons q1661 (lw_cons q1667 (lw_cons q1660 (lw_cons q137 lw_nil))))) (lw_meth q1668)) (Or.inl rfl) (by decide +kernel) hn cl25 hr (by decide) (Nat.zero_le _) hst hO hC (fun _ _ _ h => h.elim) kk
def yS_flows : MethodName := ⟨RX19, "flows", "(LCardCups$Flow;LCardCups$State;J)V"⟩
theorem g_callS_flows {rc idx a : Nat} {As : List Value} {Qc : Option Value → PS → Prop} (d : decode M.2.1 pc = .ok (.invokevirtual idx, 3)) (hl : Cond.methodLink M.1.cls idx yS_flows ∈ lw_all) (hn : As.length = 3) (hr : rc + 1 ≤ r) (hst : (st.map fun v => v.category).sum ≤ 8) (h : CallS_flows G rc a As σ Qc) (kk : ∀ v σ', Qc v σ' → At G M r Q X b (pc + 3) ls (v.toList ++ st) σ') : At G M r Q X b pc ls (As.reverse ++ .ref a :: st) σ := by
  rcases h with ⟨fs, hO, hC⟩ | ⟨fs, hO, hC⟩ | ⟨fs, hO, hC⟩ | ⟨fs, hO, hC⟩ | ⟨fs, hO, hC⟩ | ⟨fs, hO, hC⟩
  · exact g_callU (N := mX20_flows) (x := yS_flows) (owner := RX19) (q := (RX20, TX20, 2)) d wsX20_flows (lw_app (lw_cons hl (lw_cons q682 (lw_cons q703 (lw_cons q704 (lw_cons q138 lw_nil))))) (lw_meth q705)) (Or.inr q681) (by decide +kernel) hn cl20 hr (by decide) (Nat.zero_le _) hst hO hC (fun _ _ _ h => h.elim) kk
  · exact g_callU (N := mX21_flows) (x := yS_flows) (owner := RX19) (q := (RX21, TX21, 2)) d wsX21_flows (lw_app (lw_cons hl (lw_cons q682 (lw_cons q720 (lw_cons q721 (lw_cons q139 lw_nil))))) (lw_meth q722)) (Or.inr q681) (by decide +kernel) hn cl21 hr (by decide) (Nat.zero_le _) hst hO hC (fun _ _ _ h => h.elim) kk
  · exact g_callU (N := mX22_flows) (x := yS_flows) (owner := RX19) (q := (RX22, TX22, 2)) d wsX22_flows (lw_app (lw_cons hl (lw_cons q682 (lw_cons q698 (lw_cons q699 (lw_cons q140 lw_nil))))) (lw_meth q700)) (Or.inr q681) (by decide +kernel) hn cl22 hr (by decide) (Nat.zero_le _) hst hO hC (fun _ _ _ h => h.elim) kk
  · exact g_callU (N := mX23_flows) (x := yS_flows) (owner := RX19) (q := (RX23, TX23, 2)) d wsX23_flows (lw_app (lw_cons hl (lw_cons q682 (lw_cons q711 (lw_cons q712 (lw_cons q141 lw_nil))))) (lw_meth q713)) (Or.inr q681) (by decide +kernel) hn cl23 hr (by decide) (Nat.zero_le _) hst hO hC (fun _ _ _ h => h.elim) kk
  · exact g_callU (N := mX24_flows) (x := yS_flows) (owner := RX19) (q := (RX24, TX24, 2)) d wsX24_flows (lw_app (lw_cons hl (lw_cons q682 (lw_cons q683 (lw_cons q684 (lw_cons q142 lw_nil))))) (lw_meth q685)) (Or.inr q681) (by decide +kernel) hn cl24 hr (by decide) (Nat.zero_le _) hst hO hC (fun _ _ _ h => h.elim) kk
  · exact g_callU (N := mX25_flows) (x := yS_flows) (owner := RX19) (q := (RX25, TX25, 3)) d wsX25_flows (lw_app (lw_cons hl (lw_cons q682 (lw_cons q734 (lw_cons q735 (lw_cons q143 lw_nil))))) (lw_meth q736)) (Or.inr q681) (by decide +kernel) hn cl25 hr (by decide) (Nat.zero_le _) hst hO hC (fun _ _ _ h => h.elim) kk
def yS_on : MethodName := ⟨RX19, "on", "(LCardCups$Day;)V"⟩
theorem g_callS_on {rc idx a : Nat} {As : List Value} {Qc : Option Value → PS → Prop} (d : decode M.2.1 pc = .ok (.invokevirtual idx, 3)) (hl : Cond.methodLink M.1.cls idx yS_on ∈ lw_all) (hn : As.length = 1) (hr : rc + 1 ≤ r) (hst : (st.map fun v => v.category).sum ≤ 8) (h : CallS_on G rc a As σ Qc) (kk : ∀ v σ', Qc v σ' → At G M r Q X b (pc + 3) ls (v.toList ++ st) σ') : At G M r Q X b pc ls (As.reverse ++ .ref a :: st) σ := by
  rcases h with ⟨fs, hO, hC⟩ | ⟨fs, hO, hC⟩ | ⟨fs, hO, hC⟩ | ⟨fs, hO, hC⟩ | ⟨fs, hO, hC⟩ | ⟨fs, hO, hC⟩
  · exact g_callU (N := mX20_on) (x := yS_on) (owner := RX19) (q := (RX20, TX20, 2)) d wsX20_on (lw_app (lw_cons hl (lw_cons q1672 (lw_cons q1680 (lw_cons q1681 (lw_cons q138 lw_nil))))) (lw_meth q1682)) (Or.inr q1671) (by decide +kernel) hn cl20 hr (by decide) (Nat.zero_le _) hst hO hC (fun _ _ _ h => h.elim) kk
  · exact g_callU (N := mX21_on) (x := yS_on) (owner := RX19) (q := (RX21, TX21, 2)) d wsX21_on (lw_app (lw_cons hl (lw_cons q1672 (lw_cons q1686 (lw_cons q1687 (lw_cons q139 lw_nil))))) (lw_meth q1688)) (Or.inr q1671) (by decide +kernel) hn cl21 hr (by decide) (Nat.zero_le _) hst hO hC (fun _ _ _ h => h.elim) kk
  · exact g_callU (N := mX22_on) (x := yS_on) (owner := RX19) (q := (RX22, TX22, 2)) d wsX22_on (lw_app (lw_cons hl (lw_cons q1672 (lw_cons q1676 (lw_cons q1677 (lw_cons q140 lw_nil))))) (lw_meth q1678)) (Or.inr q1671) (by decide +kernel) hn cl22 hr (by decide) (Nat.zero_le _) hst hO hC (fun _ _ _ h => h.elim) kk
  · exact g_callU (N := mX23_on) (x := yS_on) (owner := RX19) (q := (RX23, TX23, 2)) d wsX23_on (lw_app (lw_cons hl (lw_cons q1672 (lw_cons q1683 (lw_cons q1684 (lw_cons q141 lw_nil))))) (lw_meth q1685)) (Or.inr q1671) (by decide +kernel) hn cl23 hr (by decide) (Nat.zero_le _) hst hO hC (fun _ _ _ h => h.elim) kk
  · exact g_callU (N := mX24_on) (x := yS_on) (owner := RX19) (q := (RX24, TX24, 2)) d wsX24_on (lw_app (lw_cons hl (lw_cons q1672 (lw_cons q1673 (lw_cons q1674 (lw_cons q142 lw_nil))))) (lw_meth q1675)) (Or.inr q1671) (by decide +kernel) hn cl24 hr (by decide) (Nat.zero_le _) hst hO hC (fun _ _ _ h => h.elim) kk
  · exact g_callU (N := mX25_on) (x := yS_on) (owner := RX19) (q := (RX25, TX25, 3)) d wsX25_on (lw_app (lw_cons hl (lw_cons q1672 (lw_cons q1690 (lw_cons q1691 (lw_cons q143 lw_nil))))) (lw_meth q1692)) (Or.inr q1671) (by decide +kernel) hn cl25 hr (by decide) (Nat.zero_le _) hst hO hC (fun _ _ _ h => h.elim) kk
theorem g_imin {index : Nat} {x y : Int32} (d : decode M.2.1 pc = .ok (.invokestatic index, 3)) (hl0 : Cond.methodLink M.1.cls index ⟨"java/lang/Math", "min", "(II)I"⟩ ∈ lw_all) (hr : 1 ≤ r) (hst : (st.map fun v => v.category).sum ≤ 8) (k : At G M r Q X b (pc + 3) ls (.int (if y < x then y else x) :: st) σ) : At G M r Q X b pc ls (.int y :: .int x :: st) σ := by
  intro p e s m args below meth c H locs lsA cells slots mb C hR hS hl hc hs
  exact va_mmin C.hx C.hb (by rw [C.ml]; exact hl.1.symm) C.own (C.ts _ hl0) (C.ts _ q587) (C.ts _ q128) (C.ts _ q588) (by show 1 ≤ r; exact hr) (by show _ ≤ 100 * r; omega) (by show cells ≤ mb; omega) (by show slots ≤ 24 * mb; omega) d (k p e s m args below meth c H locs lsA cells slots mb C hR hS hl hc hs)
theorem g_imax {index : Nat} {x y : Int32} (d : decode M.2.1 pc = .ok (.invokestatic index, 3)) (hl0 : Cond.methodLink M.1.cls index ⟨"java/lang/Math", "max", "(II)I"⟩ ∈ lw_all) (hr : 1 ≤ r) (hst : (st.map fun v => v.category).sum ≤ 8) (k : At G M r Q X b (pc + 3) ls (.int (if x < y then y else x) :: st) σ) : At G M r Q X b pc ls (.int y :: .int x :: st) σ := by
  intro p e s m args below meth c H locs lsA cells slots mb C hR hS hl hc hs
  exact va_mmax C.hx C.hb (by rw [C.ml]; exact hl.1.symm) C.own (C.ts _ hl0) (C.ts _ q1702) (C.ts _ q128) (C.ts _ q1703) (by show 1 ≤ r; exact hr) (by show _ ≤ 100 * r; omega) (by show cells ≤ mb; omega) (by show slots ≤ 24 * mb; omega) d (k p e s m args below meth c H locs lsA cells slots mb C hR hS hl hc hs)
theorem g_lmin {index : Nat} {x y : Int64} (d : decode M.2.1 pc = .ok (.invokestatic index, 3)) (hl0 : Cond.methodLink M.1.cls index ⟨"java/lang/Math", "min", "(JJ)J"⟩ ∈ lw_all) (hr : 1 ≤ r) (hst : (st.map fun v => v.category).sum ≤ 8) (k : At G M r Q X b (pc + 3) ls (.long (if y < x then y else x) :: st) σ) : At G M r Q X b pc ls (.long y :: .long x :: st) σ := by
  intro p e s m args below meth c H locs lsA cells slots mb C hR hS hl hc hs
  exact va_mmin_long C.hx C.hb (by rw [C.ml]; exact hl.1.symm) C.own (C.ts _ hl0) (C.ts _ q1567) (C.ts _ q128) (C.ts _ q1568) (by show 1 ≤ r; exact hr) (by show _ ≤ 100 * r; omega) (by show cells ≤ mb; omega) (by show slots ≤ 24 * mb; omega) d (k p e s m args below meth c H locs lsA cells slots mb C hR hS hl hc hs)
theorem g_lmax {index : Nat} {x y : Int64} (d : decode M.2.1 pc = .ok (.invokestatic index, 3)) (hl0 : Cond.methodLink M.1.cls index ⟨"java/lang/Math", "max", "(JJ)J"⟩ ∈ lw_all) (hr : 1 ≤ r) (hst : (st.map fun v => v.category).sum ≤ 8) (k : At G M r Q X b (pc + 3) ls (.long (if y < x then x else y) :: st) σ) : At G M r Q X b pc ls (.long y :: .long x :: st) σ := by
  intro p e s m args below meth c H locs lsA cells slots mb C hR hS hl hc hs
  exact va_mmax_long C.hx C.hb (by rw [C.ml]; exact hl.1.symm) C.own (C.ts _ hl0) (C.ts _ q1585) (C.ts _ q128) (C.ts _ q1586) (by show 1 ≤ r; exact hr) (by show _ ≤ 100 * r; omega) (by show cells ≤ mb; omega) (by show slots ≤ 24 * mb; omega) d (k p e s m args below meth c H locs lsA cells slots mb C hR hS hl hc hs)
theorem g_getStep {κ index a : Nat} {v : Value} (k : Nat) (d : decode M.2.1 pc = .ok (.getfield index, 3)) (hκ : 20 ≤ κ ∧ κ ≤ 25) (hw : Cond.fieldLink M.1.cls index (TX20 k).1 (TX20 k).2.1 (TX20 k).2.2.1 ∈ lw_all) (hk : k < 2) (hf : Fg σ κ a k v) (kk : At G M r Q X b (pc + 3) ls (v :: st) σ) : At G M r Q X b pc ls (.ref a :: st) σ := by
  have hc : κ = 20 ∨ κ = 21 ∨ κ = 22 ∨ κ = 23 ∨ κ = 24 ∨ κ = 25 := by omega
  have h2 : k = 0 ∨ k = 1 := by omega
  rcases h2 with rfl | rfl <;> rcases hc with rfl | rfl | rfl | rfl | rfl | rfl
  · exact g_get 0 d in_X20 cl20 (by decide) hw hf kk
  · exact g_get 0 d in_X21 cl21 (by decide) hw hf kk
  · exact g_get 0 d in_X22 cl22 (by decide) hw hf kk
  · exact g_get 0 d in_X23 cl23 (by decide) hw hf kk
  · exact g_get 0 d in_X24 cl24 (by decide) hw hf kk
  · exact g_get 0 d in_X25 cl25 (by decide) hw hf kk
  · exact g_get 1 d in_X20 cl20 (by decide) hw hf kk
  · exact g_get 1 d in_X21 cl21 (by decide) hw hf kk
  · exact g_get 1 d in_X22 cl22 (by decide) hw hf kk
  · exact g_get 1 d in_X23 cl23 (by decide) hw hf kk
  · exact g_get 1 d in_X24 cl24 (by decide) hw hf kk
  · exact g_get 1 d in_X25 cl25 (by decide) hw hf kk
theorem g_putStep {κ index a : Nat} {v : Value} {fs : List Value} (k : Nat) (d : decode M.2.1 pc = .ok (.putfield index, 3)) (hκ : 20 ≤ κ ∧ κ ≤ 25) (hw : Cond.fieldLink M.1.cls index (TX20 k).1 (TX20 k).2.1 (TX20 k).2.2.1 ∈ lw_all) (hk : k < 2) (hini : M.1.name = "<init>") (hdec : RX19 = M.1.cls) (hn : narrow (tyX20 k) v = v) (hfit : fits (tyX20 k) v = true) (hO : Ob σ κ a fs) (hlen : k < fs.length) (kk : At G M r Q X b (pc + 3) ls st (up σ κ a (.inl (fs.set k v)))) : At G M r Q X b pc ls (v :: .ref a :: st) σ := by
  have hc : κ = 20 ∨ κ = 21 ∨ κ = 22 ∨ κ = 23 ∨ κ = 24 ∨ κ = 25 := by omega
  have h2 : k = 0 ∨ k = 1 := by omega
  rcases h2 with rfl | rfl <;> rcases hc with rfl | rfl | rfl | rfl | rfl | rfl
  · exact g_putF 0 d in_X20 tyX20 tyX20_ok nmX20 cl20 (by decide) hw rfl hini hdec hn hfit hO hlen kk
  · exact g_putF 0 d in_X21 tyX21 tyX21_ok nmX21 cl21 (by decide) hw rfl hini hdec hn hfit hO hlen kk
  · exact g_putF 0 d in_X22 tyX22 tyX22_ok nmX22 cl22 (by decide) hw rfl hini hdec hn hfit hO hlen kk
  · exact g_putF 0 d in_X23 tyX23 tyX23_ok nmX23 cl23 (by decide) hw rfl hini hdec hn hfit hO hlen kk
  · exact g_putF 0 d in_X24 tyX24 tyX24_ok nmX24 cl24 (by decide) hw rfl hini hdec hn hfit hO hlen kk
  · exact g_putF 0 d in_X25 tyX25 tyX25_ok nmX25 cl25 (by decide) hw rfl hini hdec hn hfit hO hlen kk
  · exact g_putF 1 d in_X20 tyX20 tyX20_ok nmX20 cl20 (by decide) hw rfl hini hdec hn hfit hO hlen kk
  · exact g_putF 1 d in_X21 tyX21 tyX21_ok nmX21 cl21 (by decide) hw rfl hini hdec hn hfit hO hlen kk
  · exact g_putF 1 d in_X22 tyX22 tyX22_ok nmX22 cl22 (by decide) hw rfl hini hdec hn hfit hO hlen kk
  · exact g_putF 1 d in_X23 tyX23 tyX23_ok nmX23 cl23 (by decide) hw rfl hini hdec hn hfit hO hlen kk
  · exact g_putF 1 d in_X24 tyX24 tyX24_ok nmX24 cl24 (by decide) hw rfl hini hdec hn hfit hO hlen kk
  · exact g_putF 1 d in_X25 tyX25 tyX25_ok nmX25 cl25 (by decide) hw rfl hini hdec hn hfit hO hlen kk
theorem g_aastStep {κ v a n : Nat} {vs : List Value} {f : Nat → Option Nat} {i : Int32} (d : decode M.2.1 pc = .ok (.aastore, 1)) (hκ : 20 ≤ κ ∧ κ ≤ 25) (hO : Qa σ 106 a n f) (hV : Ob σ κ v vs) (hin : vp_in i n) (kk : At G M r Q X b (pc + 1) ls st (up σ 106 a (.inr (n, .inr (.inr (va_up f i.toNatClampNeg (some v))))))) : At G M r Q X b pc ls (.ref v :: .int i :: .ref a :: st) σ := by
  have hc : κ = 20 ∨ κ = 21 ∨ κ = 22 ∨ κ = 23 ∨ κ = 24 ∨ κ = 25 := by omega
  rcases hc with rfl | rfl | rfl | rfl | rfl | rfl
  · exact g_aastO (t0 := 6) (κ := 106) d rfl cl20 q2510 hO hV hin kk
  · exact g_aastO (t0 := 6) (κ := 106) d rfl cl21 q2511 hO hV hin kk
  · exact g_aastO (t0 := 6) (κ := 106) d rfl cl22 q2512 hO hV hin kk
  · exact g_aastO (t0 := 6) (κ := 106) d rfl cl23 q2513 hO hV hin kk
  · exact g_aastO (t0 := 6) (κ := 106) d rfl cl24 q2514 hO hV hin kk
  · exact g_aastO (t0 := 6) (κ := 106) d rfl cl25 q2515 hO hV hin kk
theorem g_aastQ {κ a n t0 ci : Nat} {w : vw_C} {x : Option Nat} {f : Nat → Option Nat} {i : Int32} (d : decode M.2.1 pc = .ok (.aastore, 1)) (ht : (gTys (gt G))[t0]? = some (gt G κ, .object w.1)) (hc0 : vwCl[ci]? = some w) (hO : Qa σ κ a n f) (hV : ∀ y : Nat, x = some y → ∃ vs, Ob σ ci y vs) (hin : vp_in i n)
    (kk : At G M r Q X b (pc + 1) ls st (up σ κ a (.inr (n, .inr (.inr (va_up f i.toNatClampNeg x)))))) : At G M r Q X b pc ls (va_rf x :: .int i :: .ref a :: st) σ := by
  cases x with
  | none => exact g_aastN d ht hO hin kk
  | some y =>
    obtain ⟨vs, h⟩ := hV y rfl
    exact g_aast d ht hc0 hO h hin kk
theorem g_aastStr {k a n : Nat} {f : Nat → Option Nat} {i : Int32} {q : String × Nat × String × List Int32} (d : decode M.2.1 pc = .ok (.aastore, 1)) (hi : strTab[k]? = some q) (hO : Qa σ 107 a n f) (hin : vp_in i n)
    (kk : At G M r Q X b (pc + 1) ls st (up σ 107 a (.inr (n, .inr (.inr (va_up f i.toNatClampNeg (some (gk G k)))))))) : At G M r Q X b pc ls (.ref (gk G k) :: .int i :: .ref a :: st) σ := by
  intro p e s m args below meth c H locs lsA cells slots mb C hR hS hl hc hs
  obtain ⟨ws, hP, hD, hm, hu⟩ := hR
  obtain ⟨q0, hq⟩ := hm _ _ _ hO
  have hany : va_Any RJ4 s H (gk G k) := by
    obtain ⟨cell, g1, g2, g3⟩ := va_Orecv (C.ef.2.2.2.2.2.1 k q hi).2.1 hS
    obtain ⟨kC, g4, -⟩ := Vm.findClass_spec g3
    refine ⟨cell, g1, g2, ⟨kC, g4⟩, fun comp hcomp => ?_⟩
    cases hcomp.symm.trans g3
    exact va_asg _ _
  exact va_astqM C.hx C.hb C.K hP hD hS q0 7 (cA := gt G 107) (n := n) (f := f) hq rfl hany hin d (fun H1 locs1 hP1 hD1 hS1 => kk p e s m args below meth c H1 locs1 lsA cells slots mb C (Rp.set (e' := .inr (n, .inr (.inr (va_up f i.toNatClampNeg (some (gk G k)))))) hm hu hO hq hP1 hD1) hS1 hl hc hs)

end SROWS
def thn_NoSuchElementException : List String := ["java/lang/RuntimeException", "java/lang/Exception"]
def thn_IllegalArgumentException : List String := ["java/lang/RuntimeException", "java/lang/Exception"]
