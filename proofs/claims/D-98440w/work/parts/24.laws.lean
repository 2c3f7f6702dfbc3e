set_option maxRecDepth 100000
set_option maxHeartbeats 4000000 in
theorem bX0_office_0 {G : GC} {Q : Option Value → PS → Prop} {X : String → Nat → PS → Prop} {b : Nat} {a0 : Nat} {x1 : Int32} {a2 : Nat} {σ : PS} (h : ∃ bc : Nat, bc ≤ b ∧ (∃ fs : List Value, Ob (σ) 1 a0 fs) ∧ Call G mX1_office 13 bc [.ref a0, .int x1] (σ) (qI (fun rx s1 => ∃ (n : Nat) (f : Nat → Int64), La s1 101 a2 n f ∧ vp_in 0 n ∧ (∀ s1_1 : PS, s1_1 = up s1 101 a2 (.inr (n, .inr (.inl (vp_updL f (0 : Int32).toNatClampNeg rx.toInt64)))) → Q (some (.int 0)) s1_1))) (fun E q9 s9 => AtX G mX0_office 14 Q X (b - bc) 4 [(0, .ref a0), (1, .int x1), (2, .ref a2)] E q9 s9)) : At G mX0_office 14 Q X b 0 [(0, .ref a0), (1, .int x1), (2, .ref a2)] [] (σ) := by
  refine g_aload_n dX0_office_0 rfl 2 rfl ?_
  refine g_iconst (v := 0) dX0_office_1 (by decide) ?_
  refine g_aload_n dX0_office_2 rfl 0 rfl ?_
  refine g_iload_n dX0_office_3 rfl 1 rfl ?_
  obtain ⟨bc, hb9, h⟩ := h
  obtain ⟨⟨_, hO⟩, h⟩ := h
  refine g_callVX (N := mX1_office) (st := [.int 0, .ref a2]) (As := [.int x1]) (a := a0) dX0_office_4 wsX1_office (lw_VW q828 q829 q830 q108 q831) rfl mokX1_office rfl cl1 (by decide) (by decide) hb9 (by simp [Value.category]) hO h (fun E q s hx => hx) (fun _ s1 hq => ?_)
  obtain ⟨rx, rfl, h⟩ := hq
  refine At.stk (st' := [.int rx, .int 0, .ref a2]) rfl ?_
  refine g_i2l dX0_office_7 ?_
  obtain ⟨n, f, h1, h2, h⟩ := h
  refine g_last dX0_office_8 h1 h2 ?_
  refine g_tops (fun s1_1 es1_1 => ?_)
  replace h := h s1_1 es1_1
  refine g_goto (tgt := 15) dX0_office_9 (by decide) ?_
  refine g_iconst (v := 0) dX0_office_15 (by decide) ?_
  exact g_iret rfl dX0_office_16 h
set_option maxHeartbeats 4000000 in
theorem bX0_office_12 {G : GC} {Q : Option Value → PS → Prop} {X : String → Nat → PS → Prop} {b : Nat} {sa0 : Nat} {σ : PS} (h : Q (some (.int 1)) (σ)) : At G mX0_office 14 Q X b 12 [] [.ref sa0] (σ) := by
  refine g_astore_n (ls1 := [(3, .ref sa0)]) dX0_office_12 rfl (by decide) rfl ?_
  refine g_iconst (v := 1) dX0_office_13 (by decide) ?_
  exact g_iret rfl dX0_office_14 h
theorem eX0_office {G : GC} {Q : Option Value → PS → Prop} {X : String → Nat → PS → Prop} {b : Nat} {p0 : Nat} {p1 : Int32} {p2 : Nat} {σ : PS} (h : At G mX0_office 14 Q X b 0 [(0, .ref p0), (1, .int p1), (2, .ref p2)] [] σ) : Call G mX0_office 14 b [.ref p0, .int p1, .ref p2] σ Q X :=
  Call.ofH (by decide +kernel) wsX0_office (Nat.le_of_ble_eq_true rfl) (At.sub (ls := [(0, .ref p0), (1, .int p1), (2, .ref p2)]) [0, 1, 2] rfl h)
set_option maxHeartbeats 4000000 in
theorem bX0_habit_0 {G : GC} {Q : Option Value → PS → Prop} {X : String → Nat → PS → Prop} {b : Nat} {a0 : Nat} {x1 : Int32} {x2 : Int32} {a3 : Nat} {σ : PS} (h : ∃ bc : Nat, bc ≤ b ∧ (∃ fs : List Value, Ob (σ) 1 a0 fs) ∧ Call G mX1_habit 152 bc [.ref a0, .int x1, .int x2] (σ) (qI (fun rx s1 => ∃ (n : Nat) (f : Nat → Int64), La s1 101 a3 n f ∧ vp_in 0 n ∧ (∀ s1_1 : PS, s1_1 = up s1 101 a3 (.inr (n, .inr (.inl (vp_updL f (0 : Int32).toNatClampNeg rx.toInt64)))) → Q (some (.int 0)) s1_1))) (fun E q9 s9 => AtX G mX0_habit 153 Q X (b - bc) 5 [(0, .ref a0), (1, .int x1), (2, .int x2), (3, .ref a3)] E q9 s9)) : At G mX0_habit 153 Q X b 0 [(0, .ref a0), (1, .int x1), (2, .int x2), (3, .ref a3)] [] (σ) := by
  refine g_aload_n dX0_habit_0 rfl 3 rfl ?_
  refine g_iconst (v := 0) dX0_habit_1 (by decide) ?_
  refine g_aload_n dX0_habit_2 rfl 0 rfl ?_
  refine g_iload_n dX0_habit_3 rfl 1 rfl ?_
  refine g_iload_n dX0_habit_4 rfl 2 rfl ?_
  obtain ⟨bc, hb9, h⟩ := h
  obtain ⟨⟨_, hO⟩, h⟩ := h
  refine g_callVX (N := mX1_habit) (st := [.int 0, .ref a3]) (As := [.int x1, .int x2]) (a := a0) dX0_habit_5 wsX1_habit (lw_VW q1103 q1104 q1105 q108 q1106) rfl mokX1_habit rfl cl1 (by decide) (by decide) hb9 (by simp [Value.category]) hO h (fun E q s hx => hx) (fun _ s1 hq => ?_)
  obtain ⟨rx, rfl, h⟩ := hq
  refine At.stk (st' := [.int rx, .int 0, .ref a3]) rfl ?_
  refine g_i2l dX0_habit_8 ?_
  obtain ⟨n, f, h1, h2, h⟩ := h
  refine g_last dX0_habit_9 h1 h2 ?_
  refine g_tops (fun s1_1 es1_1 => ?_)
  replace h := h s1_1 es1_1
  refine g_goto (tgt := 21) dX0_habit_10 (by decide) ?_
  refine g_iconst (v := 0) dX0_habit_21 (by decide) ?_
  exact g_iret rfl dX0_habit_22 h
set_option maxHeartbeats 4000000 in
theorem bX0_habit_13 {G : GC} {Q : Option Value → PS → Prop} {X : String → Nat → PS → Prop} {b : Nat} {sa0 : Nat} {σ : PS} (h : Q (some (.int 1)) (σ)) : At G mX0_habit 153 Q X b 13 [] [.ref sa0] (σ) := by
  refine g_astore (ls1 := [(4, .ref sa0)]) dX0_habit_13 (by decide) rfl ?_
  refine g_iconst (v := 1) dX0_habit_15 (by decide) ?_
  exact g_iret rfl dX0_habit_16 h
set_option maxHeartbeats 4000000 in
theorem bX0_habit_17 {G : GC} {Q : Option Value → PS → Prop} {X : String → Nat → PS → Prop} {b : Nat} {sa0 : Nat} {σ : PS} (h : Q (some (.int 2)) (σ)) : At G mX0_habit 153 Q X b 17 [] [.ref sa0] (σ) := by
  refine g_astore (ls1 := [(4, .ref sa0)]) dX0_habit_17 (by decide) rfl ?_
  refine g_iconst (v := 2) dX0_habit_19 (by decide) ?_
  exact g_iret rfl dX0_habit_20 h
theorem eX0_habit {G : GC} {Q : Option Value → PS → Prop} {X : String → Nat → PS → Prop} {b : Nat} {p0 : Nat} {p1 : Int32} {p2 : Int32} {p3 : Nat} {σ : PS} (h : At G mX0_habit 153 Q X b 0 [(0, .ref p0), (1, .int p1), (2, .int p2), (3, .ref p3)] [] σ) : Call G mX0_habit 153 b [.ref p0, .int p1, .int p2, .ref p3] σ Q X :=
  Call.ofH (by decide +kernel) wsX0_habit (Nat.le_of_ble_eq_true rfl) (At.sub (ls := [(0, .ref p0), (1, .int p1), (2, .int p2), (3, .ref p3)]) [0, 1, 2, 3] rfl h)
set_option maxHeartbeats 4000000 in
theorem bX0_rule_0 {G : GC} {Q : Option Value → PS → Prop} {X : String → Nat → PS → Prop} {b : Nat} {a0 : Nat} {x1 : Int32} {a2 : Nat} {σ : PS} (h : ∃ bc : Nat, bc ≤ b ∧ (∃ fs : List Value, Ob (σ) 1 a0 fs) ∧ Call G mX1_rule 152 bc [.ref a0, .int x1] (σ) (qI (fun rx s1 => ∃ (n : Nat) (f : Nat → Int64), La s1 101 a2 n f ∧ vp_in 0 n ∧ (∀ s1_1 : PS, s1_1 = up s1 101 a2 (.inr (n, .inr (.inl (vp_updL f (0 : Int32).toNatClampNeg rx.toInt64)))) → Q (some (.int 0)) s1_1))) (fun E q9 s9 => AtX G mX0_rule 153 Q X (b - bc) 4 [(0, .ref a0), (1, .int x1), (2, .ref a2)] E q9 s9)) : At G mX0_rule 153 Q X b 0 [(0, .ref a0), (1, .int x1), (2, .ref a2)] [] (σ) := by
  refine g_aload_n dX0_rule_0 rfl 2 rfl ?_
  refine g_iconst (v := 0) dX0_rule_1 (by decide) ?_
  refine g_aload_n dX0_rule_2 rfl 0 rfl ?_
  refine g_iload_n dX0_rule_3 rfl 1 rfl ?_
  obtain ⟨bc, hb9, h⟩ := h
  obtain ⟨⟨_, hO⟩, h⟩ := h
  refine g_callVX (N := mX1_rule) (st := [.int 0, .ref a2]) (As := [.int x1]) (a := a0) dX0_rule_4 wsX1_rule (lw_VW q1358 q1359 q1360 q108 q1361) rfl mokX1_rule rfl cl1 (by decide) (by decide) hb9 (by simp [Value.category]) hO h (fun E q s hx => hx) (fun _ s1 hq => ?_)
  obtain ⟨rx, rfl, h⟩ := hq
  refine At.stk (st' := [.int rx, .int 0, .ref a2]) rfl ?_
  refine g_i2l dX0_rule_7 ?_
  obtain ⟨n, f, h1, h2, h⟩ := h
  refine g_last dX0_rule_8 h1 h2 ?_
  refine g_tops (fun s1_1 es1_1 => ?_)
  replace h := h s1_1 es1_1
  refine g_goto (tgt := 15) dX0_rule_9 (by decide) ?_
  refine g_iconst (v := 0) dX0_rule_15 (by decide) ?_
  exact g_iret rfl dX0_rule_16 h
set_option maxHeartbeats 4000000 in
theorem bX0_rule_12 {G : GC} {Q : Option Value → PS → Prop} {X : String → Nat → PS → Prop} {b : Nat} {sa0 : Nat} {σ : PS} (h : Q (some (.int 1)) (σ)) : At G mX0_rule 153 Q X b 12 [] [.ref sa0] (σ) := by
  refine g_astore_n (ls1 := [(3, .ref sa0)]) dX0_rule_12 rfl (by decide) rfl ?_
  refine g_iconst (v := 1) dX0_rule_13 (by decide) ?_
  exact g_iret rfl dX0_rule_14 h
theorem eX0_rule {G : GC} {Q : Option Value → PS → Prop} {X : String → Nat → PS → Prop} {b : Nat} {p0 : Nat} {p1 : Int32} {p2 : Nat} {σ : PS} (h : At G mX0_rule 153 Q X b 0 [(0, .ref p0), (1, .int p1), (2, .ref p2)] [] σ) : Call G mX0_rule 153 b [.ref p0, .int p1, .ref p2] σ Q X :=
  Call.ofH (by decide +kernel) wsX0_rule (Nat.le_of_ble_eq_true rfl) (At.sub (ls := [(0, .ref p0), (1, .int p1), (2, .ref p2)]) [0, 1, 2] rfl h)
set_option maxHeartbeats 4000000 in
theorem bX0_book_0 {G : GC} {Q : Option Value → PS → Prop} {X : String → Nat → PS → Prop} {b : Nat} {a0 : Nat} {x1 : Int32} {a2 : Nat} {σ : PS} (h : ∃ bc : Nat, bc ≤ b ∧ (∃ fs : List Value, Ob (σ) 1 a0 fs) ∧ Call G mX1_book 12 bc [.ref a0, .int x1] (σ) (qI (fun rx s1 => ∃ (n : Nat) (f : Nat → Int64), La s1 101 a2 n f ∧ vp_in 0 n ∧ (∀ s1_1 : PS, s1_1 = up s1 101 a2 (.inr (n, .inr (.inl (vp_updL f (0 : Int32).toNatClampNeg rx.toInt64)))) → Q (some (.int 0)) s1_1))) (fun E q9 s9 => AtX G mX0_book 13 Q X (b - bc) 4 [(0, .ref a0), (1, .int x1), (2, .ref a2)] E q9 s9)) : At G mX0_book 13 Q X b 0 [(0, .ref a0), (1, .int x1), (2, .ref a2)] [] (σ) := by
  refine g_aload_n dX0_book_0 rfl 2 rfl ?_
  refine g_iconst (v := 0) dX0_book_1 (by decide) ?_
  refine g_aload_n dX0_book_2 rfl 0 rfl ?_
  refine g_iload_n dX0_book_3 rfl 1 rfl ?_
  obtain ⟨bc, hb9, h⟩ := h
  obtain ⟨⟨_, hO⟩, h⟩ := h
  refine g_callVX (N := mX1_book) (st := [.int 0, .ref a2]) (As := [.int x1]) (a := a0) dX0_book_4 wsX1_book (lw_VW q1365 q1366 q1367 q108 q1368) rfl mokX1_book rfl cl1 (by decide) (by decide) hb9 (by simp [Value.category]) hO h (fun E q s hx => hx) (fun _ s1 hq => ?_)
  obtain ⟨rx, rfl, h⟩ := hq
  refine At.stk (st' := [.int rx, .int 0, .ref a2]) rfl ?_
  refine g_i2l dX0_book_7 ?_
  obtain ⟨n, f, h1, h2, h⟩ := h
  refine g_last dX0_book_8 h1 h2 ?_
  refine g_tops (fun s1_1 es1_1 => ?_)
  replace h := h s1_1 es1_1
  refine g_goto (tgt := 15) dX0_book_9 (by decide) ?_
  refine g_iconst (v := 0) dX0_book_15 (by decide) ?_
  exact g_iret rfl dX0_book_16 h
set_option maxHeartbeats 4000000 in
theorem bX0_book_12 {G : GC} {Q : Option Value → PS → Prop} {X : String → Nat → PS → Prop} {b : Nat} {sa0 : Nat} {σ : PS} (h : Q (some (.int 1)) (σ)) : At G mX0_book 13 Q X b 12 [] [.ref sa0] (σ) := by
  refine g_astore_n (ls1 := [(3, .ref sa0)]) dX0_book_12 rfl (by decide) rfl ?_
  refine g_iconst (v := 1) dX0_book_13 (by decide) ?_
  exact g_iret rfl dX0_book_14 h
theorem eX0_book {G : GC} {Q : Option Value → PS → Prop} {X : String → Nat → PS → Prop} {b : Nat} {p0 : Nat} {p1 : Int32} {p2 : Nat} {σ : PS} (h : At G mX0_book 13 Q X b 0 [(0, .ref p0), (1, .int p1), (2, .ref p2)] [] σ) : Call G mX0_book 13 b [.ref p0, .int p1, .ref p2] σ Q X :=
  Call.ofH (by decide +kernel) wsX0_book (Nat.le_of_ble_eq_true rfl) (At.sub (ls := [(0, .ref p0), (1, .int p1), (2, .ref p2)]) [0, 1, 2] rfl h)
set_option maxHeartbeats 4000000 in
theorem bX0_told_0 {G : GC} {Q : Option Value → PS → Prop} {X : String → Nat → PS → Prop} {b : Nat} {a0 : Nat} {x1 : Int32} {a2 : Nat} {σ : PS} (h : ∃ bc : Nat, bc ≤ b ∧ (∃ fs : List Value, Ob (σ) 1 a0 fs) ∧ Call G mX1_told 11 bc [.ref a0, .int x1] (σ) (qI (fun rx s1 => ∃ (n : Nat) (f : Nat → Int64), La s1 101 a2 n f ∧ vp_in 0 n ∧ (∀ s1_1 : PS, s1_1 = up s1 101 a2 (.inr (n, .inr (.inl (vp_updL f (0 : Int32).toNatClampNeg rx.toInt64)))) → Q (some (.int 0)) s1_1))) (fun E q9 s9 => AtX G mX0_told 12 Q X (b - bc) 4 [(0, .ref a0), (1, .int x1), (2, .ref a2)] E q9 s9)) : At G mX0_told 12 Q X b 0 [(0, .ref a0), (1, .int x1), (2, .ref a2)] [] (σ) := by
  refine g_aload_n dX0_told_0 rfl 2 rfl ?_
  refine g_iconst (v := 0) dX0_told_1 (by decide) ?_
  refine g_aload_n dX0_told_2 rfl 0 rfl ?_
  refine g_iload_n dX0_told_3 rfl 1 rfl ?_
  obtain ⟨bc, hb9, h⟩ := h
  obtain ⟨⟨_, hO⟩, h⟩ := h
  refine g_callV (N := mX1_told) (st := [.int 0, .ref a2]) (As := [.int x1]) (a := a0) dX0_told_4 wsX1_told (lw_V q1385 q1386 q1387 q108 q1388) rfl mokX1_told rfl cl1 (by decide) (by decide) hb9 (by simp [Value.category]) hO h (fun E q s hx => hx) (fun _ s1 hq => ?_)
  obtain ⟨rx, rfl, h⟩ := hq
  refine At.stk (st' := [.int rx, .int 0, .ref a2]) rfl ?_
  refine g_i2l dX0_told_7 ?_
  obtain ⟨n, f, h1, h2, h⟩ := h
  refine g_last dX0_told_8 h1 h2 ?_
  refine g_tops (fun s1_1 es1_1 => ?_)
  replace h := h s1_1 es1_1
  refine g_goto (tgt := 15) dX0_told_9 (by decide) ?_
  refine g_iconst (v := 0) dX0_told_15 (by decide) ?_
  exact g_iret rfl dX0_told_16 h
set_option maxHeartbeats 4000000 in
theorem bX0_told_12 {G : GC} {Q : Option Value → PS → Prop} {X : String → Nat → PS → Prop} {b : Nat} {sa0 : Nat} {σ : PS} (h : Q (some (.int 1)) (σ)) : At G mX0_told 12 Q X b 12 [] [.ref sa0] (σ) := by
  refine g_astore_n (ls1 := [(3, .ref sa0)]) dX0_told_12 rfl (by decide) rfl ?_
  refine g_iconst (v := 1) dX0_told_13 (by decide) ?_
  exact g_iret rfl dX0_told_14 h
theorem eX0_told {G : GC} {Q : Option Value → PS → Prop} {X : String → Nat → PS → Prop} {b : Nat} {p0 : Nat} {p1 : Int32} {p2 : Nat} {σ : PS} (h : At G mX0_told 12 Q X b 0 [(0, .ref p0), (1, .int p1), (2, .ref p2)] [] σ) : Call G mX0_told 12 b [.ref p0, .int p1, .ref p2] σ Q X :=
  Call.ofH (by decide +kernel) wsX0_told (Nat.le_of_ble_eq_true rfl) (At.sub (ls := [(0, .ref p0), (1, .int p1), (2, .ref p2)]) [0, 1, 2] rfl h)
set_option maxHeartbeats 4000000 in
theorem bX0_visit_0 {G : GC} {Q : Option Value → PS → Prop} {X : String → Nat → PS → Prop} {b : Nat} {a0 : Nat} {x1 : Int32} {x2 : Int32} {a3 : Nat} {σ : PS} (h : ∃ bc : Nat, bc ≤ b ∧ (∃ fs : List Value, Ob (σ) 1 a0 fs) ∧ Call G mX1_visit 12 bc [.ref a0, .int x1, .int x2] (σ) (qI (fun rx s1 => ∃ (n : Nat) (f : Nat → Int64), La s1 101 a3 n f ∧ vp_in 0 n ∧ (∀ s1_1 : PS, s1_1 = up s1 101 a3 (.inr (n, .inr (.inl (vp_updL f (0 : Int32).toNatClampNeg rx.toInt64)))) → Q (some (.int 0)) s1_1))) (fun E q9 s9 => AtX G mX0_visit 13 Q X (b - bc) 5 [(0, .ref a0), (1, .int x1), (2, .int x2), (3, .ref a3)] E q9 s9)) : At G mX0_visit 13 Q X b 0 [(0, .ref a0), (1, .int x1), (2, .int x2), (3, .ref a3)] [] (σ) := by
  refine g_aload_n dX0_visit_0 rfl 3 rfl ?_
  refine g_iconst (v := 0) dX0_visit_1 (by decide) ?_
  refine g_aload_n dX0_visit_2 rfl 0 rfl ?_
  refine g_iload_n dX0_visit_3 rfl 1 rfl ?_
  refine g_iload_n dX0_visit_4 rfl 2 rfl ?_
  obtain ⟨bc, hb9, h⟩ := h
  obtain ⟨⟨_, hO⟩, h⟩ := h
  refine g_callV (N := mX1_visit) (st := [.int 0, .ref a3]) (As := [.int x1, .int x2]) (a := a0) dX0_visit_5 wsX1_visit (lw_V q1392 q1393 q1394 q108 q1395) rfl mokX1_visit rfl cl1 (by decide) (by decide) hb9 (by simp [Value.category]) hO h (fun E q s hx => hx) (fun _ s1 hq => ?_)
  obtain ⟨rx, rfl, h⟩ := hq
  refine At.stk (st' := [.int rx, .int 0, .ref a3]) rfl ?_
  refine g_i2l dX0_visit_8 ?_
  obtain ⟨n, f, h1, h2, h⟩ := h
  refine g_last dX0_visit_9 h1 h2 ?_
  refine g_tops (fun s1_1 es1_1 => ?_)
  replace h := h s1_1 es1_1
  refine g_goto (tgt := 21) dX0_visit_10 (by decide) ?_
  refine g_iconst (v := 0) dX0_visit_21 (by decide) ?_
  exact g_iret rfl dX0_visit_22 h
set_option maxHeartbeats 4000000 in
theorem bX0_visit_13 {G : GC} {Q : Option Value → PS → Prop} {X : String → Nat → PS → Prop} {b : Nat} {sa0 : Nat} {σ : PS} (h : Q (some (.int 1)) (σ)) : At G mX0_visit 13 Q X b 13 [] [.ref sa0] (σ) := by
  refine g_astore (ls1 := [(4, .ref sa0)]) dX0_visit_13 (by decide) rfl ?_
  refine g_iconst (v := 1) dX0_visit_15 (by decide) ?_
  exact g_iret rfl dX0_visit_16 h
set_option maxHeartbeats 4000000 in
theorem bX0_visit_17 {G : GC} {Q : Option Value → PS → Prop} {X : String → Nat → PS → Prop} {b : Nat} {sa0 : Nat} {σ : PS} (h : Q (some (.int 2)) (σ)) : At G mX0_visit 13 Q X b 17 [] [.ref sa0] (σ) := by
  refine g_astore (ls1 := [(4, .ref sa0)]) dX0_visit_17 (by decide) rfl ?_
  refine g_iconst (v := 2) dX0_visit_19 (by decide) ?_
  exact g_iret rfl dX0_visit_20 h
theorem eX0_visit {G : GC} {Q : Option Value → PS → Prop} {X : String → Nat → PS → Prop} {b : Nat} {p0 : Nat} {p1 : Int32} {p2 : Int32} {p3 : Nat} {σ : PS} (h : At G mX0_visit 13 Q X b 0 [(0, .ref p0), (1, .int p1), (2, .int p2), (3, .ref p3)] [] σ) : Call G mX0_visit 13 b [.ref p0, .int p1, .int p2, .ref p3] σ Q X :=
  Call.ofH (by decide +kernel) wsX0_visit (Nat.le_of_ble_eq_true rfl) (At.sub (ls := [(0, .ref p0), (1, .int p1), (2, .int p2), (3, .ref p3)]) [0, 1, 2, 3] rfl h)
set_option maxHeartbeats 4000000 in
theorem bX0_person_0 {G : GC} {Q : Option Value → PS → Prop} {X : String → Nat → PS → Prop} {b : Nat} {a0 : Nat} {x1 : Int32} {x2 : Int32} {a3 : Nat} {σ : PS} (h : ∃ bc : Nat, bc ≤ b ∧ (∃ fs : List Value, Ob (σ) 1 a0 fs) ∧ Call G mX1_person 12 bc [.ref a0, .int x1, .int x2] (σ) (qI (fun rx s1 => ∃ (n : Nat) (f : Nat → Int64), La s1 101 a3 n f ∧ vp_in 0 n ∧ (∀ s1_1 : PS, s1_1 = up s1 101 a3 (.inr (n, .inr (.inl (vp_updL f (0 : Int32).toNatClampNeg rx.toInt64)))) → Q (some (.int 0)) s1_1))) (fun E q9 s9 => AtX G mX0_person 13 Q X (b - bc) 5 [(0, .ref a0), (1, .int x1), (2, .int x2), (3, .ref a3)] E q9 s9)) : At G mX0_person 13 Q X b 0 [(0, .ref a0), (1, .int x1), (2, .int x2), (3, .ref a3)] [] (σ) := by
  refine g_aload_n dX0_person_0 rfl 3 rfl ?_
  refine g_iconst (v := 0) dX0_person_1 (by decide) ?_
  refine g_aload_n dX0_person_2 rfl 0 rfl ?_
  refine g_iload_n dX0_person_3 rfl 1 rfl ?_
  refine g_iload_n dX0_person_4 rfl 2 rfl ?_
  obtain ⟨bc, hb9, h⟩ := h
  obtain ⟨⟨_, hO⟩, h⟩ := h
  refine g_callV (N := mX1_person) (st := [.int 0, .ref a3]) (As := [.int x1, .int x2]) (a := a0) dX0_person_5 wsX1_person (lw_V q1405 q1406 q1407 q108 q1408) rfl mokX1_person rfl cl1 (by decide) (by decide) hb9 (by simp [Value.category]) hO h (fun E q s hx => hx) (fun _ s1 hq => ?_)
  obtain ⟨rx, rfl, h⟩ := hq
  refine At.stk (st' := [.int rx, .int 0, .ref a3]) rfl ?_
  refine g_i2l dX0_person_8 ?_
  obtain ⟨n, f, h1, h2, h⟩ := h
  refine g_last dX0_person_9 h1 h2 ?_
  refine g_tops (fun s1_1 es1_1 => ?_)
  replace h := h s1_1 es1_1
  refine g_goto (tgt := 21) dX0_person_10 (by decide) ?_
  refine g_iconst (v := 0) dX0_person_21 (by decide) ?_
  exact g_iret rfl dX0_person_22 h
set_option maxHeartbeats 4000000 in
theorem bX0_person_13 {G : GC} {Q : Option Value → PS → Prop} {X : String → Nat → PS → Prop} {b : Nat} {sa0 : Nat} {σ : PS} (h : Q (some (.int 1)) (σ)) : At G mX0_person 13 Q X b 13 [] [.ref sa0] (σ) := by
  refine g_astore (ls1 := [(4, .ref sa0)]) dX0_person_13 (by decide) rfl ?_
  refine g_iconst (v := 1) dX0_person_15 (by decide) ?_
  exact g_iret rfl dX0_person_16 h
set_option maxHeartbeats 4000000 in
theorem bX0_person_17 {G : GC} {Q : Option Value → PS → Prop} {X : String → Nat → PS → Prop} {b : Nat} {sa0 : Nat} {σ : PS} (h : Q (some (.int 2)) (σ)) : At G mX0_person 13 Q X b 17 [] [.ref sa0] (σ) := by
  refine g_astore (ls1 := [(4, .ref sa0)]) dX0_person_17 (by decide) rfl ?_
  refine g_iconst (v := 2) dX0_person_19 (by decide) ?_
  exact g_iret rfl dX0_person_20 h
theorem eX0_person {G : GC} {Q : Option Value → PS → Prop} {X : String → Nat → PS → Prop} {b : Nat} {p0 : Nat} {p1 : Int32} {p2 : Int32} {p3 : Nat} {σ : PS} (h : At G mX0_person 13 Q X b 0 [(0, .ref p0), (1, .int p1), (2, .int p2), (3, .ref p3)] [] σ) : Call G mX0_person 13 b [.ref p0, .int p1, .int p2, .ref p3] σ Q X :=
  Call.ofH (by decide +kernel) wsX0_person (Nat.le_of_ble_eq_true rfl) (At.sub (ls := [(0, .ref p0), (1, .int p1), (2, .int p2), (3, .ref p3)]) [0, 1, 2, 3] rfl h)
set_option maxHeartbeats 4000000 in
theorem bX0_price_0 {G : GC} {Q : Option Value → PS → Prop} {X : String → Nat → PS → Prop} {b : Nat} {a0 : Nat} {x1 : Int32} {a2 : Nat} {σ : PS} (h : ∃ bc : Nat, bc ≤ b ∧ (∃ fs : List Value, Ob (σ) 1 a0 fs) ∧ Call G mX1_price 11 bc [.ref a0, .int x1] (σ) (qI (fun rx s1 => ∃ (n : Nat) (f : Nat → Int64), La s1 101 a2 n f ∧ vp_in 0 n ∧ (∀ s1_1 : PS, s1_1 = up s1 101 a2 (.inr (n, .inr (.inl (vp_updL f (0 : Int32).toNatClampNeg rx.toInt64)))) → Q (some (.int 0)) s1_1))) (fun E q9 s9 => AtX G mX0_price 12 Q X (b - bc) 4 [(0, .ref a0), (1, .int x1), (2, .ref a2)] E q9 s9)) : At G mX0_price 12 Q X b 0 [(0, .ref a0), (1, .int x1), (2, .ref a2)] [] (σ) := by
  refine g_aload_n dX0_price_0 rfl 2 rfl ?_
  refine g_iconst (v := 0) dX0_price_1 (by decide) ?_
  refine g_aload_n dX0_price_2 rfl 0 rfl ?_
  refine g_iload_n dX0_price_3 rfl 1 rfl ?_
  obtain ⟨bc, hb9, h⟩ := h
  obtain ⟨⟨_, hO⟩, h⟩ := h
  refine g_callV (N := mX1_price) (st := [.int 0, .ref a2]) (As := [.int x1]) (a := a0) dX0_price_4 wsX1_price (lw_V q1420 q1421 q1422 q108 q1423) rfl mokX1_price rfl cl1 (by decide) (by decide) hb9 (by simp [Value.category]) hO h (fun E q s hx => hx) (fun _ s1 hq => ?_)
  obtain ⟨rx, rfl, h⟩ := hq
  refine At.stk (st' := [.int rx, .int 0, .ref a2]) rfl ?_
  refine g_i2l dX0_price_7 ?_
  obtain ⟨n, f, h1, h2, h⟩ := h
  refine g_last dX0_price_8 h1 h2 ?_
  refine g_tops (fun s1_1 es1_1 => ?_)
  replace h := h s1_1 es1_1
  refine g_goto (tgt := 15) dX0_price_9 (by decide) ?_
  refine g_iconst (v := 0) dX0_price_15 (by decide) ?_
  exact g_iret rfl dX0_price_16 h
set_option maxHeartbeats 4000000 in
theorem bX0_price_12 {G : GC} {Q : Option Value → PS → Prop} {X : String → Nat → PS → Prop} {b : Nat} {sa0 : Nat} {σ : PS} (h : Q (some (.int 1)) (σ)) : At G mX0_price 12 Q X b 12 [] [.ref sa0] (σ) := by
  refine g_astore_n (ls1 := [(3, .ref sa0)]) dX0_price_12 rfl (by decide) rfl ?_
  refine g_iconst (v := 1) dX0_price_13 (by decide) ?_
  exact g_iret rfl dX0_price_14 h
theorem eX0_price {G : GC} {Q : Option Value → PS → Prop} {X : String → Nat → PS → Prop} {b : Nat} {p0 : Nat} {p1 : Int32} {p2 : Nat} {σ : PS} (h : At G mX0_price 12 Q X b 0 [(0, .ref p0), (1, .int p1), (2, .ref p2)] [] σ) : Call G mX0_price 12 b [.ref p0, .int p1, .ref p2] σ Q X :=
  Call.ofH (by decide +kernel) wsX0_price (Nat.le_of_ble_eq_true rfl) (At.sub (ls := [(0, .ref p0), (1, .int p1), (2, .ref p2)]) [0, 1, 2] rfl h)
set_option maxHeartbeats 4000000 in
theorem bX0_states_0 {G : GC} {Q : Option Value → PS → Prop} {X : String → Nat → PS → Prop} {b : Nat} {a0 : Nat} {x1 : Int32} {a2 : Nat} {σ : PS} (h : ∃ bc : Nat, bc ≤ b ∧ (∃ fs : List Value, Ob (σ) 1 a0 fs) ∧ Call G mX1_states 205 bc [.ref a0, .int x1] (σ) (qI (fun rx s1 => ∃ (n : Nat) (f : Nat → Int64), La s1 101 a2 n f ∧ vp_in 0 n ∧ (∀ s1_1 : PS, s1_1 = up s1 101 a2 (.inr (n, .inr (.inl (vp_updL f (0 : Int32).toNatClampNeg rx.toInt64)))) → Q (some (.int 0)) s1_1))) (fun E q9 s9 => AtX G mX0_states 206 Q X (b - bc) 4 [(0, .ref a0), (1, .int x1), (2, .ref a2)] E q9 s9)) : At G mX0_states 206 Q X b 0 [(0, .ref a0), (1, .int x1), (2, .ref a2)] [] (σ) := by
  refine g_aload_n dX0_states_0 rfl 2 rfl ?_
  refine g_iconst (v := 0) dX0_states_1 (by decide) ?_
  refine g_aload_n dX0_states_2 rfl 0 rfl ?_
  refine g_iload_n dX0_states_3 rfl 1 rfl ?_
  obtain ⟨bc, hb9, h⟩ := h
  obtain ⟨⟨_, hO⟩, h⟩ := h
  refine g_callV (N := mX1_states) (st := [.int 0, .ref a2]) (As := [.int x1]) (a := a0) dX0_states_4 wsX1_states (lw_V q1427 q1428 q1429 q108 q1430) rfl mokX1_states rfl cl1 (by decide) (by decide) hb9 (by simp [Value.category]) hO h (fun E q s hx => hx) (fun _ s1 hq => ?_)
  obtain ⟨rx, rfl, h⟩ := hq
  refine At.stk (st' := [.int rx, .int 0, .ref a2]) rfl ?_
  refine g_i2l dX0_states_7 ?_
  obtain ⟨n, f, h1, h2, h⟩ := h
  refine g_last dX0_states_8 h1 h2 ?_
  refine g_tops (fun s1_1 es1_1 => ?_)
  replace h := h s1_1 es1_1
  refine g_goto (tgt := 15) dX0_states_9 (by decide) ?_
  refine g_iconst (v := 0) dX0_states_15 (by decide) ?_
  exact g_iret rfl dX0_states_16 h
set_option maxHeartbeats 4000000 in
theorem bX0_states_12 {G : GC} {Q : Option Value → PS → Prop} {X : String → Nat → PS → Prop} {b : Nat} {sa0 : Nat} {σ : PS} (h : Q (some (.int 1)) (σ)) : At G mX0_states 206 Q X b 12 [] [.ref sa0] (σ) := by
  refine g_astore_n (ls1 := [(3, .ref sa0)]) dX0_states_12 rfl (by decide) rfl ?_
  refine g_iconst (v := 1) dX0_states_13 (by decide) ?_
  exact g_iret rfl dX0_states_14 h
theorem eX0_states {G : GC} {Q : Option Value → PS → Prop} {X : String → Nat → PS → Prop} {b : Nat} {p0 : Nat} {p1 : Int32} {p2 : Nat} {σ : PS} (h : At G mX0_states 206 Q X b 0 [(0, .ref p0), (1, .int p1), (2, .ref p2)] [] σ) : Call G mX0_states 206 b [.ref p0, .int p1, .ref p2] σ Q X :=
  Call.ofH (by decide +kernel) wsX0_states (Nat.le_of_ble_eq_true rfl) (At.sub (ls := [(0, .ref p0), (1, .int p1), (2, .ref p2)]) [0, 1, 2] rfl h)
set_option maxHeartbeats 4000000 in
theorem bX0_likely_0 {G : GC} {Q : Option Value → PS → Prop} {X : String → Nat → PS → Prop} {b : Nat} {a0 : Nat} {x1 : Int32} {x2 : Int32} {a3 : Nat} {σ : PS} (h : ∃ bc : Nat, bc ≤ b ∧ (∃ fs : List Value, Ob (σ) 1 a0 fs) ∧ Call G mX1_likely 205 bc [.ref a0, .int x1, .int x2] (σ) (qJ (fun ry s1 => ∃ (n : Nat) (f : Nat → Int64), La s1 101 a3 n f ∧ vp_in 0 n ∧ (∀ s1_1 : PS, s1_1 = up s1 101 a3 (.inr (n, .inr (.inl (vp_updL f (0 : Int32).toNatClampNeg ry)))) → Q (some (.int 0)) s1_1))) (fun E q9 s9 => AtX G mX0_likely 206 Q X (b - bc) 5 [(0, .ref a0), (1, .int x1), (2, .int x2), (3, .ref a3)] E q9 s9)) : At G mX0_likely 206 Q X b 0 [(0, .ref a0), (1, .int x1), (2, .int x2), (3, .ref a3)] [] (σ) := by
  refine g_aload_n dX0_likely_0 rfl 3 rfl ?_
  refine g_iconst (v := 0) dX0_likely_1 (by decide) ?_
  refine g_aload_n dX0_likely_2 rfl 0 rfl ?_
  refine g_iload_n dX0_likely_3 rfl 1 rfl ?_
  refine g_iload_n dX0_likely_4 rfl 2 rfl ?_
  obtain ⟨bc, hb9, h⟩ := h
  obtain ⟨⟨_, hO⟩, h⟩ := h
  refine g_callV (N := mX1_likely) (st := [.int 0, .ref a3]) (As := [.int x1, .int x2]) (a := a0) dX0_likely_5 wsX1_likely (lw_V q1438 q1439 q1440 q108 q1441) rfl mokX1_likely rfl cl1 (by decide) (by decide) hb9 (by simp [Value.category]) hO h (fun E q s hx => hx) (fun _ s1 hq => ?_)
  obtain ⟨ry, rfl, h⟩ := hq
  refine At.stk (st' := [.long ry, .int 0, .ref a3]) rfl ?_
  obtain ⟨n, f, h1, h2, h⟩ := h
  refine g_last dX0_likely_8 h1 h2 ?_
  refine g_tops (fun s1_1 es1_1 => ?_)
  replace h := h s1_1 es1_1
  refine g_goto (tgt := 20) dX0_likely_9 (by decide) ?_
  refine g_iconst (v := 0) dX0_likely_20 (by decide) ?_
  exact g_iret rfl dX0_likely_21 h
set_option maxHeartbeats 4000000 in
theorem bX0_likely_12 {G : GC} {Q : Option Value → PS → Prop} {X : String → Nat → PS → Prop} {b : Nat} {sa0 : Nat} {σ : PS} (h : Q (some (.int 1)) (σ)) : At G mX0_likely 206 Q X b 12 [] [.ref sa0] (σ) := by
  refine g_astore (ls1 := [(4, .ref sa0)]) dX0_likely_12 (by decide) rfl ?_
  refine g_iconst (v := 1) dX0_likely_14 (by decide) ?_
  exact g_iret rfl dX0_likely_15 h
set_option maxHeartbeats 4000000 in
theorem bX0_likely_16 {G : GC} {Q : Option Value → PS → Prop} {X : String → Nat → PS → Prop} {b : Nat} {sa0 : Nat} {σ : PS} (h : Q (some (.int 2)) (σ)) : At G mX0_likely 206 Q X b 16 [] [.ref sa0] (σ) := by
  refine g_astore (ls1 := [(4, .ref sa0)]) dX0_likely_16 (by decide) rfl ?_
  refine g_iconst (v := 2) dX0_likely_18 (by decide) ?_
  exact g_iret rfl dX0_likely_19 h
theorem eX0_likely {G : GC} {Q : Option Value → PS → Prop} {X : String → Nat → PS → Prop} {b : Nat} {p0 : Nat} {p1 : Int32} {p2 : Int32} {p3 : Nat} {σ : PS} (h : At G mX0_likely 206 Q X b 0 [(0, .ref p0), (1, .int p1), (2, .int p2), (3, .ref p3)] [] σ) : Call G mX0_likely 206 b [.ref p0, .int p1, .int p2, .ref p3] σ Q X :=
  Call.ofH (by decide +kernel) wsX0_likely (Nat.le_of_ble_eq_true rfl) (At.sub (ls := [(0, .ref p0), (1, .int p1), (2, .int p2), (3, .ref p3)]) [0, 1, 2, 3] rfl h)
set_option maxHeartbeats 4000000 in
theorem bX0_state_0 {G : GC} {Q : Option Value → PS → Prop} {X : String → Nat → PS → Prop} {b : Nat} {a0 : Nat} {x1 : Int32} {x2 : Int32} {x3 : Int32} {x4 : Int32} {a5 : Nat} {σ : PS} (h : ∃ bc : Nat, bc ≤ b ∧ (∃ fs : List Value, Ob (σ) 1 a0 fs) ∧ Call G mX1_state 205 bc [.ref a0, .int x1, .int x2, .int x3, .int x4] (σ) (qJ (fun ry s1 => ∃ (n : Nat) (f : Nat → Int64), La s1 101 a5 n f ∧ vp_in 0 n ∧ (∀ s1_1 : PS, s1_1 = up s1 101 a5 (.inr (n, .inr (.inl (vp_updL f (0 : Int32).toNatClampNeg ry)))) → Q (some (.int 0)) s1_1))) (fun E q9 s9 => AtX G mX0_state 206 Q X (b - bc) 9 [(0, .ref a0), (1, .int x1), (2, .int x2), (3, .int x3), (4, .int x4), (5, .ref a5)] E q9 s9)) : At G mX0_state 206 Q X b 0 [(0, .ref a0), (1, .int x1), (2, .int x2), (3, .int x3), (4, .int x4), (5, .ref a5)] [] (σ) := by
  refine g_aload dX0_state_0 5 rfl ?_
  refine g_iconst (v := 0) dX0_state_2 (by decide) ?_
  refine g_aload_n dX0_state_3 rfl 0 rfl ?_
  refine g_iload_n dX0_state_4 rfl 1 rfl ?_
  refine g_iload_n dX0_state_5 rfl 2 rfl ?_
  refine g_iload_n dX0_state_6 rfl 3 rfl ?_
  refine g_iload dX0_state_7 4 rfl ?_
  obtain ⟨bc, hb9, h⟩ := h
  obtain ⟨⟨_, hO⟩, h⟩ := h
  refine g_callV (N := mX1_state) (st := [.int 0, .ref a5]) (As := [.int x1, .int x2, .int x3, .int x4]) (a := a0) dX0_state_9 wsX1_state (lw_V q1446 q1447 q1448 q108 q1449) rfl mokX1_state rfl cl1 (by decide) (by decide) hb9 (by simp [Value.category]) hO h (fun E q s hx => hx) (fun _ s1 hq => ?_)
  obtain ⟨ry, rfl, h⟩ := hq
  refine At.stk (st' := [.long ry, .int 0, .ref a5]) rfl ?_
  obtain ⟨n, f, h1, h2, h⟩ := h
  refine g_last dX0_state_12 h1 h2 ?_
  refine g_tops (fun s1_1 es1_1 => ?_)
  replace h := h s1_1 es1_1
  refine g_goto (tgt := 24) dX0_state_13 (by decide) ?_
  refine g_iconst (v := 0) dX0_state_24 (by decide) ?_
  exact g_iret rfl dX0_state_25 h
set_option maxHeartbeats 4000000 in
theorem bX0_state_16 {G : GC} {Q : Option Value → PS → Prop} {X : String → Nat → PS → Prop} {b : Nat} {sa0 : Nat} {σ : PS} (h : Q (some (.int 1)) (σ)) : At G mX0_state 206 Q X b 16 [] [.ref sa0] (σ) := by
  refine g_astore (ls1 := [(6, .ref sa0)]) dX0_state_16 (by decide) rfl ?_
  refine g_iconst (v := 1) dX0_state_18 (by decide) ?_
  exact g_iret rfl dX0_state_19 h
set_option maxHeartbeats 4000000 in
theorem bX0_state_20 {G : GC} {Q : Option Value → PS → Prop} {X : String → Nat → PS → Prop} {b : Nat} {sa0 : Nat} {σ : PS} (h : Q (some (.int 2)) (σ)) : At G mX0_state 206 Q X b 20 [] [.ref sa0] (σ) := by
  refine g_astore (ls1 := [(6, .ref sa0)]) dX0_state_20 (by decide) rfl ?_
  refine g_iconst (v := 2) dX0_state_22 (by decide) ?_
  exact g_iret rfl dX0_state_23 h
theorem eX0_state {G : GC} {Q : Option Value → PS → Prop} {X : String → Nat → PS → Prop} {b : Nat} {p0 : Nat} {p1 : Int32} {p2 : Int32} {p3 : Int32} {p4 : Int32} {p5 : Nat} {σ : PS} (h : At G mX0_state 206 Q X b 0 [(0, .ref p0), (1, .int p1), (2, .int p2), (3, .int p3), (4, .int p4), (5, .ref p5)] [] σ) : Call G mX0_state 206 b [.ref p0, .int p1, .int p2, .int p3, .int p4, .ref p5] σ Q X :=
  Call.ofH (by decide +kernel) wsX0_state (Nat.le_of_ble_eq_true rfl) (At.sub (ls := [(0, .ref p0), (1, .int p1), (2, .int p2), (3, .int p3), (4, .int p4), (5, .ref p5)]) [0, 1, 2, 3, 4, 5] rfl h)
set_option maxHeartbeats 4000000 in
theorem bX0_likeliest_0 {G : GC} {Q : Option Value → PS → Prop} {X : String → Nat → PS → Prop} {b : Nat} {a0 : Nat} {x1 : Int32} {a2 : Nat} {σ : PS} (h : ∃ bc : Nat, bc ≤ b ∧ (∃ fs : List Value, Ob (σ) 1 a0 fs) ∧ Call G mX1_likeliest 205 bc [.ref a0, .int x1] (σ) (qI (fun rx s1 => ∃ (n : Nat) (f : Nat → Int64), La s1 101 a2 n f ∧ vp_in 0 n ∧ (∀ s1_1 : PS, s1_1 = up s1 101 a2 (.inr (n, .inr (.inl (vp_updL f (0 : Int32).toNatClampNeg rx.toInt64)))) → Q (some (.int 0)) s1_1))) (fun E q9 s9 => AtX G mX0_likeliest 206 Q X (b - bc) 4 [(0, .ref a0), (1, .int x1), (2, .ref a2)] E q9 s9)) : At G mX0_likeliest 206 Q X b 0 [(0, .ref a0), (1, .int x1), (2, .ref a2)] [] (σ) := by
  refine g_aload_n dX0_likeliest_0 rfl 2 rfl ?_
  refine g_iconst (v := 0) dX0_likeliest_1 (by decide) ?_
  refine g_aload_n dX0_likeliest_2 rfl 0 rfl ?_
  refine g_iload_n dX0_likeliest_3 rfl 1 rfl ?_
  obtain ⟨bc, hb9, h⟩ := h
  obtain ⟨⟨_, hO⟩, h⟩ := h
  refine g_callV (N := mX1_likeliest) (st := [.int 0, .ref a2]) (As := [.int x1]) (a := a0) dX0_likeliest_4 wsX1_likeliest (lw_V q1457 q1458 q1459 q108 q1460) rfl mokX1_likeliest rfl cl1 (by decide) (by decide) hb9 (by simp [Value.category]) hO h (fun E q s hx => hx) (fun _ s1 hq => ?_)
  obtain ⟨rx, rfl, h⟩ := hq
  refine At.stk (st' := [.int rx, .int 0, .ref a2]) rfl ?_
  refine g_i2l dX0_likeliest_7 ?_
  obtain ⟨n, f, h1, h2, h⟩ := h
  refine g_last dX0_likeliest_8 h1 h2 ?_
  refine g_tops (fun s1_1 es1_1 => ?_)
  replace h := h s1_1 es1_1
  refine g_goto (tgt := 15) dX0_likeliest_9 (by decide) ?_
  refine g_iconst (v := 0) dX0_likeliest_15 (by decide) ?_
  exact g_iret rfl dX0_likeliest_16 h
set_option maxHeartbeats 4000000 in
theorem bX0_likeliest_12 {G : GC} {Q : Option Value → PS → Prop} {X : String → Nat → PS → Prop} {b : Nat} {sa0 : Nat} {σ : PS} (h : Q (some (.int 1)) (σ)) : At G mX0_likeliest 206 Q X b 12 [] [.ref sa0] (σ) := by
  refine g_astore_n (ls1 := [(3, .ref sa0)]) dX0_likeliest_12 rfl (by decide) rfl ?_
  refine g_iconst (v := 1) dX0_likeliest_13 (by decide) ?_
  exact g_iret rfl dX0_likeliest_14 h
theorem eX0_likeliest {G : GC} {Q : Option Value → PS → Prop} {X : String → Nat → PS → Prop} {b : Nat} {p0 : Nat} {p1 : Int32} {p2 : Nat} {σ : PS} (h : At G mX0_likeliest 206 Q X b 0 [(0, .ref p0), (1, .int p1), (2, .ref p2)] [] σ) : Call G mX0_likeliest 206 b [.ref p0, .int p1, .ref p2] σ Q X :=
  Call.ofH (by decide +kernel) wsX0_likeliest (Nat.le_of_ble_eq_true rfl) (At.sub (ls := [(0, .ref p0), (1, .int p1), (2, .ref p2)]) [0, 1, 2] rfl h)
set_option maxHeartbeats 4000000 in
theorem bX0_mean_0 {G : GC} {Q : Option Value → PS → Prop} {X : String → Nat → PS → Prop} {b : Nat} {a0 : Nat} {x1 : Int32} {x2 : Int32} {x3 : Int32} {a4 : Nat} {σ : PS} (h : ∃ bc : Nat, bc ≤ b ∧ (∃ fs : List Value, Ob (σ) 1 a0 fs) ∧ Call G mX1_mean 205 bc [.ref a0, .int x1, .int x2, .int x3] (σ) (qJ (fun ry s1 => ∃ (n : Nat) (f : Nat → Int64), La s1 101 a4 n f ∧ vp_in 0 n ∧ (∀ s1_1 : PS, s1_1 = up s1 101 a4 (.inr (n, .inr (.inl (vp_updL f (0 : Int32).toNatClampNeg ry)))) → Q (some (.int 0)) s1_1))) (fun E q9 s9 => AtX G mX0_mean 206 Q X (b - bc) 7 [(0, .ref a0), (1, .int x1), (2, .int x2), (3, .int x3), (4, .ref a4)] E q9 s9)) : At G mX0_mean 206 Q X b 0 [(0, .ref a0), (1, .int x1), (2, .int x2), (3, .int x3), (4, .ref a4)] [] (σ) := by
  refine g_aload dX0_mean_0 4 rfl ?_
  refine g_iconst (v := 0) dX0_mean_2 (by decide) ?_
  refine g_aload_n dX0_mean_3 rfl 0 rfl ?_
  refine g_iload_n dX0_mean_4 rfl 1 rfl ?_
  refine g_iload_n dX0_mean_5 rfl 2 rfl ?_
  refine g_iload_n dX0_mean_6 rfl 3 rfl ?_
  obtain ⟨bc, hb9, h⟩ := h
  obtain ⟨⟨_, hO⟩, h⟩ := h
  refine g_callV (N := mX1_mean) (st := [.int 0, .ref a4]) (As := [.int x1, .int x2, .int x3]) (a := a0) dX0_mean_7 wsX1_mean (lw_V q1464 q1465 q1466 q108 q1467) rfl mokX1_mean rfl cl1 (by decide) (by decide) hb9 (by simp [Value.category]) hO h (fun E q s hx => hx) (fun _ s1 hq => ?_)
  obtain ⟨ry, rfl, h⟩ := hq
  refine At.stk (st' := [.long ry, .int 0, .ref a4]) rfl ?_
  obtain ⟨n, f, h1, h2, h⟩ := h
  refine g_last dX0_mean_10 h1 h2 ?_
  refine g_tops (fun s1_1 es1_1 => ?_)
  replace h := h s1_1 es1_1
  refine g_goto (tgt := 22) dX0_mean_11 (by decide) ?_
  refine g_iconst (v := 0) dX0_mean_22 (by decide) ?_
  exact g_iret rfl dX0_mean_23 h
set_option maxHeartbeats 4000000 in
theorem bX0_mean_14 {G : GC} {Q : Option Value → PS → Prop} {X : String → Nat → PS → Prop} {b : Nat} {sa0 : Nat} {σ : PS} (h : Q (some (.int 1)) (σ)) : At G mX0_mean 206 Q X b 14 [] [.ref sa0] (σ) := by
  refine g_astore (ls1 := [(5, .ref sa0)]) dX0_mean_14 (by decide) rfl ?_
  refine g_iconst (v := 1) dX0_mean_16 (by decide) ?_
  exact g_iret rfl dX0_mean_17 h
set_option maxHeartbeats 4000000 in
theorem bX0_mean_18 {G : GC} {Q : Option Value → PS → Prop} {X : String → Nat → PS → Prop} {b : Nat} {sa0 : Nat} {σ : PS} (h : Q (some (.int 2)) (σ)) : At G mX0_mean 206 Q X b 18 [] [.ref sa0] (σ) := by
  refine g_astore (ls1 := [(5, .ref sa0)]) dX0_mean_18 (by decide) rfl ?_
  refine g_iconst (v := 2) dX0_mean_20 (by decide) ?_
  exact g_iret rfl dX0_mean_21 h
theorem eX0_mean {G : GC} {Q : Option Value → PS → Prop} {X : String → Nat → PS → Prop} {b : Nat} {p0 : Nat} {p1 : Int32} {p2 : Int32} {p3 : Int32} {p4 : Nat} {σ : PS} (h : At G mX0_mean 206 Q X b 0 [(0, .ref p0), (1, .int p1), (2, .int p2), (3, .int p3), (4, .ref p4)] [] σ) : Call G mX0_mean 206 b [.ref p0, .int p1, .int p2, .int p3, .ref p4] σ Q X :=
  Call.ofH (by decide +kernel) wsX0_mean (Nat.le_of_ble_eq_true rfl) (At.sub (ls := [(0, .ref p0), (1, .int p1), (2, .int p2), (3, .int p3), (4, .ref p4)]) [0, 1, 2, 3, 4] rfl h)
set_option maxHeartbeats 4000000 in
theorem bX0_often_0 {G : GC} {Q : Option Value → PS → Prop} {X : String → Nat → PS → Prop} {b : Nat} {a0 : Nat} {x1 : Int32} {a2 : Nat} {σ : PS} (h : ∃ bc : Nat, bc ≤ b ∧ (∃ fs : List Value, Ob (σ) 1 a0 fs) ∧ Call G mX1_often 205 bc [.ref a0, .int x1] (σ) (qJ (fun ry s1 => ∃ (n : Nat) (f : Nat → Int64), La s1 101 a2 n f ∧ vp_in 0 n ∧ (∀ s1_1 : PS, s1_1 = up s1 101 a2 (.inr (n, .inr (.inl (vp_updL f (0 : Int32).toNatClampNeg ry)))) → Q (some (.int 0)) s1_1))) (fun E q9 s9 => AtX G mX0_often 206 Q X (b - bc) 4 [(0, .ref a0), (1, .int x1), (2, .ref a2)] E q9 s9)) : At G mX0_often 206 Q X b 0 [(0, .ref a0), (1, .int x1), (2, .ref a2)] [] (σ) := by
  refine g_aload_n dX0_often_0 rfl 2 rfl ?_
  refine g_iconst (v := 0) dX0_often_1 (by decide) ?_
  refine g_aload_n dX0_often_2 rfl 0 rfl ?_
  refine g_iload_n dX0_often_3 rfl 1 rfl ?_
  obtain ⟨bc, hb9, h⟩ := h
  obtain ⟨⟨_, hO⟩, h⟩ := h
  refine g_callV (N := mX1_often) (st := [.int 0, .ref a2]) (As := [.int x1]) (a := a0) dX0_often_4 wsX1_often (lw_V q1483 q1484 q1485 q108 q1486) rfl mokX1_often rfl cl1 (by decide) (by decide) hb9 (by simp [Value.category]) hO h (fun E q s hx => hx) (fun _ s1 hq => ?_)
  obtain ⟨ry, rfl, h⟩ := hq
  refine At.stk (st' := [.long ry, .int 0, .ref a2]) rfl ?_
  obtain ⟨n, f, h1, h2, h⟩ := h
  refine g_last dX0_often_7 h1 h2 ?_
  refine g_tops (fun s1_1 es1_1 => ?_)
  replace h := h s1_1 es1_1
  refine g_goto (tgt := 14) dX0_often_8 (by decide) ?_
  refine g_iconst (v := 0) dX0_often_14 (by decide) ?_
  exact g_iret rfl dX0_often_15 h
set_option maxHeartbeats 4000000 in
theorem bX0_often_11 {G : GC} {Q : Option Value → PS → Prop} {X : String → Nat → PS → Prop} {b : Nat} {sa0 : Nat} {σ : PS} (h : Q (some (.int 1)) (σ)) : At G mX0_often 206 Q X b 11 [] [.ref sa0] (σ) := by
  refine g_astore_n (ls1 := [(3, .ref sa0)]) dX0_often_11 rfl (by decide) rfl ?_
  refine g_iconst (v := 1) dX0_often_12 (by decide) ?_
  exact g_iret rfl dX0_often_13 h
theorem eX0_often {G : GC} {Q : Option Value → PS → Prop} {X : String → Nat → PS → Prop} {b : Nat} {p0 : Nat} {p1 : Int32} {p2 : Nat} {σ : PS} (h : At G mX0_often 206 Q X b 0 [(0, .ref p0), (1, .int p1), (2, .ref p2)] [] σ) : Call G mX0_often 206 b [.ref p0, .int p1, .ref p2] σ Q X :=
  Call.ofH (by decide +kernel) wsX0_often (Nat.le_of_ble_eq_true rfl) (At.sub (ls := [(0, .ref p0), (1, .int p1), (2, .ref p2)]) [0, 1, 2] rfl h)
set_option maxHeartbeats 4000000 in
theorem bX0_drunk_0 {G : GC} {Q : Option Value → PS → Prop} {X : String → Nat → PS → Prop} {b : Nat} {a0 : Nat} {x1 : Int32} {x2 : Int32} {a3 : Nat} {σ : PS} (h : ∃ bc : Nat, bc ≤ b ∧ (∃ fs : List Value, Ob (σ) 1 a0 fs) ∧ Call G mX1_drunk 205 bc [.ref a0, .int x1, .int x2] (σ) (qJ (fun ry s1 => ∃ (n : Nat) (f : Nat → Int64), La s1 101 a3 n f ∧ vp_in 0 n ∧ (∀ s1_1 : PS, s1_1 = up s1 101 a3 (.inr (n, .inr (.inl (vp_updL f (0 : Int32).toNatClampNeg ry)))) → Q (some (.int 0)) s1_1))) (fun E q9 s9 => AtX G mX0_drunk 206 Q X (b - bc) 5 [(0, .ref a0), (1, .int x1), (2, .int x2), (3, .ref a3)] E q9 s9)) : At G mX0_drunk 206 Q X b 0 [(0, .ref a0), (1, .int x1), (2, .int x2), (3, .ref a3)] [] (σ) := by
  refine g_aload_n dX0_drunk_0 rfl 3 rfl ?_
  refine g_iconst (v := 0) dX0_drunk_1 (by decide) ?_
  refine g_aload_n dX0_drunk_2 rfl 0 rfl ?_
  refine g_iload_n dX0_drunk_3 rfl 1 rfl ?_
  refine g_iload_n dX0_drunk_4 rfl 2 rfl ?_
  obtain ⟨bc, hb9, h⟩ := h
  obtain ⟨⟨_, hO⟩, h⟩ := h
  refine g_callV (N := mX1_drunk) (st := [.int 0, .ref a3]) (As := [.int x1, .int x2]) (a := a0) dX0_drunk_5 wsX1_drunk (lw_V q1490 q1491 q1492 q108 q1493) rfl mokX1_drunk rfl cl1 (by decide) (by decide) hb9 (by simp [Value.category]) hO h (fun E q s hx => hx) (fun _ s1 hq => ?_)
  obtain ⟨ry, rfl, h⟩ := hq
  refine At.stk (st' := [.long ry, .int 0, .ref a3]) rfl ?_
  obtain ⟨n, f, h1, h2, h⟩ := h
  refine g_last dX0_drunk_8 h1 h2 ?_
  refine g_tops (fun s1_1 es1_1 => ?_)
  replace h := h s1_1 es1_1
  refine g_goto (tgt := 20) dX0_drunk_9 (by decide) ?_
  refine g_iconst (v := 0) dX0_drunk_20 (by decide) ?_
  exact g_iret rfl dX0_drunk_21 h
set_option maxHeartbeats 4000000 in
theorem bX0_drunk_12 {G : GC} {Q : Option Value → PS → Prop} {X : String → Nat → PS → Prop} {b : Nat} {sa0 : Nat} {σ : PS} (h : Q (some (.int 1)) (σ)) : At G mX0_drunk 206 Q X b 12 [] [.ref sa0] (σ) := by
  refine g_astore (ls1 := [(4, .ref sa0)]) dX0_drunk_12 (by decide) rfl ?_
  refine g_iconst (v := 1) dX0_drunk_14 (by decide) ?_
  exact g_iret rfl dX0_drunk_15 h
set_option maxHeartbeats 4000000 in
theorem bX0_drunk_16 {G : GC} {Q : Option Value → PS → Prop} {X : String → Nat → PS → Prop} {b : Nat} {sa0 : Nat} {σ : PS} (h : Q (some (.int 2)) (σ)) : At G mX0_drunk 206 Q X b 16 [] [.ref sa0] (σ) := by
  refine g_astore (ls1 := [(4, .ref sa0)]) dX0_drunk_16 (by decide) rfl ?_
  refine g_iconst (v := 2) dX0_drunk_18 (by decide) ?_
  exact g_iret rfl dX0_drunk_19 h
theorem eX0_drunk {G : GC} {Q : Option Value → PS → Prop} {X : String → Nat → PS → Prop} {b : Nat} {p0 : Nat} {p1 : Int32} {p2 : Int32} {p3 : Nat} {σ : PS} (h : At G mX0_drunk 206 Q X b 0 [(0, .ref p0), (1, .int p1), (2, .int p2), (3, .ref p3)] [] σ) : Call G mX0_drunk 206 b [.ref p0, .int p1, .int p2, .ref p3] σ Q X :=
  Call.ofH (by decide +kernel) wsX0_drunk (Nat.le_of_ble_eq_true rfl) (At.sub (ls := [(0, .ref p0), (1, .int p1), (2, .int p2), (3, .ref p3)]) [0, 1, 2, 3] rfl h)
set_option maxHeartbeats 4000000 in
theorem bX0_done_0 {G : GC} {Q : Option Value → PS → Prop} {X : String → Nat → PS → Prop} {b : Nat} {a0 : Nat} {x1 : Int32} {x2 : Int32} {a3 : Nat} {σ : PS} (h : ∃ bc : Nat, bc ≤ b ∧ (∃ fs : List Value, Ob (σ) 1 a0 fs) ∧ Call G mX1_done 205 bc [.ref a0, .int x1, .int x2] (σ) (qJ (fun ry s1 => ∃ (n : Nat) (f : Nat → Int64), La s1 101 a3 n f ∧ vp_in 0 n ∧ (∀ s1_1 : PS, s1_1 = up s1 101 a3 (.inr (n, .inr (.inl (vp_updL f (0 : Int32).toNatClampNeg ry)))) → Q (some (.int 0)) s1_1))) (fun E q9 s9 => AtX G mX0_done 206 Q X (b - bc) 5 [(0, .ref a0), (1, .int x1), (2, .int x2), (3, .ref a3)] E q9 s9)) : At G mX0_done 206 Q X b 0 [(0, .ref a0), (1, .int x1), (2, .int x2), (3, .ref a3)] [] (σ) := by
  refine g_aload_n dX0_done_0 rfl 3 rfl ?_
  refine g_iconst (v := 0) dX0_done_1 (by decide) ?_
  refine g_aload_n dX0_done_2 rfl 0 rfl ?_
  refine g_iload_n dX0_done_3 rfl 1 rfl ?_
  refine g_iload_n dX0_done_4 rfl 2 rfl ?_
  obtain ⟨bc, hb9, h⟩ := h
  obtain ⟨⟨_, hO⟩, h⟩ := h
  refine g_callV (N := mX1_done) (st := [.int 0, .ref a3]) (As := [.int x1, .int x2]) (a := a0) dX0_done_5 wsX1_done (lw_V q1497 q1498 q1499 q108 q1500) rfl mokX1_done rfl cl1 (by decide) (by decide) hb9 (by simp [Value.category]) hO h (fun E q s hx => hx) (fun _ s1 hq => ?_)
  obtain ⟨ry, rfl, h⟩ := hq
  refine At.stk (st' := [.long ry, .int 0, .ref a3]) rfl ?_
  obtain ⟨n, f, h1, h2, h⟩ := h
  refine g_last dX0_done_8 h1 h2 ?_
  refine g_tops (fun s1_1 es1_1 => ?_)
  replace h := h s1_1 es1_1
  refine g_goto (tgt := 16) dX0_done_9 (by decide) ?_
  refine g_iconst (v := 0) dX0_done_16 (by decide) ?_
  exact g_iret rfl dX0_done_17 h
set_option maxHeartbeats 4000000 in
theorem bX0_done_12 {G : GC} {Q : Option Value → PS → Prop} {X : String → Nat → PS → Prop} {b : Nat} {sa0 : Nat} {σ : PS} (h : Q (some (.int 1)) (σ)) : At G mX0_done 206 Q X b 12 [] [.ref sa0] (σ) := by
  refine g_astore (ls1 := [(4, .ref sa0)]) dX0_done_12 (by decide) rfl ?_
  refine g_iconst (v := 1) dX0_done_14 (by decide) ?_
  exact g_iret rfl dX0_done_15 h
theorem eX0_done {G : GC} {Q : Option Value → PS → Prop} {X : String → Nat → PS → Prop} {b : Nat} {p0 : Nat} {p1 : Int32} {p2 : Int32} {p3 : Nat} {σ : PS} (h : At G mX0_done 206 Q X b 0 [(0, .ref p0), (1, .int p1), (2, .int p2), (3, .ref p3)] [] σ) : Call G mX0_done 206 b [.ref p0, .int p1, .int p2, .ref p3] σ Q X :=
  Call.ofH (by decide +kernel) wsX0_done (Nat.le_of_ble_eq_true rfl) (At.sub (ls := [(0, .ref p0), (1, .int p1), (2, .int p2), (3, .ref p3)]) [0, 1, 2, 3] rfl h)
set_option maxHeartbeats 4000000 in
theorem bX0_cost_0 {G : GC} {Q : Option Value → PS → Prop} {X : String → Nat → PS → Prop} {b : Nat} {a0 : Nat} {x1 : Int32} {a2 : Nat} {σ : PS} (h : ∃ bc : Nat, bc ≤ b ∧ (∃ fs : List Value, Ob (σ) 1 a0 fs) ∧ Call G mX1_cost 205 bc [.ref a0, .int x1] (σ) (qJ (fun ry s1 => ∃ (n : Nat) (f : Nat → Int64), La s1 101 a2 n f ∧ vp_in 0 n ∧ (∀ s1_1 : PS, s1_1 = up s1 101 a2 (.inr (n, .inr (.inl (vp_updL f (0 : Int32).toNatClampNeg ry)))) → Q (some (.int 0)) s1_1))) (fun E q9 s9 => AtX G mX0_cost 206 Q X (b - bc) 4 [(0, .ref a0), (1, .int x1), (2, .ref a2)] E q9 s9)) : At G mX0_cost 206 Q X b 0 [(0, .ref a0), (1, .int x1), (2, .ref a2)] [] (σ) := by
  refine g_aload_n dX0_cost_0 rfl 2 rfl ?_
  refine g_iconst (v := 0) dX0_cost_1 (by decide) ?_
  refine g_aload_n dX0_cost_2 rfl 0 rfl ?_
  refine g_iload_n dX0_cost_3 rfl 1 rfl ?_
  obtain ⟨bc, hb9, h⟩ := h
  obtain ⟨⟨_, hO⟩, h⟩ := h
  refine g_callV (N := mX1_cost) (st := [.int 0, .ref a2]) (As := [.int x1]) (a := a0) dX0_cost_4 wsX1_cost (lw_V q1504 q1505 q1506 q108 q1507) rfl mokX1_cost rfl cl1 (by decide) (by decide) hb9 (by simp [Value.category]) hO h (fun E q s hx => hx) (fun _ s1 hq => ?_)
  obtain ⟨ry, rfl, h⟩ := hq
  refine At.stk (st' := [.long ry, .int 0, .ref a2]) rfl ?_
  obtain ⟨n, f, h1, h2, h⟩ := h
  refine g_last dX0_cost_7 h1 h2 ?_
  refine g_tops (fun s1_1 es1_1 => ?_)
  replace h := h s1_1 es1_1
  refine g_goto (tgt := 14) dX0_cost_8 (by decide) ?_
  refine g_iconst (v := 0) dX0_cost_14 (by decide) ?_
  exact g_iret rfl dX0_cost_15 h
set_option maxHeartbeats 4000000 in
theorem bX0_cost_11 {G : GC} {Q : Option Value → PS → Prop} {X : String → Nat → PS → Prop} {b : Nat} {sa0 : Nat} {σ : PS} (h : Q (some (.int 1)) (σ)) : At G mX0_cost 206 Q X b 11 [] [.ref sa0] (σ) := by
  refine g_astore_n (ls1 := [(3, .ref sa0)]) dX0_cost_11 rfl (by decide) rfl ?_
  refine g_iconst (v := 1) dX0_cost_12 (by decide) ?_
  exact g_iret rfl dX0_cost_13 h
theorem eX0_cost {G : GC} {Q : Option Value → PS → Prop} {X : String → Nat → PS → Prop} {b : Nat} {p0 : Nat} {p1 : Int32} {p2 : Nat} {σ : PS} (h : At G mX0_cost 206 Q X b 0 [(0, .ref p0), (1, .int p1), (2, .ref p2)] [] σ) : Call G mX0_cost 206 b [.ref p0, .int p1, .ref p2] σ Q X :=
  Call.ofH (by decide +kernel) wsX0_cost (Nat.le_of_ble_eq_true rfl) (At.sub (ls := [(0, .ref p0), (1, .int p1), (2, .ref p2)]) [0, 1, 2] rfl h)
set_option maxHeartbeats 4000000 in
theorem bX0_fits_0 {G : GC} {Q : Option Value → PS → Prop} {X : String → Nat → PS → Prop} {b : Nat} {a0 : Nat} {x1 : Int32} {a2 : Nat} {σ : PS} (h : ∃ bc : Nat, bc ≤ b ∧ (∃ fs : List Value, Ob (σ) 1 a0 fs) ∧ Call G mX1_fits 205 bc [.ref a0, .int x1] (σ) (qJ (fun ry s1 => ∃ (n : Nat) (f : Nat → Int64), La s1 101 a2 n f ∧ vp_in 0 n ∧ (∀ s1_1 : PS, s1_1 = up s1 101 a2 (.inr (n, .inr (.inl (vp_updL f (0 : Int32).toNatClampNeg ry)))) → Q (some (.int 0)) s1_1))) (fun E q9 s9 => AtX G mX0_fits 206 Q X (b - bc) 4 [(0, .ref a0), (1, .int x1), (2, .ref a2)] E q9 s9)) : At G mX0_fits 206 Q X b 0 [(0, .ref a0), (1, .int x1), (2, .ref a2)] [] (σ) := by
  refine g_aload_n dX0_fits_0 rfl 2 rfl ?_
  refine g_iconst (v := 0) dX0_fits_1 (by decide) ?_
  refine g_aload_n dX0_fits_2 rfl 0 rfl ?_
  refine g_iload_n dX0_fits_3 rfl 1 rfl ?_
  obtain ⟨bc, hb9, h⟩ := h
  obtain ⟨⟨_, hO⟩, h⟩ := h
  refine g_callV (N := mX1_fits) (st := [.int 0, .ref a2]) (As := [.int x1]) (a := a0) dX0_fits_4 wsX1_fits (lw_V q1511 q1512 q1513 q108 q1514) rfl mokX1_fits rfl cl1 (by decide) (by decide) hb9 (by simp [Value.category]) hO h (fun E q s hx => hx) (fun _ s1 hq => ?_)
  obtain ⟨ry, rfl, h⟩ := hq
  refine At.stk (st' := [.long ry, .int 0, .ref a2]) rfl ?_
  obtain ⟨n, f, h1, h2, h⟩ := h
  refine g_last dX0_fits_7 h1 h2 ?_
  refine g_tops (fun s1_1 es1_1 => ?_)
  replace h := h s1_1 es1_1
  refine g_goto (tgt := 14) dX0_fits_8 (by decide) ?_
  refine g_iconst (v := 0) dX0_fits_14 (by decide) ?_
  exact g_iret rfl dX0_fits_15 h
set_option maxHeartbeats 4000000 in
theorem bX0_fits_11 {G : GC} {Q : Option Value → PS → Prop} {X : String → Nat → PS → Prop} {b : Nat} {sa0 : Nat} {σ : PS} (h : Q (some (.int 1)) (σ)) : At G mX0_fits 206 Q X b 11 [] [.ref sa0] (σ) := by
  refine g_astore_n (ls1 := [(3, .ref sa0)]) dX0_fits_11 rfl (by decide) rfl ?_
  refine g_iconst (v := 1) dX0_fits_12 (by decide) ?_
  exact g_iret rfl dX0_fits_13 h
theorem eX0_fits {G : GC} {Q : Option Value → PS → Prop} {X : String → Nat → PS → Prop} {b : Nat} {p0 : Nat} {p1 : Int32} {p2 : Nat} {σ : PS} (h : At G mX0_fits 206 Q X b 0 [(0, .ref p0), (1, .int p1), (2, .ref p2)] [] σ) : Call G mX0_fits 206 b [.ref p0, .int p1, .ref p2] σ Q X :=
  Call.ofH (by decide +kernel) wsX0_fits (Nat.le_of_ble_eq_true rfl) (At.sub (ls := [(0, .ref p0), (1, .int p1), (2, .ref p2)]) [0, 1, 2] rfl h)
set_option maxHeartbeats 4000000 in
theorem bX0_given_0 {G : GC} {Q : Option Value → PS → Prop} {X : String → Nat → PS → Prop} {b : Nat} {a0 : Nat} {x1 : Int32} {x2 : Int32} {x3 : Int32} {a4 : Nat} {σ : PS} (h : ∃ bc : Nat, bc ≤ b ∧ (∃ fs : List Value, Ob (σ) 1 a0 fs) ∧ Call G mX1_given 206 bc [.ref a0, .int x1, .int x2, .int x3] (σ) (qJ (fun ry s1 => ∃ (n : Nat) (f : Nat → Int64), La s1 101 a4 n f ∧ vp_in 0 n ∧ (∀ s1_1 : PS, s1_1 = up s1 101 a4 (.inr (n, .inr (.inl (vp_updL f (0 : Int32).toNatClampNeg ry)))) → Q (some (.int 0)) s1_1))) (fun E q9 s9 => AtX G mX0_given 207 Q X (b - bc) 7 [(0, .ref a0), (1, .int x1), (2, .int x2), (3, .int x3), (4, .ref a4)] E q9 s9)) : At G mX0_given 207 Q X b 0 [(0, .ref a0), (1, .int x1), (2, .int x2), (3, .int x3), (4, .ref a4)] [] (σ) := by
  refine g_aload dX0_given_0 4 rfl ?_
  refine g_iconst (v := 0) dX0_given_2 (by decide) ?_
  refine g_aload_n dX0_given_3 rfl 0 rfl ?_
  refine g_iload_n dX0_given_4 rfl 1 rfl ?_
  refine g_iload_n dX0_given_5 rfl 2 rfl ?_
  refine g_iload_n dX0_given_6 rfl 3 rfl ?_
  obtain ⟨bc, hb9, h⟩ := h
  obtain ⟨⟨_, hO⟩, h⟩ := h
  refine g_callV (N := mX1_given) (st := [.int 0, .ref a4]) (As := [.int x1, .int x2, .int x3]) (a := a0) dX0_given_7 wsX1_given (lw_V q1526 q1527 q1528 q108 q1529) rfl mokX1_given rfl cl1 (by decide) (by decide) hb9 (by simp [Value.category]) hO h (fun E q s hx => hx) (fun _ s1 hq => ?_)
  obtain ⟨ry, rfl, h⟩ := hq
  refine At.stk (st' := [.long ry, .int 0, .ref a4]) rfl ?_
  obtain ⟨n, f, h1, h2, h⟩ := h
  refine g_last dX0_given_10 h1 h2 ?_
  refine g_tops (fun s1_1 es1_1 => ?_)
  replace h := h s1_1 es1_1
  refine g_goto (tgt := 22) dX0_given_11 (by decide) ?_
  refine g_iconst (v := 0) dX0_given_22 (by decide) ?_
  exact g_iret rfl dX0_given_23 h
set_option maxHeartbeats 4000000 in
theorem bX0_given_14 {G : GC} {Q : Option Value → PS → Prop} {X : String → Nat → PS → Prop} {b : Nat} {sa0 : Nat} {σ : PS} (h : Q (some (.int 1)) (σ)) : At G mX0_given 207 Q X b 14 [] [.ref sa0] (σ) := by
  refine g_astore (ls1 := [(5, .ref sa0)]) dX0_given_14 (by decide) rfl ?_
  refine g_iconst (v := 1) dX0_given_16 (by decide) ?_
  exact g_iret rfl dX0_given_17 h
set_option maxHeartbeats 4000000 in
theorem bX0_given_18 {G : GC} {Q : Option Value → PS → Prop} {X : String → Nat → PS → Prop} {b : Nat} {sa0 : Nat} {σ : PS} (h : Q (some (.int 2)) (σ)) : At G mX0_given 207 Q X b 18 [] [.ref sa0] (σ) := by
  refine g_astore (ls1 := [(5, .ref sa0)]) dX0_given_18 (by decide) rfl ?_
  refine g_iconst (v := 2) dX0_given_20 (by decide) ?_
  exact g_iret rfl dX0_given_21 h
theorem eX0_given {G : GC} {Q : Option Value → PS → Prop} {X : String → Nat → PS → Prop} {b : Nat} {p0 : Nat} {p1 : Int32} {p2 : Int32} {p3 : Int32} {p4 : Nat} {σ : PS} (h : At G mX0_given 207 Q X b 0 [(0, .ref p0), (1, .int p1), (2, .int p2), (3, .int p3), (4, .ref p4)] [] σ) : Call G mX0_given 207 b [.ref p0, .int p1, .int p2, .int p3, .ref p4] σ Q X :=
  Call.ofH (by decide +kernel) wsX0_given (Nat.le_of_ble_eq_true rfl) (At.sub (ls := [(0, .ref p0), (1, .int p1), (2, .int p2), (3, .int p3), (4, .ref p4)]) [0, 1, 2, 3, 4] rfl h)
set_option maxHeartbeats 4000000 in
theorem bX0_best_0 {G : GC} {Q : Option Value → PS → Prop} {X : String → Nat → PS → Prop} {b : Nat} {a0 : Nat} {x1 : Int32} {a2 : Nat} {σ : PS} (h : ∃ bc : Nat, bc ≤ b ∧ (∃ fs : List Value, Ob (σ) 1 a0 fs) ∧ Call G mX1_best 206 bc [.ref a0, .int x1] (σ) (qI (fun rx s1 => ∃ (n : Nat) (f : Nat → Int64), La s1 101 a2 n f ∧ vp_in 0 n ∧ (∀ s1_1 : PS, s1_1 = up s1 101 a2 (.inr (n, .inr (.inl (vp_updL f (0 : Int32).toNatClampNeg rx.toInt64)))) → Q (some (.int 0)) s1_1))) (fun E q9 s9 => AtX G mX0_best 207 Q X (b - bc) 4 [(0, .ref a0), (1, .int x1), (2, .ref a2)] E q9 s9)) : At G mX0_best 207 Q X b 0 [(0, .ref a0), (1, .int x1), (2, .ref a2)] [] (σ) := by
  refine g_aload_n dX0_best_0 rfl 2 rfl ?_
  refine g_iconst (v := 0) dX0_best_1 (by decide) ?_
  refine g_aload_n dX0_best_2 rfl 0 rfl ?_
  refine g_iload_n dX0_best_3 rfl 1 rfl ?_
  obtain ⟨bc, hb9, h⟩ := h
  obtain ⟨⟨_, hO⟩, h⟩ := h
  refine g_callV (N := mX1_best) (st := [.int 0, .ref a2]) (As := [.int x1]) (a := a0) dX0_best_4 wsX1_best (lw_V q1541 q1542 q1543 q108 q1544) rfl mokX1_best rfl cl1 (by decide) (by decide) hb9 (by simp [Value.category]) hO h (fun E q s hx => hx) (fun _ s1 hq => ?_)
  obtain ⟨rx, rfl, h⟩ := hq
  refine At.stk (st' := [.int rx, .int 0, .ref a2]) rfl ?_
  refine g_i2l dX0_best_7 ?_
  obtain ⟨n, f, h1, h2, h⟩ := h
  refine g_last dX0_best_8 h1 h2 ?_
  refine g_tops (fun s1_1 es1_1 => ?_)
  replace h := h s1_1 es1_1
  refine g_goto (tgt := 15) dX0_best_9 (by decide) ?_
  refine g_iconst (v := 0) dX0_best_15 (by decide) ?_
  exact g_iret rfl dX0_best_16 h
set_option maxHeartbeats 4000000 in
theorem bX0_best_12 {G : GC} {Q : Option Value → PS → Prop} {X : String → Nat → PS → Prop} {b : Nat} {sa0 : Nat} {σ : PS} (h : Q (some (.int 1)) (σ)) : At G mX0_best 207 Q X b 12 [] [.ref sa0] (σ) := by
  refine g_astore_n (ls1 := [(3, .ref sa0)]) dX0_best_12 rfl (by decide) rfl ?_
  refine g_iconst (v := 1) dX0_best_13 (by decide) ?_
  exact g_iret rfl dX0_best_14 h
theorem eX0_best {G : GC} {Q : Option Value → PS → Prop} {X : String → Nat → PS → Prop} {b : Nat} {p0 : Nat} {p1 : Int32} {p2 : Nat} {σ : PS} (h : At G mX0_best 207 Q X b 0 [(0, .ref p0), (1, .int p1), (2, .ref p2)] [] σ) : Call G mX0_best 207 b [.ref p0, .int p1, .ref p2] σ Q X :=
  Call.ofH (by decide +kernel) wsX0_best (Nat.le_of_ble_eq_true rfl) (At.sub (ls := [(0, .ref p0), (1, .int p1), (2, .ref p2)]) [0, 1, 2] rfl h)
set_option maxHeartbeats 4000000 in
theorem bX0_worth_0 {G : GC} {Q : Option Value → PS → Prop} {X : String → Nat → PS → Prop} {b : Nat} {a0 : Nat} {x1 : Int32} {x2 : Int32} {x3 : Int32} {a4 : Nat} {σ : PS} (h : ∃ bc : Nat, bc ≤ b ∧ (∃ fs : List Value, Ob (σ) 1 a0 fs) ∧ Call G mX1_worth 206 bc [.ref a0, .int x1, .int x2, .int x3] (σ) (qJ (fun ry s1 => ∃ (n : Nat) (f : Nat → Int64), La s1 101 a4 n f ∧ vp_in 0 n ∧ (∀ s1_1 : PS, s1_1 = up s1 101 a4 (.inr (n, .inr (.inl (vp_updL f (0 : Int32).toNatClampNeg ry)))) → Q (some (.int 0)) s1_1))) (fun E q9 s9 => AtX G mX0_worth 207 Q X (b - bc) 7 [(0, .ref a0), (1, .int x1), (2, .int x2), (3, .int x3), (4, .ref a4)] E q9 s9)) : At G mX0_worth 207 Q X b 0 [(0, .ref a0), (1, .int x1), (2, .int x2), (3, .int x3), (4, .ref a4)] [] (σ) := by
  refine g_aload dX0_worth_0 4 rfl ?_
  refine g_iconst (v := 0) dX0_worth_2 (by decide) ?_
  refine g_aload_n dX0_worth_3 rfl 0 rfl ?_
  refine g_iload_n dX0_worth_4 rfl 1 rfl ?_
  refine g_iload_n dX0_worth_5 rfl 2 rfl ?_
  refine g_iload_n dX0_worth_6 rfl 3 rfl ?_
  obtain ⟨bc, hb9, h⟩ := h
  obtain ⟨⟨_, hO⟩, h⟩ := h
  refine g_callV (N := mX1_worth) (st := [.int 0, .ref a4]) (As := [.int x1, .int x2, .int x3]) (a := a0) dX0_worth_7 wsX1_worth (lw_V q1572 q1573 q1574 q108 q1575) rfl mokX1_worth rfl cl1 (by decide) (by decide) hb9 (by simp [Value.category]) hO h (fun E q s hx => hx) (fun _ s1 hq => ?_)
  obtain ⟨ry, rfl, h⟩ := hq
  refine At.stk (st' := [.long ry, .int 0, .ref a4]) rfl ?_
  obtain ⟨n, f, h1, h2, h⟩ := h
  refine g_last dX0_worth_10 h1 h2 ?_
  refine g_tops (fun s1_1 es1_1 => ?_)
  replace h := h s1_1 es1_1
  refine g_goto (tgt := 22) dX0_worth_11 (by decide) ?_
  refine g_iconst (v := 0) dX0_worth_22 (by decide) ?_
  exact g_iret rfl dX0_worth_23 h
set_option maxHeartbeats 4000000 in
theorem bX0_worth_14 {G : GC} {Q : Option Value → PS → Prop} {X : String → Nat → PS → Prop} {b : Nat} {sa0 : Nat} {σ : PS} (h : Q (some (.int 1)) (σ)) : At G mX0_worth 207 Q X b 14 [] [.ref sa0] (σ) := by
  refine g_astore (ls1 := [(5, .ref sa0)]) dX0_worth_14 (by decide) rfl ?_
  refine g_iconst (v := 1) dX0_worth_16 (by decide) ?_
  exact g_iret rfl dX0_worth_17 h
set_option maxHeartbeats 4000000 in
theorem bX0_worth_18 {G : GC} {Q : Option Value → PS → Prop} {X : String → Nat → PS → Prop} {b : Nat} {sa0 : Nat} {σ : PS} (h : Q (some (.int 2)) (σ)) : At G mX0_worth 207 Q X b 18 [] [.ref sa0] (σ) := by
  refine g_astore (ls1 := [(5, .ref sa0)]) dX0_worth_18 (by decide) rfl ?_
  refine g_iconst (v := 2) dX0_worth_20 (by decide) ?_
  exact g_iret rfl dX0_worth_21 h
theorem eX0_worth {G : GC} {Q : Option Value → PS → Prop} {X : String → Nat → PS → Prop} {b : Nat} {p0 : Nat} {p1 : Int32} {p2 : Int32} {p3 : Int32} {p4 : Nat} {σ : PS} (h : At G mX0_worth 207 Q X b 0 [(0, .ref p0), (1, .int p1), (2, .int p2), (3, .int p3), (4, .ref p4)] [] σ) : Call G mX0_worth 207 b [.ref p0, .int p1, .int p2, .int p3, .ref p4] σ Q X :=
  Call.ofH (by decide +kernel) wsX0_worth (Nat.le_of_ble_eq_true rfl) (At.sub (ls := [(0, .ref p0), (1, .int p1), (2, .int p2), (3, .int p3), (4, .ref p4)]) [0, 1, 2, 3, 4] rfl h)
set_option maxHeartbeats 4000000 in
theorem bX0_gain_0 {G : GC} {Q : Option Value → PS → Prop} {X : String → Nat → PS → Prop} {b : Nat} {a0 : Nat} {x1 : Int32} {x2 : Int32} {a3 : Nat} {σ : PS} (h : ∃ bc : Nat, bc ≤ b ∧ (∃ fs : List Value, Ob (σ) 1 a0 fs) ∧ Call G mX1_gain 206 bc [.ref a0, .int x1, .int x2] (σ) (qJ (fun ry s1 => ∃ (n : Nat) (f : Nat → Int64), La s1 101 a3 n f ∧ vp_in 0 n ∧ (∀ s1_1 : PS, s1_1 = up s1 101 a3 (.inr (n, .inr (.inl (vp_updL f (0 : Int32).toNatClampNeg ry)))) → Q (some (.int 0)) s1_1))) (fun E q9 s9 => AtX G mX0_gain 207 Q X (b - bc) 5 [(0, .ref a0), (1, .int x1), (2, .int x2), (3, .ref a3)] E q9 s9)) : At G mX0_gain 207 Q X b 0 [(0, .ref a0), (1, .int x1), (2, .int x2), (3, .ref a3)] [] (σ) := by
  refine g_aload_n dX0_gain_0 rfl 3 rfl ?_
  refine g_iconst (v := 0) dX0_gain_1 (by decide) ?_
  refine g_aload_n dX0_gain_2 rfl 0 rfl ?_
  refine g_iload_n dX0_gain_3 rfl 1 rfl ?_
  refine g_iload_n dX0_gain_4 rfl 2 rfl ?_
  obtain ⟨bc, hb9, h⟩ := h
  obtain ⟨⟨_, hO⟩, h⟩ := h
  refine g_callV (N := mX1_gain) (st := [.int 0, .ref a3]) (As := [.int x1, .int x2]) (a := a0) dX0_gain_5 wsX1_gain (lw_V q1579 q1580 q1581 q108 q1582) rfl mokX1_gain rfl cl1 (by decide) (by decide) hb9 (by simp [Value.category]) hO h (fun E q s hx => hx) (fun _ s1 hq => ?_)
  obtain ⟨ry, rfl, h⟩ := hq
  refine At.stk (st' := [.long ry, .int 0, .ref a3]) rfl ?_
  obtain ⟨n, f, h1, h2, h⟩ := h
  refine g_last dX0_gain_8 h1 h2 ?_
  refine g_tops (fun s1_1 es1_1 => ?_)
  replace h := h s1_1 es1_1
  refine g_goto (tgt := 20) dX0_gain_9 (by decide) ?_
  refine g_iconst (v := 0) dX0_gain_20 (by decide) ?_
  exact g_iret rfl dX0_gain_21 h
set_option maxHeartbeats 4000000 in
theorem bX0_gain_12 {G : GC} {Q : Option Value → PS → Prop} {X : String → Nat → PS → Prop} {b : Nat} {sa0 : Nat} {σ : PS} (h : Q (some (.int 1)) (σ)) : At G mX0_gain 207 Q X b 12 [] [.ref sa0] (σ) := by
  refine g_astore (ls1 := [(4, .ref sa0)]) dX0_gain_12 (by decide) rfl ?_
  refine g_iconst (v := 1) dX0_gain_14 (by decide) ?_
  exact g_iret rfl dX0_gain_15 h
set_option maxHeartbeats 4000000 in
theorem bX0_gain_16 {G : GC} {Q : Option Value → PS → Prop} {X : String → Nat → PS → Prop} {b : Nat} {sa0 : Nat} {σ : PS} (h : Q (some (.int 2)) (σ)) : At G mX0_gain 207 Q X b 16 [] [.ref sa0] (σ) := by
  refine g_astore (ls1 := [(4, .ref sa0)]) dX0_gain_16 (by decide) rfl ?_
  refine g_iconst (v := 2) dX0_gain_18 (by decide) ?_
  exact g_iret rfl dX0_gain_19 h
theorem eX0_gain {G : GC} {Q : Option Value → PS → Prop} {X : String → Nat → PS → Prop} {b : Nat} {p0 : Nat} {p1 : Int32} {p2 : Int32} {p3 : Nat} {σ : PS} (h : At G mX0_gain 207 Q X b 0 [(0, .ref p0), (1, .int p1), (2, .int p2), (3, .ref p3)] [] σ) : Call G mX0_gain 207 b [.ref p0, .int p1, .int p2, .ref p3] σ Q X :=
  Call.ofH (by decide +kernel) wsX0_gain (Nat.le_of_ble_eq_true rfl) (At.sub (ls := [(0, .ref p0), (1, .int p1), (2, .int p2), (3, .ref p3)]) [0, 1, 2, 3] rfl h)
set_option maxHeartbeats 4000000 in
theorem bX0_without_0 {G : GC} {Q : Option Value → PS → Prop} {X : String → Nat → PS → Prop} {b : Nat} {a0 : Nat} {x1 : Int32} {x2 : Int32} {a3 : Nat} {σ : PS} (h : ∃ bc : Nat, bc ≤ b ∧ (∃ fs : List Value, Ob (σ) 1 a0 fs) ∧ Call G mX1_without 205 bc [.ref a0, .int x1, .int x2] (σ) (qJ (fun ry s1 => ∃ (n : Nat) (f : Nat → Int64), La s1 101 a3 n f ∧ vp_in 0 n ∧ (∀ s1_1 : PS, s1_1 = up s1 101 a3 (.inr (n, .inr (.inl (vp_updL f (0 : Int32).toNatClampNeg ry)))) → Q (some (.int 0)) s1_1))) (fun E q9 s9 => AtX G mX0_without 206 Q X (b - bc) 5 [(0, .ref a0), (1, .int x1), (2, .int x2), (3, .ref a3)] E q9 s9)) : At G mX0_without 206 Q X b 0 [(0, .ref a0), (1, .int x1), (2, .int x2), (3, .ref a3)] [] (σ) := by
  refine g_aload_n dX0_without_0 rfl 3 rfl ?_
  refine g_iconst (v := 0) dX0_without_1 (by decide) ?_
  refine g_aload_n dX0_without_2 rfl 0 rfl ?_
  refine g_iload_n dX0_without_3 rfl 1 rfl ?_
  refine g_iload_n dX0_without_4 rfl 2 rfl ?_
  obtain ⟨bc, hb9, h⟩ := h
  obtain ⟨⟨_, hO⟩, h⟩ := h
  refine g_callV (N := mX1_without) (st := [.int 0, .ref a3]) (As := [.int x1, .int x2]) (a := a0) dX0_without_5 wsX1_without (lw_V q1590 q1591 q1592 q108 q1593) rfl mokX1_without rfl cl1 (by decide) (by decide) hb9 (by simp [Value.category]) hO h (fun E q s hx => hx) (fun _ s1 hq => ?_)
  obtain ⟨ry, rfl, h⟩ := hq
  refine At.stk (st' := [.long ry, .int 0, .ref a3]) rfl ?_
  obtain ⟨n, f, h1, h2, h⟩ := h
  refine g_last dX0_without_8 h1 h2 ?_
  refine g_tops (fun s1_1 es1_1 => ?_)
  replace h := h s1_1 es1_1
  refine g_goto (tgt := 20) dX0_without_9 (by decide) ?_
  refine g_iconst (v := 0) dX0_without_20 (by decide) ?_
  exact g_iret rfl dX0_without_21 h
set_option maxHeartbeats 4000000 in
theorem bX0_without_12 {G : GC} {Q : Option Value → PS → Prop} {X : String → Nat → PS → Prop} {b : Nat} {sa0 : Nat} {σ : PS} (h : Q (some (.int 1)) (σ)) : At G mX0_without 206 Q X b 12 [] [.ref sa0] (σ) := by
  refine g_astore (ls1 := [(4, .ref sa0)]) dX0_without_12 (by decide) rfl ?_
  refine g_iconst (v := 1) dX0_without_14 (by decide) ?_
  exact g_iret rfl dX0_without_15 h
set_option maxHeartbeats 4000000 in
theorem bX0_without_16 {G : GC} {Q : Option Value → PS → Prop} {X : String → Nat → PS → Prop} {b : Nat} {sa0 : Nat} {σ : PS} (h : Q (some (.int 2)) (σ)) : At G mX0_without 206 Q X b 16 [] [.ref sa0] (σ) := by
  refine g_astore (ls1 := [(4, .ref sa0)]) dX0_without_16 (by decide) rfl ?_
  refine g_iconst (v := 2) dX0_without_18 (by decide) ?_
  exact g_iret rfl dX0_without_19 h
theorem eX0_without {G : GC} {Q : Option Value → PS → Prop} {X : String → Nat → PS → Prop} {b : Nat} {p0 : Nat} {p1 : Int32} {p2 : Int32} {p3 : Nat} {σ : PS} (h : At G mX0_without 206 Q X b 0 [(0, .ref p0), (1, .int p1), (2, .int p2), (3, .ref p3)] [] σ) : Call G mX0_without 206 b [.ref p0, .int p1, .int p2, .ref p3] σ Q X :=
  Call.ofH (by decide +kernel) wsX0_without (Nat.le_of_ble_eq_true rfl) (At.sub (ls := [(0, .ref p0), (1, .int p1), (2, .int p2), (3, .ref p3)]) [0, 1, 2, 3] rfl h)
set_option maxHeartbeats 4000000 in
theorem bX0_falling_0 {G : GC} {Q : Option Value → PS → Prop} {X : String → Nat → PS → Prop} {b : Nat} {a0 : Nat} {x1 : Int32} {a2 : Nat} {σ : PS} (h : ∃ bc : Nat, bc ≤ b ∧ (∃ fs : List Value, Ob (σ) 1 a0 fs) ∧ Call G mX1_falling 205 bc [.ref a0, .int x1] (σ) (qJ (fun ry s1 => ∃ (n : Nat) (f : Nat → Int64), La s1 101 a2 n f ∧ vp_in 0 n ∧ (∀ s1_1 : PS, s1_1 = up s1 101 a2 (.inr (n, .inr (.inl (vp_updL f (0 : Int32).toNatClampNeg ry)))) → Q (some (.int 0)) s1_1))) (fun E q9 s9 => AtX G mX0_falling 206 Q X (b - bc) 4 [(0, .ref a0), (1, .int x1), (2, .ref a2)] E q9 s9)) : At G mX0_falling 206 Q X b 0 [(0, .ref a0), (1, .int x1), (2, .ref a2)] [] (σ) := by
  refine g_aload_n dX0_falling_0 rfl 2 rfl ?_
  refine g_iconst (v := 0) dX0_falling_1 (by decide) ?_
  refine g_aload_n dX0_falling_2 rfl 0 rfl ?_
  refine g_iload_n dX0_falling_3 rfl 1 rfl ?_
  obtain ⟨bc, hb9, h⟩ := h
  obtain ⟨⟨_, hO⟩, h⟩ := h
  refine g_callV (N := mX1_falling) (st := [.int 0, .ref a2]) (As := [.int x1]) (a := a0) dX0_falling_4 wsX1_falling (lw_V q1597 q1598 q1599 q108 q1600) rfl mokX1_falling rfl cl1 (by decide) (by decide) hb9 (by simp [Value.category]) hO h (fun E q s hx => hx) (fun _ s1 hq => ?_)
  obtain ⟨ry, rfl, h⟩ := hq
  refine At.stk (st' := [.long ry, .int 0, .ref a2]) rfl ?_
  obtain ⟨n, f, h1, h2, h⟩ := h
  refine g_last dX0_falling_7 h1 h2 ?_
  refine g_tops (fun s1_1 es1_1 => ?_)
  replace h := h s1_1 es1_1
  refine g_goto (tgt := 14) dX0_falling_8 (by decide) ?_
  refine g_iconst (v := 0) dX0_falling_14 (by decide) ?_
  exact g_iret rfl dX0_falling_15 h
set_option maxHeartbeats 4000000 in
theorem bX0_falling_11 {G : GC} {Q : Option Value → PS → Prop} {X : String → Nat → PS → Prop} {b : Nat} {sa0 : Nat} {σ : PS} (h : Q (some (.int 1)) (σ)) : At G mX0_falling 206 Q X b 11 [] [.ref sa0] (σ) := by
  refine g_astore_n (ls1 := [(3, .ref sa0)]) dX0_falling_11 rfl (by decide) rfl ?_
  refine g_iconst (v := 1) dX0_falling_12 (by decide) ?_
  exact g_iret rfl dX0_falling_13 h
theorem eX0_falling {G : GC} {Q : Option Value → PS → Prop} {X : String → Nat → PS → Prop} {b : Nat} {p0 : Nat} {p1 : Int32} {p2 : Nat} {σ : PS} (h : At G mX0_falling 206 Q X b 0 [(0, .ref p0), (1, .int p1), (2, .ref p2)] [] σ) : Call G mX0_falling 206 b [.ref p0, .int p1, .ref p2] σ Q X :=
  Call.ofH (by decide +kernel) wsX0_falling (Nat.le_of_ble_eq_true rfl) (At.sub (ls := [(0, .ref p0), (1, .int p1), (2, .ref p2)]) [0, 1, 2] rfl h)
set_option maxHeartbeats 4000000 in
theorem bX0_seeing_0 {G : GC} {Q : Option Value → PS → Prop} {X : String → Nat → PS → Prop} {b : Nat} {a0 : Nat} {x1 : Int32} {x2 : Int32} {a3 : Nat} {σ : PS} (h : ∃ bc : Nat, bc ≤ b ∧ (∃ fs : List Value, Ob (σ) 1 a0 fs) ∧ Call G mX1_seeing 205 bc [.ref a0, .int x1, .int x2] (σ) (qJ (fun ry s1 => ∃ (n : Nat) (f : Nat → Int64), La s1 101 a3 n f ∧ vp_in 0 n ∧ (∀ s1_1 : PS, s1_1 = up s1 101 a3 (.inr (n, .inr (.inl (vp_updL f (0 : Int32).toNatClampNeg ry)))) → Q (some (.int 0)) s1_1))) (fun E q9 s9 => AtX G mX0_seeing 206 Q X (b - bc) 5 [(0, .ref a0), (1, .int x1), (2, .int x2), (3, .ref a3)] E q9 s9)) : At G mX0_seeing 206 Q X b 0 [(0, .ref a0), (1, .int x1), (2, .int x2), (3, .ref a3)] [] (σ) := by
  refine g_aload_n dX0_seeing_0 rfl 3 rfl ?_
  refine g_iconst (v := 0) dX0_seeing_1 (by decide) ?_
  refine g_aload_n dX0_seeing_2 rfl 0 rfl ?_
  refine g_iload_n dX0_seeing_3 rfl 1 rfl ?_
  refine g_iload_n dX0_seeing_4 rfl 2 rfl ?_
  obtain ⟨bc, hb9, h⟩ := h
  obtain ⟨⟨_, hO⟩, h⟩ := h
  refine g_callV (N := mX1_seeing) (st := [.int 0, .ref a3]) (As := [.int x1, .int x2]) (a := a0) dX0_seeing_5 wsX1_seeing (lw_V q1604 q1605 q1606 q108 q1607) rfl mokX1_seeing rfl cl1 (by decide) (by decide) hb9 (by simp [Value.category]) hO h (fun E q s hx => hx) (fun _ s1 hq => ?_)
  obtain ⟨ry, rfl, h⟩ := hq
  refine At.stk (st' := [.long ry, .int 0, .ref a3]) rfl ?_
  obtain ⟨n, f, h1, h2, h⟩ := h
  refine g_last dX0_seeing_8 h1 h2 ?_
  refine g_tops (fun s1_1 es1_1 => ?_)
  replace h := h s1_1 es1_1
  refine g_goto (tgt := 16) dX0_seeing_9 (by decide) ?_
  refine g_iconst (v := 0) dX0_seeing_16 (by decide) ?_
  exact g_iret rfl dX0_seeing_17 h
set_option maxHeartbeats 4000000 in
theorem bX0_seeing_12 {G : GC} {Q : Option Value → PS → Prop} {X : String → Nat → PS → Prop} {b : Nat} {sa0 : Nat} {σ : PS} (h : Q (some (.int 1)) (σ)) : At G mX0_seeing 206 Q X b 12 [] [.ref sa0] (σ) := by
  refine g_astore (ls1 := [(4, .ref sa0)]) dX0_seeing_12 (by decide) rfl ?_
  refine g_iconst (v := 1) dX0_seeing_14 (by decide) ?_
  exact g_iret rfl dX0_seeing_15 h
theorem eX0_seeing {G : GC} {Q : Option Value → PS → Prop} {X : String → Nat → PS → Prop} {b : Nat} {p0 : Nat} {p1 : Int32} {p2 : Int32} {p3 : Nat} {σ : PS} (h : At G mX0_seeing 206 Q X b 0 [(0, .ref p0), (1, .int p1), (2, .int p2), (3, .ref p3)] [] σ) : Call G mX0_seeing 206 b [.ref p0, .int p1, .int p2, .ref p3] σ Q X :=
  Call.ofH (by decide +kernel) wsX0_seeing (Nat.le_of_ble_eq_true rfl) (At.sub (ls := [(0, .ref p0), (1, .int p1), (2, .int p2), (3, .ref p3)]) [0, 1, 2, 3] rfl h)
set_option maxHeartbeats 4000000 in
theorem bX0_filled_0 {G : GC} {Q : Option Value → PS → Prop} {X : String → Nat → PS → Prop} {b : Nat} {a0 : Nat} {x1 : Int32} {x2 : Int32} {a3 : Nat} {σ : PS} (h : ∃ bc : Nat, bc ≤ b ∧ (∃ fs : List Value, Ob (σ) 1 a0 fs) ∧ Call G mX1_filled 206 bc [.ref a0, .int x1, .int x2] (σ) (qJ (fun ry s1 => ∃ (n : Nat) (f : Nat → Int64), La s1 101 a3 n f ∧ vp_in 0 n ∧ (∀ s1_1 : PS, s1_1 = up s1 101 a3 (.inr (n, .inr (.inl (vp_updL f (0 : Int32).toNatClampNeg ry)))) → Q (some (.int 0)) s1_1))) (fun E q9 s9 => AtX G mX0_filled 207 Q X (b - bc) 5 [(0, .ref a0), (1, .int x1), (2, .int x2), (3, .ref a3)] E q9 s9)) : At G mX0_filled 207 Q X b 0 [(0, .ref a0), (1, .int x1), (2, .int x2), (3, .ref a3)] [] (σ) := by
  refine g_aload_n dX0_filled_0 rfl 3 rfl ?_
  refine g_iconst (v := 0) dX0_filled_1 (by decide) ?_
  refine g_aload_n dX0_filled_2 rfl 0 rfl ?_
  refine g_iload_n dX0_filled_3 rfl 1 rfl ?_
  refine g_iload_n dX0_filled_4 rfl 2 rfl ?_
  obtain ⟨bc, hb9, h⟩ := h
  obtain ⟨⟨_, hO⟩, h⟩ := h
  refine g_callV (N := mX1_filled) (st := [.int 0, .ref a3]) (As := [.int x1, .int x2]) (a := a0) dX0_filled_5 wsX1_filled (lw_V q1611 q1612 q1613 q108 q1614) rfl mokX1_filled rfl cl1 (by decide) (by decide) hb9 (by simp [Value.category]) hO h (fun E q s hx => hx) (fun _ s1 hq => ?_)
  obtain ⟨ry, rfl, h⟩ := hq
  refine At.stk (st' := [.long ry, .int 0, .ref a3]) rfl ?_
  obtain ⟨n, f, h1, h2, h⟩ := h
  refine g_last dX0_filled_8 h1 h2 ?_
  refine g_tops (fun s1_1 es1_1 => ?_)
  replace h := h s1_1 es1_1
  refine g_goto (tgt := 16) dX0_filled_9 (by decide) ?_
  refine g_iconst (v := 0) dX0_filled_16 (by decide) ?_
  exact g_iret rfl dX0_filled_17 h
set_option maxHeartbeats 4000000 in
theorem bX0_filled_12 {G : GC} {Q : Option Value → PS → Prop} {X : String → Nat → PS → Prop} {b : Nat} {sa0 : Nat} {σ : PS} (h : Q (some (.int 1)) (σ)) : At G mX0_filled 207 Q X b 12 [] [.ref sa0] (σ) := by
  refine g_astore (ls1 := [(4, .ref sa0)]) dX0_filled_12 (by decide) rfl ?_
  refine g_iconst (v := 1) dX0_filled_14 (by decide) ?_
  exact g_iret rfl dX0_filled_15 h
theorem eX0_filled {G : GC} {Q : Option Value → PS → Prop} {X : String → Nat → PS → Prop} {b : Nat} {p0 : Nat} {p1 : Int32} {p2 : Int32} {p3 : Nat} {σ : PS} (h : At G mX0_filled 207 Q X b 0 [(0, .ref p0), (1, .int p1), (2, .int p2), (3, .ref p3)] [] σ) : Call G mX0_filled 207 b [.ref p0, .int p1, .int p2, .ref p3] σ Q X :=
  Call.ofH (by decide +kernel) wsX0_filled (Nat.le_of_ble_eq_true rfl) (At.sub (ls := [(0, .ref p0), (1, .int p1), (2, .int p2), (3, .ref p3)]) [0, 1, 2, 3] rfl h)
set_option maxHeartbeats 4000000 in
theorem bX0_ruled_0 {G : GC} {Q : Option Value → PS → Prop} {X : String → Nat → PS → Prop} {b : Nat} {a0 : Nat} {x1 : Int32} {a2 : Nat} {σ : PS} (h : ∃ bc : Nat, bc ≤ b ∧ (∃ fs : List Value, Ob (σ) 1 a0 fs) ∧ Call G mX1_ruled 205 bc [.ref a0, .int x1] (σ) (qJ (fun ry s1 => ∃ (n : Nat) (f : Nat → Int64), La s1 101 a2 n f ∧ vp_in 0 n ∧ (∀ s1_1 : PS, s1_1 = up s1 101 a2 (.inr (n, .inr (.inl (vp_updL f (0 : Int32).toNatClampNeg ry)))) → Q (some (.int 0)) s1_1))) (fun E q9 s9 => AtX G mX0_ruled 206 Q X (b - bc) 4 [(0, .ref a0), (1, .int x1), (2, .ref a2)] E q9 s9)) : At G mX0_ruled 206 Q X b 0 [(0, .ref a0), (1, .int x1), (2, .ref a2)] [] (σ) := by
  refine g_aload_n dX0_ruled_0 rfl 2 rfl ?_
  refine g_iconst (v := 0) dX0_ruled_1 (by decide) ?_
  refine g_aload_n dX0_ruled_2 rfl 0 rfl ?_
  refine g_iload_n dX0_ruled_3 rfl 1 rfl ?_
  obtain ⟨bc, hb9, h⟩ := h
  obtain ⟨⟨_, hO⟩, h⟩ := h
  refine g_callV (N := mX1_ruled) (st := [.int 0, .ref a2]) (As := [.int x1]) (a := a0) dX0_ruled_4 wsX1_ruled (lw_V q1618 q1619 q1620 q108 q1621) rfl mokX1_ruled rfl cl1 (by decide) (by decide) hb9 (by simp [Value.category]) hO h (fun E q s hx => hx) (fun _ s1 hq => ?_)
  obtain ⟨ry, rfl, h⟩ := hq
  refine At.stk (st' := [.long ry, .int 0, .ref a2]) rfl ?_
  obtain ⟨n, f, h1, h2, h⟩ := h
  refine g_last dX0_ruled_7 h1 h2 ?_
  refine g_tops (fun s1_1 es1_1 => ?_)
  replace h := h s1_1 es1_1
  refine g_goto (tgt := 14) dX0_ruled_8 (by decide) ?_
  refine g_iconst (v := 0) dX0_ruled_14 (by decide) ?_
  exact g_iret rfl dX0_ruled_15 h
set_option maxHeartbeats 4000000 in
theorem bX0_ruled_11 {G : GC} {Q : Option Value → PS → Prop} {X : String → Nat → PS → Prop} {b : Nat} {sa0 : Nat} {σ : PS} (h : Q (some (.int 1)) (σ)) : At G mX0_ruled 206 Q X b 11 [] [.ref sa0] (σ) := by
  refine g_astore_n (ls1 := [(3, .ref sa0)]) dX0_ruled_11 rfl (by decide) rfl ?_
  refine g_iconst (v := 1) dX0_ruled_12 (by decide) ?_
  exact g_iret rfl dX0_ruled_13 h
theorem eX0_ruled {G : GC} {Q : Option Value → PS → Prop} {X : String → Nat → PS → Prop} {b : Nat} {p0 : Nat} {p1 : Int32} {p2 : Nat} {σ : PS} (h : At G mX0_ruled 206 Q X b 0 [(0, .ref p0), (1, .int p1), (2, .ref p2)] [] σ) : Call G mX0_ruled 206 b [.ref p0, .int p1, .ref p2] σ Q X :=
  Call.ofH (by decide +kernel) wsX0_ruled (Nat.le_of_ble_eq_true rfl) (At.sub (ls := [(0, .ref p0), (1, .int p1), (2, .ref p2)]) [0, 1, 2] rfl h)
set_option maxHeartbeats 4000000 in
theorem bX0_swapped_0 {G : GC} {Q : Option Value → PS → Prop} {X : String → Nat → PS → Prop} {b : Nat} {a0 : Nat} {x1 : Int32} {x2 : Int32} {x3 : Int32} {a4 : Nat} {σ : PS} (h : ∃ bc : Nat, bc ≤ b ∧ (∃ fs : List Value, Ob (σ) 1 a0 fs) ∧ Call G mX1_swapped 205 bc [.ref a0, .int x1, .int x2, .int x3] (σ) (qJ (fun ry s1 => ∃ (n : Nat) (f : Nat → Int64), La s1 101 a4 n f ∧ vp_in 0 n ∧ (∀ s1_1 : PS, s1_1 = up s1 101 a4 (.inr (n, .inr (.inl (vp_updL f (0 : Int32).toNatClampNeg ry)))) → Q (some (.int 0)) s1_1))) (fun E q9 s9 => AtX G mX0_swapped 206 Q X (b - bc) 7 [(0, .ref a0), (1, .int x1), (2, .int x2), (3, .int x3), (4, .ref a4)] E q9 s9)) : At G mX0_swapped 206 Q X b 0 [(0, .ref a0), (1, .int x1), (2, .int x2), (3, .int x3), (4, .ref a4)] [] (σ) := by
  refine g_aload dX0_swapped_0 4 rfl ?_
  refine g_iconst (v := 0) dX0_swapped_2 (by decide) ?_
  refine g_aload_n dX0_swapped_3 rfl 0 rfl ?_
  refine g_iload_n dX0_swapped_4 rfl 1 rfl ?_
  refine g_iload_n dX0_swapped_5 rfl 2 rfl ?_
  refine g_iload_n dX0_swapped_6 rfl 3 rfl ?_
  obtain ⟨bc, hb9, h⟩ := h
  obtain ⟨⟨_, hO⟩, h⟩ := h
  refine g_callV (N := mX1_swapped) (st := [.int 0, .ref a4]) (As := [.int x1, .int x2, .int x3]) (a := a0) dX0_swapped_7 wsX1_swapped (lw_V q1629 q1630 q1631 q108 q1632) rfl mokX1_swapped rfl cl1 (by decide) (by decide) hb9 (by simp [Value.category]) hO h (fun E q s hx => hx) (fun _ s1 hq => ?_)
  obtain ⟨ry, rfl, h⟩ := hq
  refine At.stk (st' := [.long ry, .int 0, .ref a4]) rfl ?_
  obtain ⟨n, f, h1, h2, h⟩ := h
  refine g_last dX0_swapped_10 h1 h2 ?_
  refine g_tops (fun s1_1 es1_1 => ?_)
  replace h := h s1_1 es1_1
  refine g_goto (tgt := 22) dX0_swapped_11 (by decide) ?_
  refine g_iconst (v := 0) dX0_swapped_22 (by decide) ?_
  exact g_iret rfl dX0_swapped_23 h
set_option maxHeartbeats 4000000 in
theorem bX0_swapped_14 {G : GC} {Q : Option Value → PS → Prop} {X : String → Nat → PS → Prop} {b : Nat} {sa0 : Nat} {σ : PS} (h : Q (some (.int 1)) (σ)) : At G mX0_swapped 206 Q X b 14 [] [.ref sa0] (σ) := by
  refine g_astore (ls1 := [(5, .ref sa0)]) dX0_swapped_14 (by decide) rfl ?_
  refine g_iconst (v := 1) dX0_swapped_16 (by decide) ?_
  exact g_iret rfl dX0_swapped_17 h
set_option maxHeartbeats 4000000 in
theorem bX0_swapped_18 {G : GC} {Q : Option Value → PS → Prop} {X : String → Nat → PS → Prop} {b : Nat} {sa0 : Nat} {σ : PS} (h : Q (some (.int 2)) (σ)) : At G mX0_swapped 206 Q X b 18 [] [.ref sa0] (σ) := by
  refine g_astore (ls1 := [(5, .ref sa0)]) dX0_swapped_18 (by decide) rfl ?_
  refine g_iconst (v := 2) dX0_swapped_20 (by decide) ?_
  exact g_iret rfl dX0_swapped_21 h
theorem eX0_swapped {G : GC} {Q : Option Value → PS → Prop} {X : String → Nat → PS → Prop} {b : Nat} {p0 : Nat} {p1 : Int32} {p2 : Int32} {p3 : Int32} {p4 : Nat} {σ : PS} (h : At G mX0_swapped 206 Q X b 0 [(0, .ref p0), (1, .int p1), (2, .int p2), (3, .int p3), (4, .ref p4)] [] σ) : Call G mX0_swapped 206 b [.ref p0, .int p1, .int p2, .int p3, .ref p4] σ Q X :=
  Call.ofH (by decide +kernel) wsX0_swapped (Nat.le_of_ble_eq_true rfl) (At.sub (ls := [(0, .ref p0), (1, .int p1), (2, .int p2), (3, .int p3), (4, .ref p4)]) [0, 1, 2, 3, 4] rfl h)
set_option maxHeartbeats 4000000 in
theorem bX0_day_0 {G : GC} {Q : Option Value → PS → Prop} {X : String → Nat → PS → Prop} {b : Nat} {a0 : Nat} {x1 : Int32} {x2 : Int32} {x3 : Int32} {a4 : Nat} {σ : PS} (h : ∃ bc : Nat, bc ≤ b ∧ (∃ fs : List Value, Ob (σ) 1 a0 fs) ∧ Call G mX1_day 204 bc [.ref a0, .int x1, .int x2, .int x3] (σ) (qI (fun rx s1 => ∃ (n : Nat) (f : Nat → Int64), La s1 101 a4 n f ∧ vp_in 0 n ∧ (∀ s1_1 : PS, s1_1 = up s1 101 a4 (.inr (n, .inr (.inl (vp_updL f (0 : Int32).toNatClampNeg rx.toInt64)))) → Q (some (.int 0)) s1_1))) (fun E q9 s9 => AtX G mX0_day 205 Q X (b - bc) 7 [(0, .ref a0), (1, .int x1), (2, .int x2), (3, .int x3), (4, .ref a4)] E q9 s9)) : At G mX0_day 205 Q X b 0 [(0, .ref a0), (1, .int x1), (2, .int x2), (3, .int x3), (4, .ref a4)] [] (σ) := by
  refine g_aload dX0_day_0 4 rfl ?_
  refine g_iconst (v := 0) dX0_day_2 (by decide) ?_
  refine g_aload_n dX0_day_3 rfl 0 rfl ?_
  refine g_iload_n dX0_day_4 rfl 1 rfl ?_
  refine g_iload_n dX0_day_5 rfl 2 rfl ?_
  refine g_iload_n dX0_day_6 rfl 3 rfl ?_
  obtain ⟨bc, hb9, h⟩ := h
  obtain ⟨⟨_, hO⟩, h⟩ := h
  refine g_callV (N := mX1_day) (st := [.int 0, .ref a4]) (As := [.int x1, .int x2, .int x3]) (a := a0) dX0_day_7 wsX1_day (lw_V q1636 q1637 q1638 q108 q1639) rfl mokX1_day rfl cl1 (by decide) (by decide) hb9 (by simp [Value.category]) hO h (fun E q s hx => hx) (fun _ s1 hq => ?_)
  obtain ⟨rx, rfl, h⟩ := hq
  refine At.stk (st' := [.int rx, .int 0, .ref a4]) rfl ?_
  refine g_i2l dX0_day_10 ?_
  obtain ⟨n, f, h1, h2, h⟩ := h
  refine g_last dX0_day_11 h1 h2 ?_
  refine g_tops (fun s1_1 es1_1 => ?_)
  replace h := h s1_1 es1_1
  refine g_goto (tgt := 23) dX0_day_12 (by decide) ?_
  refine g_iconst (v := 0) dX0_day_23 (by decide) ?_
  exact g_iret rfl dX0_day_24 h
set_option maxHeartbeats 4000000 in
theorem bX0_day_15 {G : GC} {Q : Option Value → PS → Prop} {X : String → Nat → PS → Prop} {b : Nat} {sa0 : Nat} {σ : PS} (h : Q (some (.int 1)) (σ)) : At G mX0_day 205 Q X b 15 [] [.ref sa0] (σ) := by
  refine g_astore (ls1 := [(5, .ref sa0)]) dX0_day_15 (by decide) rfl ?_
  refine g_iconst (v := 1) dX0_day_17 (by decide) ?_
  exact g_iret rfl dX0_day_18 h
set_option maxHeartbeats 4000000 in
theorem bX0_day_19 {G : GC} {Q : Option Value → PS → Prop} {X : String → Nat → PS → Prop} {b : Nat} {sa0 : Nat} {σ : PS} (h : Q (some (.int 2)) (σ)) : At G mX0_day 205 Q X b 19 [] [.ref sa0] (σ) := by
  refine g_astore (ls1 := [(5, .ref sa0)]) dX0_day_19 (by decide) rfl ?_
  refine g_iconst (v := 2) dX0_day_21 (by decide) ?_
  exact g_iret rfl dX0_day_22 h
theorem eX0_day {G : GC} {Q : Option Value → PS → Prop} {X : String → Nat → PS → Prop} {b : Nat} {p0 : Nat} {p1 : Int32} {p2 : Int32} {p3 : Int32} {p4 : Nat} {σ : PS} (h : At G mX0_day 205 Q X b 0 [(0, .ref p0), (1, .int p1), (2, .int p2), (3, .int p3), (4, .ref p4)] [] σ) : Call G mX0_day 205 b [.ref p0, .int p1, .int p2, .int p3, .ref p4] σ Q X :=
  Call.ofH (by decide +kernel) wsX0_day (Nat.le_of_ble_eq_true rfl) (At.sub (ls := [(0, .ref p0), (1, .int p1), (2, .int p2), (3, .int p3), (4, .ref p4)]) [0, 1, 2, 3, 4] rfl h)
set_option maxHeartbeats 4000000 in
theorem bX0_span_0 {G : GC} {Q : Option Value → PS → Prop} {X : String → Nat → PS → Prop} {b : Nat} {a0 : Nat} {x1 : Int32} {x2 : Int32} {x3 : Int32} {a4 : Nat} {σ : PS} (h : ∃ bc : Nat, bc ≤ b ∧ (∃ fs : List Value, Ob (σ) 1 a0 fs) ∧ Call G mX1_span 204 bc [.ref a0, .int x1, .int x2, .int x3] (σ) (qI (fun rx s1 => ∃ (n : Nat) (f : Nat → Int64), La s1 101 a4 n f ∧ vp_in 0 n ∧ (∀ s1_1 : PS, s1_1 = up s1 101 a4 (.inr (n, .inr (.inl (vp_updL f (0 : Int32).toNatClampNeg rx.toInt64)))) → Q (some (.int 0)) s1_1))) (fun E q9 s9 => AtX G mX0_span 205 Q X (b - bc) 7 [(0, .ref a0), (1, .int x1), (2, .int x2), (3, .int x3), (4, .ref a4)] E q9 s9)) : At G mX0_span 205 Q X b 0 [(0, .ref a0), (1, .int x1), (2, .int x2), (3, .int x3), (4, .ref a4)] [] (σ) := by
  refine g_aload dX0_span_0 4 rfl ?_
  refine g_iconst (v := 0) dX0_span_2 (by decide) ?_
  refine g_aload_n dX0_span_3 rfl 0 rfl ?_
  refine g_iload_n dX0_span_4 rfl 1 rfl ?_
  refine g_iload_n dX0_span_5 rfl 2 rfl ?_
  refine g_iload_n dX0_span_6 rfl 3 rfl ?_
  obtain ⟨bc, hb9, h⟩ := h
  obtain ⟨⟨_, hO⟩, h⟩ := h
  refine g_callV (N := mX1_span) (st := [.int 0, .ref a4]) (As := [.int x1, .int x2, .int x3]) (a := a0) dX0_span_7 wsX1_span (lw_V q1696 q1697 q1698 q108 q1699) rfl mokX1_span rfl cl1 (by decide) (by decide) hb9 (by simp [Value.category]) hO h (fun E q s hx => hx) (fun _ s1 hq => ?_)
  obtain ⟨rx, rfl, h⟩ := hq
  refine At.stk (st' := [.int rx, .int 0, .ref a4]) rfl ?_
  refine g_i2l dX0_span_10 ?_
  obtain ⟨n, f, h1, h2, h⟩ := h
  refine g_last dX0_span_11 h1 h2 ?_
  refine g_tops (fun s1_1 es1_1 => ?_)
  replace h := h s1_1 es1_1
  refine g_goto (tgt := 19) dX0_span_12 (by decide) ?_
  refine g_iconst (v := 0) dX0_span_19 (by decide) ?_
  exact g_iret rfl dX0_span_20 h
set_option maxHeartbeats 4000000 in
theorem bX0_span_15 {G : GC} {Q : Option Value → PS → Prop} {X : String → Nat → PS → Prop} {b : Nat} {sa0 : Nat} {σ : PS} (h : Q (some (.int 1)) (σ)) : At G mX0_span 205 Q X b 15 [] [.ref sa0] (σ) := by
  refine g_astore (ls1 := [(5, .ref sa0)]) dX0_span_15 (by decide) rfl ?_
  refine g_iconst (v := 1) dX0_span_17 (by decide) ?_
  exact g_iret rfl dX0_span_18 h
theorem eX0_span {G : GC} {Q : Option Value → PS → Prop} {X : String → Nat → PS → Prop} {b : Nat} {p0 : Nat} {p1 : Int32} {p2 : Int32} {p3 : Int32} {p4 : Nat} {σ : PS} (h : At G mX0_span 205 Q X b 0 [(0, .ref p0), (1, .int p1), (2, .int p2), (3, .int p3), (4, .ref p4)] [] σ) : Call G mX0_span 205 b [.ref p0, .int p1, .int p2, .int p3, .ref p4] σ Q X :=
  Call.ofH (by decide +kernel) wsX0_span (Nat.le_of_ble_eq_true rfl) (At.sub (ls := [(0, .ref p0), (1, .int p1), (2, .int p2), (3, .int p3), (4, .ref p4)]) [0, 1, 2, 3, 4] rfl h)
set_option maxHeartbeats 4000000 in
theorem bX0_come_0 {G : GC} {Q : Option Value → PS → Prop} {X : String → Nat → PS → Prop} {b : Nat} {a0 : Nat} {x1 : Int32} {x2 : Int32} {a3 : Nat} {σ : PS} (h : ∃ bc : Nat, bc ≤ b ∧ (∃ fs : List Value, Ob (σ) 1 a0 fs) ∧ Call G mX1_come 12 bc [.ref a0, .int x1, .int x2] (σ) (qI (fun rx s1 => ∃ (n : Nat) (f : Nat → Int64), La s1 101 a3 n f ∧ vp_in 0 n ∧ (∀ s1_1 : PS, s1_1 = up s1 101 a3 (.inr (n, .inr (.inl (vp_updL f (0 : Int32).toNatClampNeg rx.toInt64)))) → Q (some (.int 0)) s1_1))) (fun E q9 s9 => AtX G mX0_come 13 Q X (b - bc) 5 [(0, .ref a0), (1, .int x1), (2, .int x2), (3, .ref a3)] E q9 s9)) : At G mX0_come 13 Q X b 0 [(0, .ref a0), (1, .int x1), (2, .int x2), (3, .ref a3)] [] (σ) := by
  refine g_aload_n dX0_come_0 rfl 3 rfl ?_
  refine g_iconst (v := 0) dX0_come_1 (by decide) ?_
  refine g_aload_n dX0_come_2 rfl 0 rfl ?_
  refine g_iload_n dX0_come_3 rfl 1 rfl ?_
  refine g_iload_n dX0_come_4 rfl 2 rfl ?_
  obtain ⟨bc, hb9, h⟩ := h
  obtain ⟨⟨_, hO⟩, h⟩ := h
  refine g_callV (N := mX1_come) (st := [.int 0, .ref a3]) (As := [.int x1, .int x2]) (a := a0) dX0_come_5 wsX1_come (lw_V q1707 q1708 q1709 q108 q1710) rfl mokX1_come rfl cl1 (by decide) (by decide) hb9 (by simp [Value.category]) hO h (fun E q s hx => hx) (fun _ s1 hq => ?_)
  obtain ⟨rx, rfl, h⟩ := hq
  refine At.stk (st' := [.int rx, .int 0, .ref a3]) rfl ?_
  refine g_i2l dX0_come_8 ?_
  obtain ⟨n, f, h1, h2, h⟩ := h
  refine g_last dX0_come_9 h1 h2 ?_
  refine g_tops (fun s1_1 es1_1 => ?_)
  replace h := h s1_1 es1_1
  refine g_goto (tgt := 21) dX0_come_10 (by decide) ?_
  refine g_iconst (v := 0) dX0_come_21 (by decide) ?_
  exact g_iret rfl dX0_come_22 h
set_option maxHeartbeats 4000000 in
theorem bX0_come_13 {G : GC} {Q : Option Value → PS → Prop} {X : String → Nat → PS → Prop} {b : Nat} {sa0 : Nat} {σ : PS} (h : Q (some (.int 1)) (σ)) : At G mX0_come 13 Q X b 13 [] [.ref sa0] (σ) := by
  refine g_astore (ls1 := [(4, .ref sa0)]) dX0_come_13 (by decide) rfl ?_
  refine g_iconst (v := 1) dX0_come_15 (by decide) ?_
  exact g_iret rfl dX0_come_16 h
set_option maxHeartbeats 4000000 in
theorem bX0_come_17 {G : GC} {Q : Option Value → PS → Prop} {X : String → Nat → PS → Prop} {b : Nat} {sa0 : Nat} {σ : PS} (h : Q (some (.int 2)) (σ)) : At G mX0_come 13 Q X b 17 [] [.ref sa0] (σ) := by
  refine g_astore (ls1 := [(4, .ref sa0)]) dX0_come_17 (by decide) rfl ?_
  refine g_iconst (v := 2) dX0_come_19 (by decide) ?_
  exact g_iret rfl dX0_come_20 h
theorem eX0_come {G : GC} {Q : Option Value → PS → Prop} {X : String → Nat → PS → Prop} {b : Nat} {p0 : Nat} {p1 : Int32} {p2 : Int32} {p3 : Nat} {σ : PS} (h : At G mX0_come 13 Q X b 0 [(0, .ref p0), (1, .int p1), (2, .int p2), (3, .ref p3)] [] σ) : Call G mX0_come 13 b [.ref p0, .int p1, .int p2, .ref p3] σ Q X :=
  Call.ofH (by decide +kernel) wsX0_come (Nat.le_of_ble_eq_true rfl) (At.sub (ls := [(0, .ref p0), (1, .int p1), (2, .int p2), (3, .ref p3)]) [0, 1, 2, 3] rfl h)
set_option maxHeartbeats 4000000 in
theorem bX0_skip_0 {G : GC} {Q : Option Value → PS → Prop} {X : String → Nat → PS → Prop} {b : Nat} {a0 : Nat} {x1 : Int32} {a2 : Nat} {σ : PS} (h : ∃ bc : Nat, bc ≤ b ∧ (∃ fs : List Value, Ob (σ) 1 a0 fs) ∧ Call G mX1_skip 12 bc [.ref a0, .int x1] (σ) (qI (fun rx s1 => ∃ (n : Nat) (f : Nat → Int64), La s1 101 a2 n f ∧ vp_in 0 n ∧ (∀ s1_1 : PS, s1_1 = up s1 101 a2 (.inr (n, .inr (.inl (vp_updL f (0 : Int32).toNatClampNeg rx.toInt64)))) → Q (some (.int 0)) s1_1))) (fun E q9 s9 => AtX G mX0_skip 13 Q X (b - bc) 4 [(0, .ref a0), (1, .int x1), (2, .ref a2)] E q9 s9)) : At G mX0_skip 13 Q X b 0 [(0, .ref a0), (1, .int x1), (2, .ref a2)] [] (σ) := by
  refine g_aload_n dX0_skip_0 rfl 2 rfl ?_
  refine g_iconst (v := 0) dX0_skip_1 (by decide) ?_
  refine g_aload_n dX0_skip_2 rfl 0 rfl ?_
  refine g_iload_n dX0_skip_3 rfl 1 rfl ?_
  obtain ⟨bc, hb9, h⟩ := h
  obtain ⟨⟨_, hO⟩, h⟩ := h
  refine g_callV (N := mX1_skip) (st := [.int 0, .ref a2]) (As := [.int x1]) (a := a0) dX0_skip_4 wsX1_skip (lw_V q1719 q1720 q1721 q108 q1722) rfl mokX1_skip rfl cl1 (by decide) (by decide) hb9 (by simp [Value.category]) hO h (fun E q s hx => hx) (fun _ s1 hq => ?_)
  obtain ⟨rx, rfl, h⟩ := hq
  refine At.stk (st' := [.int rx, .int 0, .ref a2]) rfl ?_
  refine g_i2l dX0_skip_7 ?_
  obtain ⟨n, f, h1, h2, h⟩ := h
  refine g_last dX0_skip_8 h1 h2 ?_
  refine g_tops (fun s1_1 es1_1 => ?_)
  replace h := h s1_1 es1_1
  refine g_goto (tgt := 15) dX0_skip_9 (by decide) ?_
  refine g_iconst (v := 0) dX0_skip_15 (by decide) ?_
  exact g_iret rfl dX0_skip_16 h
set_option maxHeartbeats 4000000 in
theorem bX0_skip_12 {G : GC} {Q : Option Value → PS → Prop} {X : String → Nat → PS → Prop} {b : Nat} {sa0 : Nat} {σ : PS} (h : Q (some (.int 1)) (σ)) : At G mX0_skip 13 Q X b 12 [] [.ref sa0] (σ) := by
  refine g_astore_n (ls1 := [(3, .ref sa0)]) dX0_skip_12 rfl (by decide) rfl ?_
  refine g_iconst (v := 1) dX0_skip_13 (by decide) ?_
  exact g_iret rfl dX0_skip_14 h
theorem eX0_skip {G : GC} {Q : Option Value → PS → Prop} {X : String → Nat → PS → Prop} {b : Nat} {p0 : Nat} {p1 : Int32} {p2 : Nat} {σ : PS} (h : At G mX0_skip 13 Q X b 0 [(0, .ref p0), (1, .int p1), (2, .ref p2)] [] σ) : Call G mX0_skip 13 b [.ref p0, .int p1, .ref p2] σ Q X :=
  Call.ofH (by decide +kernel) wsX0_skip (Nat.le_of_ble_eq_true rfl) (At.sub (ls := [(0, .ref p0), (1, .int p1), (2, .ref p2)]) [0, 1, 2] rfl h)
set_option maxHeartbeats 4000000 in
theorem bX0_shift_0 {G : GC} {Q : Option Value → PS → Prop} {X : String → Nat → PS → Prop} {b : Nat} {a0 : Nat} {x1 : Int32} {x2 : Int32} {a3 : Nat} {σ : PS} (h : ∃ bc : Nat, bc ≤ b ∧ (∃ fs : List Value, Ob (σ) 1 a0 fs) ∧ Call G mX1_shift 12 bc [.ref a0, .int x1, .int x2] (σ) (qI (fun rx s1 => ∃ (n : Nat) (f : Nat → Int64), La s1 101 a3 n f ∧ vp_in 0 n ∧ (∀ s1_1 : PS, s1_1 = up s1 101 a3 (.inr (n, .inr (.inl (vp_updL f (0 : Int32).toNatClampNeg rx.toInt64)))) → Q (some (.int 0)) s1_1))) (fun E q9 s9 => AtX G mX0_shift 13 Q X (b - bc) 5 [(0, .ref a0), (1, .int x1), (2, .int x2), (3, .ref a3)] E q9 s9)) : At G mX0_shift 13 Q X b 0 [(0, .ref a0), (1, .int x1), (2, .int x2), (3, .ref a3)] [] (σ) := by
  refine g_aload_n dX0_shift_0 rfl 3 rfl ?_
  refine g_iconst (v := 0) dX0_shift_1 (by decide) ?_
  refine g_aload_n dX0_shift_2 rfl 0 rfl ?_
  refine g_iload_n dX0_shift_3 rfl 1 rfl ?_
  refine g_iload_n dX0_shift_4 rfl 2 rfl ?_
  obtain ⟨bc, hb9, h⟩ := h
  obtain ⟨⟨_, hO⟩, h⟩ := h
  refine g_callV (N := mX1_shift) (st := [.int 0, .ref a3]) (As := [.int x1, .int x2]) (a := a0) dX0_shift_5 wsX1_shift (lw_V q1730 q1731 q1732 q108 q1733) rfl mokX1_shift rfl cl1 (by decide) (by decide) hb9 (by simp [Value.category]) hO h (fun E q s hx => hx) (fun _ s1 hq => ?_)
  obtain ⟨rx, rfl, h⟩ := hq
  refine At.stk (st' := [.int rx, .int 0, .ref a3]) rfl ?_
  refine g_i2l dX0_shift_8 ?_
  obtain ⟨n, f, h1, h2, h⟩ := h
  refine g_last dX0_shift_9 h1 h2 ?_
  refine g_tops (fun s1_1 es1_1 => ?_)
  replace h := h s1_1 es1_1
  refine g_goto (tgt := 21) dX0_shift_10 (by decide) ?_
  refine g_iconst (v := 0) dX0_shift_21 (by decide) ?_
  exact g_iret rfl dX0_shift_22 h
set_option maxHeartbeats 4000000 in
theorem bX0_shift_13 {G : GC} {Q : Option Value → PS → Prop} {X : String → Nat → PS → Prop} {b : Nat} {sa0 : Nat} {σ : PS} (h : Q (some (.int 1)) (σ)) : At G mX0_shift 13 Q X b 13 [] [.ref sa0] (σ) := by
  refine g_astore (ls1 := [(4, .ref sa0)]) dX0_shift_13 (by decide) rfl ?_
  refine g_iconst (v := 1) dX0_shift_15 (by decide) ?_
  exact g_iret rfl dX0_shift_16 h
set_option maxHeartbeats 4000000 in
theorem bX0_shift_17 {G : GC} {Q : Option Value → PS → Prop} {X : String → Nat → PS → Prop} {b : Nat} {sa0 : Nat} {σ : PS} (h : Q (some (.int 2)) (σ)) : At G mX0_shift 13 Q X b 17 [] [.ref sa0] (σ) := by
  refine g_astore (ls1 := [(4, .ref sa0)]) dX0_shift_17 (by decide) rfl ?_
  refine g_iconst (v := 2) dX0_shift_19 (by decide) ?_
  exact g_iret rfl dX0_shift_20 h
theorem eX0_shift {G : GC} {Q : Option Value → PS → Prop} {X : String → Nat → PS → Prop} {b : Nat} {p0 : Nat} {p1 : Int32} {p2 : Int32} {p3 : Nat} {σ : PS} (h : At G mX0_shift 13 Q X b 0 [(0, .ref p0), (1, .int p1), (2, .int p2), (3, .ref p3)] [] σ) : Call G mX0_shift 13 b [.ref p0, .int p1, .int p2, .ref p3] σ Q X :=
  Call.ofH (by decide +kernel) wsX0_shift (Nat.le_of_ble_eq_true rfl) (At.sub (ls := [(0, .ref p0), (1, .int p1), (2, .int p2), (3, .ref p3)]) [0, 1, 2, 3] rfl h)
set_option maxHeartbeats 4000000 in
theorem bX0_teach_0 {G : GC} {Q : Option Value → PS → Prop} {X : String → Nat → PS → Prop} {b : Nat} {a0 : Nat} {x1 : Int32} {x2 : Int32} {a3 : Nat} {σ : PS} (h : ∃ bc : Nat, bc ≤ b ∧ (∃ fs : List Value, Ob (σ) 1 a0 fs) ∧ Call G mX1_teach 12 bc [.ref a0, .int x1, .int x2] (σ) (qI (fun rx s1 => ∃ (n : Nat) (f : Nat → Int64), La s1 101 a3 n f ∧ vp_in 0 n ∧ (∀ s1_1 : PS, s1_1 = up s1 101 a3 (.inr (n, .inr (.inl (vp_updL f (0 : Int32).toNatClampNeg rx.toInt64)))) → Q (some (.int 0)) s1_1))) (fun E q9 s9 => AtX G mX0_teach 13 Q X (b - bc) 5 [(0, .ref a0), (1, .int x1), (2, .int x2), (3, .ref a3)] E q9 s9)) : At G mX0_teach 13 Q X b 0 [(0, .ref a0), (1, .int x1), (2, .int x2), (3, .ref a3)] [] (σ) := by
  refine g_aload_n dX0_teach_0 rfl 3 rfl ?_
  refine g_iconst (v := 0) dX0_teach_1 (by decide) ?_
  refine g_aload_n dX0_teach_2 rfl 0 rfl ?_
  refine g_iload_n dX0_teach_3 rfl 1 rfl ?_
  refine g_iload_n dX0_teach_4 rfl 2 rfl ?_
  obtain ⟨bc, hb9, h⟩ := h
  obtain ⟨⟨_, hO⟩, h⟩ := h
  refine g_callV (N := mX1_teach) (st := [.int 0, .ref a3]) (As := [.int x1, .int x2]) (a := a0) dX0_teach_5 wsX1_teach (lw_V q1737 q1738 q1739 q108 q1740) rfl mokX1_teach rfl cl1 (by decide) (by decide) hb9 (by simp [Value.category]) hO h (fun E q s hx => hx) (fun _ s1 hq => ?_)
  obtain ⟨rx, rfl, h⟩ := hq
  refine At.stk (st' := [.int rx, .int 0, .ref a3]) rfl ?_
  refine g_i2l dX0_teach_8 ?_
  obtain ⟨n, f, h1, h2, h⟩ := h
  refine g_last dX0_teach_9 h1 h2 ?_
  refine g_tops (fun s1_1 es1_1 => ?_)
  replace h := h s1_1 es1_1
  refine g_goto (tgt := 17) dX0_teach_10 (by decide) ?_
  refine g_iconst (v := 0) dX0_teach_17 (by decide) ?_
  exact g_iret rfl dX0_teach_18 h
set_option maxHeartbeats 4000000 in
theorem bX0_teach_13 {G : GC} {Q : Option Value → PS → Prop} {X : String → Nat → PS → Prop} {b : Nat} {sa0 : Nat} {σ : PS} (h : Q (some (.int 1)) (σ)) : At G mX0_teach 13 Q X b 13 [] [.ref sa0] (σ) := by
  refine g_astore (ls1 := [(4, .ref sa0)]) dX0_teach_13 (by decide) rfl ?_
  refine g_iconst (v := 1) dX0_teach_15 (by decide) ?_
  exact g_iret rfl dX0_teach_16 h
theorem eX0_teach {G : GC} {Q : Option Value → PS → Prop} {X : String → Nat → PS → Prop} {b : Nat} {p0 : Nat} {p1 : Int32} {p2 : Int32} {p3 : Nat} {σ : PS} (h : At G mX0_teach 13 Q X b 0 [(0, .ref p0), (1, .int p1), (2, .int p2), (3, .ref p3)] [] σ) : Call G mX0_teach 13 b [.ref p0, .int p1, .int p2, .ref p3] σ Q X :=
  Call.ofH (by decide +kernel) wsX0_teach (Nat.le_of_ble_eq_true rfl) (At.sub (ls := [(0, .ref p0), (1, .int p1), (2, .int p2), (3, .ref p3)]) [0, 1, 2, 3] rfl h)
