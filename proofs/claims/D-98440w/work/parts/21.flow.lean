set_option maxRecDepth 100000
set_option maxHeartbeats 4000000 in
theorem bX19_isSo_0 {G : GC} {Q : Option Value → PS → Prop} {X : String → Nat → PS → Prop} {b : Nat} {κ : Nat} {h0 : Nat} {a1 : Nat} {σ : PS} (hκ : 20 ≤ κ ∧ κ ≤ 25) (h : ∃ u_test : Option Nat, Fg (σ) κ h0 1 (va_rf u_test) ∧ ((u_test = none → Q (some (.int 1)) (σ)) ∧ (∀ z : Nat, u_test = some z → ∃ u_test_1 : Option Nat, Fg (σ) κ h0 1 (va_rf u_test_1) ∧ (∃ z_2 : Nat, u_test_1 = some z_2 ∧ (∃ rc : Nat, rc + 1 ≤ 201 ∧ CallT G rc z_2 [.ref a1] (σ) (pI (fun rx => ((¬ rx = 1) → Q (some (.int 0)) (σ)) ∧ ((rx = 1) → Q (some (.int 1)) (σ))))))))) : At G mX19_isSo 201 Q X b 0 [(0, .ref h0), (1, .ref a1)] [] (σ) := by
  refine g_aload_n dX19_isSo_0 rfl 0 rfl ?_
  obtain ⟨u_test, hf, h⟩ := h
  refine g_getStep 1 dX19_isSo_1 hκ q1302 (by decide) hf ?_
  refine g_ifnull (tgt := 21) dX19_isSo_4 (by decide) (fun hn => ?_) (fun z hs => ?_)
  · replace h := h.1 hn
    subst hn
    refine g_iconst (v := 1) dX19_isSo_21 (by decide) ?_
    refine g_goto (tgt := 26) dX19_isSo_22 (by decide) ?_
    exact g_zret rfl rfl dX19_isSo_26 h
  · replace h := h.2 z hs
    subst hs
    refine g_aload_n dX19_isSo_7 rfl 0 rfl ?_
    obtain ⟨u_test_1, hf, h⟩ := h
    refine g_getStep 1 dX19_isSo_8 hκ q1302 (by decide) hf ?_
    refine g_aload_n dX19_isSo_11 rfl 1 rfl ?_
    obtain ⟨z_2, hz9, h⟩ := h
    refine At.stk (st' := [.ref a1, .ref z_2]) (by rw [hz9]; rfl) ?_
    obtain ⟨rc, hr9, h⟩ := h
    refine g_callT (st := []) (As := [.ref a1]) (a := z_2) dX19_isSo_12 q637 rfl hr9 (Nat.zero_le _) h (fun _ hq => ?_)
    obtain ⟨rx, rfl, h⟩ := hq
    refine At.stk (st' := [.int rx]) rfl ?_
    refine g_iconst (v := 1) dX19_isSo_17 (by decide) ?_
    refine g_icmp_ne (tgt := 25) dX19_isSo_18 (by decide) (fun c => ?_) (fun c => ?_)
    · replace h := h.1 c
      refine g_iconst (v := 0) dX19_isSo_25 (by decide) ?_
      exact g_zret rfl rfl dX19_isSo_26 h
    · replace h := h.2 c
      refine g_iconst (v := 1) dX19_isSo_21 (by decide) ?_
      refine g_goto (tgt := 26) dX19_isSo_22 (by decide) ?_
      exact g_zret rfl rfl dX19_isSo_26 h
theorem eX19_isSo {G : GC} {Q : Option Value → PS → Prop} {X : String → Nat → PS → Prop} {b : Nat} {κ : Nat} {h0 : Nat} {p1 : Nat} {σ : PS} (hκ : 20 ≤ κ ∧ κ ≤ 25) (h : At G mX19_isSo 201 Q X b 0 [(0, .ref h0), (1, .ref p1)] [] σ) : Call G mX19_isSo 201 b [.ref h0, .ref p1] σ Q X :=
  Call.of (by decide +kernel) wsX19_isSo rfl (Nat.le_of_ble_eq_true rfl) (At.sub (ls := [(0, .ref h0), (1, .ref p1)]) [0, 1] rfl h)
set_option maxHeartbeats 4000000 in
theorem bX19_doing_0 {G : GC} {Q : Option Value → PS → Prop} {X : String → Nat → PS → Prop} {b : Nat} {κ : Nat} {h0 : Nat} {y1 : Int64} {σ : PS} (hκ : 20 ≤ κ ∧ κ ≤ 25) (h : ∃ x_by : Int32, Fg (σ) κ h0 0 (.int x_by) ∧ (((¬ x_by = 0) → ∃ x_by_1 : Int32, Fg (σ) κ h0 0 (.int x_by_1) ∧ (∀ w : Int64, w = ((y1 * x_by_1.toInt64) / 16) → Q (some (.long w)) (σ))) ∧ ((x_by = 0) → Q (some (.long y1)) (σ)))) : At G mX19_doing 3 Q X b 0 [(0, .ref h0), (1, .long y1)] [] (σ) := by
  refine g_aload_n dX19_doing_0 rfl 0 rfl ?_
  obtain ⟨x_by, hf, h⟩ := h
  refine g_getStep 0 dX19_doing_1 hκ q1301 (by decide) hf ?_
  refine g_if_ne (tgt := 11) dX19_doing_4 (by decide) (fun c => ?_) (fun c => ?_)
  · replace h := h.1 c
    refine g_lload_n dX19_doing_11 rfl 1 rfl ?_
    refine g_aload_n dX19_doing_12 rfl 0 rfl ?_
    obtain ⟨x_by_1, hf, h⟩ := h
    refine g_getStep 0 dX19_doing_13 hκ q1301 (by decide) hf ?_
    refine g_i2l dX19_doing_16 ?_
    refine g_lmul dX19_doing_17 ?_
    refine g_ldc2 dX19_doing_18 q679 ?_
    refine g_ldiv dX19_doing_21 (by decide) ?_
    refine g_topl (fun w ew => ?_)
    replace h := h w ew
    exact g_lret rfl dX19_doing_22 h
  · replace h := h.2 c
    refine g_lload_n dX19_doing_7 rfl 1 rfl ?_
    refine g_goto (tgt := 22) dX19_doing_8 (by decide) ?_
    exact g_lret rfl dX19_doing_22 h
theorem eX19_doing {G : GC} {Q : Option Value → PS → Prop} {X : String → Nat → PS → Prop} {b : Nat} {κ : Nat} {h0 : Nat} {p1 : Int64} {σ : PS} (hκ : 20 ≤ κ ∧ κ ≤ 25) (h : At G mX19_doing 3 Q X b 0 [(0, .ref h0), (1, .long p1)] [] σ) : Call G mX19_doing 3 b [.ref h0, .long p1] σ Q X :=
  Call.of (by decide +kernel) wsX19_doing rfl (Nat.le_of_ble_eq_true rfl) (At.sub (ls := [(0, .ref h0), (1, .long p1)]) [0, 1] rfl h)
set_option maxHeartbeats 4000000 in
theorem bX19_init_0 {G : GC} {Q : Option Value → PS → Prop} {X : String → Nat → PS → Prop} {b : Nat} {κ : Nat} {h0 : Nat} {x1 : Int32} {u2 : Option Nat} {σ : PS} (hκ : 20 ≤ κ ∧ κ ≤ 25) (h : ∃ fs : List Value, Ob (σ) κ h0 fs ∧ 0 < fs.length ∧ (∀ s1 : PS, s1 = up (σ) κ h0 (.inl (fs.set 0 (.int x1))) → ∃ fs_1 : List Value, Ob s1 κ h0 fs_1 ∧ 1 < fs_1.length ∧ (∀ s1_2 : PS, s1_2 = up s1 κ h0 (.inl (fs_1.set 1 (va_rf u2))) → Q none s1_2))) : At G mX19_init 4 Q X b 0 [(0, .ref h0), (1, .int x1), (2, va_rf u2)] [] (σ) := by
  refine g_aload_n dX19_init_0 rfl 0 rfl ?_
  refine g_objInit dX19_init_1 q1300 q151 q152 (by decide) (Nat.zero_le _) ?_
  refine g_aload_n dX19_init_4 rfl 0 rfl ?_
  refine g_iload_n dX19_init_5 rfl 1 rfl ?_
  obtain ⟨fs, hO, hl, h⟩ := h
  refine g_putStep 0 dX19_init_6 hκ q1301 (by decide) rfl rfl rfl rfl hO hl ?_
  refine g_tops (fun s1 es1 => ?_)
  replace h := h s1 es1
  refine g_aload_n dX19_init_9 rfl 0 rfl ?_
  refine g_aloadq_n dX19_init_10 rfl 2 rfl ?_
  obtain ⟨fs_1, hO, hl, h⟩ := h
  refine g_putStep 1 dX19_init_11 hκ q1302 (by decide) rfl rfl (nar_q _ rfl) (fit_q _ rfl) hO hl ?_
  refine g_tops (fun s1_2 es1_2 => ?_)
  replace h := h s1_2 es1_2
  exact g_vret rfl dX19_init_14 h
theorem eX19_init {G : GC} {Q : Option Value → PS → Prop} {X : String → Nat → PS → Prop} {b : Nat} {κ : Nat} {h0 : Nat} {p1 : Int32} {p2 : Option Nat} {σ : PS} (hκ : 20 ≤ κ ∧ κ ≤ 25) (h : At G mX19_init 4 Q X b 0 [(0, .ref h0), (1, .int p1), (2, va_rf p2)] [] σ) : Call G mX19_init 4 b [.ref h0, .int p1, va_rf p2] σ Q X :=
  by cases p2 <;> exact Call.of (by decide +kernel) wsX19_init rfl (Nat.le_of_ble_eq_true rfl) (At.sub [0, 1, 2] rfl h)
set_option maxHeartbeats 4000000 in
theorem bX19_isDrawn_0 {G : GC} {Q : Option Value → PS → Prop} {X : String → Nat → PS → Prop} {b : Nat} {κ : Nat} {h0 : Nat} {a1 : Nat} {σ : PS} (hκ : 20 ≤ κ ∧ κ ≤ 25) (h : ∃ x_by : Int32, Fg (σ) κ h0 0 (.int x_by) ∧ (((x_by = 0) → Q (some (.int 1)) (σ)) ∧ ((¬ x_by = 0) → (∃ fs : List Value, Ob (σ) 5 a1 fs) ∧ Call G mX5_draw 3 0 [.ref a1, .int 16] (σ) (qI (fun rx s1 => ∃ x_by_1 : Int32, Fg s1 κ h0 0 (.int x_by_1) ∧ (((x_by_1 ≤ rx) → Q (some (.int 0)) s1) ∧ ((¬ x_by_1 ≤ rx) → Q (some (.int 1)) s1)))) X))) : At G mX19_isDrawn 4 Q X b 0 [(0, .ref h0), (1, .ref a1)] [] (σ) := by
  refine g_aload_n dX19_isDrawn_0 rfl 0 rfl ?_
  obtain ⟨x_by, hf, h⟩ := h
  refine g_getStep 0 dX19_isDrawn_1 hκ q1301 (by decide) hf ?_
  refine g_if_eq (tgt := 20) dX19_isDrawn_4 (by decide) (fun c => ?_) (fun c => ?_)
  · replace h := h.1 c
    refine g_iconst (v := 1) dX19_isDrawn_20 (by decide) ?_
    refine g_goto (tgt := 25) dX19_isDrawn_21 (by decide) ?_
    exact g_zret rfl rfl dX19_isDrawn_25 h
  · replace h := h.2 c
    refine g_aload_n dX19_isDrawn_7 rfl 1 rfl ?_
    refine g_bipush (v := 16) dX19_isDrawn_8 (by decide) ?_
    obtain ⟨⟨_, hO⟩, h⟩ := h
    refine g_callV (N := mX5_draw) (st := []) (As := [.int 16]) (a := a1) dX19_isDrawn_10 wsX5_draw (lw_V q1669 q1651 q1652 q112 q1653) rfl mokX5_draw rfl cl5 (by decide) (by decide) (Nat.zero_le _) (Nat.zero_le _) hO h (fun E q s hx => AtX.out0 rfl hx) (fun _ s1 hq => ?_)
    obtain ⟨rx, rfl, h⟩ := hq
    refine At.stk (st' := [.int rx]) rfl ?_
    refine g_aload_n dX19_isDrawn_13 rfl 0 rfl ?_
    obtain ⟨x_by_1, hf, h⟩ := h
    refine g_getStep 0 dX19_isDrawn_14 hκ q1301 (by decide) hf ?_
    refine g_icmp_ge (tgt := 24) dX19_isDrawn_17 (by decide) (fun c => ?_) (fun c => ?_)
    · replace h := h.1 c
      refine g_iconst (v := 0) dX19_isDrawn_24 (by decide) ?_
      exact g_zret rfl rfl dX19_isDrawn_25 h
    · replace h := h.2 c
      refine g_iconst (v := 1) dX19_isDrawn_20 (by decide) ?_
      refine g_goto (tgt := 25) dX19_isDrawn_21 (by decide) ?_
      exact g_zret rfl rfl dX19_isDrawn_25 h
theorem eX19_isDrawn {G : GC} {Q : Option Value → PS → Prop} {X : String → Nat → PS → Prop} {b : Nat} {κ : Nat} {h0 : Nat} {p1 : Nat} {σ : PS} (hκ : 20 ≤ κ ∧ κ ≤ 25) (h : At G mX19_isDrawn 4 Q X b 0 [(0, .ref h0), (1, .ref p1)] [] σ) : Call G mX19_isDrawn 4 b [.ref h0, .ref p1] σ Q X :=
  Call.of (by decide +kernel) wsX19_isDrawn rfl (Nat.le_of_ble_eq_true rfl) (At.sub (ls := [(0, .ref h0), (1, .ref p1)]) [0, 1] rfl h)
set_option maxHeartbeats 4000000 in
theorem bX20_flows_0 {G : GC} {Q : Option Value → PS → Prop} {X : String → Nat → PS → Prop} {b : Nat} {a1 : Nat} {a2 : Nat} {y3 : Int64} {σ : PS} (h : ∃ a_office : Nat, Fg (σ) 3 a1 4 (.ref a_office) ∧ (∃ x_cups : Int32, Fg (σ) 7 a_office 1 (.int x_cups) ∧ (Call G mX20_puts 4 0 [.ref a2, .int x_cups] (σ) (qV (fun s1 => (∃ fs : List Value, Ob s1 3 a1 fs) ∧ Call G mX3_adds 5 0 [.ref a1, .ref a2, .long y3] s1 (qV (fun s1_1 => Q none s1_1)) X)) X))) : At G mX20_flows 6 Q X b 0 [(1, .ref a1), (2, .ref a2), (3, .long y3)] [] (σ) := by
  refine g_aload_n dX20_flows_0 rfl 1 rfl ?_
  refine g_aload_n dX20_flows_1 rfl 0 rfl ?_
  obtain ⟨a_office, hf, h⟩ := h
  refine g_getN 4 dX20_flows_2 in_X3 cl3 (by decide) q242 hf ?_
  obtain ⟨x_cups, hf, h⟩ := h
  refine g_getN 1 dX20_flows_5 in_X7 cl7 (by decide) q379 hf ?_
  refine g_callS (N := mX20_puts) (st := []) (As := [.ref a2, .int x_cups]) dX20_flows_8 wsX20_puts (lw_S q706 q707 q138 q708) mokX20_puts rfl (by decide) (by decide) (Nat.zero_le _) (Nat.zero_le _) h (fun E q s hx => AtX.out0 rfl hx) (fun _ s1 hq => ?_)
  obtain ⟨rfl, h⟩ := hq
  refine At.stk (st' := []) rfl ?_
  refine g_aload_n dX20_flows_11 rfl 0 rfl ?_
  refine g_aload_n dX20_flows_12 rfl 1 rfl ?_
  refine g_lload_n dX20_flows_13 rfl 2 rfl ?_
  obtain ⟨⟨_, hO⟩, h⟩ := h
  refine g_callV (N := mX3_adds) (st := []) (As := [.ref a2, .long y3]) (a := a1) dX20_flows_14 wsX3_adds (lw_V q710 q690 q691 q110 q692) rfl mokX3_adds rfl cl3 (by decide) (by decide) (Nat.zero_le _) (Nat.zero_le _) hO h (fun E q s hx => AtX.out0 rfl hx) (fun _ s1_1 hq => ?_)
  obtain ⟨rfl, h⟩ := hq
  refine At.stk (st' := []) rfl ?_
  exact g_vret rfl dX20_flows_17 h
theorem eX20_flows {G : GC} {Q : Option Value → PS → Prop} {X : String → Nat → PS → Prop} {b : Nat} {h0 : Nat} {p1 : Nat} {p2 : Nat} {p3 : Int64} {σ : PS} (h : At G mX20_flows 6 Q X b 0 [(1, .ref p1), (2, .ref p2), (3, .long p3)] [] σ) : Call G mX20_flows 6 b [.ref h0, .ref p1, .ref p2, .long p3] σ Q X :=
  Call.of (by decide +kernel) wsX20_flows rfl (Nat.le_of_ble_eq_true rfl) (At.sub (ls := [(0, .ref h0), (1, .ref p1), (2, .ref p2), (3, .long p3)]) [1, 2, 3] rfl h)
set_option maxHeartbeats 4000000 in
theorem bX20_puts_0 {G : GC} {Q : Option Value → PS → Prop} {X : String → Nat → PS → Prop} {b : Nat} {a0 : Nat} {x1 : Int32} {σ : PS} (h : (∃ fs_2 : List Value, Ob (σ) 4 a0 fs_2) ∧ CallO G mX4_in 3 [.ref a0] (σ) (pI (fun rx => ((x1 ≤ rx) → Q none (σ)) ∧ ((¬ x1 ≤ rx) → ∃ x_dirty : Int32, Fg (σ) 4 a0 2 (.int x_dirty) ∧ (∃ fs : List Value, Ob (σ) 4 a0 fs ∧ 2 < fs.length ∧ (∀ s1_1 : PS, s1_1 = up (σ) 4 a0 (.inl (fs.set 2 (.int (x_dirty + 1)))) → Q none s1_1)))))) : At G mX20_puts 4 Q X b 0 [(0, .ref a0), (1, .int x1)] [] (σ) := by
  refine g_aload_n dX20_puts_0 rfl 0 rfl ?_
  obtain ⟨⟨_, hO⟩, h⟩ := h
  refine g_callV (N := mX4_in) (st := []) (As := []) (a := a0) dX20_puts_1 wsX4_in (lw_V q709 q619 q620 q111 q621) rfl mokX4_in rfl cl4 (by decide) (by decide) (Nat.zero_le _) (Nat.zero_le _) hO h (fun E q s hx => AtX.never hx) (fun _ s1 hq => ?_)
  obtain ⟨es, hq⟩ := hq
  refine g_tops2 es ?_
  obtain ⟨rx, rfl, h⟩ := hq
  refine At.stk (st' := [.int rx]) rfl ?_
  refine g_iload_n dX20_puts_4 rfl 1 rfl ?_
  refine g_icmp_ge (tgt := 18) dX20_puts_5 (by decide) (fun c => ?_) (fun c => ?_)
  · replace h := h.1 c
    exact g_vret rfl dX20_puts_18 h
  · replace h := h.2 c
    refine g_aload_n dX20_puts_8 rfl 0 rfl ?_
    refine g_dup dX20_puts_9 rfl ?_
    obtain ⟨x_dirty, hf, h⟩ := h
    refine g_getN 2 dX20_puts_10 in_X4 cl4 (by decide) q207 hf ?_
    refine g_iconst (v := 1) dX20_puts_13 (by decide) ?_
    refine g_iadd dX20_puts_14 ?_
    obtain ⟨fs, hO, hl, h⟩ := h
    refine g_putN 2 dX20_puts_15 in_X4 tyX4 tyX4_ok nmX4 cl4 (by decide) q207 rfl rfl rfl hO hl ?_
    refine g_tops (fun s1_1 es1_1 => ?_)
    replace h := h s1_1 es1_1
    exact g_vret rfl dX20_puts_18 h
theorem eX20_puts {G : GC} {Q : Option Value → PS → Prop} {X : String → Nat → PS → Prop} {b : Nat} {p0 : Nat} {p1 : Int32} {σ : PS} (h : At G mX20_puts 4 Q X b 0 [(0, .ref p0), (1, .int p1)] [] σ) : Call G mX20_puts 4 b [.ref p0, .int p1] σ Q X :=
  Call.of (by decide +kernel) wsX20_puts rfl (Nat.le_of_ble_eq_true rfl) (At.sub (ls := [(0, .ref p0), (1, .int p1)]) [0, 1] rfl h)
set_option maxHeartbeats 4000000 in
theorem bX20_init_0 {G : GC} {Q : Option Value → PS → Prop} {X : String → Nat → PS → Prop} {b : Nat} {h0 : Nat} {x1 : Int32} {u2 : Option Nat} {σ : PS} (h : Call G mX19_init 4 0 [.ref h0, .int x1, va_rf u2] (σ) (qV (fun s1 => Q none s1)) X) : At G mX20_init 5 Q X b 0 [(0, .ref h0), (1, .int x1), (2, va_rf u2)] [] (σ) := by
  refine g_aload_n dX20_init_0 rfl 0 rfl ?_
  refine g_iload_n dX20_init_1 rfl 1 rfl ?_
  refine g_aloadq_n dX20_init_2 rfl 2 rfl ?_
  refine g_callI (N := mX19_init) (st := []) (As := [.int x1, va_rf u2]) (a := h0) dX20_init_3 wsX19_init q1299 q137 q1297 q1298 rfl mokX19_init rfl (by decide) (by decide) (Nat.zero_le _) (Nat.zero_le _) h (fun E q s hx => AtX.out0 rfl hx) (fun _ s1 hq => ?_)
  obtain ⟨rfl, h⟩ := hq
  refine At.stk (st' := []) rfl ?_
  exact g_vret rfl dX20_init_6 h
theorem eX20_init {G : GC} {Q : Option Value → PS → Prop} {X : String → Nat → PS → Prop} {b : Nat} {h0 : Nat} {p1 : Int32} {p2 : Option Nat} {σ : PS} (h : At G mX20_init 5 Q X b 0 [(0, .ref h0), (1, .int p1), (2, va_rf p2)] [] σ) : Call G mX20_init 5 b [.ref h0, .int p1, va_rf p2] σ Q X :=
  by cases p2 <;> exact Call.of (by decide +kernel) wsX20_init rfl (Nat.le_of_ble_eq_true rfl) (At.sub [0, 1, 2] rfl h)
set_option maxHeartbeats 4000000 in
theorem bX20_on_0 {G : GC} {Q : Option Value → PS → Prop} {X : String → Nat → PS → Prop} {b : Nat} {a1 : Nat} {σ : PS} (h : ∃ a_state : Nat, Fg (σ) 5 a1 0 (.ref a_state) ∧ (∃ a_office : Nat, Fg (σ) 5 a1 1 (.ref a_office) ∧ (∃ x_cups : Int32, Fg (σ) 7 a_office 1 (.int x_cups) ∧ (Call G mX20_puts 4 0 [.ref a_state, .int x_cups] (σ) (qV (fun s1 => Q none s1)) X)))) : At G mX20_on 5 Q X b 0 [(1, .ref a1)] [] (σ) := by
  refine g_aload_n dX20_on_0 rfl 0 rfl ?_
  obtain ⟨a_state, hf, h⟩ := h
  refine g_getN 0 dX20_on_1 in_X5 cl5 (by decide) q292 hf ?_
  refine g_aload_n dX20_on_4 rfl 0 rfl ?_
  obtain ⟨a_office, hf, h⟩ := h
  refine g_getN 1 dX20_on_5 in_X5 cl5 (by decide) q297 hf ?_
  obtain ⟨x_cups, hf, h⟩ := h
  refine g_getN 1 dX20_on_8 in_X7 cl7 (by decide) q379 hf ?_
  refine g_callS (N := mX20_puts) (st := []) (As := [.ref a_state, .int x_cups]) dX20_on_11 wsX20_puts (lw_S q706 q707 q138 q708) mokX20_puts rfl (by decide) (by decide) (Nat.zero_le _) (Nat.zero_le _) h (fun E q s hx => AtX.out0 rfl hx) (fun _ s1 hq => ?_)
  obtain ⟨rfl, h⟩ := hq
  refine At.stk (st' := []) rfl ?_
  exact g_vret rfl dX20_on_14 h
theorem eX20_on {G : GC} {Q : Option Value → PS → Prop} {X : String → Nat → PS → Prop} {b : Nat} {h0 : Nat} {p1 : Nat} {σ : PS} (h : At G mX20_on 5 Q X b 0 [(1, .ref p1)] [] σ) : Call G mX20_on 5 b [.ref h0, .ref p1] σ Q X :=
  Call.of (by decide +kernel) wsX20_on rfl (Nat.le_of_ble_eq_true rfl) (At.sub (ls := [(0, .ref h0), (1, .ref p1)]) [1] rfl h)
set_option maxHeartbeats 4000000 in
theorem bX21_flows_0 {G : GC} {Q : Option Value → PS → Prop} {X : String → Nat → PS → Prop} {b : Nat} {a1 : Nat} {a2 : Nat} {y3 : Int64} {σ : PS} (h : (∃ fs_11 : List Value, Ob (σ) 4 a2 fs_11) ∧ CallO G mX4_in 3 [.ref a2] (σ) (pI (fun rx => ((¬ rx = 0) → ∃ x_dirty : Int32, Fg (σ) 4 a2 2 (.int x_dirty) ∧ ((∃ fs_9 : List Value, Ob (σ) 4 a2 fs_9) ∧ CallO G mX4_in 3 [.ref a2] (σ) (pI (fun rx_2 => ¬ rx_2.toInt64 = 0 ∧ (∀ w : Int64, w = ((y3 * x_dirty.toInt64) / rx_2.toInt64) → (∃ fs_8 : List Value, Ob (σ) 3 a1 fs_8) ∧ Call G mX3_drinks 3 0 [.ref a1, .long w] (σ) (qV (fun s1_3 => ((w ≤ 0) → At G mX21_flows 6 Q X b 73 [(1, .ref a1), (2, .ref a2), (3, .long y3), (5, .long w)] [] s1_3) ∧ ((¬ w ≤ 0) → ∃ x_slot : Int32, Fg s1_3 4 a2 0 (.int x_slot) ∧ (∃ x_clean : Int32, Fg s1_3 4 a2 1 (.int x_clean) ∧ (∃ x_dirty_4 : Int32, Fg s1_3 4 a2 2 (.int x_dirty_4) ∧ (∃ x_card : Int32, Fg s1_3 4 a2 3 (.int x_card) ∧ (∃ x_seen : Int32, Fg s1_3 4 a2 4 (.int x_seen) ∧ (CallO G mX4_codeOf 3 [.int x_slot, .int x_clean, .int (x_dirty_4 - 1), .int x_card, .int x_seen] s1_3 (pI (fun rx_6 => (∃ fs : List Value, Ob s1_3 3 a1 fs) ∧ Call G mX3_addsAt 3 0 [.ref a1, .int rx_6, .long w] s1_3 (qV (fun s1_7 => At G mX21_flows 6 Q X b 73 [(1, .ref a1), (2, .ref a2), (3, .long y3), (5, .long w)] [] s1_7)) X)))))))))) X))))) ∧ ((rx = 0) → (∃ fs : List Value, Ob (σ) 3 a1 fs) ∧ Call G mX3_adds 5 0 [.ref a1, .ref a2, .long y3] (σ) (qV (fun s1_10 => Q none s1_10)) X)))) : At G mX21_flows 6 Q X b 0 [(1, .ref a1), (2, .ref a2), (3, .long y3)] [] (σ) := by
  refine g_aload_n dX21_flows_0 rfl 1 rfl ?_
  obtain ⟨⟨_, hO⟩, h⟩ := h
  refine g_callV (N := mX4_in) (st := []) (As := []) (a := a2) dX21_flows_1 wsX4_in (lw_V q723 q619 q620 q111 q621) rfl mokX4_in rfl cl4 (by decide) (by decide) (Nat.zero_le _) (Nat.zero_le _) hO h (fun E q s hx => AtX.never hx) (fun _ s1 hq => ?_)
  obtain ⟨es, hq⟩ := hq
  refine g_tops2 es ?_
  obtain ⟨rx, rfl, h⟩ := hq
  refine At.stk (st' := [.int rx]) rfl ?_
  refine g_if_ne (tgt := 14) dX21_flows_4 (by decide) (fun c => ?_) (fun c => ?_)
  · replace h := h.1 c
    refine g_lload_n dX21_flows_14 rfl 2 rfl ?_
    refine g_aload_n dX21_flows_15 rfl 1 rfl ?_
    obtain ⟨x_dirty, hf, h⟩ := h
    refine g_getN 2 dX21_flows_16 in_X4 cl4 (by decide) q208 hf ?_
    refine g_i2l dX21_flows_19 ?_
    refine g_lmul dX21_flows_20 ?_
    refine g_aload_n dX21_flows_21 rfl 1 rfl ?_
    obtain ⟨⟨_, hO⟩, h⟩ := h
    refine g_callV (N := mX4_in) (st := [.long (y3 * x_dirty.toInt64)]) (As := []) (a := a2) dX21_flows_22 wsX4_in (lw_V q723 q619 q620 q111 q621) rfl mokX4_in rfl cl4 (by decide) (by decide) (Nat.zero_le _) (by simp [Value.category]) hO h (fun E q s hx => AtX.never hx) (fun _ s1_1 hq => ?_)
    obtain ⟨es, hq⟩ := hq
    refine g_tops2 es ?_
    obtain ⟨rx_2, rfl, h⟩ := hq
    refine At.stk (st' := [.int rx_2, .long (y3 * x_dirty.toInt64)]) rfl ?_
    refine g_i2l dX21_flows_25 ?_
    obtain ⟨hnz, h⟩ := h
    refine g_ldiv dX21_flows_26 hnz ?_
    refine g_topl (fun w ew => ?_)
    replace h := h w ew
    refine g_lstore (ls1 := [(5, .long w), (1, .ref a1), (2, .ref a2), (3, .long y3)]) dX21_flows_27 (by decide) rfl ?_
    refine g_aload_n dX21_flows_29 rfl 1 rfl ?_
    refine g_lload dX21_flows_30 0 rfl ?_
    obtain ⟨⟨_, hO⟩, h⟩ := h
    refine g_callV (N := mX3_drinks) (st := []) (As := [.long w]) (a := a1) dX21_flows_32 wsX3_drinks (lw_V q725 q726 q727 q110 q728) rfl mokX3_drinks rfl cl3 (by decide) (by decide) (Nat.zero_le _) (Nat.zero_le _) hO h (fun E q s hx => AtX.out0 rfl hx) (fun _ s1_3 hq => ?_)
    obtain ⟨rfl, h⟩ := hq
    refine At.stk (st' := []) rfl ?_
    refine g_lload dX21_flows_35 0 rfl ?_
    refine g_lconst (v := 0) dX21_flows_37 (by decide) ?_
    refine g_lcmp_le (tgt := 73) dX21_flows_38 dX21_flows_39 (by decide) (fun c => ?_) (fun c => ?_)
    · replace h := h.1 c
      exact At.sub (ls := [(5, .long w), (1, .ref a1), (2, .ref a2), (3, .long y3)]) [1, 2, 3, 0] rfl h
    · replace h := h.2 c
      refine g_aload_n dX21_flows_42 rfl 1 rfl ?_
      refine g_aload_n dX21_flows_43 rfl 2 rfl ?_
      obtain ⟨x_slot, hf, h⟩ := h
      refine g_getN 0 dX21_flows_44 in_X4 cl4 (by decide) q196 hf ?_
      refine g_aload_n dX21_flows_47 rfl 2 rfl ?_
      obtain ⟨x_clean, hf, h⟩ := h
      refine g_getN 1 dX21_flows_48 in_X4 cl4 (by decide) q201 hf ?_
      refine g_aload_n dX21_flows_51 rfl 2 rfl ?_
      obtain ⟨x_dirty_4, hf, h⟩ := h
      refine g_getN 2 dX21_flows_52 in_X4 cl4 (by decide) q208 hf ?_
      refine g_iconst (v := 1) dX21_flows_55 (by decide) ?_
      refine g_isub dX21_flows_56 ?_
      refine g_aload_n dX21_flows_57 rfl 2 rfl ?_
      obtain ⟨x_card, hf, h⟩ := h
      refine g_getN 3 dX21_flows_58 in_X4 cl4 (by decide) q213 hf ?_
      refine g_aload_n dX21_flows_61 rfl 2 rfl ?_
      obtain ⟨x_seen, hf, h⟩ := h
      refine g_getN 4 dX21_flows_62 in_X4 cl4 (by decide) q220 hf ?_
      refine g_callS (N := mX4_codeOf) (st := [.ref a1]) (As := [.int x_slot, .int x_clean, .int (x_dirty_4 - 1), .int x_card, .int x_seen]) dX21_flows_65 wsX4_codeOf (lw_S q729 q541 q111 q542) mokX4_codeOf rfl (by decide) (by decide) (Nat.zero_le _) (by simp [Value.category]) h (fun E q s hx => AtX.never hx) (fun _ s1_5 hq => ?_)
      obtain ⟨es, hq⟩ := hq
      refine g_tops2 es ?_
      obtain ⟨rx_6, rfl, h⟩ := hq
      refine At.stk (st' := [.int rx_6, .ref a1]) rfl ?_
      refine g_lload dX21_flows_68 0 rfl ?_
      obtain ⟨⟨_, hO⟩, h⟩ := h
      refine g_callV (N := mX3_addsAt) (st := []) (As := [.int rx_6, .long w]) (a := a1) dX21_flows_70 wsX3_addsAt (lw_V q730 q731 q732 q110 q733) rfl mokX3_addsAt rfl cl3 (by decide) (by decide) (Nat.zero_le _) (Nat.zero_le _) hO h (fun E q s hx => AtX.out0 rfl hx) (fun _ s1_7 hq => ?_)
      obtain ⟨rfl, h⟩ := hq
      refine At.stk (st' := []) rfl ?_
      exact At.sub (ls := [(5, .long w), (1, .ref a1), (2, .ref a2), (3, .long y3)]) [1, 2, 3, 0] rfl h
  · replace h := h.2 c
    refine g_aload_n dX21_flows_7 rfl 0 rfl ?_
    refine g_aload_n dX21_flows_8 rfl 1 rfl ?_
    refine g_lload_n dX21_flows_9 rfl 2 rfl ?_
    obtain ⟨⟨_, hO⟩, h⟩ := h
    refine g_callV (N := mX3_adds) (st := []) (As := [.ref a2, .long y3]) (a := a1) dX21_flows_10 wsX3_adds (lw_V q724 q690 q691 q110 q692) rfl mokX3_adds rfl cl3 (by decide) (by decide) (Nat.zero_le _) (Nat.zero_le _) hO h (fun E q s hx => AtX.out0 rfl hx) (fun _ s1_10 hq => ?_)
    obtain ⟨rfl, h⟩ := hq
    refine At.stk (st' := []) rfl ?_
    exact g_vret rfl dX21_flows_13 h
set_option maxHeartbeats 4000000 in
theorem bX21_flows_73 {G : GC} {Q : Option Value → PS → Prop} {X : String → Nat → PS → Prop} {b : Nat} {a1 : Nat} {a2 : Nat} {y3 : Int64} {y5 : Int64} {σ : PS} (h : ((y3 ≤ y5) → Q none (σ)) ∧ ((¬ y3 ≤ y5) → ∃ x_slot : Int32, Fg (σ) 4 a2 0 (.int x_slot) ∧ (∃ x_clean : Int32, Fg (σ) 4 a2 1 (.int x_clean) ∧ (∃ x_dirty : Int32, Fg (σ) 4 a2 2 (.int x_dirty) ∧ (∃ x_card : Int32, Fg (σ) 4 a2 3 (.int x_card) ∧ (∃ x_seen : Int32, Fg (σ) 4 a2 4 (.int x_seen) ∧ (CallO G mX4_codeOf 3 [.int x_slot, .int (x_clean - 1), .int x_dirty, .int x_card, .int x_seen] (σ) (pI (fun rx => (∃ fs : List Value, Ob (σ) 3 a1 fs) ∧ Call G mX3_addsAt 3 0 [.ref a1, .int rx, .long (y3 - y5)] (σ) (qV (fun s1_1 => Q none s1_1)) X))))))))) : At G mX21_flows 6 Q X b 73 [(1, .ref a1), (2, .ref a2), (3, .long y3), (5, .long y5)] [] (σ) := by
  refine g_lload dX21_flows_73 3 rfl ?_
  refine g_lload_n dX21_flows_75 rfl 2 rfl ?_
  refine g_lcmp_ge (tgt := 113) dX21_flows_76 dX21_flows_77 (by decide) (fun c => ?_) (fun c => ?_)
  · replace h := h.1 c
    exact g_vret rfl dX21_flows_113 h
  · replace h := h.2 c
    refine g_aload_n dX21_flows_80 rfl 0 rfl ?_
    refine g_aload_n dX21_flows_81 rfl 1 rfl ?_
    obtain ⟨x_slot, hf, h⟩ := h
    refine g_getN 0 dX21_flows_82 in_X4 cl4 (by decide) q196 hf ?_
    refine g_aload_n dX21_flows_85 rfl 1 rfl ?_
    obtain ⟨x_clean, hf, h⟩ := h
    refine g_getN 1 dX21_flows_86 in_X4 cl4 (by decide) q201 hf ?_
    refine g_iconst (v := 1) dX21_flows_89 (by decide) ?_
    refine g_isub dX21_flows_90 ?_
    refine g_aload_n dX21_flows_91 rfl 1 rfl ?_
    obtain ⟨x_dirty, hf, h⟩ := h
    refine g_getN 2 dX21_flows_92 in_X4 cl4 (by decide) q208 hf ?_
    refine g_aload_n dX21_flows_95 rfl 1 rfl ?_
    obtain ⟨x_card, hf, h⟩ := h
    refine g_getN 3 dX21_flows_96 in_X4 cl4 (by decide) q213 hf ?_
    refine g_aload_n dX21_flows_99 rfl 1 rfl ?_
    obtain ⟨x_seen, hf, h⟩ := h
    refine g_getN 4 dX21_flows_100 in_X4 cl4 (by decide) q220 hf ?_
    refine g_callS (N := mX4_codeOf) (st := [.ref a1]) (As := [.int x_slot, .int (x_clean - 1), .int x_dirty, .int x_card, .int x_seen]) dX21_flows_103 wsX4_codeOf (lw_S q729 q541 q111 q542) mokX4_codeOf rfl (by decide) (by decide) (Nat.zero_le _) (by simp [Value.category]) h (fun E q s hx => AtX.never hx) (fun _ s1 hq => ?_)
    obtain ⟨es, hq⟩ := hq
    refine g_tops2 es ?_
    obtain ⟨rx, rfl, h⟩ := hq
    refine At.stk (st' := [.int rx, .ref a1]) rfl ?_
    refine g_lload_n dX21_flows_106 rfl 2 rfl ?_
    refine g_lload dX21_flows_107 3 rfl ?_
    refine g_lsub dX21_flows_109 ?_
    obtain ⟨⟨_, hO⟩, h⟩ := h
    refine g_callV (N := mX3_addsAt) (st := []) (As := [.int rx, .long (y3 - y5)]) (a := a1) dX21_flows_110 wsX3_addsAt (lw_V q730 q731 q732 q110 q733) rfl mokX3_addsAt rfl cl3 (by decide) (by decide) (Nat.zero_le _) (Nat.zero_le _) hO h (fun E q s hx => AtX.out0 rfl hx) (fun _ s1_1 hq => ?_)
    obtain ⟨rfl, h⟩ := hq
    refine At.stk (st' := []) rfl ?_
    exact g_vret rfl dX21_flows_113 h
theorem eX21_flows {G : GC} {Q : Option Value → PS → Prop} {X : String → Nat → PS → Prop} {b : Nat} {h0 : Nat} {p1 : Nat} {p2 : Nat} {p3 : Int64} {σ : PS} (h : At G mX21_flows 6 Q X b 0 [(1, .ref p1), (2, .ref p2), (3, .long p3)] [] σ) : Call G mX21_flows 6 b [.ref h0, .ref p1, .ref p2, .long p3] σ Q X :=
  Call.of (by decide +kernel) wsX21_flows rfl (Nat.le_of_ble_eq_true rfl) (At.sub (ls := [(0, .ref h0), (1, .ref p1), (2, .ref p2), (3, .long p3)]) [1, 2, 3] rfl h)
set_option maxHeartbeats 4000000 in
theorem bX21_init_0 {G : GC} {Q : Option Value → PS → Prop} {X : String → Nat → PS → Prop} {b : Nat} {h0 : Nat} {x1 : Int32} {u2 : Option Nat} {σ : PS} (h : Call G mX19_init 4 0 [.ref h0, .int x1, va_rf u2] (σ) (qV (fun s1 => Q none s1)) X) : At G mX21_init 5 Q X b 0 [(0, .ref h0), (1, .int x1), (2, va_rf u2)] [] (σ) := by
  refine g_aload_n dX21_init_0 rfl 0 rfl ?_
  refine g_iload_n dX21_init_1 rfl 1 rfl ?_
  refine g_aloadq_n dX21_init_2 rfl 2 rfl ?_
  refine g_callI (N := mX19_init) (st := []) (As := [.int x1, va_rf u2]) (a := h0) dX21_init_3 wsX19_init q1299 q137 q1313 q1298 rfl mokX19_init rfl (by decide) (by decide) (Nat.zero_le _) (Nat.zero_le _) h (fun E q s hx => AtX.out0 rfl hx) (fun _ s1 hq => ?_)
  obtain ⟨rfl, h⟩ := hq
  refine At.stk (st' := []) rfl ?_
  exact g_vret rfl dX21_init_6 h
theorem eX21_init {G : GC} {Q : Option Value → PS → Prop} {X : String → Nat → PS → Prop} {b : Nat} {h0 : Nat} {p1 : Int32} {p2 : Option Nat} {σ : PS} (h : At G mX21_init 5 Q X b 0 [(0, .ref h0), (1, .int p1), (2, va_rf p2)] [] σ) : Call G mX21_init 5 b [.ref h0, .int p1, va_rf p2] σ Q X :=
  by cases p2 <;> exact Call.of (by decide +kernel) wsX21_init rfl (Nat.le_of_ble_eq_true rfl) (At.sub [0, 1, 2] rfl h)
set_option maxHeartbeats 4000000 in
theorem bX21_on_0 {G : GC} {Q : Option Value → PS → Prop} {X : String → Nat → PS → Prop} {b : Nat} {a1 : Nat} {σ : PS} (h : ∃ a_state : Nat, Fg (σ) 5 a1 0 (.ref a_state) ∧ ((∃ fs_16 : List Value, Ob (σ) 4 a_state fs_16) ∧ CallO G mX4_in 3 [.ref a_state] (σ) (pI (fun rx => ((¬ rx = 0) → ∃ a_state_1 : Nat, Fg (σ) 5 a1 0 (.ref a_state_1) ∧ ((∃ fs_15 : List Value, Ob (σ) 4 a_state_1 fs_15) ∧ CallO G mX4_in 3 [.ref a_state_1] (σ) (pI (fun rx_3 => (∃ fs_14 : List Value, Ob (σ) 5 a1 fs_14) ∧ Call G mX5_draw 3 0 [.ref a1, .int rx_3] (σ) (qI (fun rx_5 s1_4 => ∃ a_state_6 : Nat, Fg s1_4 5 a1 0 (.ref a_state_6) ∧ (∃ x_dirty : Int32, Fg s1_4 4 a_state_6 2 (.int x_dirty) ∧ (((x_dirty ≤ rx_5) → ∃ a_state_7 : Nat, Fg s1_4 5 a1 0 (.ref a_state_7) ∧ (∃ x_clean : Int32, Fg s1_4 4 a_state_7 1 (.int x_clean) ∧ (∃ fs : List Value, Ob s1_4 4 a_state_7 fs ∧ 1 < fs.length ∧ (∀ s1_8 : PS, s1_8 = up s1_4 4 a_state_7 (.inl (fs.set 1 (.int (x_clean - 1)))) → Q none s1_8)))) ∧ ((¬ x_dirty ≤ rx_5) → ∃ a_state_9 : Nat, Fg s1_4 5 a1 0 (.ref a_state_9) ∧ (∃ x_dirty_10 : Int32, Fg s1_4 4 a_state_9 2 (.int x_dirty_10) ∧ (∃ fs : List Value, Ob s1_4 4 a_state_9 fs ∧ 2 < fs.length ∧ (∀ s1_11 : PS, s1_11 = up s1_4 4 a_state_9 (.inl (fs.set 2 (.int (x_dirty_10 - 1)))) → ∃ x_drunk : Int32, Fg s1_11 5 a1 4 (.int x_drunk) ∧ (∃ fs_12 : List Value, Ob s1_11 5 a1 fs_12 ∧ 4 < fs_12.length ∧ (∀ s1_13 : PS, s1_13 = up s1_11 5 a1 (.inl (fs_12.set 4 (.int (x_drunk + 1)))) → Q none s1_13)))))))))) X)))) ∧ ((rx = 0) → Q none (σ)))))) : At G mX21_on 4 Q X b 0 [(1, .ref a1)] [] (σ) := by
  refine g_aload_n dX21_on_0 rfl 0 rfl ?_
  obtain ⟨a_state, hf, h⟩ := h
  refine g_getN 0 dX21_on_1 in_X5 cl5 (by decide) q288 hf ?_
  obtain ⟨⟨_, hO⟩, h⟩ := h
  refine g_callV (N := mX4_in) (st := []) (As := []) (a := a_state) dX21_on_4 wsX4_in (lw_V q723 q619 q620 q111 q621) rfl mokX4_in rfl cl4 (by decide) (by decide) (Nat.zero_le _) (Nat.zero_le _) hO h (fun E q s hx => AtX.never hx) (fun _ s1 hq => ?_)
  obtain ⟨es, hq⟩ := hq
  refine g_tops2 es ?_
  obtain ⟨rx, rfl, h⟩ := hq
  refine At.stk (st' := [.int rx]) rfl ?_
  refine g_if_ne (tgt := 11) dX21_on_7 (by decide) (fun c => ?_) (fun c => ?_)
  · replace h := h.1 c
    refine g_aload_n dX21_on_11 rfl 0 rfl ?_
    refine g_aload_n dX21_on_12 rfl 0 rfl ?_
    obtain ⟨a_state_1, hf, h⟩ := h
    refine g_getN 0 dX21_on_13 in_X5 cl5 (by decide) q288 hf ?_
    obtain ⟨⟨_, hO⟩, h⟩ := h
    refine g_callV (N := mX4_in) (st := [.ref a1]) (As := []) (a := a_state_1) dX21_on_16 wsX4_in (lw_V q723 q619 q620 q111 q621) rfl mokX4_in rfl cl4 (by decide) (by decide) (Nat.zero_le _) (by simp [Value.category]) hO h (fun E q s hx => AtX.never hx) (fun _ s1_2 hq => ?_)
    obtain ⟨es, hq⟩ := hq
    refine g_tops2 es ?_
    obtain ⟨rx_3, rfl, h⟩ := hq
    refine At.stk (st' := [.int rx_3, .ref a1]) rfl ?_
    obtain ⟨⟨_, hO⟩, h⟩ := h
    refine g_callV (N := mX5_draw) (st := []) (As := [.int rx_3]) (a := a1) dX21_on_19 wsX5_draw (lw_V q1689 q1651 q1652 q112 q1653) rfl mokX5_draw rfl cl5 (by decide) (by decide) (Nat.zero_le _) (Nat.zero_le _) hO h (fun E q s hx => AtX.out0 rfl hx) (fun _ s1_4 hq => ?_)
    obtain ⟨rx_5, rfl, h⟩ := hq
    refine At.stk (st' := [.int rx_5]) rfl ?_
    refine g_aload_n dX21_on_22 rfl 0 rfl ?_
    obtain ⟨a_state_6, hf, h⟩ := h
    refine g_getN 0 dX21_on_23 in_X5 cl5 (by decide) q288 hf ?_
    obtain ⟨x_dirty, hf, h⟩ := h
    refine g_getN 2 dX21_on_26 in_X4 cl4 (by decide) q208 hf ?_
    refine g_icmp_ge (tgt := 58) dX21_on_29 (by decide) (fun c => ?_) (fun c => ?_)
    · replace h := h.1 c
      refine g_aload_n dX21_on_58 rfl 0 rfl ?_
      obtain ⟨a_state_7, hf, h⟩ := h
      refine g_getN 0 dX21_on_59 in_X5 cl5 (by decide) q288 hf ?_
      refine g_dup dX21_on_62 rfl ?_
      obtain ⟨x_clean, hf, h⟩ := h
      refine g_getN 1 dX21_on_63 in_X4 cl4 (by decide) q201 hf ?_
      refine g_iconst (v := 1) dX21_on_66 (by decide) ?_
      refine g_isub dX21_on_67 ?_
      obtain ⟨fs, hO, hl, h⟩ := h
      refine g_putN 1 dX21_on_68 in_X4 tyX4 tyX4_ok nmX4 cl4 (by decide) q201 rfl rfl rfl hO hl ?_
      refine g_tops (fun s1_8 es1_8 => ?_)
      replace h := h s1_8 es1_8
      exact g_vret rfl dX21_on_71 h
    · replace h := h.2 c
      refine g_aload_n dX21_on_32 rfl 0 rfl ?_
      obtain ⟨a_state_9, hf, h⟩ := h
      refine g_getN 0 dX21_on_33 in_X5 cl5 (by decide) q288 hf ?_
      refine g_dup dX21_on_36 rfl ?_
      obtain ⟨x_dirty_10, hf, h⟩ := h
      refine g_getN 2 dX21_on_37 in_X4 cl4 (by decide) q208 hf ?_
      refine g_iconst (v := 1) dX21_on_40 (by decide) ?_
      refine g_isub dX21_on_41 ?_
      obtain ⟨fs, hO, hl, h⟩ := h
      refine g_putN 2 dX21_on_42 in_X4 tyX4 tyX4_ok nmX4 cl4 (by decide) q208 rfl rfl rfl hO hl ?_
      refine g_tops (fun s1_11 es1_11 => ?_)
      replace h := h s1_11 es1_11
      refine g_aload_n dX21_on_45 rfl 0 rfl ?_
      refine g_dup dX21_on_46 rfl ?_
      obtain ⟨x_drunk, hf, h⟩ := h
      refine g_getN 4 dX21_on_47 in_X5 cl5 (by decide) q302 hf ?_
      refine g_iconst (v := 1) dX21_on_50 (by decide) ?_
      refine g_iadd dX21_on_51 ?_
      obtain ⟨fs_12, hO, hl, h⟩ := h
      refine g_putN 4 dX21_on_52 in_X5 tyX5 tyX5_ok nmX5 cl5 (by decide) q302 rfl rfl rfl hO hl ?_
      refine g_tops (fun s1_13 es1_13 => ?_)
      replace h := h s1_13 es1_13
      refine g_goto (tgt := 71) dX21_on_55 (by decide) ?_
      exact g_vret rfl dX21_on_71 h
  · replace h := h.2 c
    exact g_vret rfl dX21_on_10 h
theorem eX21_on {G : GC} {Q : Option Value → PS → Prop} {X : String → Nat → PS → Prop} {b : Nat} {h0 : Nat} {p1 : Nat} {σ : PS} (h : At G mX21_on 4 Q X b 0 [(1, .ref p1)] [] σ) : Call G mX21_on 4 b [.ref h0, .ref p1] σ Q X :=
  Call.of (by decide +kernel) wsX21_on rfl (Nat.le_of_ble_eq_true rfl) (At.sub (ls := [(0, .ref h0), (1, .ref p1)]) [1] rfl h)
set_option maxHeartbeats 4000000 in
theorem bX22_flows_0 {G : GC} {Q : Option Value → PS → Prop} {X : String → Nat → PS → Prop} {b : Nat} {a1 : Nat} {a2 : Nat} {y3 : Int64} {σ : PS} (h : ∃ x_dirty : Int32, Fg (σ) 4 a2 2 (.int x_dirty) ∧ (((¬ x_dirty = 0) → ∃ x_see : Int32, Fg (σ) 3 a1 9 (.int x_see) ∧ (∀ w : Int64, w = ((y3 * x_see.toInt64) / 16) → At G mX22_flows 6 Q X b 22 [(1, .ref a1), (2, .ref a2), (3, .long y3)] [.long w] (σ))) ∧ ((x_dirty = 0) → At G mX22_flows 6 Q X b 22 [(1, .ref a1), (2, .ref a2), (3, .long y3)] [.long 0] (σ)))) : At G mX22_flows 6 Q X b 0 [(1, .ref a1), (2, .ref a2), (3, .long y3)] [] (σ) := by
  refine g_aload_n dX22_flows_0 rfl 1 rfl ?_
  obtain ⟨x_dirty, hf, h⟩ := h
  refine g_getN 2 dX22_flows_1 in_X4 cl4 (by decide) q205 hf ?_
  refine g_if_ne (tgt := 11) dX22_flows_4 (by decide) (fun c => ?_) (fun c => ?_)
  · replace h := h.1 c
    refine g_lload_n dX22_flows_11 rfl 2 rfl ?_
    refine g_aload_n dX22_flows_12 rfl 0 rfl ?_
    obtain ⟨x_see, hf, h⟩ := h
    refine g_getN 9 dX22_flows_13 in_X3 cl3 (by decide) q252 hf ?_
    refine g_i2l dX22_flows_16 ?_
    refine g_lmul dX22_flows_17 ?_
    refine g_ldc2 dX22_flows_18 q701 ?_
    refine g_ldiv dX22_flows_21 (by decide) ?_
    refine g_topl (fun w ew => ?_)
    replace h := h w ew
    exact At.sub (ls := [(1, .ref a1), (2, .ref a2), (3, .long y3)]) [0, 1, 2] rfl h
  · replace h := h.2 c
    refine g_lconst (v := 0) dX22_flows_7 (by decide) ?_
    refine g_goto (tgt := 22) dX22_flows_8 (by decide) ?_
    exact At.sub (ls := [(1, .ref a1), (2, .ref a2), (3, .long y3)]) [0, 1, 2] rfl h
set_option maxHeartbeats 4000000 in
theorem bX22_flows_22 {G : GC} {Q : Option Value → PS → Prop} {X : String → Nat → PS → Prop} {b : Nat} {a1 : Nat} {a2 : Nat} {y3 : Int64} {sy0 : Int64} {σ : PS} (h : ∃ y_looks : Int64, Fg (σ) 3 a1 7 (.long y_looks) ∧ (∃ fs : List Value, Ob (σ) 3 a1 fs ∧ 7 < fs.length ∧ (∀ s1 : PS, s1 = up (σ) 3 a1 (.inl (fs.set 7 (.long (y_looks + y3)))) → (∃ fs_6 : List Value, Ob s1 3 a1 fs_6) ∧ Call G mX3_adds 5 0 [.ref a1, .ref a2, .long (y3 - sy0)] s1 (qV (fun s1_1 => ∃ fs_2 : List Value, Ob s1_1 4 a2 fs_2 ∧ 4 < fs_2.length ∧ (∀ s1_3 : PS, s1_3 = up s1_1 4 a2 (.inl (fs_2.set 4 (.int 1))) → (∃ fs_5 : List Value, Ob s1_3 3 a1 fs_5) ∧ Call G mX3_adds 5 0 [.ref a1, .ref a2, .long sy0] s1_3 (qV (fun s1_4 => Q none s1_4)) X))) X))) : At G mX22_flows 6 Q X b 22 [(1, .ref a1), (2, .ref a2), (3, .long y3)] [.long sy0] (σ) := by
  refine g_lstore (ls1 := [(5, .long sy0), (1, .ref a1), (2, .ref a2), (3, .long y3)]) dX22_flows_22 (by decide) rfl ?_
  refine g_aload_n dX22_flows_24 rfl 1 rfl ?_
  refine g_dup dX22_flows_25 rfl ?_
  obtain ⟨y_looks, hf, h⟩ := h
  refine g_getN 7 dX22_flows_26 in_X3 cl3 (by decide) q248 hf ?_
  refine g_lload_n dX22_flows_29 rfl 3 rfl ?_
  refine g_ladd dX22_flows_30 ?_
  obtain ⟨fs, hO, hl, h⟩ := h
  refine g_putN 7 dX22_flows_31 in_X3 tyX3 tyX3_ok nmX3 cl3 (by decide) q248 rfl rfl rfl hO hl ?_
  refine g_tops (fun s1 es1 => ?_)
  replace h := h s1 es1
  refine g_aload_n dX22_flows_34 rfl 1 rfl ?_
  refine g_aload_n dX22_flows_35 rfl 2 rfl ?_
  refine g_lload_n dX22_flows_36 rfl 3 rfl ?_
  refine g_lload dX22_flows_37 0 rfl ?_
  refine g_lsub dX22_flows_39 ?_
  obtain ⟨⟨_, hO⟩, h⟩ := h
  refine g_callV (N := mX3_adds) (st := []) (As := [.ref a2, .long (y3 - sy0)]) (a := a1) dX22_flows_40 wsX3_adds (lw_V q702 q690 q691 q110 q692) rfl mokX3_adds rfl cl3 (by decide) (by decide) (Nat.zero_le _) (Nat.zero_le _) hO h (fun E q s hx => AtX.out0 rfl hx) (fun _ s1_1 hq => ?_)
  obtain ⟨rfl, h⟩ := hq
  refine At.stk (st' := []) rfl ?_
  refine g_aload_n dX22_flows_43 rfl 2 rfl ?_
  refine g_iconst (v := 1) dX22_flows_44 (by decide) ?_
  obtain ⟨fs_2, hO, hl, h⟩ := h
  refine g_putN 4 dX22_flows_45 in_X4 tyX4 tyX4_ok nmX4 cl4 (by decide) q219 rfl rfl rfl hO hl ?_
  refine g_tops (fun s1_3 es1_3 => ?_)
  replace h := h s1_3 es1_3
  refine g_aload_n dX22_flows_48 rfl 1 rfl ?_
  refine g_aload_n dX22_flows_49 rfl 2 rfl ?_
  refine g_lload dX22_flows_50 0 rfl ?_
  obtain ⟨⟨_, hO⟩, h⟩ := h
  refine g_callV (N := mX3_adds) (st := []) (As := [.ref a2, .long sy0]) (a := a1) dX22_flows_52 wsX3_adds (lw_V q702 q690 q691 q110 q692) rfl mokX3_adds rfl cl3 (by decide) (by decide) (Nat.zero_le _) (Nat.zero_le _) hO h (fun E q s hx => AtX.out0 rfl hx) (fun _ s1_4 hq => ?_)
  obtain ⟨rfl, h⟩ := hq
  refine At.stk (st' := []) rfl ?_
  exact g_vret rfl dX22_flows_55 h
theorem eX22_flows {G : GC} {Q : Option Value → PS → Prop} {X : String → Nat → PS → Prop} {b : Nat} {h0 : Nat} {p1 : Nat} {p2 : Nat} {p3 : Int64} {σ : PS} (h : At G mX22_flows 6 Q X b 0 [(1, .ref p1), (2, .ref p2), (3, .long p3)] [] σ) : Call G mX22_flows 6 b [.ref h0, .ref p1, .ref p2, .long p3] σ Q X :=
  Call.of (by decide +kernel) wsX22_flows rfl (Nat.le_of_ble_eq_true rfl) (At.sub (ls := [(0, .ref h0), (1, .ref p1), (2, .ref p2), (3, .long p3)]) [1, 2, 3] rfl h)
set_option maxHeartbeats 4000000 in
theorem bX22_init_0 {G : GC} {Q : Option Value → PS → Prop} {X : String → Nat → PS → Prop} {b : Nat} {h0 : Nat} {x1 : Int32} {u2 : Option Nat} {σ : PS} (h : Call G mX19_init 4 0 [.ref h0, .int x1, va_rf u2] (σ) (qV (fun s1 => Q none s1)) X) : At G mX22_init 5 Q X b 0 [(0, .ref h0), (1, .int x1), (2, va_rf u2)] [] (σ) := by
  refine g_aload_n dX22_init_0 rfl 0 rfl ?_
  refine g_iload_n dX22_init_1 rfl 1 rfl ?_
  refine g_aloadq_n dX22_init_2 rfl 2 rfl ?_
  refine g_callI (N := mX19_init) (st := []) (As := [.int x1, va_rf u2]) (a := h0) dX22_init_3 wsX19_init q1299 q137 q1322 q1298 rfl mokX19_init rfl (by decide) (by decide) (Nat.zero_le _) (Nat.zero_le _) h (fun E q s hx => AtX.out0 rfl hx) (fun _ s1 hq => ?_)
  obtain ⟨rfl, h⟩ := hq
  refine At.stk (st' := []) rfl ?_
  exact g_vret rfl dX22_init_6 h
theorem eX22_init {G : GC} {Q : Option Value → PS → Prop} {X : String → Nat → PS → Prop} {b : Nat} {h0 : Nat} {p1 : Int32} {p2 : Option Nat} {σ : PS} (h : At G mX22_init 5 Q X b 0 [(0, .ref h0), (1, .int p1), (2, va_rf p2)] [] σ) : Call G mX22_init 5 b [.ref h0, .int p1, va_rf p2] σ Q X :=
  by cases p2 <;> exact Call.of (by decide +kernel) wsX22_init rfl (Nat.le_of_ble_eq_true rfl) (At.sub [0, 1, 2] rfl h)
set_option maxHeartbeats 4000000 in
theorem bX22_on_0 {G : GC} {Q : Option Value → PS → Prop} {X : String → Nat → PS → Prop} {b : Nat} {a1 : Nat} {σ : PS} (h : ∃ x_looks : Int32, Fg (σ) 5 a1 6 (.int x_looks) ∧ (∃ fs : List Value, Ob (σ) 5 a1 fs ∧ 6 < fs.length ∧ (∀ s1 : PS, s1 = up (σ) 5 a1 (.inl (fs.set 6 (.int (x_looks + 1)))) → ∃ a_state : Nat, Fg s1 5 a1 0 (.ref a_state) ∧ (∃ x_dirty : Int32, Fg s1 4 a_state 2 (.int x_dirty) ∧ (((x_dirty ≤ 0) → Q none s1) ∧ ((¬ x_dirty ≤ 0) → (∃ fs_5 : List Value, Ob s1 5 a1 fs_5) ∧ Call G mX5_draw 3 0 [.ref a1, .int 16] s1 (qI (fun rx s1_1 => ∃ a_office : Nat, Fg s1_1 5 a1 1 (.ref a_office) ∧ (∃ x_see : Int32, Fg s1_1 7 a_office 7 (.int x_see) ∧ (((x_see ≤ rx) → Q none s1_1) ∧ ((¬ x_see ≤ rx) → ∃ a_state_2 : Nat, Fg s1_1 5 a1 0 (.ref a_state_2) ∧ (∃ fs_3 : List Value, Ob s1_1 4 a_state_2 fs_3 ∧ 4 < fs_3.length ∧ (∀ s1_4 : PS, s1_4 = up s1_1 4 a_state_2 (.inl (fs_3.set 4 (.int 1))) → Q none s1_4))))))) X)))))) : At G mX22_on 4 Q X b 0 [(1, .ref a1)] [] (σ) := by
  refine g_aload_n dX22_on_0 rfl 0 rfl ?_
  refine g_dup dX22_on_1 rfl ?_
  obtain ⟨x_looks, hf, h⟩ := h
  refine g_getN 6 dX22_on_2 in_X5 cl5 (by decide) q307 hf ?_
  refine g_iconst (v := 1) dX22_on_5 (by decide) ?_
  refine g_iadd dX22_on_6 ?_
  obtain ⟨fs, hO, hl, h⟩ := h
  refine g_putN 6 dX22_on_7 in_X5 tyX5 tyX5_ok nmX5 cl5 (by decide) q307 rfl rfl rfl hO hl ?_
  refine g_tops (fun s1 es1 => ?_)
  replace h := h s1 es1
  refine g_aload_n dX22_on_10 rfl 0 rfl ?_
  obtain ⟨a_state, hf, h⟩ := h
  refine g_getN 0 dX22_on_11 in_X5 cl5 (by decide) q290 hf ?_
  obtain ⟨x_dirty, hf, h⟩ := h
  refine g_getN 2 dX22_on_14 in_X4 cl4 (by decide) q205 hf ?_
  refine g_if_le (tgt := 44) dX22_on_17 (by decide) (fun c => ?_) (fun c => ?_)
  · replace h := h.1 c
    exact g_vret rfl dX22_on_44 h
  · replace h := h.2 c
    refine g_aload_n dX22_on_20 rfl 0 rfl ?_
    refine g_bipush (v := 16) dX22_on_21 (by decide) ?_
    obtain ⟨⟨_, hO⟩, h⟩ := h
    refine g_callV (N := mX5_draw) (st := []) (As := [.int 16]) (a := a1) dX22_on_23 wsX5_draw (lw_V q1679 q1651 q1652 q112 q1653) rfl mokX5_draw rfl cl5 (by decide) (by decide) (Nat.zero_le _) (Nat.zero_le _) hO h (fun E q s hx => AtX.out0 rfl hx) (fun _ s1_1 hq => ?_)
    obtain ⟨rx, rfl, h⟩ := hq
    refine At.stk (st' := [.int rx]) rfl ?_
    refine g_aload_n dX22_on_26 rfl 0 rfl ?_
    obtain ⟨a_office, hf, h⟩ := h
    refine g_getN 1 dX22_on_27 in_X5 cl5 (by decide) q296 hf ?_
    obtain ⟨x_see, hf, h⟩ := h
    refine g_getN 7 dX22_on_30 in_X7 cl7 (by decide) q406 hf ?_
    refine g_icmp_ge (tgt := 44) dX22_on_33 (by decide) (fun c => ?_) (fun c => ?_)
    · replace h := h.1 c
      exact g_vret rfl dX22_on_44 h
    · replace h := h.2 c
      refine g_aload_n dX22_on_36 rfl 0 rfl ?_
      obtain ⟨a_state_2, hf, h⟩ := h
      refine g_getN 0 dX22_on_37 in_X5 cl5 (by decide) q290 hf ?_
      refine g_iconst (v := 1) dX22_on_40 (by decide) ?_
      obtain ⟨fs_3, hO, hl, h⟩ := h
      refine g_putN 4 dX22_on_41 in_X4 tyX4 tyX4_ok nmX4 cl4 (by decide) q219 rfl rfl rfl hO hl ?_
      refine g_tops (fun s1_4 es1_4 => ?_)
      replace h := h s1_4 es1_4
      exact g_vret rfl dX22_on_44 h
theorem eX22_on {G : GC} {Q : Option Value → PS → Prop} {X : String → Nat → PS → Prop} {b : Nat} {h0 : Nat} {p1 : Nat} {σ : PS} (h : At G mX22_on 4 Q X b 0 [(1, .ref p1)] [] σ) : Call G mX22_on 4 b [.ref h0, .ref p1] σ Q X :=
  Call.of (by decide +kernel) wsX22_on rfl (Nat.le_of_ble_eq_true rfl) (At.sub (ls := [(0, .ref h0), (1, .ref p1)]) [1] rfl h)
set_option maxHeartbeats 4000000 in
theorem bX23_flows_0 {G : GC} {Q : Option Value → PS → Prop} {X : String → Nat → PS → Prop} {b : Nat} {a1 : Nat} {a2 : Nat} {y3 : Int64} {σ : PS} (h : ∃ y_washed : Int64, Fg (σ) 3 a1 6 (.long y_washed) ∧ (∃ x_visit : Int32, Fg (σ) 3 a1 8 (.int x_visit) ∧ ((∃ fs_4 : List Value, Ob (σ) 4 a2 fs_4) ∧ Call G mX4_starts 4 0 [.ref a2, .int x_visit] (σ) (qI (fun rx s1 => ∀ w : Int64, w = (y_washed + (y3 * rx.toInt64)) → ∃ fs : List Value, Ob s1 3 a1 fs ∧ 6 < fs.length ∧ (∀ s1_1 : PS, s1_1 = up s1 3 a1 (.inl (fs.set 6 (.long w))) → (∃ fs_3 : List Value, Ob s1_1 3 a1 fs_3) ∧ Call G mX3_adds 5 0 [.ref a1, .ref a2, .long y3] s1_1 (qV (fun s1_2 => Q none s1_2)) X))) X))) : At G mX23_flows 6 Q X b 0 [(1, .ref a1), (2, .ref a2), (3, .long y3)] [] (σ) := by
  refine g_aload_n dX23_flows_0 rfl 0 rfl ?_
  refine g_dup dX23_flows_1 rfl ?_
  obtain ⟨y_washed, hf, h⟩ := h
  refine g_getN 6 dX23_flows_2 in_X3 cl3 (by decide) q244 hf ?_
  refine g_lload_n dX23_flows_5 rfl 2 rfl ?_
  refine g_aload_n dX23_flows_6 rfl 1 rfl ?_
  refine g_aload_n dX23_flows_7 rfl 0 rfl ?_
  obtain ⟨x_visit, hf, h⟩ := h
  refine g_getN 8 dX23_flows_8 in_X3 cl3 (by decide) q250 hf ?_
  obtain ⟨⟨_, hO⟩, h⟩ := h
  refine g_callV (N := mX4_starts) (st := [.long y3, .long y_washed, .ref a1]) (As := [.int x_visit]) (a := a2) dX23_flows_11 wsX4_starts (lw_V q714 q715 q716 q111 q717) rfl mokX4_starts rfl cl4 (by decide) (by decide) (Nat.zero_le _) (by simp [Value.category]) hO h (fun E q s hx => AtX.out0 rfl hx) (fun _ s1 hq => ?_)
  obtain ⟨rx, rfl, h⟩ := hq
  refine At.stk (st' := [.int rx, .long y3, .long y_washed, .ref a1]) rfl ?_
  refine g_i2l dX23_flows_14 ?_
  refine g_lmul dX23_flows_15 ?_
  refine g_ladd dX23_flows_16 ?_
  refine g_topl (fun w ew => ?_)
  replace h := h w ew
  obtain ⟨fs, hO, hl, h⟩ := h
  refine g_putN 6 dX23_flows_17 in_X3 tyX3 tyX3_ok nmX3 cl3 (by decide) q244 rfl rfl rfl hO hl ?_
  refine g_tops (fun s1_1 es1_1 => ?_)
  replace h := h s1_1 es1_1
  refine g_aload_n dX23_flows_20 rfl 0 rfl ?_
  refine g_aload_n dX23_flows_21 rfl 1 rfl ?_
  refine g_lload_n dX23_flows_22 rfl 2 rfl ?_
  obtain ⟨⟨_, hO⟩, h⟩ := h
  refine g_callV (N := mX3_adds) (st := []) (As := [.ref a2, .long y3]) (a := a1) dX23_flows_23 wsX3_adds (lw_V q719 q690 q691 q110 q692) rfl mokX3_adds rfl cl3 (by decide) (by decide) (Nat.zero_le _) (Nat.zero_le _) hO h (fun E q s hx => AtX.out0 rfl hx) (fun _ s1_2 hq => ?_)
  obtain ⟨rfl, h⟩ := hq
  refine At.stk (st' := []) rfl ?_
  exact g_vret rfl dX23_flows_26 h
theorem eX23_flows {G : GC} {Q : Option Value → PS → Prop} {X : String → Nat → PS → Prop} {b : Nat} {h0 : Nat} {p1 : Nat} {p2 : Nat} {p3 : Int64} {σ : PS} (h : At G mX23_flows 6 Q X b 0 [(1, .ref p1), (2, .ref p2), (3, .long p3)] [] σ) : Call G mX23_flows 6 b [.ref h0, .ref p1, .ref p2, .long p3] σ Q X :=
  Call.of (by decide +kernel) wsX23_flows rfl (Nat.le_of_ble_eq_true rfl) (At.sub (ls := [(0, .ref h0), (1, .ref p1), (2, .ref p2), (3, .long p3)]) [1, 2, 3] rfl h)
set_option maxHeartbeats 4000000 in
theorem bX23_init_0 {G : GC} {Q : Option Value → PS → Prop} {X : String → Nat → PS → Prop} {b : Nat} {h0 : Nat} {x1 : Int32} {u2 : Option Nat} {σ : PS} (h : Call G mX19_init 4 0 [.ref h0, .int x1, va_rf u2] (σ) (qV (fun s1 => Q none s1)) X) : At G mX23_init 5 Q X b 0 [(0, .ref h0), (1, .int x1), (2, va_rf u2)] [] (σ) := by
  refine g_aload_n dX23_init_0 rfl 0 rfl ?_
  refine g_iload_n dX23_init_1 rfl 1 rfl ?_
  refine g_aloadq_n dX23_init_2 rfl 2 rfl ?_
  refine g_callI (N := mX19_init) (st := []) (As := [.int x1, va_rf u2]) (a := h0) dX23_init_3 wsX19_init q1299 q137 q1331 q1298 rfl mokX19_init rfl (by decide) (by decide) (Nat.zero_le _) (Nat.zero_le _) h (fun E q s hx => AtX.out0 rfl hx) (fun _ s1 hq => ?_)
  obtain ⟨rfl, h⟩ := hq
  refine At.stk (st' := []) rfl ?_
  exact g_vret rfl dX23_init_6 h
theorem eX23_init {G : GC} {Q : Option Value → PS → Prop} {X : String → Nat → PS → Prop} {b : Nat} {h0 : Nat} {p1 : Int32} {p2 : Option Nat} {σ : PS} (h : At G mX23_init 5 Q X b 0 [(0, .ref h0), (1, .int p1), (2, va_rf p2)] [] σ) : Call G mX23_init 5 b [.ref h0, .int p1, va_rf p2] σ Q X :=
  by cases p2 <;> exact Call.of (by decide +kernel) wsX23_init rfl (Nat.le_of_ble_eq_true rfl) (At.sub [0, 1, 2] rfl h)
set_option maxHeartbeats 4000000 in
theorem bX23_on_0 {G : GC} {Q : Option Value → PS → Prop} {X : String → Nat → PS → Prop} {b : Nat} {a1 : Nat} {σ : PS} (h : ∃ x_washed : Int32, Fg (σ) 5 a1 5 (.int x_washed) ∧ (∃ a_state : Nat, Fg (σ) 5 a1 0 (.ref a_state) ∧ (∃ x_visit : Int32, Fg (σ) 5 a1 3 (.int x_visit) ∧ ((∃ fs_2 : List Value, Ob (σ) 4 a_state fs_2) ∧ Call G mX4_starts 4 0 [.ref a_state, .int x_visit] (σ) (qI (fun rx s1 => ∃ fs : List Value, Ob s1 5 a1 fs ∧ 5 < fs.length ∧ (∀ s1_1 : PS, s1_1 = up s1 5 a1 (.inl (fs.set 5 (.int (x_washed + rx)))) → Q none s1_1))) X)))) : At G mX23_on 5 Q X b 0 [(1, .ref a1)] [] (σ) := by
  refine g_aload_n dX23_on_0 rfl 0 rfl ?_
  refine g_dup dX23_on_1 rfl ?_
  obtain ⟨x_washed, hf, h⟩ := h
  refine g_getN 5 dX23_on_2 in_X5 cl5 (by decide) q304 hf ?_
  refine g_aload_n dX23_on_5 rfl 0 rfl ?_
  obtain ⟨a_state, hf, h⟩ := h
  refine g_getN 0 dX23_on_6 in_X5 cl5 (by decide) q289 hf ?_
  refine g_aload_n dX23_on_9 rfl 0 rfl ?_
  obtain ⟨x_visit, hf, h⟩ := h
  refine g_getN 3 dX23_on_10 in_X5 cl5 (by decide) q299 hf ?_
  obtain ⟨⟨_, hO⟩, h⟩ := h
  refine g_callV (N := mX4_starts) (st := [.int x_washed, .ref a1]) (As := [.int x_visit]) (a := a_state) dX23_on_13 wsX4_starts (lw_V q714 q715 q716 q111 q717) rfl mokX4_starts rfl cl4 (by decide) (by decide) (Nat.zero_le _) (by simp [Value.category]) hO h (fun E q s hx => AtX.out0 rfl hx) (fun _ s1 hq => ?_)
  obtain ⟨rx, rfl, h⟩ := hq
  refine At.stk (st' := [.int rx, .int x_washed, .ref a1]) rfl ?_
  refine g_iadd dX23_on_16 ?_
  obtain ⟨fs, hO, hl, h⟩ := h
  refine g_putN 5 dX23_on_17 in_X5 tyX5 tyX5_ok nmX5 cl5 (by decide) q304 rfl rfl rfl hO hl ?_
  refine g_tops (fun s1_1 es1_1 => ?_)
  replace h := h s1_1 es1_1
  exact g_vret rfl dX23_on_20 h
theorem eX23_on {G : GC} {Q : Option Value → PS → Prop} {X : String → Nat → PS → Prop} {b : Nat} {h0 : Nat} {p1 : Nat} {σ : PS} (h : At G mX23_on 5 Q X b 0 [(1, .ref p1)] [] σ) : Call G mX23_on 5 b [.ref h0, .ref p1] σ Q X :=
  Call.of (by decide +kernel) wsX23_on rfl (Nat.le_of_ble_eq_true rfl) (At.sub (ls := [(0, .ref h0), (1, .ref p1)]) [1] rfl h)
set_option maxHeartbeats 4000000 in
theorem bX24_flows_0 {G : GC} {Q : Option Value → PS → Prop} {X : String → Nat → PS → Prop} {b : Nat} {a1 : Nat} {a2 : Nat} {y3 : Int64} {σ : PS} (h : Call G mX24_empties 3 0 [.ref a2] (σ) (qV (fun s1 => (∃ fs : List Value, Ob s1 3 a1 fs) ∧ Call G mX3_adds 5 0 [.ref a1, .ref a2, .long y3] s1 (qV (fun s1_1 => Q none s1_1)) X)) X) : At G mX24_flows 6 Q X b 0 [(1, .ref a1), (2, .ref a2), (3, .long y3)] [] (σ) := by
  refine g_aload_n dX24_flows_0 rfl 1 rfl ?_
  refine g_callS (N := mX24_empties) (st := []) (As := [.ref a2]) dX24_flows_1 wsX24_empties (lw_S q686 q687 q142 q688) mokX24_empties rfl (by decide) (by decide) (Nat.zero_le _) (Nat.zero_le _) h (fun E q s hx => AtX.out0 rfl hx) (fun _ s1 hq => ?_)
  obtain ⟨rfl, h⟩ := hq
  refine At.stk (st' := []) rfl ?_
  refine g_aload_n dX24_flows_4 rfl 0 rfl ?_
  refine g_aload_n dX24_flows_5 rfl 1 rfl ?_
  refine g_lload_n dX24_flows_6 rfl 2 rfl ?_
  obtain ⟨⟨_, hO⟩, h⟩ := h
  refine g_callV (N := mX3_adds) (st := []) (As := [.ref a2, .long y3]) (a := a1) dX24_flows_7 wsX3_adds (lw_V q689 q690 q691 q110 q692) rfl mokX3_adds rfl cl3 (by decide) (by decide) (Nat.zero_le _) (Nat.zero_le _) hO h (fun E q s hx => AtX.out0 rfl hx) (fun _ s1_1 hq => ?_)
  obtain ⟨rfl, h⟩ := hq
  refine At.stk (st' := []) rfl ?_
  exact g_vret rfl dX24_flows_10 h
theorem eX24_flows {G : GC} {Q : Option Value → PS → Prop} {X : String → Nat → PS → Prop} {b : Nat} {h0 : Nat} {p1 : Nat} {p2 : Nat} {p3 : Int64} {σ : PS} (h : At G mX24_flows 6 Q X b 0 [(1, .ref p1), (2, .ref p2), (3, .long p3)] [] σ) : Call G mX24_flows 6 b [.ref h0, .ref p1, .ref p2, .long p3] σ Q X :=
  Call.of (by decide +kernel) wsX24_flows rfl (Nat.le_of_ble_eq_true rfl) (At.sub (ls := [(0, .ref h0), (1, .ref p1), (2, .ref p2), (3, .long p3)]) [1, 2, 3] rfl h)
set_option maxHeartbeats 4000000 in
theorem bX24_empties_0 {G : GC} {Q : Option Value → PS → Prop} {X : String → Nat → PS → Prop} {b : Nat} {a0 : Nat} {σ : PS} (h : ∃ fs : List Value, Ob (σ) 4 a0 fs ∧ 1 < fs.length ∧ (∀ s1 : PS, s1 = up (σ) 4 a0 (.inl (fs.set 1 (.int 0))) → ∃ fs_1 : List Value, Ob s1 4 a0 fs_1 ∧ 2 < fs_1.length ∧ (∀ s1_2 : PS, s1_2 = up s1 4 a0 (.inl (fs_1.set 2 (.int 0))) → Q none s1_2))) : At G mX24_empties 3 Q X b 0 [(0, .ref a0)] [] (σ) := by
  refine g_aload_n dX24_empties_0 rfl 0 rfl ?_
  refine g_iconst (v := 0) dX24_empties_1 (by decide) ?_
  obtain ⟨fs, hO, hl, h⟩ := h
  refine g_putN 1 dX24_empties_2 in_X4 tyX4 tyX4_ok nmX4 cl4 (by decide) q200 rfl rfl rfl hO hl ?_
  refine g_tops (fun s1 es1 => ?_)
  replace h := h s1 es1
  refine g_aload_n dX24_empties_5 rfl 0 rfl ?_
  refine g_iconst (v := 0) dX24_empties_6 (by decide) ?_
  obtain ⟨fs_1, hO, hl, h⟩ := h
  refine g_putN 2 dX24_empties_7 in_X4 tyX4 tyX4_ok nmX4 cl4 (by decide) q206 rfl rfl rfl hO hl ?_
  refine g_tops (fun s1_2 es1_2 => ?_)
  replace h := h s1_2 es1_2
  exact g_vret rfl dX24_empties_10 h
theorem eX24_empties {G : GC} {Q : Option Value → PS → Prop} {X : String → Nat → PS → Prop} {b : Nat} {p0 : Nat} {σ : PS} (h : At G mX24_empties 3 Q X b 0 [(0, .ref p0)] [] σ) : Call G mX24_empties 3 b [.ref p0] σ Q X :=
  Call.of (by decide +kernel) wsX24_empties rfl (Nat.le_of_ble_eq_true rfl) (At.sub (ls := [(0, .ref p0)]) [0] rfl h)
set_option maxHeartbeats 4000000 in
theorem bX24_init_0 {G : GC} {Q : Option Value → PS → Prop} {X : String → Nat → PS → Prop} {b : Nat} {h0 : Nat} {x1 : Int32} {u2 : Option Nat} {σ : PS} (h : Call G mX19_init 4 0 [.ref h0, .int x1, va_rf u2] (σ) (qV (fun s1 => Q none s1)) X) : At G mX24_init 5 Q X b 0 [(0, .ref h0), (1, .int x1), (2, va_rf u2)] [] (σ) := by
  refine g_aload_n dX24_init_0 rfl 0 rfl ?_
  refine g_iload_n dX24_init_1 rfl 1 rfl ?_
  refine g_aloadq_n dX24_init_2 rfl 2 rfl ?_
  refine g_callI (N := mX19_init) (st := []) (As := [.int x1, va_rf u2]) (a := h0) dX24_init_3 wsX19_init q1299 q137 q1340 q1298 rfl mokX19_init rfl (by decide) (by decide) (Nat.zero_le _) (Nat.zero_le _) h (fun E q s hx => AtX.out0 rfl hx) (fun _ s1 hq => ?_)
  obtain ⟨rfl, h⟩ := hq
  refine At.stk (st' := []) rfl ?_
  exact g_vret rfl dX24_init_6 h
theorem eX24_init {G : GC} {Q : Option Value → PS → Prop} {X : String → Nat → PS → Prop} {b : Nat} {h0 : Nat} {p1 : Int32} {p2 : Option Nat} {σ : PS} (h : At G mX24_init 5 Q X b 0 [(0, .ref h0), (1, .int p1), (2, va_rf p2)] [] σ) : Call G mX24_init 5 b [.ref h0, .int p1, va_rf p2] σ Q X :=
  by cases p2 <;> exact Call.of (by decide +kernel) wsX24_init rfl (Nat.le_of_ble_eq_true rfl) (At.sub [0, 1, 2] rfl h)
set_option maxHeartbeats 4000000 in
theorem bX24_on_0 {G : GC} {Q : Option Value → PS → Prop} {X : String → Nat → PS → Prop} {b : Nat} {a1 : Nat} {σ : PS} (h : ∃ a_state : Nat, Fg (σ) 5 a1 0 (.ref a_state) ∧ (Call G mX24_empties 3 0 [.ref a_state] (σ) (qV (fun s1 => Q none s1)) X)) : At G mX24_on 4 Q X b 0 [(1, .ref a1)] [] (σ) := by
  refine g_aload_n dX24_on_0 rfl 0 rfl ?_
  obtain ⟨a_state, hf, h⟩ := h
  refine g_getN 0 dX24_on_1 in_X5 cl5 (by decide) q291 hf ?_
  refine g_callS (N := mX24_empties) (st := []) (As := [.ref a_state]) dX24_on_4 wsX24_empties (lw_S q686 q687 q142 q688) mokX24_empties rfl (by decide) (by decide) (Nat.zero_le _) (Nat.zero_le _) h (fun E q s hx => AtX.out0 rfl hx) (fun _ s1 hq => ?_)
  obtain ⟨rfl, h⟩ := hq
  refine At.stk (st' := []) rfl ?_
  exact g_vret rfl dX24_on_7 h
theorem eX24_on {G : GC} {Q : Option Value → PS → Prop} {X : String → Nat → PS → Prop} {b : Nat} {h0 : Nat} {p1 : Nat} {σ : PS} (h : At G mX24_on 4 Q X b 0 [(1, .ref p1)] [] σ) : Call G mX24_on 4 b [.ref h0, .ref p1] σ Q X :=
  Call.of (by decide +kernel) wsX24_on rfl (Nat.le_of_ble_eq_true rfl) (At.sub (ls := [(0, .ref h0), (1, .ref p1)]) [1] rfl h)
set_option maxHeartbeats 4000000 in
theorem bX25_flows_0 {G : GC} {Q : Option Value → PS → Prop} {X : String → Nat → PS → Prop} {b : Nat} {h0 : Nat} {a1 : Nat} {a2 : Nat} {y3 : Int64} {σ : PS} (h : (∃ fs_2 : List Value, Ob (σ) 25 h0 fs_2) ∧ Call G mX25_turns 3 0 [.ref h0, .ref a2] (σ) (qV (fun s1 => (∃ fs : List Value, Ob s1 3 a1 fs) ∧ Call G mX3_adds 5 0 [.ref a1, .ref a2, .long y3] s1 (qV (fun s1_1 => Q none s1_1)) X)) X) : At G mX25_flows 6 Q X b 0 [(0, .ref h0), (1, .ref a1), (2, .ref a2), (3, .long y3)] [] (σ) := by
  refine g_aload_n dX25_flows_0 rfl 0 rfl ?_
  refine g_aload_n dX25_flows_1 rfl 2 rfl ?_
  obtain ⟨⟨_, hO⟩, h⟩ := h
  refine g_callV (N := mX25_turns) (st := []) (As := [.ref a2]) (a := h0) dX25_flows_2 wsX25_turns (lw_V q737 q739 qs7 q143 q741) rfl mokX25_turns rfl cl25 (by decide) (by decide) (Nat.zero_le _) (Nat.zero_le _) hO h (fun E q s hx => AtX.out0 rfl hx) (fun _ s1 hq => ?_)
  obtain ⟨rfl, h⟩ := hq
  refine At.stk (st' := []) rfl ?_
  refine g_aload_n dX25_flows_5 rfl 1 rfl ?_
  refine g_aload_n dX25_flows_6 rfl 2 rfl ?_
  refine g_lload_n dX25_flows_7 rfl 3 rfl ?_
  obtain ⟨⟨_, hO⟩, h⟩ := h
  refine g_callV (N := mX3_adds) (st := []) (As := [.ref a2, .long y3]) (a := a1) dX25_flows_8 wsX3_adds (lw_V q742 q690 q691 q110 q692) rfl mokX3_adds rfl cl3 (by decide) (by decide) (Nat.zero_le _) (Nat.zero_le _) hO h (fun E q s hx => AtX.out0 rfl hx) (fun _ s1_1 hq => ?_)
  obtain ⟨rfl, h⟩ := hq
  refine At.stk (st' := []) rfl ?_
  exact g_vret rfl dX25_flows_11 h
theorem eX25_flows {G : GC} {Q : Option Value → PS → Prop} {X : String → Nat → PS → Prop} {b : Nat} {h0 : Nat} {p1 : Nat} {p2 : Nat} {p3 : Int64} {σ : PS} (h : At G mX25_flows 6 Q X b 0 [(0, .ref h0), (1, .ref p1), (2, .ref p2), (3, .long p3)] [] σ) : Call G mX25_flows 6 b [.ref h0, .ref p1, .ref p2, .long p3] σ Q X :=
  Call.of (by decide +kernel) wsX25_flows rfl (Nat.le_of_ble_eq_true rfl) (At.sub (ls := [(0, .ref h0), (1, .ref p1), (2, .ref p2), (3, .long p3)]) [0, 1, 2, 3] rfl h)
set_option maxHeartbeats 4000000 in
theorem bX25_turns_0 {G : GC} {Q : Option Value → PS → Prop} {X : String → Nat → PS → Prop} {b : Nat} {h0 : Nat} {a1 : Nat} {σ : PS} (h : ∃ x_says : Int32, Fg (σ) 25 h0 2 (.int x_says) ∧ (((¬ x_says = 2) → ∃ x_says_1 : Int32, Fg (σ) 25 h0 2 (.int x_says_1) ∧ (∃ fs : List Value, Ob (σ) 4 a1 fs ∧ 3 < fs.length ∧ (∀ s1 : PS, s1 = up (σ) 4 a1 (.inl (fs.set 3 (.int x_says_1))) → Q none s1))) ∧ ((x_says = 2) → ∃ x_card : Int32, Fg (σ) 4 a1 3 (.int x_card) ∧ (∃ fs : List Value, Ob (σ) 4 a1 fs ∧ 3 < fs.length ∧ (∀ s1 : PS, s1 = up (σ) 4 a1 (.inl (fs.set 3 (.int (1 - x_card)))) → Q none s1))))) : At G mX25_turns 3 Q X b 0 [(0, .ref h0), (1, .ref a1)] [] (σ) := by
  refine g_aload_n dX25_turns_0 rfl 1 rfl ?_
  refine g_aload_n dX25_turns_1 rfl 0 rfl ?_
  obtain ⟨x_says, hf, h⟩ := h
  refine g_get 2 dX25_turns_2 in_X25 cl25 (by decide) q1349 hf ?_
  refine g_iconst (v := 2) dX25_turns_5 (by decide) ?_
  refine g_icmp_ne (tgt := 18) dX25_turns_6 (by decide) (fun c => ?_) (fun c => ?_)
  · replace h := h.1 c
    refine g_aload_n dX25_turns_18 rfl 0 rfl ?_
    obtain ⟨x_says_1, hf, h⟩ := h
    refine g_get 2 dX25_turns_19 in_X25 cl25 (by decide) q1349 hf ?_
    obtain ⟨fs, hO, hl, h⟩ := h
    refine g_putN 3 dX25_turns_22 in_X4 tyX4 tyX4_ok nmX4 cl4 (by decide) q212 rfl rfl rfl hO hl ?_
    refine g_tops (fun s1 es1 => ?_)
    replace h := h s1 es1
    exact g_vret rfl dX25_turns_25 h
  · replace h := h.2 c
    refine g_iconst (v := 1) dX25_turns_9 (by decide) ?_
    refine g_aload_n dX25_turns_10 rfl 1 rfl ?_
    obtain ⟨x_card, hf, h⟩ := h
    refine g_getN 3 dX25_turns_11 in_X4 cl4 (by decide) q212 hf ?_
    refine g_isub dX25_turns_14 ?_
    refine g_goto (tgt := 22) dX25_turns_15 (by decide) ?_
    obtain ⟨fs, hO, hl, h⟩ := h
    refine g_putN 3 dX25_turns_22 in_X4 tyX4 tyX4_ok nmX4 cl4 (by decide) q212 rfl rfl rfl hO hl ?_
    refine g_tops (fun s1 es1 => ?_)
    replace h := h s1 es1
    exact g_vret rfl dX25_turns_25 h
theorem eX25_turns {G : GC} {Q : Option Value → PS → Prop} {X : String → Nat → PS → Prop} {b : Nat} {h0 : Nat} {p1 : Nat} {σ : PS} (h : At G mX25_turns 3 Q X b 0 [(0, .ref h0), (1, .ref p1)] [] σ) : Call G mX25_turns 3 b [.ref h0, .ref p1] σ Q X :=
  Call.of (by decide +kernel) wsX25_turns rfl (Nat.le_of_ble_eq_true rfl) (At.sub (ls := [(0, .ref h0), (1, .ref p1)]) [0, 1] rfl h)
set_option maxHeartbeats 4000000 in
theorem bX25_init_0 {G : GC} {Q : Option Value → PS → Prop} {X : String → Nat → PS → Prop} {b : Nat} {h0 : Nat} {x1 : Int32} {u2 : Option Nat} {x3 : Int32} {σ : PS} (h : Call G mX19_init 4 0 [.ref h0, .int x1, va_rf u2] (σ) (qV (fun s1 => ∃ fs : List Value, Ob s1 25 h0 fs ∧ 2 < fs.length ∧ (∀ s1_1 : PS, s1_1 = up s1 25 h0 (.inl (fs.set 2 (.int x3))) → Q none s1_1))) X) : At G mX25_init 5 Q X b 0 [(0, .ref h0), (1, .int x1), (2, va_rf u2), (3, .int x3)] [] (σ) := by
  refine g_aload_n dX25_init_0 rfl 0 rfl ?_
  refine g_iload_n dX25_init_1 rfl 1 rfl ?_
  refine g_aloadq_n dX25_init_2 rfl 2 rfl ?_
  refine g_callI (N := mX19_init) (st := []) (As := [.int x1, va_rf u2]) (a := h0) dX25_init_3 wsX19_init q1299 q137 q1348 q1298 rfl mokX19_init rfl (by decide) (by decide) (Nat.zero_le _) (Nat.zero_le _) h (fun E q s hx => AtX.out0 rfl hx) (fun _ s1 hq => ?_)
  obtain ⟨rfl, h⟩ := hq
  refine At.stk (st' := []) rfl ?_
  refine g_aload_n dX25_init_6 rfl 0 rfl ?_
  refine g_iload_n dX25_init_7 rfl 3 rfl ?_
  obtain ⟨fs, hO, hl, h⟩ := h
  refine g_putF 2 dX25_init_8 in_X25 tyX25 tyX25_ok nmX25 cl25 (by decide) q1349 rfl rfl rfl rfl rfl hO hl ?_
  refine g_tops (fun s1_1 es1_1 => ?_)
  replace h := h s1_1 es1_1
  exact g_vret rfl dX25_init_11 h
theorem eX25_init {G : GC} {Q : Option Value → PS → Prop} {X : String → Nat → PS → Prop} {b : Nat} {h0 : Nat} {p1 : Int32} {p2 : Option Nat} {p3 : Int32} {σ : PS} (h : At G mX25_init 5 Q X b 0 [(0, .ref h0), (1, .int p1), (2, va_rf p2), (3, .int p3)] [] σ) : Call G mX25_init 5 b [.ref h0, .int p1, va_rf p2, .int p3] σ Q X :=
  by cases p2 <;> exact Call.of (by decide +kernel) wsX25_init rfl (Nat.le_of_ble_eq_true rfl) (At.sub [0, 1, 2, 3] rfl h)
set_option maxHeartbeats 4000000 in
theorem bX25_on_0 {G : GC} {Q : Option Value → PS → Prop} {X : String → Nat → PS → Prop} {b : Nat} {h0 : Nat} {a1 : Nat} {σ : PS} (h : ∃ a_state : Nat, Fg (σ) 5 a1 0 (.ref a_state) ∧ ((∃ fs : List Value, Ob (σ) 25 h0 fs) ∧ Call G mX25_turns 3 0 [.ref h0, .ref a_state] (σ) (qV (fun s1 => Q none s1)) X)) : At G mX25_on 4 Q X b 0 [(0, .ref h0), (1, .ref a1)] [] (σ) := by
  refine g_aload_n dX25_on_0 rfl 0 rfl ?_
  refine g_aload_n dX25_on_1 rfl 1 rfl ?_
  obtain ⟨a_state, hf, h⟩ := h
  refine g_getN 0 dX25_on_2 in_X5 cl5 (by decide) q293 hf ?_
  obtain ⟨⟨_, hO⟩, h⟩ := h
  refine g_callV (N := mX25_turns) (st := []) (As := [.ref a_state]) (a := h0) dX25_on_5 wsX25_turns (lw_V q737 q739 qs7 q143 q741) rfl mokX25_turns rfl cl25 (by decide) (by decide) (Nat.zero_le _) (Nat.zero_le _) hO h (fun E q s hx => AtX.out0 rfl hx) (fun _ s1 hq => ?_)
  obtain ⟨rfl, h⟩ := hq
  refine At.stk (st' := []) rfl ?_
  exact g_vret rfl dX25_on_8 h
theorem eX25_on {G : GC} {Q : Option Value → PS → Prop} {X : String → Nat → PS → Prop} {b : Nat} {h0 : Nat} {p1 : Nat} {σ : PS} (h : At G mX25_on 4 Q X b 0 [(0, .ref h0), (1, .ref p1)] [] σ) : Call G mX25_on 4 b [.ref h0, .ref p1] σ Q X :=
  Call.of (by decide +kernel) wsX25_on rfl (Nat.le_of_ble_eq_true rfl) (At.sub (ls := [(0, .ref h0), (1, .ref p1)]) [0, 1] rfl h)
set_option maxHeartbeats 4000000 in
theorem bX3_init_0 {G : GC} {Q : Option Value → PS → Prop} {X : String → Nat → PS → Prop} {b : Nat} {h0 : Nat} {σ : PS} (h : 1 ≤ b ∧ (∀ q : Nat, (∀ κ, σ κ q = none) → (∀ s1 : PS, s1 = up (σ) 4 q (.inl [.int 0, .int 0, .int 0, .int 0, .int 0]) → CallO G mX4_init 4 [.ref q] s1 (pV (∃ fs : List Value, Ob s1 3 h0 fs ∧ 0 < fs.length ∧ (∀ s1_2 : PS, s1_2 = up s1 3 h0 (.inl (fs.set 0 (.ref q))) → 1 ≤ b - 1 ∧ (∀ q_3 : Nat, (∀ κ, s1_2 κ q_3 = none) → (∀ s1_4 : PS, s1_4 = up s1_2 101 q_3 (.inr (6, .inr (.inl (fun _ => 0)))) → ∃ fs_5 : List Value, Ob s1_4 3 h0 fs_5 ∧ 1 < fs_5.length ∧ (∀ s1_6 : PS, s1_6 = up s1_4 3 h0 (.inl (fs_5.set 1 (.ref q_3))) → 705 ≤ b - 1 - 1 ∧ (∀ q_7 : Nat, (∀ κ, s1_6 κ q_7 = none) → (∀ s1_8 : PS, s1_8 = up s1_6 101 q_7 (.inr (16900, .inr (.inl (fun _ => 0)))) → ∃ fs_9 : List Value, Ob s1_8 3 h0 fs_9 ∧ 2 < fs_9.length ∧ (∀ s1_10 : PS, s1_10 = up s1_8 3 h0 (.inl (fs_9.set 2 (.ref q_7))) → 705 ≤ b - 1 - 1 - 705 ∧ (∀ q_11 : Nat, (∀ κ, s1_10 κ q_11 = none) → (∀ s1_12 : PS, s1_12 = up s1_10 101 q_11 (.inr (16900, .inr (.inl (fun _ => 0)))) → ∃ fs_13 : List Value, Ob s1_12 3 h0 fs_13 ∧ 3 < fs_13.length ∧ (∀ s1_14 : PS, s1_14 = up s1_12 3 h0 (.inl (fs_13.set 3 (.ref q_11))) → Q none s1_14))))))))))))))) : At G mX3_init 5 Q X b 0 [(0, .ref h0)] [] (σ) := by
  refine g_aload_n dX3_init_0 rfl 0 rfl ?_
  refine g_objInit dX3_init_1 q189 q151 q152 (by decide) (Nat.zero_le _) ?_
  refine g_aload_n dX3_init_4 rfl 0 rfl ?_
  obtain ⟨hb, h⟩ := h
  refine g_new (ci := 4) (fs := [.int 0, .int 0, .int 0, .int 0, .int 0]) 1 dX3_init_5 in_X4 tyX4 tyX4_ok cl4 q190 q191 q111 new4 (by decide) (by decide) hb (fun q hq => ?_)
  replace h := h q hq
  refine g_tops (fun s1 es1 => ?_)
  replace h := h s1 es1
  refine g_dup dX3_init_8 rfl ?_
  refine g_callIN (N := mX4_init) (st := [.ref q, .ref h0]) (As := []) (a := q) dX3_init_9 wsX4_init q194 q111 q192 q193 rfl mokX4_init rfl (by decide) (by decide) (Nat.zero_le _) (by simp [Value.category]) h (fun E q s hx => AtX.never hx) (fun _ s1_1 hq => ?_)
  obtain ⟨es, hq⟩ := hq
  refine g_tops2 es ?_
  obtain ⟨rfl, h⟩ := hq
  refine At.stk (st' := [.ref q, .ref h0]) rfl ?_
  obtain ⟨fs, hO, hl, h⟩ := h
  refine g_putF 0 dX3_init_12 in_X3 tyX3 tyX3_ok nmX3 cl3 (by decide) q236 rfl rfl rfl rfl rfl hO hl ?_
  refine g_tops (fun s1_2 es1_2 => ?_)
  replace h := h s1_2 es1_2
  refine g_aload_n dX3_init_15 rfl 0 rfl ?_
  refine g_bipush (v := 6) dX3_init_16 (by decide) ?_
  obtain ⟨hb, h⟩ := h
  refine g_newa (κ := 101) (t0 := 1) (N := 6) (ty := .long) (atype := .long) (x := .inr (.inl (fun _ => 0))) 1 dX3_init_18 q278 rfl rfl (Or.inr (Or.inr ⟨rfl, rfl⟩)) (by decide) (by decide) (Nat.le_of_ble_eq_true rfl) (by decide) (by decide) hb (fun q_3 hq => ?_)
  replace h := h q_3 hq
  refine g_tops (fun s1_4 es1_4 => ?_)
  replace h := h s1_4 es1_4
  obtain ⟨fs_5, hO, hl, h⟩ := h
  refine g_putF 1 dX3_init_20 in_X3 tyX3 tyX3_ok nmX3 cl3 (by decide) q237 rfl rfl rfl rfl rfl hO hl ?_
  refine g_tops (fun s1_6 es1_6 => ?_)
  replace h := h s1_6 es1_6
  refine g_aload_n dX3_init_23 rfl 0 rfl ?_
  refine g_sipush (v := 16900) dX3_init_24 (by decide) ?_
  obtain ⟨hb, h⟩ := h
  refine g_newa (κ := 101) (t0 := 1) (N := 16900) (ty := .long) (atype := .long) (x := .inr (.inl (fun _ => 0))) 705 dX3_init_27 q278 rfl rfl (Or.inr (Or.inr ⟨rfl, rfl⟩)) (by decide) (by decide) (Nat.le_of_ble_eq_true rfl) (by decide) (by decide) hb (fun q_7 hq => ?_)
  replace h := h q_7 hq
  refine g_tops (fun s1_8 es1_8 => ?_)
  replace h := h s1_8 es1_8
  obtain ⟨fs_9, hO, hl, h⟩ := h
  refine g_put 2 dX3_init_29 in_X3 tyX3 tyX3_ok nmX3 cl3 (by decide) q239 rfl rfl rfl hO hl ?_
  refine g_tops (fun s1_10 es1_10 => ?_)
  replace h := h s1_10 es1_10
  refine g_aload_n dX3_init_32 rfl 0 rfl ?_
  refine g_sipush (v := 16900) dX3_init_33 (by decide) ?_
  obtain ⟨hb, h⟩ := h
  refine g_newa (κ := 101) (t0 := 1) (N := 16900) (ty := .long) (atype := .long) (x := .inr (.inl (fun _ => 0))) 705 dX3_init_36 q278 rfl rfl (Or.inr (Or.inr ⟨rfl, rfl⟩)) (by decide) (by decide) (Nat.le_of_ble_eq_true rfl) (by decide) (by decide) hb (fun q_11 hq => ?_)
  replace h := h q_11 hq
  refine g_tops (fun s1_12 es1_12 => ?_)
  replace h := h s1_12 es1_12
  obtain ⟨fs_13, hO, hl, h⟩ := h
  refine g_put 3 dX3_init_38 in_X3 tyX3 tyX3_ok nmX3 cl3 (by decide) q240 rfl rfl rfl hO hl ?_
  refine g_tops (fun s1_14 es1_14 => ?_)
  replace h := h s1_14 es1_14
  exact g_vret rfl dX3_init_41 h
theorem eX3_init {G : GC} {Q : Option Value → PS → Prop} {X : String → Nat → PS → Prop} {b : Nat} {h0 : Nat} {σ : PS} (h : At G mX3_init 5 Q X b 0 [(0, .ref h0)] [] σ) : Call G mX3_init 5 b [.ref h0] σ Q X :=
  Call.of (by decide +kernel) wsX3_init rfl (Nat.le_of_ble_eq_true rfl) (At.sub (ls := [(0, .ref h0)]) [0] rfl h)
set_option maxHeartbeats 4000000 in
theorem bX3_runs_0 {G : GC} {Q : Option Value → PS → Prop} {X : String → Nat → PS → Prop} {b : Nat} {h0 : Nat} {a1 : Nat} {a2 : Nat} {a3 : Nat} {σ : PS} (h : ∃ fs : List Value, Ob (σ) 3 h0 fs ∧ 4 < fs.length ∧ (∀ s1 : PS, s1 = up (σ) 3 h0 (.inl (fs.set 4 (.ref a1))) → ∃ fs_1 : List Value, Ob s1 3 h0 fs_1 ∧ 5 < fs_1.length ∧ (∀ s1_2 : PS, s1_2 = up s1 3 h0 (.inl (fs_1.set 5 (.ref a2))) → ∃ x_see : Int32, Fg s1_2 6 a3 5 (.int x_see) ∧ (∃ fs_3 : List Value, Ob s1_2 3 h0 fs_3 ∧ 9 < fs_3.length ∧ (∀ s1_4 : PS, s1_4 = up s1_2 3 h0 (.inl (fs_3.set 9 (.int x_see))) → ∃ fs_5 : List Value, Ob s1_4 3 h0 fs_5 ∧ 6 < fs_5.length ∧ (∀ s1_6 : PS, s1_6 = up s1_4 3 h0 (.inl (fs_5.set 6 (.long 0))) → ∃ fs_7 : List Value, Ob s1_6 3 h0 fs_7 ∧ 7 < fs_7.length ∧ (∀ s1_8 : PS, s1_8 = up s1_6 3 h0 (.inl (fs_7.set 7 (.long 0))) → At G mX3_runs 203 Q X b 31 [(0, .ref h0), (1, .ref a1), (2, .ref a2), (3, .ref a3), (4, .int 0)] [] s1_8))))))) : At G mX3_runs 203 Q X b 0 [(0, .ref h0), (1, .ref a1), (2, .ref a2), (3, .ref a3)] [] (σ) := by
  refine g_aload_n dX3_runs_0 rfl 0 rfl ?_
  refine g_aload_n dX3_runs_1 rfl 1 rfl ?_
  obtain ⟨fs, hO, hl, h⟩ := h
  refine g_put 4 dX3_runs_2 in_X3 tyX3 tyX3_ok nmX3 cl3 (by decide) q241 rfl rfl rfl hO hl ?_
  refine g_tops (fun s1 es1 => ?_)
  replace h := h s1 es1
  refine g_aload_n dX3_runs_5 rfl 0 rfl ?_
  refine g_aload_n dX3_runs_6 rfl 2 rfl ?_
  obtain ⟨fs_1, hO, hl, h⟩ := h
  refine g_put 5 dX3_runs_7 in_X3 tyX3 tyX3_ok nmX3 cl3 (by decide) q243 rfl rfl rfl hO hl ?_
  refine g_tops (fun s1_2 es1_2 => ?_)
  replace h := h s1_2 es1_2
  refine g_aload_n dX3_runs_10 rfl 0 rfl ?_
  refine g_aload_n dX3_runs_11 rfl 3 rfl ?_
  obtain ⟨x_see, hf, h⟩ := h
  refine g_getN 5 dX3_runs_12 in_X6 cl6 (by decide) q343 hf ?_
  obtain ⟨fs_3, hO, hl, h⟩ := h
  refine g_put 9 dX3_runs_15 in_X3 tyX3 tyX3_ok nmX3 cl3 (by decide) q253 rfl rfl rfl hO hl ?_
  refine g_tops (fun s1_4 es1_4 => ?_)
  replace h := h s1_4 es1_4
  refine g_aload_n dX3_runs_18 rfl 0 rfl ?_
  refine g_lconst (v := 0) dX3_runs_19 (by decide) ?_
  obtain ⟨fs_5, hO, hl, h⟩ := h
  refine g_put 6 dX3_runs_20 in_X3 tyX3 tyX3_ok nmX3 cl3 (by decide) q245 rfl rfl rfl hO hl ?_
  refine g_tops (fun s1_6 es1_6 => ?_)
  replace h := h s1_6 es1_6
  refine g_aload_n dX3_runs_23 rfl 0 rfl ?_
  refine g_lconst (v := 0) dX3_runs_24 (by decide) ?_
  obtain ⟨fs_7, hO, hl, h⟩ := h
  refine g_put 7 dX3_runs_25 in_X3 tyX3 tyX3_ok nmX3 cl3 (by decide) q247 rfl rfl rfl hO hl ?_
  refine g_tops (fun s1_8 es1_8 => ?_)
  replace h := h s1_8 es1_8
  refine g_iconst (v := 0) dX3_runs_28 (by decide) ?_
  refine g_istore (ls1 := [(4, .int 0), (0, .ref h0), (1, .ref a1), (2, .ref a2), (3, .ref a3)]) dX3_runs_29 (by decide) rfl ?_
  exact At.sub (ls := [(4, .int 0), (0, .ref h0), (1, .ref a1), (2, .ref a2), (3, .ref a3)]) [1, 2, 3, 4, 0] rfl h
set_option maxHeartbeats 4000000 in
theorem bX3_runs_31 {G : GC} {Q : Option Value → PS → Prop} {X : String → Nat → PS → Prop} {b : Nat} {h0 : Nat} {a1 : Nat} {a2 : Nat} {a3 : Nat} {x4 : Int32} {σ : PS} (h : ((6 ≤ x4) → At G mX3_runs 203 Q X b 55 [(0, .ref h0), (1, .ref a1), (2, .ref a2), (3, .ref a3), (4, .int 0)] [] (σ)) ∧ ((¬ 6 ≤ x4) → ∃ a_drunk : Nat, Fg (σ) 3 h0 1 (.ref a_drunk) ∧ (∃ (n : Nat) (f : Nat → Int64), La (σ) 101 a_drunk n f ∧ vp_in x4 n ∧ (∀ s1 : PS, s1 = up (σ) 101 a_drunk (.inr (n, .inr (.inl (vp_updL f x4.toNatClampNeg 0)))) → ∀ v4 : Int32, v4 = x4 + 1 → At G mX3_runs 203 Q X b 31 [(0, .ref h0), (1, .ref a1), (2, .ref a2), (3, .ref a3), (4, .int v4)] [] s1)))) : At G mX3_runs 203 Q X b 31 [(0, .ref h0), (1, .ref a1), (2, .ref a2), (3, .ref a3), (4, .int x4)] [] (σ) := by
  refine g_iload dX3_runs_31 4 rfl ?_
  refine g_bipush (v := 6) dX3_runs_33 (by decide) ?_
  refine g_icmp_ge (tgt := 52) dX3_runs_35 (by decide) (fun c => ?_) (fun c => ?_)
  · replace h := h.1 c
    refine g_iconst (v := 0) dX3_runs_52 (by decide) ?_
    refine g_istore (ls1 := [(4, .int 0), (0, .ref h0), (1, .ref a1), (2, .ref a2), (3, .ref a3)]) dX3_runs_53 (by decide) rfl ?_
    exact At.sub (ls := [(4, .int 0), (0, .ref h0), (1, .ref a1), (2, .ref a2), (3, .ref a3)]) [1, 2, 3, 4, 0] rfl h
  · replace h := h.2 c
    refine g_aload_n dX3_runs_38 rfl 0 rfl ?_
    obtain ⟨a_drunk, hf, h⟩ := h
    refine g_get 1 dX3_runs_39 in_X3 cl3 (by decide) q237 hf ?_
    refine g_iload dX3_runs_42 4 rfl ?_
    refine g_lconst (v := 0) dX3_runs_44 (by decide) ?_
    obtain ⟨n, f, h1, h2, h⟩ := h
    refine g_last dX3_runs_45 h1 h2 ?_
    refine g_tops (fun s1 es1 => ?_)
    replace h := h s1 es1
    obtain ⟨v4, ev4⟩ : ∃ z : Int32, z = x4 + 1 := ⟨_, rfl⟩
    refine g_iinc (v := v4) (ls1 := [(4, .int v4), (0, .ref h0), (1, .ref a1), (2, .ref a2), (3, .ref a3)]) dX3_runs_46 4 rfl (by rw [ev4]; rfl) (by decide) rfl ?_
    replace h := h v4 ev4
    refine g_goto (tgt := 31) dX3_runs_49 (by decide) ?_
    exact At.sub (ls := [(4, .int v4), (0, .ref h0), (1, .ref a1), (2, .ref a2), (3, .ref a3)]) [1, 2, 3, 4, 0] rfl h
set_option maxHeartbeats 4000000 in
theorem bX3_runs_55 {G : GC} {Q : Option Value → PS → Prop} {X : String → Nat → PS → Prop} {b : Nat} {h0 : Nat} {a1 : Nat} {a2 : Nat} {a3 : Nat} {x4 : Int32} {σ : PS} (h : ((16900 ≤ x4) → ∃ a_now : Nat, Fg (σ) 3 h0 2 (.ref a_now) ∧ (∃ x_clean : Int32, Fg (σ) 7 a1 2 (.int x_clean) ∧ (∃ x_dirty : Int32, Fg (σ) 7 a1 3 (.int x_dirty) ∧ (∃ x_card : Int32, Fg (σ) 7 a1 4 (.int x_card) ∧ (CallO G mX4_codeOf 3 [.int 0, .int x_clean, .int x_dirty, .int x_card, .int 0] (σ) (pI (fun rx => ∃ (n : Nat) (f : Nat → Int64), La (σ) 101 a_now n f ∧ vp_in rx n ∧ (∀ s1_1 : PS, s1_1 = up (σ) 101 a_now (.inr (n, .inr (.inl (vp_updL f rx.toNatClampNeg 1099511627776)))) → ∃ fs : List Value, Ob s1_1 3 h0 fs ∧ 8 < fs.length ∧ (∀ s1_2 : PS, s1_2 = up s1_1 3 h0 (.inl (fs.set 8 (.int 0))) → At G mX3_runs 203 Q X b 115 [(0, .ref h0), (1, .ref a1), (2, .ref a2), (3, .ref a3)] [] s1_2))))))))) ∧ ((¬ 16900 ≤ x4) → ∃ a_now : Nat, Fg (σ) 3 h0 2 (.ref a_now) ∧ (∃ (n : Nat) (f : Nat → Int64), La (σ) 101 a_now n f ∧ vp_in x4 n ∧ (∀ s1 : PS, s1 = up (σ) 101 a_now (.inr (n, .inr (.inl (vp_updL f x4.toNatClampNeg 0)))) → ∃ a_next : Nat, Fg s1 3 h0 3 (.ref a_next) ∧ (∃ (n_3 : Nat) (f_4 : Nat → Int64), La s1 101 a_next n_3 f_4 ∧ vp_in x4 n_3 ∧ (∀ s1_5 : PS, s1_5 = up s1 101 a_next (.inr (n_3, .inr (.inl (vp_updL f_4 x4.toNatClampNeg 0)))) → ∀ v4 : Int32, v4 = x4 + 1 → At G mX3_runs 203 Q X b 55 [(0, .ref h0), (1, .ref a1), (2, .ref a2), (3, .ref a3), (4, .int v4)] [] s1_5)))))) : At G mX3_runs 203 Q X b 55 [(0, .ref h0), (1, .ref a1), (2, .ref a2), (3, .ref a3), (4, .int x4)] [] (σ) := by
  refine g_iload dX3_runs_55 4 rfl ?_
  refine g_sipush (v := 16900) dX3_runs_57 (by decide) ?_
  refine g_icmp_ge (tgt := 85) dX3_runs_60 (by decide) (fun c => ?_) (fun c => ?_)
  · replace h := h.1 c
    refine g_aload_n dX3_runs_85 rfl 0 rfl ?_
    obtain ⟨a_now, hf, h⟩ := h
    refine g_get 2 dX3_runs_86 in_X3 cl3 (by decide) q239 hf ?_
    refine g_iconst (v := 0) dX3_runs_89 (by decide) ?_
    refine g_aload_n dX3_runs_90 rfl 1 rfl ?_
    obtain ⟨x_clean, hf, h⟩ := h
    refine g_getN 2 dX3_runs_91 in_X7 cl7 (by decide) q384 hf ?_
    refine g_aload_n dX3_runs_94 rfl 1 rfl ?_
    obtain ⟨x_dirty, hf, h⟩ := h
    refine g_getN 3 dX3_runs_95 in_X7 cl7 (by decide) q388 hf ?_
    refine g_aload_n dX3_runs_98 rfl 1 rfl ?_
    obtain ⟨x_card, hf, h⟩ := h
    refine g_getN 4 dX3_runs_99 in_X7 cl7 (by decide) q392 hf ?_
    refine g_iconst (v := 0) dX3_runs_102 (by decide) ?_
    refine g_callS (N := mX4_codeOf) (st := [.ref a_now]) (As := [.int 0, .int x_clean, .int x_dirty, .int x_card, .int 0]) dX3_runs_103 wsX4_codeOf (lw_S q540 q541 q111 q542) mokX4_codeOf rfl (by decide) (by decide) (Nat.zero_le _) (by simp [Value.category]) h (fun E q s hx => AtX.never hx) (fun _ s1 hq => ?_)
    obtain ⟨es, hq⟩ := hq
    refine g_tops2 es ?_
    obtain ⟨rx, rfl, h⟩ := hq
    refine At.stk (st' := [.int rx, .ref a_now]) rfl ?_
    refine g_ldc2 dX3_runs_106 q543 ?_
    obtain ⟨n, f, h1, h2, h⟩ := h
    refine g_last dX3_runs_109 h1 h2 ?_
    refine g_tops (fun s1_1 es1_1 => ?_)
    replace h := h s1_1 es1_1
    refine g_aload_n dX3_runs_110 rfl 0 rfl ?_
    refine g_iconst (v := 0) dX3_runs_111 (by decide) ?_
    obtain ⟨fs, hO, hl, h⟩ := h
    refine g_put 8 dX3_runs_112 in_X3 tyX3 tyX3_ok nmX3 cl3 (by decide) q251 rfl rfl rfl hO hl ?_
    refine g_tops (fun s1_2 es1_2 => ?_)
    replace h := h s1_2 es1_2
    exact At.sub (ls := [(0, .ref h0), (1, .ref a1), (2, .ref a2), (3, .ref a3), (4, .int x4)]) [0, 1, 2, 3] rfl h
  · replace h := h.2 c
    refine g_aload_n dX3_runs_63 rfl 0 rfl ?_
    obtain ⟨a_now, hf, h⟩ := h
    refine g_get 2 dX3_runs_64 in_X3 cl3 (by decide) q239 hf ?_
    refine g_iload dX3_runs_67 4 rfl ?_
    refine g_lconst (v := 0) dX3_runs_69 (by decide) ?_
    obtain ⟨n, f, h1, h2, h⟩ := h
    refine g_last dX3_runs_70 h1 h2 ?_
    refine g_tops (fun s1 es1 => ?_)
    replace h := h s1 es1
    refine g_aload_n dX3_runs_71 rfl 0 rfl ?_
    obtain ⟨a_next, hf, h⟩ := h
    refine g_get 3 dX3_runs_72 in_X3 cl3 (by decide) q240 hf ?_
    refine g_iload dX3_runs_75 4 rfl ?_
    refine g_lconst (v := 0) dX3_runs_77 (by decide) ?_
    obtain ⟨n_3, f_4, h1, h2, h⟩ := h
    refine g_last dX3_runs_78 h1 h2 ?_
    refine g_tops (fun s1_5 es1_5 => ?_)
    replace h := h s1_5 es1_5
    obtain ⟨v4, ev4⟩ : ∃ z : Int32, z = x4 + 1 := ⟨_, rfl⟩
    refine g_iinc (v := v4) (ls1 := [(4, .int v4), (0, .ref h0), (1, .ref a1), (2, .ref a2), (3, .ref a3)]) dX3_runs_79 4 rfl (by rw [ev4]; rfl) (by decide) rfl ?_
    replace h := h v4 ev4
    refine g_goto (tgt := 55) dX3_runs_82 (by decide) ?_
    exact At.sub (ls := [(4, .int v4), (0, .ref h0), (1, .ref a1), (2, .ref a2), (3, .ref a3)]) [1, 2, 3, 4, 0] rfl h
set_option maxHeartbeats 4000000 in
theorem bX3_runs_115 {G : GC} {Q : Option Value → PS → Prop} {X : String → Nat → PS → Prop} {b : Nat} {h0 : Nat} {a1 : Nat} {a2 : Nat} {a3 : Nat} {σ : PS} (h : ∃ x_visit : Int32, Fg (σ) 3 h0 8 (.int x_visit) ∧ (∃ x_to : Int32, Fg (σ) 6 a3 2 (.int x_to) ∧ (((x_to < x_visit) → Q none (σ)) ∧ ((¬ x_to < x_visit) → ∃ a_who : Nat, Fg (σ) 2 a2 0 (.ref a_who) ∧ (∃ x_visit_1 : Int32, Fg (σ) 3 h0 8 (.int x_visit_1) ∧ (∃ (n : Nat) (f : Nat → Int32), Ia (σ) 100 a_who n f ∧ vp_in x_visit_1 n ∧ (∃ fs : List Value, Ob (σ) 3 h0 fs ∧ 10 < fs.length ∧ (∀ s1 : PS, s1 = up (σ) 3 h0 (.inl (fs.set 10 (.int (f x_visit_1.toNatClampNeg)))) → ∃ x_who : Int32, Fg s1 3 h0 10 (.int x_who) ∧ (∃ x_without : Int32, Fg s1 6 a3 3 (.int x_without) ∧ (((¬ x_who = x_without) → 1 ≤ b ∧ (∀ q : Nat, (∀ κ, s1 κ q = none) → (∀ s1_2 : PS, s1_2 = up s1 26 q (.inl [.null, .null, .int 0, .int 0, .int 0, .null]) → ∃ x_visit_3 : Int32, Fg s1_2 3 h0 8 (.int x_visit_3) ∧ (Call G mX26_init 4 0 [.ref q, .ref a1, .ref a2, .int x_visit_3] s1_2 (qV (fun s1_4 => ∃ x_fall : Int32, Fg s1_4 6 a3 4 (.int x_fall) ∧ ((∃ fs_9 : List Value, Ob s1_4 3 h0 fs_9) ∧ Call G mX3_falls 6 0 [.ref h0, .int x_fall] s1_4 (qV (fun s1_5 => ∃ u_book : Option Nat, Fg s1_5 6 a3 1 (va_rf u_book) ∧ ((u_book = none → At G mX3_runs 203 Q X (b - 1) 193 [(0, .ref h0), (1, .ref a1), (2, .ref a2), (3, .ref a3), (4, .ref q)] [] s1_5) ∧ (∀ z : Nat, u_book = some z → ∃ u_book_6 : Option Nat, Fg s1_5 6 a3 1 (va_rf u_book_6) ∧ ((∃ fs_8 : List Value, Ob s1_5 3 h0 fs_8) ∧ Call G mX3_only 6 0 [.ref h0, va_rf u_book_6, .ref q] s1_5 (qV (fun s1_7 => At G mX3_runs 203 Q X (b - 1) 193 [(0, .ref h0), (1, .ref a1), (2, .ref a2), (3, .ref a3), (4, .ref q)] [] s1_7)) X))))) X))) X)))) ∧ ((x_who = x_without) → ∃ x_visit_10 : Int32, Fg s1 3 h0 8 (.int x_visit_10) ∧ (∃ fs_11 : List Value, Ob s1 3 h0 fs_11 ∧ 8 < fs_11.length ∧ (∀ s1_12 : PS, s1_12 = up s1 3 h0 (.inl (fs_11.set 8 (.int (x_visit_10 + 1)))) → At G mX3_runs 203 Q X b 115 [(0, .ref h0), (1, .ref a1), (2, .ref a2), (3, .ref a3)] [] s1_12))))))))))))) : At G mX3_runs 203 Q X b 115 [(0, .ref h0), (1, .ref a1), (2, .ref a2), (3, .ref a3)] [] (σ) := by
  refine g_aload_n dX3_runs_115 rfl 0 rfl ?_
  obtain ⟨x_visit, hf, h⟩ := h
  refine g_get 8 dX3_runs_116 in_X3 cl3 (by decide) q251 hf ?_
  refine g_aload_n dX3_runs_119 rfl 3 rfl ?_
  obtain ⟨x_to, hf, h⟩ := h
  refine g_getN 2 dX3_runs_120 in_X6 cl6 (by decide) q337 hf ?_
  refine g_icmp_gt (tgt := 282) dX3_runs_123 (by decide) (fun c => ?_) (fun c => ?_)
  · replace h := h.1 c
    exact g_vret rfl dX3_runs_282 h
  · replace h := h.2 c
    refine g_aload_n dX3_runs_126 rfl 0 rfl ?_
    refine g_aload_n dX3_runs_127 rfl 2 rfl ?_
    obtain ⟨a_who, hf, h⟩ := h
    refine g_getN 0 dX3_runs_128 in_X2 cl2 (by decide) q160 hf ?_
    refine g_aload_n dX3_runs_131 rfl 0 rfl ?_
    obtain ⟨x_visit_1, hf, h⟩ := h
    refine g_get 8 dX3_runs_132 in_X3 cl3 (by decide) q251 hf ?_
    obtain ⟨n, f, h1, h2, h⟩ := h
    refine g_iald dX3_runs_135 h1 h2 ?_
    obtain ⟨fs, hO, hl, h⟩ := h
    refine g_put 10 dX3_runs_136 in_X3 tyX3 tyX3_ok nmX3 cl3 (by decide) q254 rfl rfl rfl hO hl ?_
    refine g_tops (fun s1 es1 => ?_)
    replace h := h s1 es1
    refine g_aload_n dX3_runs_139 rfl 0 rfl ?_
    obtain ⟨x_who, hf, h⟩ := h
    refine g_get 10 dX3_runs_140 in_X3 cl3 (by decide) q254 hf ?_
    refine g_aload_n dX3_runs_143 rfl 3 rfl ?_
    obtain ⟨x_without, hf, h⟩ := h
    refine g_getN 3 dX3_runs_144 in_X6 cl6 (by decide) q339 hf ?_
    refine g_icmp_ne (tgt := 153) dX3_runs_147 (by decide) (fun c => ?_) (fun c => ?_)
    · replace h := h.1 c
      obtain ⟨hb, h⟩ := h
      refine g_new (ci := 26) (fs := [.null, .null, .int 0, .int 0, .int 0, .null]) 1 dX3_runs_153 in_X26 tyX26 tyX26_ok cl26 q544 q545 q144 new26 (by decide) (by decide) hb (fun q hq => ?_)
      replace h := h q hq
      refine g_tops (fun s1_2 es1_2 => ?_)
      replace h := h s1_2 es1_2
      refine g_dup dX3_runs_156 rfl ?_
      refine g_aload_n dX3_runs_157 rfl 1 rfl ?_
      refine g_aload_n dX3_runs_158 rfl 2 rfl ?_
      refine g_aload_n dX3_runs_159 rfl 0 rfl ?_
      obtain ⟨x_visit_3, hf, h⟩ := h
      refine g_get 8 dX3_runs_160 in_X3 cl3 (by decide) q251 hf ?_
      refine g_callI (N := mX26_init) (st := [.ref q]) (As := [.ref a1, .ref a2, .int x_visit_3]) (a := q) dX3_runs_163 wsX26_init q548 q144 q546 q547 rfl mokX26_init rfl (by decide) (by decide) (Nat.zero_le _) (by simp [Value.category]) h (fun E q s hx => AtX.out0 rfl hx) (fun _ s1_4 hq => ?_)
      obtain ⟨rfl, h⟩ := hq
      refine At.stk (st' := [.ref q]) rfl ?_
      refine g_astore (ls1 := [(4, .ref q), (0, .ref h0), (1, .ref a1), (2, .ref a2), (3, .ref a3)]) dX3_runs_166 (by decide) rfl ?_
      refine g_aload_n dX3_runs_168 rfl 1 rfl ?_
      refine g_aload_n dX3_runs_169 rfl 4 rfl ?_
      obtain ⟨x_fall, hf, h⟩ := h
      refine g_getN 4 dX3_runs_170 in_X6 cl6 (by decide) q341 hf ?_
      obtain ⟨⟨_, hO⟩, h⟩ := h
      refine g_callV (N := mX3_falls) (st := []) (As := [.int x_fall]) (a := h0) dX3_runs_173 wsX3_falls (lw_V q578 q580 qs2 q110 q581) rfl mokX3_falls rfl cl3 (by decide) (by decide) (Nat.zero_le _) (Nat.zero_le _) hO h (fun E q s hx => AtX.out0 rfl hx) (fun _ s1_5 hq => ?_)
      obtain ⟨rfl, h⟩ := hq
      refine At.stk (st' := []) rfl ?_
      refine g_aload_n dX3_runs_176 rfl 4 rfl ?_
      obtain ⟨u_book, hf, h⟩ := h
      refine g_getN 1 dX3_runs_177 in_X6 cl6 (by decide) q335 hf ?_
      refine g_ifnull (tgt := 193) dX3_runs_180 (by decide) (fun hn => ?_) (fun z hs => ?_)
      · replace h := h.1 hn
        subst hn
        exact At.sub (ls := [(4, .ref q), (0, .ref h0), (1, .ref a1), (2, .ref a2), (3, .ref a3)]) [1, 2, 3, 4, 0] rfl h
      · replace h := h.2 z hs
        subst hs
        refine g_aload_n dX3_runs_183 rfl 1 rfl ?_
        refine g_aload_n dX3_runs_184 rfl 4 rfl ?_
        obtain ⟨u_book_6, hf, h⟩ := h
        refine g_getN 1 dX3_runs_185 in_X6 cl6 (by decide) q335 hf ?_
        refine g_aload dX3_runs_188 0 rfl ?_
        obtain ⟨⟨_, hO⟩, h⟩ := h
        refine g_callV (N := mX3_only) (st := []) (As := [va_rf u_book_6, .ref q]) (a := h0) dX3_runs_190 wsX3_only (lw_V q594 q596 qs5 q110 q597) rfl mokX3_only rfl cl3 (by decide) (by decide) (Nat.zero_le _) (Nat.zero_le _) hO h (fun E q s hx => AtX.out0 rfl hx) (fun _ s1_7 hq => ?_)
        obtain ⟨rfl, h⟩ := hq
        refine At.stk (st' := []) rfl ?_
        exact At.sub (ls := [(4, .ref q), (0, .ref h0), (1, .ref a1), (2, .ref a2), (3, .ref a3)]) [1, 2, 3, 4, 0] rfl h
    · replace h := h.2 c
      refine g_goto (tgt := 269) dX3_runs_150 (by decide) ?_
      refine g_aload_n dX3_runs_269 rfl 0 rfl ?_
      refine g_dup dX3_runs_270 rfl ?_
      obtain ⟨x_visit_10, hf, h⟩ := h
      refine g_get 8 dX3_runs_271 in_X3 cl3 (by decide) q251 hf ?_
      refine g_iconst (v := 1) dX3_runs_274 (by decide) ?_
      refine g_iadd dX3_runs_275 ?_
      obtain ⟨fs_11, hO, hl, h⟩ := h
      refine g_put 8 dX3_runs_276 in_X3 tyX3 tyX3_ok nmX3 cl3 (by decide) q251 rfl rfl rfl hO hl ?_
      refine g_tops (fun s1_12 es1_12 => ?_)
      replace h := h s1_12 es1_12
      refine g_goto (tgt := 115) dX3_runs_279 (by decide) ?_
      exact At.sub (ls := [(0, .ref h0), (1, .ref a1), (2, .ref a2), (3, .ref a3)]) [0, 1, 2, 3] rfl h
set_option maxHeartbeats 4000000 in
theorem bX3_runs_193 {G : GC} {Q : Option Value → PS → Prop} {X : String → Nat → PS → Prop} {b : Nat} {h0 : Nat} {a1 : Nat} {a2 : Nat} {a3 : Nat} {a4 : Nat} {σ : PS} (h : ∃ x_isBegun : Int32, Fg (σ) 6 a3 7 (.int x_isBegun) ∧ (((x_isBegun = 0) → ∃ a_habits : Nat, Fg (σ) 6 a3 0 (.ref a_habits) ∧ (∃ x_who : Int32, Fg (σ) 3 h0 10 (.int x_who) ∧ (∃ (n : Nat) (f : Nat → Option Nat), Qa (σ) 105 a_habits n f ∧ vp_in x_who n ∧ (At G mX3_runs 203 Q X b 226 [(0, .ref h0), (1, .ref a1), (2, .ref a2), (3, .ref a3), (4, .ref a4), (5, va_rf (f x_who.toNatClampNeg)), (6, .int 0)] [] (σ))))) ∧ ((¬ x_isBegun = 0) → ∃ x_visit : Int32, Fg (σ) 3 h0 8 (.int x_visit) ∧ (∃ x_to : Int32, Fg (σ) 6 a3 2 (.int x_to) ∧ (((¬ x_visit = x_to) → ∃ a_habits : Nat, Fg (σ) 6 a3 0 (.ref a_habits) ∧ (∃ x_who : Int32, Fg (σ) 3 h0 10 (.int x_who) ∧ (∃ (n : Nat) (f : Nat → Option Nat), Qa (σ) 105 a_habits n f ∧ vp_in x_who n ∧ (At G mX3_runs 203 Q X b 226 [(0, .ref h0), (1, .ref a1), (2, .ref a2), (3, .ref a3), (4, .ref a4), (5, va_rf (f x_who.toNatClampNeg)), (6, .int 0)] [] (σ))))) ∧ ((x_visit = x_to) → Q none (σ))))))) : At G mX3_runs 203 Q X b 193 [(0, .ref h0), (1, .ref a1), (2, .ref a2), (3, .ref a3), (4, .ref a4)] [] (σ) := by
  refine g_aload_n dX3_runs_193 rfl 3 rfl ?_
  obtain ⟨x_isBegun, hf, h⟩ := h
  refine g_getN 7 dX3_runs_194 in_X6 cl6 (by decide) q350 hf ?_
  refine g_if_eq (tgt := 212) dX3_runs_197 (by decide) (fun c => ?_) (fun c => ?_)
  · replace h := h.1 c
    refine g_aload_n dX3_runs_212 rfl 3 rfl ?_
    obtain ⟨a_habits, hf, h⟩ := h
    refine g_getN 0 dX3_runs_213 in_X6 cl6 (by decide) q333 hf ?_
    refine g_aload_n dX3_runs_216 rfl 0 rfl ?_
    obtain ⟨x_who, hf, h⟩ := h
    refine g_get 10 dX3_runs_217 in_X3 cl3 (by decide) q254 hf ?_
    obtain ⟨n, f, h1, h2, h⟩ := h
    refine g_aald (t0 := 5) dX3_runs_220 rfl rfl h1 h2 ?_
    refine g_astoreq (ls1 := [(5, va_rf (f x_who.toNatClampNeg)), (0, .ref h0), (1, .ref a1), (2, .ref a2), (3, .ref a3), (4, .ref a4)]) dX3_runs_221 (by decide) rfl ?_
    refine g_iconst (v := 0) dX3_runs_223 (by decide) ?_
    refine g_istore (ls1 := [(6, .int 0), (5, va_rf (f x_who.toNatClampNeg)), (0, .ref h0), (1, .ref a1), (2, .ref a2), (3, .ref a3), (4, .ref a4)]) dX3_runs_224 (by decide) (by simp [cat_q, cat_i9, cat_j9, cat_r9, cat_n9]) ?_
    exact At.sub (ls := [(6, .int 0), (5, va_rf (f x_who.toNatClampNeg)), (0, .ref h0), (1, .ref a1), (2, .ref a2), (3, .ref a3), (4, .ref a4)]) [2, 3, 4, 5, 6, 1, 0] rfl h
  · replace h := h.2 c
    refine g_aload_n dX3_runs_200 rfl 0 rfl ?_
    obtain ⟨x_visit, hf, h⟩ := h
    refine g_get 8 dX3_runs_201 in_X3 cl3 (by decide) q251 hf ?_
    refine g_aload_n dX3_runs_204 rfl 3 rfl ?_
    obtain ⟨x_to, hf, h⟩ := h
    refine g_getN 2 dX3_runs_205 in_X6 cl6 (by decide) q337 hf ?_
    refine g_icmp_ne (tgt := 212) dX3_runs_208 (by decide) (fun c => ?_) (fun c => ?_)
    · replace h := h.1 c
      refine g_aload_n dX3_runs_212 rfl 3 rfl ?_
      obtain ⟨a_habits, hf, h⟩ := h
      refine g_getN 0 dX3_runs_213 in_X6 cl6 (by decide) q333 hf ?_
      refine g_aload_n dX3_runs_216 rfl 0 rfl ?_
      obtain ⟨x_who, hf, h⟩ := h
      refine g_get 10 dX3_runs_217 in_X3 cl3 (by decide) q254 hf ?_
      obtain ⟨n, f, h1, h2, h⟩ := h
      refine g_aald (t0 := 5) dX3_runs_220 rfl rfl h1 h2 ?_
      refine g_astoreq (ls1 := [(5, va_rf (f x_who.toNatClampNeg)), (0, .ref h0), (1, .ref a1), (2, .ref a2), (3, .ref a3), (4, .ref a4)]) dX3_runs_221 (by decide) rfl ?_
      refine g_iconst (v := 0) dX3_runs_223 (by decide) ?_
      refine g_istore (ls1 := [(6, .int 0), (5, va_rf (f x_who.toNatClampNeg)), (0, .ref h0), (1, .ref a1), (2, .ref a2), (3, .ref a3), (4, .ref a4)]) dX3_runs_224 (by decide) (by simp [cat_q, cat_i9, cat_j9, cat_r9, cat_n9]) ?_
      exact At.sub (ls := [(6, .int 0), (5, va_rf (f x_who.toNatClampNeg)), (0, .ref h0), (1, .ref a1), (2, .ref a2), (3, .ref a3), (4, .ref a4)]) [2, 3, 4, 5, 6, 1, 0] rfl h
    · replace h := h.2 c
      exact g_vret rfl dX3_runs_211 h
set_option maxHeartbeats 4000000 in
theorem bX3_runs_226 {G : GC} {Q : Option Value → PS → Prop} {X : String → Nat → PS → Prop} {b : Nat} {h0 : Nat} {a1 : Nat} {a2 : Nat} {a3 : Nat} {a4 : Nat} {u5 : Option Nat} {x6 : Int32} {σ : PS} (h : (u5 = none → ∃ x_starter : Int32, Fg (σ) 6 a3 6 (.int x_starter) ∧ ((∃ fs_2 : List Value, Ob (σ) 3 h0 fs_2) ∧ Call G mX3_ends 6 0 [.ref h0, .int x_starter] (σ) (qV (fun s1 => ∃ x_visit : Int32, Fg s1 3 h0 8 (.int x_visit) ∧ (∃ fs : List Value, Ob s1 3 h0 fs ∧ 8 < fs.length ∧ (∀ s1_1 : PS, s1_1 = up s1 3 h0 (.inl (fs.set 8 (.int (x_visit + 1)))) → At G mX3_runs 203 Q X b 115 [(0, .ref h0), (1, .ref a1), (2, .ref a2), (3, .ref a3)] [] s1_1)))) X)) ∧ (∀ z : Nat, u5 = some z → ∃ x_many : Int32, Fg (σ) 14 z 1 (.int x_many) ∧ (((x_many ≤ x6) → ∃ x_starter : Int32, Fg (σ) 6 a3 6 (.int x_starter) ∧ ((∃ fs_4 : List Value, Ob (σ) 3 h0 fs_4) ∧ Call G mX3_ends 6 0 [.ref h0, .int x_starter] (σ) (qV (fun s1 => ∃ x_visit : Int32, Fg s1 3 h0 8 (.int x_visit) ∧ (∃ fs : List Value, Ob s1 3 h0 fs ∧ 8 < fs.length ∧ (∀ s1_3 : PS, s1_3 = up s1 3 h0 (.inl (fs.set 8 (.int (x_visit + 1)))) → At G mX3_runs 203 Q X b 115 [(0, .ref h0), (1, .ref a1), (2, .ref a2), (3, .ref a3)] [] s1_3)))) X)) ∧ ((¬ x_many ≤ x6) → ∃ a_steps : Nat, Fg (σ) 14 z 0 (.ref a_steps) ∧ (∃ (n : Nat) (f : Nat → Option Nat) (y : Nat), Qa (σ) 106 a_steps n f ∧ vp_in x6 n ∧ (f x6.toNatClampNeg) = some y ∧ ((∃ fs : List Value, Ob (σ) 3 h0 fs) ∧ Call G mX3_steps 202 0 [.ref h0, .ref y, .ref a4] (σ) (qV (fun s1 => ∀ v6 : Int32, v6 = x6 + 1 → At G mX3_runs 203 Q X b 226 [(0, .ref h0), (1, .ref a1), (2, .ref a2), (3, .ref a3), (4, .ref a4), (5, va_rf (some z)), (6, .int v6)] [] s1)) X)))))) : At G mX3_runs 203 Q X b 226 [(0, .ref h0), (1, .ref a1), (2, .ref a2), (3, .ref a3), (4, .ref a4), (5, va_rf u5), (6, .int x6)] [] (σ) := by
  refine g_aloadq dX3_runs_226 5 rfl ?_
  refine g_ifnull (tgt := 261) dX3_runs_228 (by decide) (fun hn => ?_) (fun z hs => ?_)
  · replace h := h.1 hn
    subst hn
    refine g_aload_n dX3_runs_261 rfl 0 rfl ?_
    refine g_aload_n dX3_runs_262 rfl 3 rfl ?_
    obtain ⟨x_starter, hf, h⟩ := h
    refine g_getN 6 dX3_runs_263 in_X6 cl6 (by decide) q347 hf ?_
    obtain ⟨⟨_, hO⟩, h⟩ := h
    refine g_callV (N := mX3_ends) (st := []) (As := [.int x_starter]) (a := h0) dX3_runs_266 wsX3_ends (lw_V q743 q745 qs8 q110 q746) rfl mokX3_ends rfl cl3 (by decide) (by decide) (Nat.zero_le _) (Nat.zero_le _) hO h (fun E q s hx => AtX.out0 rfl hx) (fun _ s1 hq => ?_)
    obtain ⟨rfl, h⟩ := hq
    refine At.stk (st' := []) rfl ?_
    refine g_aload_n dX3_runs_269 rfl 0 rfl ?_
    refine g_dup dX3_runs_270 rfl ?_
    obtain ⟨x_visit, hf, h⟩ := h
    refine g_get 8 dX3_runs_271 in_X3 cl3 (by decide) q251 hf ?_
    refine g_iconst (v := 1) dX3_runs_274 (by decide) ?_
    refine g_iadd dX3_runs_275 ?_
    obtain ⟨fs, hO, hl, h⟩ := h
    refine g_put 8 dX3_runs_276 in_X3 tyX3 tyX3_ok nmX3 cl3 (by decide) q251 rfl rfl rfl hO hl ?_
    refine g_tops (fun s1_1 es1_1 => ?_)
    replace h := h s1_1 es1_1
    refine g_goto (tgt := 115) dX3_runs_279 (by decide) ?_
    exact At.sub (ls := [(0, .ref h0), (1, .ref a1), (2, .ref a2), (3, .ref a3), (4, .ref a4), (5, va_rf none), (6, .int x6)]) [0, 1, 2, 3] rfl h
  · replace h := h.2 z hs
    subst hs
    refine g_iload dX3_runs_231 6 rfl ?_
    refine g_aload dX3_runs_233 5 rfl ?_
    obtain ⟨x_many, hf, h⟩ := h
    refine g_getN 1 dX3_runs_235 in_X14 cl14 (by decide) q1181 hf ?_
    refine g_icmp_ge (tgt := 261) dX3_runs_238 (by decide) (fun c => ?_) (fun c => ?_)
    · replace h := h.1 c
      refine g_aload_n dX3_runs_261 rfl 0 rfl ?_
      refine g_aload_n dX3_runs_262 rfl 3 rfl ?_
      obtain ⟨x_starter, hf, h⟩ := h
      refine g_getN 6 dX3_runs_263 in_X6 cl6 (by decide) q347 hf ?_
      obtain ⟨⟨_, hO⟩, h⟩ := h
      refine g_callV (N := mX3_ends) (st := []) (As := [.int x_starter]) (a := h0) dX3_runs_266 wsX3_ends (lw_V q743 q745 qs8 q110 q746) rfl mokX3_ends rfl cl3 (by decide) (by decide) (Nat.zero_le _) (Nat.zero_le _) hO h (fun E q s hx => AtX.out0 rfl hx) (fun _ s1 hq => ?_)
      obtain ⟨rfl, h⟩ := hq
      refine At.stk (st' := []) rfl ?_
      refine g_aload_n dX3_runs_269 rfl 0 rfl ?_
      refine g_dup dX3_runs_270 rfl ?_
      obtain ⟨x_visit, hf, h⟩ := h
      refine g_get 8 dX3_runs_271 in_X3 cl3 (by decide) q251 hf ?_
      refine g_iconst (v := 1) dX3_runs_274 (by decide) ?_
      refine g_iadd dX3_runs_275 ?_
      obtain ⟨fs, hO, hl, h⟩ := h
      refine g_put 8 dX3_runs_276 in_X3 tyX3 tyX3_ok nmX3 cl3 (by decide) q251 rfl rfl rfl hO hl ?_
      refine g_tops (fun s1_3 es1_3 => ?_)
      replace h := h s1_3 es1_3
      refine g_goto (tgt := 115) dX3_runs_279 (by decide) ?_
      exact At.sub (ls := [(0, .ref h0), (1, .ref a1), (2, .ref a2), (3, .ref a3), (4, .ref a4), (5, .ref z), (6, .int x6)]) [0, 1, 2, 3] rfl h
    · replace h := h.2 c
      refine g_aload_n dX3_runs_241 rfl 0 rfl ?_
      refine g_aload dX3_runs_242 5 rfl ?_
      obtain ⟨a_steps, hf, h⟩ := h
      refine g_getN 0 dX3_runs_244 in_X14 cl14 (by decide) q1178 hf ?_
      refine g_iload dX3_runs_247 6 rfl ?_
      obtain ⟨n, f, y, h1, h2, h3, h⟩ := h
      refine g_aald (t0 := 6) dX3_runs_249 rfl rfl h1 h2 ?_
      rw [h3]
      refine At.stk (st' := [.ref y, .ref h0]) rfl ?_
      refine g_aload dX3_runs_250 4 rfl ?_
      obtain ⟨⟨_, hO⟩, h⟩ := h
      refine g_callV (N := mX3_steps) (st := []) (As := [.ref y, .ref a4]) (a := h0) dX3_runs_252 wsX3_steps (lw_V q622 q624 qs6 q110 q625) rfl mokX3_steps rfl cl3 (by decide) (by decide) (Nat.zero_le _) (Nat.zero_le _) hO h (fun E q s hx => AtX.out0 rfl hx) (fun _ s1 hq => ?_)
      obtain ⟨rfl, h⟩ := hq
      refine At.stk (st' := []) rfl ?_
      obtain ⟨v6, ev6⟩ : ∃ z : Int32, z = x6 + 1 := ⟨_, rfl⟩
      refine g_iinc (v := v6) (ls1 := [(6, .int v6), (0, .ref h0), (1, .ref a1), (2, .ref a2), (3, .ref a3), (4, .ref a4), (5, .ref z)]) dX3_runs_255 6 rfl (by rw [ev6]; rfl) (by decide) rfl ?_
      replace h := h v6 ev6
      refine g_goto (tgt := 226) dX3_runs_258 (by decide) ?_
      exact At.sub (ls := [(6, .int v6), (0, .ref h0), (1, .ref a1), (2, .ref a2), (3, .ref a3), (4, .ref a4), (5, .ref z)]) [1, 2, 3, 4, 5, 6, 0] rfl h
theorem eX3_runs {G : GC} {Q : Option Value → PS → Prop} {X : String → Nat → PS → Prop} {b : Nat} {h0 : Nat} {p1 : Nat} {p2 : Nat} {p3 : Nat} {σ : PS} (h : At G mX3_runs 203 Q X b 0 [(0, .ref h0), (1, .ref p1), (2, .ref p2), (3, .ref p3)] [] σ) : Call G mX3_runs 203 b [.ref h0, .ref p1, .ref p2, .ref p3] σ Q X :=
  Call.of (by decide +kernel) wsX3_runs rfl (Nat.le_of_ble_eq_true rfl) (At.sub (ls := [(0, .ref h0), (1, .ref p1), (2, .ref p2), (3, .ref p3)]) [0, 1, 2, 3] rfl h)
set_option maxHeartbeats 4000000 in
theorem bX3_falls_0 {G : GC} {Q : Option Value → PS → Prop} {X : String → Nat → PS → Prop} {b : Nat} {h0 : Nat} {x1 : Int32} {σ : PS} (h : At G mX3_falls 6 Q X b 2 [(0, .ref h0), (1, .int x1), (2, .int 0)] [] (σ)) : At G mX3_falls 6 Q X b 0 [(0, .ref h0), (1, .int x1)] [] (σ) := by
  refine g_iconst (v := 0) dX3_falls_0 (by decide) ?_
  refine g_istore_n (ls1 := [(2, .int 0), (0, .ref h0), (1, .int x1)]) dX3_falls_1 rfl (by decide) rfl ?_
  exact At.sub (ls := [(2, .int 0), (0, .ref h0), (1, .int x1)]) [1, 2, 0] rfl h
set_option maxHeartbeats 4000000 in
theorem bX3_falls_2 {G : GC} {Q : Option Value → PS → Prop} {X : String → Nat → PS → Prop} {b : Nat} {h0 : Nat} {x1 : Int32} {x2 : Int32} {σ : PS} (h : (∃ fs_22 : List Value, Ob (σ) 3 h0 fs_22) ∧ CallO G mX3_last 4 [.ref h0] (σ) (pI (fun rx => ((rx ≤ x2) → (∃ fs : List Value, Ob (σ) 3 h0 fs) ∧ Call G mX3_turns 5 0 [.ref h0] (σ) (qV (fun s1_1 => Q none s1_1)) X) ∧ ((¬ rx ≤ x2) → ∃ a_now : Nat, Fg (σ) 3 h0 2 (.ref a_now) ∧ (∃ (n : Nat) (f : Nat → Int64), La (σ) 101 a_now n f ∧ vp_in x2 n ∧ (((¬ (f x2.toNatClampNeg) = 0) → ∃ a_now_2 : Nat, Fg (σ) 3 h0 2 (.ref a_now_2) ∧ (∃ (n_3 : Nat) (f_4 : Nat → Int64), La (σ) 101 a_now_2 n_3 f_4 ∧ vp_in x2 n_3 ∧ (∀ w : Int64, w = ((f_4 x2.toNatClampNeg) * x1.toInt64) → ∀ v3 : Int64, v3 = (w / 16) → ∃ a_next : Nat, Fg (σ) 3 h0 3 (.ref a_next) ∧ (∃ (n_5 : Nat) (f_6 : Nat → Int64), La (σ) 101 a_next n_5 f_6 ∧ vp_in x2 n_5 ∧ (∃ a_now_7 : Nat, Fg (σ) 3 h0 2 (.ref a_now_7) ∧ (∃ (n_8 : Nat) (f_9 : Nat → Int64), La (σ) 101 a_now_7 n_8 f_9 ∧ vp_in x2 n_8 ∧ (∀ w_10 : Int64, w_10 = ((f_9 x2.toNatClampNeg) - v3) → ∀ w_11 : Int64, w_11 = ((f_6 x2.toNatClampNeg) + w_10) → ∃ (n_12 : Nat) (f_13 : Nat → Int64), La (σ) 101 a_next n_12 f_13 ∧ vp_in x2 n_12 ∧ (∀ s1_14 : PS, s1_14 = up (σ) 101 a_next (.inr (n_12, .inr (.inl (vp_updL f_13 x2.toNatClampNeg w_11)))) → ∃ a_next_15 : Nat, Fg s1_14 3 h0 3 (.ref a_next_15) ∧ (∃ (n_16 : Nat) (f_17 : Nat → Int64), La s1_14 101 a_next_15 n_16 f_17 ∧ vp_in ((x2 ^^^ 2)) n_16 ∧ (∀ w_18 : Int64, w_18 = ((f_17 ((x2 ^^^ 2)).toNatClampNeg) + v3) → ∃ (n_19 : Nat) (f_20 : Nat → Int64), La s1_14 101 a_next_15 n_19 f_20 ∧ vp_in ((x2 ^^^ 2)) n_19 ∧ (∀ s1_21 : PS, s1_21 = up s1_14 101 a_next_15 (.inr (n_19, .inr (.inl (vp_updL f_20 ((x2 ^^^ 2)).toNatClampNeg w_18)))) → ∀ v2 : Int32, v2 = x2 + 1 → At G mX3_falls 6 Q X b 2 [(0, .ref h0), (1, .int x1), (2, .int v2)] [] s1_21))))))))))) ∧ (((f x2.toNatClampNeg) = 0) → ∀ v2 : Int32, v2 = x2 + 1 → At G mX3_falls 6 Q X b 2 [(0, .ref h0), (1, .int x1), (2, .int v2)] [] (σ)))))))) : At G mX3_falls 6 Q X b 2 [(0, .ref h0), (1, .int x1), (2, .int x2)] [] (σ) := by
  refine g_iload_n dX3_falls_2 rfl 2 rfl ?_
  refine g_aload_n dX3_falls_3 rfl 0 rfl ?_
  obtain ⟨⟨_, hO⟩, h⟩ := h
  refine g_callV (N := mX3_last) (st := [.int x2]) (As := []) (a := h0) dX3_falls_4 wsX3_last (lw_V q582 q584 qs3 q110 q585) rfl mokX3_last rfl cl3 (by decide) (by decide) (Nat.zero_le _) (by simp [Value.category]) hO h (fun E q s hx => AtX.never hx) (fun _ s1 hq => ?_)
  obtain ⟨es, hq⟩ := hq
  refine g_tops2 es ?_
  obtain ⟨rx, rfl, h⟩ := hq
  refine At.stk (st' := [.int rx, .int x2]) rfl ?_
  refine g_icmp_ge (tgt := 73) dX3_falls_7 (by decide) (fun c => ?_) (fun c => ?_)
  · replace h := h.1 c
    refine g_aload_n dX3_falls_73 rfl 0 rfl ?_
    obtain ⟨⟨_, hO⟩, h⟩ := h
    refine g_callV (N := mX3_turns) (st := []) (As := []) (a := h0) dX3_falls_74 wsX3_turns (lw_V q590 q592 qs4 q110 q593) rfl mokX3_turns rfl cl3 (by decide) (by decide) (Nat.zero_le _) (Nat.zero_le _) hO h (fun E q s hx => AtX.out0 rfl hx) (fun _ s1_1 hq => ?_)
    obtain ⟨rfl, h⟩ := hq
    refine At.stk (st' := []) rfl ?_
    exact g_vret rfl dX3_falls_77 h
  · replace h := h.2 c
    refine g_aload_n dX3_falls_10 rfl 0 rfl ?_
    obtain ⟨a_now, hf, h⟩ := h
    refine g_get 2 dX3_falls_11 in_X3 cl3 (by decide) q239 hf ?_
    refine g_iload_n dX3_falls_14 rfl 2 rfl ?_
    obtain ⟨n, f, h1, h2, h⟩ := h
    refine g_lald dX3_falls_15 h1 h2 ?_
    refine g_lconst (v := 0) dX3_falls_16 (by decide) ?_
    refine g_lcmp_ne (tgt := 24) dX3_falls_17 dX3_falls_18 (by decide) (fun c => ?_) (fun c => ?_)
    · replace h := h.1 c
      refine g_aload_n dX3_falls_24 rfl 0 rfl ?_
      obtain ⟨a_now_2, hf, h⟩ := h
      refine g_get 2 dX3_falls_25 in_X3 cl3 (by decide) q239 hf ?_
      refine g_iload_n dX3_falls_28 rfl 2 rfl ?_
      obtain ⟨n_3, f_4, h1, h2, h⟩ := h
      refine g_lald dX3_falls_29 h1 h2 ?_
      refine g_iload_n dX3_falls_30 rfl 1 rfl ?_
      refine g_i2l dX3_falls_31 ?_
      refine g_lmul dX3_falls_32 ?_
      refine g_topl (fun w ew => ?_)
      replace h := h w ew
      refine g_ldc2 dX3_falls_33 q589 ?_
      refine g_ldiv dX3_falls_36 (by decide) ?_
      refine g_topl (fun v3 ev3 => ?_)
      replace h := h v3 ev3
      refine g_lstore_n (ls1 := [(3, .long v3), (0, .ref h0), (1, .int x1), (2, .int x2)]) dX3_falls_37 rfl (by decide) rfl ?_
      refine g_aload_n dX3_falls_38 rfl 1 rfl ?_
      obtain ⟨a_next, hf, h⟩ := h
      refine g_get 3 dX3_falls_39 in_X3 cl3 (by decide) q240 hf ?_
      refine g_iload_n dX3_falls_42 rfl 3 rfl ?_
      refine g_dup2 dX3_falls_43 rfl rfl ?_
      obtain ⟨n_5, f_6, h1, h2, h⟩ := h
      refine g_lald dX3_falls_44 h1 h2 ?_
      refine g_aload_n dX3_falls_45 rfl 1 rfl ?_
      obtain ⟨a_now_7, hf, h⟩ := h
      refine g_get 2 dX3_falls_46 in_X3 cl3 (by decide) q239 hf ?_
      refine g_iload_n dX3_falls_49 rfl 3 rfl ?_
      obtain ⟨n_8, f_9, h1, h2, h⟩ := h
      refine g_lald dX3_falls_50 h1 h2 ?_
      refine g_lload_n dX3_falls_51 rfl 0 rfl ?_
      refine g_lsub dX3_falls_52 ?_
      refine g_topl (fun w_10 ew_10 => ?_)
      replace h := h w_10 ew_10
      refine g_ladd dX3_falls_53 ?_
      refine g_topl (fun w_11 ew_11 => ?_)
      replace h := h w_11 ew_11
      obtain ⟨n_12, f_13, h1, h2, h⟩ := h
      refine g_last dX3_falls_54 h1 h2 ?_
      refine g_tops (fun s1_14 es1_14 => ?_)
      replace h := h s1_14 es1_14
      refine g_aload_n dX3_falls_55 rfl 1 rfl ?_
      obtain ⟨a_next_15, hf, h⟩ := h
      refine g_get 3 dX3_falls_56 in_X3 cl3 (by decide) q240 hf ?_
      refine g_iload_n dX3_falls_59 rfl 3 rfl ?_
      refine g_iconst (v := 2) dX3_falls_60 (by decide) ?_
      refine g_ixor dX3_falls_61 ?_
      refine g_dup2 dX3_falls_62 rfl rfl ?_
      obtain ⟨n_16, f_17, h1, h2, h⟩ := h
      refine g_lald dX3_falls_63 h1 h2 ?_
      refine g_lload_n dX3_falls_64 rfl 0 rfl ?_
      refine g_ladd dX3_falls_65 ?_
      refine g_topl (fun w_18 ew_18 => ?_)
      replace h := h w_18 ew_18
      obtain ⟨n_19, f_20, h1, h2, h⟩ := h
      refine g_last dX3_falls_66 h1 h2 ?_
      refine g_tops (fun s1_21 es1_21 => ?_)
      replace h := h s1_21 es1_21
      obtain ⟨v2, ev2⟩ : ∃ z : Int32, z = x2 + 1 := ⟨_, rfl⟩
      refine g_iinc (v := v2) (ls1 := [(2, .int v2), (3, .long v3), (0, .ref h0), (1, .int x1)]) dX3_falls_67 3 rfl (by rw [ev2]; rfl) (by decide) rfl ?_
      replace h := h v2 ev2
      refine g_goto (tgt := 2) dX3_falls_70 (by decide) ?_
      exact At.sub (ls := [(2, .int v2), (3, .long v3), (0, .ref h0), (1, .int x1)]) [2, 3, 0] rfl h
    · replace h := h.2 c
      refine g_goto (tgt := 67) dX3_falls_21 (by decide) ?_
      obtain ⟨v2, ev2⟩ : ∃ z : Int32, z = x2 + 1 := ⟨_, rfl⟩
      refine g_iinc (v := v2) (ls1 := [(2, .int v2), (0, .ref h0), (1, .int x1)]) dX3_falls_67 2 rfl (by rw [ev2]; rfl) (by decide) rfl ?_
      replace h := h v2 ev2
      refine g_goto (tgt := 2) dX3_falls_70 (by decide) ?_
      exact At.sub (ls := [(2, .int v2), (0, .ref h0), (1, .int x1)]) [1, 2, 0] rfl h
theorem eX3_falls {G : GC} {Q : Option Value → PS → Prop} {X : String → Nat → PS → Prop} {b : Nat} {h0 : Nat} {p1 : Int32} {σ : PS} (h : At G mX3_falls 6 Q X b 0 [(0, .ref h0), (1, .int p1)] [] σ) : Call G mX3_falls 6 b [.ref h0, .int p1] σ Q X :=
  Call.of (by decide +kernel) wsX3_falls rfl (Nat.le_of_ble_eq_true rfl) (At.sub (ls := [(0, .ref h0), (1, .int p1)]) [0, 1] rfl h)
set_option maxHeartbeats 4000000 in
theorem bX3_last_0 {G : GC} {Q : Option Value → PS → Prop} {X : String → Nat → PS → Prop} {b : Nat} {h0 : Nat} {σ : PS} (h : ∃ x_visit : Int32, Fg (σ) 3 h0 8 (.int x_visit) ∧ (∀ w : Int32, w = (if 23 < x_visit then 23 else x_visit) → CallO G mX4_codeOf 3 [.int (w + 2), .int 0, .int 0, .int 0, .int 0] (σ) (pI (fun rx => Q (some (.int rx)) (σ))))) : At G mX3_last 4 Q X b 0 [(0, .ref h0)] [] (σ) := by
  refine g_aload_n dX3_last_0 rfl 0 rfl ?_
  obtain ⟨x_visit, hf, h⟩ := h
  refine g_get 8 dX3_last_1 in_X3 cl3 (by decide) q251 hf ?_
  refine g_bipush (v := 23) dX3_last_4 (by decide) ?_
  refine g_imin dX3_last_6 q586 (by decide) (Nat.zero_le _) ?_
  refine g_topi (fun w ew => ?_)
  replace h := h w ew
  refine g_iconst (v := 2) dX3_last_9 (by decide) ?_
  refine g_iadd dX3_last_10 ?_
  refine g_iconst (v := 0) dX3_last_11 (by decide) ?_
  refine g_iconst (v := 0) dX3_last_12 (by decide) ?_
  refine g_iconst (v := 0) dX3_last_13 (by decide) ?_
  refine g_iconst (v := 0) dX3_last_14 (by decide) ?_
  refine g_callS (N := mX4_codeOf) (st := []) (As := [.int (w + 2), .int 0, .int 0, .int 0, .int 0]) dX3_last_15 wsX4_codeOf (lw_S q540 q541 q111 q542) mokX4_codeOf rfl (by decide) (by decide) (Nat.zero_le _) (Nat.zero_le _) h (fun E q s hx => AtX.never hx) (fun _ s1 hq => ?_)
  obtain ⟨es, hq⟩ := hq
  refine g_tops2 es ?_
  obtain ⟨rx, rfl, h⟩ := hq
  refine At.stk (st' := [.int rx]) rfl ?_
  exact g_iret rfl dX3_last_18 h
theorem eX3_last {G : GC} {Q : Option Value → PS → Prop} {X : String → Nat → PS → Prop} {b : Nat} {h0 : Nat} {σ : PS} (h : At G mX3_last 4 Q X b 0 [(0, .ref h0)] [] σ) : Call G mX3_last 4 b [.ref h0] σ Q X :=
  Call.of (by decide +kernel) wsX3_last rfl (Nat.le_of_ble_eq_true rfl) (At.sub (ls := [(0, .ref h0)]) [0] rfl h)
set_option maxHeartbeats 4000000 in
theorem bX3_turns_0 {G : GC} {Q : Option Value → PS → Prop} {X : String → Nat → PS → Prop} {b : Nat} {h0 : Nat} {σ : PS} (h : ∃ a_now : Nat, Fg (σ) 3 h0 2 (.ref a_now) ∧ (∃ a_next : Nat, Fg (σ) 3 h0 3 (.ref a_next) ∧ (∃ fs : List Value, Ob (σ) 3 h0 fs ∧ 2 < fs.length ∧ (∀ s1 : PS, s1 = up (σ) 3 h0 (.inl (fs.set 2 (.ref a_next))) → ∃ fs_1 : List Value, Ob s1 3 h0 fs_1 ∧ 3 < fs_1.length ∧ (∀ s1_2 : PS, s1_2 = up s1 3 h0 (.inl (fs_1.set 3 (.ref a_now))) → At G mX3_turns 5 Q X b 20 [(0, .ref h0), (2, .int 0)] [] s1_2))))) : At G mX3_turns 5 Q X b 0 [(0, .ref h0)] [] (σ) := by
  refine g_aload_n dX3_turns_0 rfl 0 rfl ?_
  obtain ⟨a_now, hf, h⟩ := h
  refine g_get 2 dX3_turns_1 in_X3 cl3 (by decide) q239 hf ?_
  refine g_astore_n (ls1 := [(1, .ref a_now), (0, .ref h0)]) dX3_turns_4 rfl (by decide) rfl ?_
  refine g_aload_n dX3_turns_5 rfl 1 rfl ?_
  refine g_aload_n dX3_turns_6 rfl 1 rfl ?_
  obtain ⟨a_next, hf, h⟩ := h
  refine g_get 3 dX3_turns_7 in_X3 cl3 (by decide) q240 hf ?_
  obtain ⟨fs, hO, hl, h⟩ := h
  refine g_put 2 dX3_turns_10 in_X3 tyX3 tyX3_ok nmX3 cl3 (by decide) q239 rfl rfl rfl hO hl ?_
  refine g_tops (fun s1 es1 => ?_)
  replace h := h s1 es1
  refine g_aload_n dX3_turns_13 rfl 1 rfl ?_
  refine g_aload_n dX3_turns_14 rfl 0 rfl ?_
  obtain ⟨fs_1, hO, hl, h⟩ := h
  refine g_put 3 dX3_turns_15 in_X3 tyX3 tyX3_ok nmX3 cl3 (by decide) q240 rfl rfl rfl hO hl ?_
  refine g_tops (fun s1_2 es1_2 => ?_)
  replace h := h s1_2 es1_2
  refine g_iconst (v := 0) dX3_turns_18 (by decide) ?_
  refine g_istore_n (ls1 := [(2, .int 0), (1, .ref a_now), (0, .ref h0)]) dX3_turns_19 rfl (by decide) rfl ?_
  exact At.sub (ls := [(2, .int 0), (1, .ref a_now), (0, .ref h0)]) [2, 0] rfl h
set_option maxHeartbeats 4000000 in
theorem bX3_turns_20 {G : GC} {Q : Option Value → PS → Prop} {X : String → Nat → PS → Prop} {b : Nat} {h0 : Nat} {x2 : Int32} {σ : PS} (h : (∃ fs : List Value, Ob (σ) 3 h0 fs) ∧ CallO G mX3_last 4 [.ref h0] (σ) (pI (fun rx => ((rx ≤ x2) → Q none (σ)) ∧ ((¬ rx ≤ x2) → ∃ a_next : Nat, Fg (σ) 3 h0 3 (.ref a_next) ∧ (∃ (n : Nat) (f : Nat → Int64), La (σ) 101 a_next n f ∧ vp_in x2 n ∧ (∀ s1_1 : PS, s1_1 = up (σ) 101 a_next (.inr (n, .inr (.inl (vp_updL f x2.toNatClampNeg 0)))) → ∀ v2 : Int32, v2 = x2 + 1 → At G mX3_turns 5 Q X b 20 [(0, .ref h0), (2, .int v2)] [] s1_1)))))) : At G mX3_turns 5 Q X b 20 [(0, .ref h0), (2, .int x2)] [] (σ) := by
  refine g_iload_n dX3_turns_20 rfl 1 rfl ?_
  refine g_aload_n dX3_turns_21 rfl 0 rfl ?_
  obtain ⟨⟨_, hO⟩, h⟩ := h
  refine g_callV (N := mX3_last) (st := [.int x2]) (As := []) (a := h0) dX3_turns_22 wsX3_last (lw_V q582 q584 qs3 q110 q585) rfl mokX3_last rfl cl3 (by decide) (by decide) (Nat.zero_le _) (by simp [Value.category]) hO h (fun E q s hx => AtX.never hx) (fun _ s1 hq => ?_)
  obtain ⟨es, hq⟩ := hq
  refine g_tops2 es ?_
  obtain ⟨rx, rfl, h⟩ := hq
  refine At.stk (st' := [.int rx, .int x2]) rfl ?_
  refine g_icmp_ge (tgt := 41) dX3_turns_25 (by decide) (fun c => ?_) (fun c => ?_)
  · replace h := h.1 c
    exact g_vret rfl dX3_turns_41 h
  · replace h := h.2 c
    refine g_aload_n dX3_turns_28 rfl 0 rfl ?_
    obtain ⟨a_next, hf, h⟩ := h
    refine g_get 3 dX3_turns_29 in_X3 cl3 (by decide) q240 hf ?_
    refine g_iload_n dX3_turns_32 rfl 1 rfl ?_
    refine g_lconst (v := 0) dX3_turns_33 (by decide) ?_
    obtain ⟨n, f, h1, h2, h⟩ := h
    refine g_last dX3_turns_34 h1 h2 ?_
    refine g_tops (fun s1_1 es1_1 => ?_)
    replace h := h s1_1 es1_1
    obtain ⟨v2, ev2⟩ : ∃ z : Int32, z = x2 + 1 := ⟨_, rfl⟩
    refine g_iinc (v := v2) (ls1 := [(2, .int v2), (0, .ref h0)]) dX3_turns_35 1 rfl (by rw [ev2]; rfl) (by decide) rfl ?_
    replace h := h v2 ev2
    refine g_goto (tgt := 20) dX3_turns_38 (by decide) ?_
    exact At.sub (ls := [(2, .int v2), (0, .ref h0)]) [1, 0] rfl h
theorem eX3_turns {G : GC} {Q : Option Value → PS → Prop} {X : String → Nat → PS → Prop} {b : Nat} {h0 : Nat} {σ : PS} (h : At G mX3_turns 5 Q X b 0 [(0, .ref h0)] [] σ) : Call G mX3_turns 5 b [.ref h0] σ Q X :=
  Call.of (by decide +kernel) wsX3_turns rfl (Nat.le_of_ble_eq_true rfl) (At.sub (ls := [(0, .ref h0)]) [0] rfl h)
set_option maxHeartbeats 4000000 in
theorem bX3_only_0 {G : GC} {Q : Option Value → PS → Prop} {X : String → Nat → PS → Prop} {b : Nat} {h0 : Nat} {a1 : Nat} {a2 : Nat} {σ : PS} (h : At G mX3_only 6 Q X b 2 [(0, .ref h0), (1, .ref a1), (2, .ref a2), (3, .int 0)] [] (σ)) : At G mX3_only 6 Q X b 0 [(0, .ref h0), (1, .ref a1), (2, .ref a2)] [] (σ) := by
  refine g_iconst (v := 0) dX3_only_0 (by decide) ?_
  refine g_istore_n (ls1 := [(3, .int 0), (0, .ref h0), (1, .ref a1), (2, .ref a2)]) dX3_only_1 rfl (by decide) rfl ?_
  exact At.sub (ls := [(3, .int 0), (0, .ref h0), (1, .ref a1), (2, .ref a2)]) [1, 2, 3, 0] rfl h
set_option maxHeartbeats 4000000 in
theorem bX3_only_2 {G : GC} {Q : Option Value → PS → Prop} {X : String → Nat → PS → Prop} {b : Nat} {h0 : Nat} {a1 : Nat} {a2 : Nat} {x3 : Int32} {σ : PS} (h : (∃ fs_12 : List Value, Ob (σ) 3 h0 fs_12) ∧ CallO G mX3_last 4 [.ref h0] (σ) (pI (fun rx => ((rx ≤ x3) → Q none (σ)) ∧ ((¬ rx ≤ x3) → ∃ a_now : Nat, Fg (σ) 3 h0 2 (.ref a_now) ∧ (∃ (n : Nat) (f : Nat → Int64), La (σ) 101 a_now n f ∧ vp_in x3 n ∧ ((((f x3.toNatClampNeg) = 0) → ∀ v3 : Int32, v3 = x3 + 1 → At G mX3_only 6 Q X b 2 [(0, .ref h0), (1, .ref a1), (2, .ref a2), (3, .int v3)] [] (σ)) ∧ ((¬ (f x3.toNatClampNeg) = 0) → ∃ a_state : Nat, Fg (σ) 3 h0 0 (.ref a_state) ∧ ((∃ fs_11 : List Value, Ob (σ) 4 a_state fs_11) ∧ Call G mX4_of 3 0 [.ref a_state, .int x3] (σ) (qR (fun ra s1_1 => (∃ fs_10 : List Value, Ob s1_1 26 a2 fs_10) ∧ Call G mX26_at 3 0 [.ref a2, .ref ra] s1_1 (qR (fun ra_3 s1_2 => (∃ fs : List Value, Ob s1_2 8 a1 fs) ∧ CallO G mX8_isSo 5 [.ref a1, .ref ra_3] s1_2 (pI (fun rx_5 => ((¬ rx_5 = 0) → ∀ v3 : Int32, v3 = x3 + 1 → At G mX3_only 6 Q X b 2 [(0, .ref h0), (1, .ref a1), (2, .ref a2), (3, .int v3)] [] s1_2) ∧ ((rx_5 = 0) → ∃ a_now_6 : Nat, Fg s1_2 3 h0 2 (.ref a_now_6) ∧ (∃ (n_7 : Nat) (f_8 : Nat → Int64), La s1_2 101 a_now_6 n_7 f_8 ∧ vp_in x3 n_7 ∧ (∀ s1_9 : PS, s1_9 = up s1_2 101 a_now_6 (.inr (n_7, .inr (.inl (vp_updL f_8 x3.toNatClampNeg 0)))) → ∀ v3 : Int32, v3 = x3 + 1 → At G mX3_only 6 Q X b 2 [(0, .ref h0), (1, .ref a1), (2, .ref a2), (3, .int v3)] [] s1_9))))))) X)) X)))))))) : At G mX3_only 6 Q X b 2 [(0, .ref h0), (1, .ref a1), (2, .ref a2), (3, .int x3)] [] (σ) := by
  refine g_iload_n dX3_only_2 rfl 3 rfl ?_
  refine g_aload_n dX3_only_3 rfl 0 rfl ?_
  obtain ⟨⟨_, hO⟩, h⟩ := h
  refine g_callV (N := mX3_last) (st := [.int x3]) (As := []) (a := h0) dX3_only_4 wsX3_last (lw_V q582 q584 qs3 q110 q585) rfl mokX3_last rfl cl3 (by decide) (by decide) (Nat.zero_le _) (by simp [Value.category]) hO h (fun E q s hx => AtX.never hx) (fun _ s1 hq => ?_)
  obtain ⟨es, hq⟩ := hq
  refine g_tops2 es ?_
  obtain ⟨rx, rfl, h⟩ := hq
  refine At.stk (st' := [.int rx, .int x3]) rfl ?_
  refine g_icmp_ge (tgt := 53) dX3_only_7 (by decide) (fun c => ?_) (fun c => ?_)
  · replace h := h.1 c
    exact g_vret rfl dX3_only_53 h
  · replace h := h.2 c
    refine g_aload_n dX3_only_10 rfl 0 rfl ?_
    obtain ⟨a_now, hf, h⟩ := h
    refine g_get 2 dX3_only_11 in_X3 cl3 (by decide) q239 hf ?_
    refine g_iload_n dX3_only_14 rfl 3 rfl ?_
    obtain ⟨n, f, h1, h2, h⟩ := h
    refine g_lald dX3_only_15 h1 h2 ?_
    refine g_lconst (v := 0) dX3_only_16 (by decide) ?_
    refine g_lcmp_eq (tgt := 47) dX3_only_17 dX3_only_18 (by decide) (fun c => ?_) (fun c => ?_)
    · replace h := h.1 c
      obtain ⟨v3, ev3⟩ : ∃ z : Int32, z = x3 + 1 := ⟨_, rfl⟩
      refine g_iinc (v := v3) (ls1 := [(3, .int v3), (0, .ref h0), (1, .ref a1), (2, .ref a2)]) dX3_only_47 3 rfl (by rw [ev3]; rfl) (by decide) rfl ?_
      replace h := h v3 ev3
      refine g_goto (tgt := 2) dX3_only_50 (by decide) ?_
      exact At.sub (ls := [(3, .int v3), (0, .ref h0), (1, .ref a1), (2, .ref a2)]) [1, 2, 3, 0] rfl h
    · replace h := h.2 c
      refine g_aload_n dX3_only_21 rfl 1 rfl ?_
      refine g_aload_n dX3_only_22 rfl 2 rfl ?_
      refine g_aload_n dX3_only_23 rfl 0 rfl ?_
      obtain ⟨a_state, hf, h⟩ := h
      refine g_get 0 dX3_only_24 in_X3 cl3 (by decide) q236 hf ?_
      refine g_iload_n dX3_only_27 rfl 3 rfl ?_
      obtain ⟨⟨_, hO⟩, h⟩ := h
      refine g_callV (N := mX4_of) (st := [.ref a2, .ref a1]) (As := [.int x3]) (a := a_state) dX3_only_28 wsX4_of (lw_V q598 q599 q600 q111 q601) rfl mokX4_of rfl cl4 (by decide) (by decide) (Nat.zero_le _) (by simp [Value.category]) hO h (fun E q s hx => AtX.out0 rfl hx) (fun _ s1_1 hq => ?_)
      obtain ⟨ra, rfl, h⟩ := hq
      refine At.stk (st' := [.ref ra, .ref a2, .ref a1]) rfl ?_
      obtain ⟨⟨_, hO⟩, h⟩ := h
      refine g_callV (N := mX26_at) (st := [.ref a1]) (As := [.ref ra]) (a := a2) dX3_only_31 wsX26_at (lw_V q602 q603 q604 q144 q605) rfl mokX26_at rfl cl26 (by decide) (by decide) (Nat.zero_le _) (by simp [Value.category]) hO h (fun E q s hx => AtX.out0 rfl hx) (fun _ s1_2 hq => ?_)
      obtain ⟨ra_3, rfl, h⟩ := hq
      refine At.stk (st' := [.ref ra_3, .ref a1]) rfl ?_
      obtain ⟨⟨_, hO⟩, h⟩ := h
      refine g_callV (N := mX8_isSo) (st := []) (As := [.ref ra_3]) (a := a1) dX3_only_34 wsX8_isSo (lw_V q606 q607 q608 q115 q609) rfl mokX8_isSo rfl cl8 (by decide) (by decide) (Nat.zero_le _) (Nat.zero_le _) hO h (fun E q s hx => AtX.never hx) (fun _ s1_4 hq => ?_)
      obtain ⟨es, hq⟩ := hq
      refine g_tops2 es ?_
      obtain ⟨rx_5, rfl, h⟩ := hq
      refine At.stk (st' := [.int rx_5]) rfl ?_
      refine g_if_ne (tgt := 47) dX3_only_37 (by decide) (fun c => ?_) (fun c => ?_)
      · replace h := h.1 c
        obtain ⟨v3, ev3⟩ : ∃ z : Int32, z = x3 + 1 := ⟨_, rfl⟩
        refine g_iinc (v := v3) (ls1 := [(3, .int v3), (0, .ref h0), (1, .ref a1), (2, .ref a2)]) dX3_only_47 3 rfl (by rw [ev3]; rfl) (by decide) rfl ?_
        replace h := h v3 ev3
        refine g_goto (tgt := 2) dX3_only_50 (by decide) ?_
        exact At.sub (ls := [(3, .int v3), (0, .ref h0), (1, .ref a1), (2, .ref a2)]) [1, 2, 3, 0] rfl h
      · replace h := h.2 c
        refine g_aload_n dX3_only_40 rfl 0 rfl ?_
        obtain ⟨a_now_6, hf, h⟩ := h
        refine g_get 2 dX3_only_41 in_X3 cl3 (by decide) q239 hf ?_
        refine g_iload_n dX3_only_44 rfl 3 rfl ?_
        refine g_lconst (v := 0) dX3_only_45 (by decide) ?_
        obtain ⟨n_7, f_8, h1, h2, h⟩ := h
        refine g_last dX3_only_46 h1 h2 ?_
        refine g_tops (fun s1_9 es1_9 => ?_)
        replace h := h s1_9 es1_9
        obtain ⟨v3, ev3⟩ : ∃ z : Int32, z = x3 + 1 := ⟨_, rfl⟩
        refine g_iinc (v := v3) (ls1 := [(3, .int v3), (0, .ref h0), (1, .ref a1), (2, .ref a2)]) dX3_only_47 3 rfl (by rw [ev3]; rfl) (by decide) rfl ?_
        replace h := h v3 ev3
        refine g_goto (tgt := 2) dX3_only_50 (by decide) ?_
        exact At.sub (ls := [(3, .int v3), (0, .ref h0), (1, .ref a1), (2, .ref a2)]) [1, 2, 3, 0] rfl h
theorem eX3_only {G : GC} {Q : Option Value → PS → Prop} {X : String → Nat → PS → Prop} {b : Nat} {h0 : Nat} {p1 : Nat} {p2 : Nat} {σ : PS} (h : At G mX3_only 6 Q X b 0 [(0, .ref h0), (1, .ref p1), (2, .ref p2)] [] σ) : Call G mX3_only 6 b [.ref h0, .ref p1, .ref p2] σ Q X :=
  Call.of (by decide +kernel) wsX3_only rfl (Nat.le_of_ble_eq_true rfl) (At.sub (ls := [(0, .ref h0), (1, .ref p1), (2, .ref p2)]) [0, 1, 2] rfl h)
set_option maxHeartbeats 4000000 in
theorem bX3_steps_0 {G : GC} {Q : Option Value → PS → Prop} {X : String → Nat → PS → Prop} {b : Nat} {h0 : Nat} {a1 : Nat} {a2 : Nat} {σ : PS} (h : At G mX3_steps 202 Q X b 2 [(0, .ref h0), (1, .ref a1), (2, .ref a2), (3, .int 0)] [] (σ)) : At G mX3_steps 202 Q X b 0 [(0, .ref h0), (1, .ref a1), (2, .ref a2)] [] (σ) := by
  refine g_iconst (v := 0) dX3_steps_0 (by decide) ?_
  refine g_istore_n (ls1 := [(3, .int 0), (0, .ref h0), (1, .ref a1), (2, .ref a2)]) dX3_steps_1 rfl (by decide) rfl ?_
  exact At.sub (ls := [(3, .int 0), (0, .ref h0), (1, .ref a1), (2, .ref a2)]) [1, 2, 3, 0] rfl h
set_option maxHeartbeats 4000000 in
theorem bX3_steps_2 {G : GC} {Q : Option Value → PS → Prop} {X : String → Nat → PS → Prop} {b : Nat} {h0 : Nat} {a1 : Nat} {a2 : Nat} {x3 : Int32} {σ : PS} (h : (∃ fs_13 : List Value, Ob (σ) 3 h0 fs_13) ∧ CallO G mX3_last 4 [.ref h0] (σ) (pI (fun rx => ((rx ≤ x3) → (∃ fs : List Value, Ob (σ) 3 h0 fs) ∧ Call G mX3_turns 5 0 [.ref h0] (σ) (qV (fun s1_1 => Q none s1_1)) X) ∧ ((¬ rx ≤ x3) → ∃ a_now : Nat, Fg (σ) 3 h0 2 (.ref a_now) ∧ (∃ (n : Nat) (f : Nat → Int64), La (σ) 101 a_now n f ∧ vp_in x3 n ∧ (((¬ (f x3.toNatClampNeg) = 0) → ∃ a_state : Nat, Fg (σ) 3 h0 0 (.ref a_state) ∧ ((∃ fs_12 : List Value, Ob (σ) 4 a_state fs_12) ∧ Call G mX4_of 3 0 [.ref a_state, .int x3] (σ) (qR (fun ra s1_2 => (∃ fs : List Value, Ob s1_2 26 a2 fs) ∧ Call G mX26_at 3 0 [.ref a2, .ref ra] s1_2 (qR (fun ra_4 s1_3 => ∃ rc : Nat, rc + 1 ≤ 202 ∧ CallS_isSo G rc a1 [.ref ra_4] s1_3 (pI (fun rx_6 => ((rx_6 = 0) → At G mX3_steps 202 Q X b 57 [(0, .ref h0), (1, .ref a1), (2, .ref a2), (3, .int x3)] [.long 0] s1_3) ∧ ((¬ rx_6 = 0) → ∃ a_now_7 : Nat, Fg s1_3 3 h0 2 (.ref a_now_7) ∧ (∃ (n_8 : Nat) (f_9 : Nat → Int64), La s1_3 101 a_now_7 n_8 f_9 ∧ vp_in x3 n_8 ∧ (∃ rc_11 : Nat, rc_11 + 1 ≤ 202 ∧ CallS_doing G rc_11 a1 [.long (f_9 x3.toNatClampNeg)] s1_3 (pJ (fun ry => At G mX3_steps 202 Q X b 57 [(0, .ref h0), (1, .ref a1), (2, .ref a2), (3, .int x3)] [.long ry] s1_3))))))))) X)) X)) ∧ (((f x3.toNatClampNeg) = 0) → ∀ v3 : Int32, v3 = x3 + 1 → At G mX3_steps 202 Q X b 2 [(0, .ref h0), (1, .ref a1), (2, .ref a2), (3, .int v3)] [] (σ)))))))) : At G mX3_steps 202 Q X b 2 [(0, .ref h0), (1, .ref a1), (2, .ref a2), (3, .int x3)] [] (σ) := by
  refine g_iload_n dX3_steps_2 rfl 3 rfl ?_
  refine g_aload_n dX3_steps_3 rfl 0 rfl ?_
  obtain ⟨⟨_, hO⟩, h⟩ := h
  refine g_callV (N := mX3_last) (st := [.int x3]) (As := []) (a := h0) dX3_steps_4 wsX3_last (lw_V q582 q584 qs3 q110 q585) rfl mokX3_last rfl cl3 (by decide) (by decide) (Nat.zero_le _) (by simp [Value.category]) hO h (fun E q s hx => AtX.never hx) (fun _ s1 hq => ?_)
  obtain ⟨es, hq⟩ := hq
  refine g_tops2 es ?_
  obtain ⟨rx, rfl, h⟩ := hq
  refine At.stk (st' := [.int rx, .int x3]) rfl ?_
  refine g_icmp_ge (tgt := 101) dX3_steps_7 (by decide) (fun c => ?_) (fun c => ?_)
  · replace h := h.1 c
    refine g_aload_n dX3_steps_101 rfl 0 rfl ?_
    obtain ⟨⟨_, hO⟩, h⟩ := h
    refine g_callV (N := mX3_turns) (st := []) (As := []) (a := h0) dX3_steps_102 wsX3_turns (lw_V q590 q592 qs4 q110 q593) rfl mokX3_turns rfl cl3 (by decide) (by decide) (Nat.zero_le _) (Nat.zero_le _) hO h (fun E q s hx => AtX.out0 rfl hx) (fun _ s1_1 hq => ?_)
    obtain ⟨rfl, h⟩ := hq
    refine At.stk (st' := []) rfl ?_
    exact g_vret rfl dX3_steps_105 h
  · replace h := h.2 c
    refine g_aload_n dX3_steps_10 rfl 0 rfl ?_
    obtain ⟨a_now, hf, h⟩ := h
    refine g_get 2 dX3_steps_11 in_X3 cl3 (by decide) q239 hf ?_
    refine g_iload_n dX3_steps_14 rfl 3 rfl ?_
    obtain ⟨n, f, h1, h2, h⟩ := h
    refine g_lald dX3_steps_15 h1 h2 ?_
    refine g_lconst (v := 0) dX3_steps_16 (by decide) ?_
    refine g_lcmp_ne (tgt := 24) dX3_steps_17 dX3_steps_18 (by decide) (fun c => ?_) (fun c => ?_)
    · replace h := h.1 c
      refine g_aload_n dX3_steps_24 rfl 1 rfl ?_
      refine g_aload_n dX3_steps_25 rfl 2 rfl ?_
      refine g_aload_n dX3_steps_26 rfl 0 rfl ?_
      obtain ⟨a_state, hf, h⟩ := h
      refine g_get 0 dX3_steps_27 in_X3 cl3 (by decide) q236 hf ?_
      refine g_iload_n dX3_steps_30 rfl 3 rfl ?_
      obtain ⟨⟨_, hO⟩, h⟩ := h
      refine g_callV (N := mX4_of) (st := [.ref a2, .ref a1]) (As := [.int x3]) (a := a_state) dX3_steps_31 wsX4_of (lw_V q598 q599 q600 q111 q601) rfl mokX4_of rfl cl4 (by decide) (by decide) (Nat.zero_le _) (by simp [Value.category]) hO h (fun E q s hx => AtX.out0 rfl hx) (fun _ s1_2 hq => ?_)
      obtain ⟨ra, rfl, h⟩ := hq
      refine At.stk (st' := [.ref ra, .ref a2, .ref a1]) rfl ?_
      obtain ⟨⟨_, hO⟩, h⟩ := h
      refine g_callV (N := mX26_at) (st := [.ref a1]) (As := [.ref ra]) (a := a2) dX3_steps_34 wsX26_at (lw_V q602 q603 q604 q144 q605) rfl mokX26_at rfl cl26 (by decide) (by decide) (Nat.zero_le _) (by simp [Value.category]) hO h (fun E q s hx => AtX.out0 rfl hx) (fun _ s1_3 hq => ?_)
      obtain ⟨ra_4, rfl, h⟩ := hq
      refine At.stk (st' := [.ref ra_4, .ref a1]) rfl ?_
      obtain ⟨rc, hr9, h⟩ := h
      refine g_callS_isSo (st := []) (As := [.ref ra_4]) (a := a1) dX3_steps_37 q626 rfl hr9 (Nat.zero_le _) h (fun _ hq => ?_)
      obtain ⟨rx_6, rfl, h⟩ := hq
      refine At.stk (st' := [.int rx_6]) rfl ?_
      refine g_if_eq (tgt := 56) dX3_steps_40 (by decide) (fun c => ?_) (fun c => ?_)
      · replace h := h.1 c
        refine g_lconst (v := 0) dX3_steps_56 (by decide) ?_
        exact At.sub (ls := [(0, .ref h0), (1, .ref a1), (2, .ref a2), (3, .int x3)]) [0, 1, 2, 3] rfl h
      · replace h := h.2 c
        refine g_aload_n dX3_steps_43 rfl 1 rfl ?_
        refine g_aload_n dX3_steps_44 rfl 0 rfl ?_
        obtain ⟨a_now_7, hf, h⟩ := h
        refine g_get 2 dX3_steps_45 in_X3 cl3 (by decide) q239 hf ?_
        refine g_iload_n dX3_steps_48 rfl 3 rfl ?_
        obtain ⟨n_8, f_9, h1, h2, h⟩ := h
        refine g_lald dX3_steps_49 h1 h2 ?_
        obtain ⟨rc_11, hr9, h⟩ := h
        refine g_callS_doing (st := []) (As := [.long (f_9 x3.toNatClampNeg)]) (a := a1) dX3_steps_50 q669 rfl hr9 (Nat.zero_le _) h (fun _ hq => ?_)
        obtain ⟨ry, rfl, h⟩ := hq
        refine At.stk (st' := [.long ry]) rfl ?_
        refine g_goto (tgt := 57) dX3_steps_53 (by decide) ?_
        exact At.sub (ls := [(0, .ref h0), (1, .ref a1), (2, .ref a2), (3, .int x3)]) [0, 1, 2, 3] rfl h
    · replace h := h.2 c
      refine g_goto (tgt := 95) dX3_steps_21 (by decide) ?_
      obtain ⟨v3, ev3⟩ : ∃ z : Int32, z = x3 + 1 := ⟨_, rfl⟩
      refine g_iinc (v := v3) (ls1 := [(3, .int v3), (0, .ref h0), (1, .ref a1), (2, .ref a2)]) dX3_steps_95 3 rfl (by rw [ev3]; rfl) (by decide) rfl ?_
      replace h := h v3 ev3
      refine g_goto (tgt := 2) dX3_steps_98 (by decide) ?_
      exact At.sub (ls := [(3, .int v3), (0, .ref h0), (1, .ref a1), (2, .ref a2)]) [1, 2, 3, 0] rfl h
set_option maxHeartbeats 4000000 in
theorem bX3_steps_57 {G : GC} {Q : Option Value → PS → Prop} {X : String → Nat → PS → Prop} {b : Nat} {h0 : Nat} {a1 : Nat} {a2 : Nat} {x3 : Int32} {sy0 : Int64} {σ : PS} (h : ∃ a_next : Nat, Fg (σ) 3 h0 3 (.ref a_next) ∧ (∃ (n : Nat) (f : Nat → Int64), La (σ) 101 a_next n f ∧ vp_in x3 n ∧ (∃ a_now : Nat, Fg (σ) 3 h0 2 (.ref a_now) ∧ (∃ (n_1 : Nat) (f_2 : Nat → Int64), La (σ) 101 a_now n_1 f_2 ∧ vp_in x3 n_1 ∧ (∀ w : Int64, w = ((f_2 x3.toNatClampNeg) - sy0) → ∃ (n_3 : Nat) (f_4 : Nat → Int64), La (σ) 101 a_next n_3 f_4 ∧ vp_in x3 n_3 ∧ (∀ s1 : PS, s1 = up (σ) 101 a_next (.inr (n_3, .inr (.inl (vp_updL f_4 x3.toNatClampNeg (((f x3.toNatClampNeg) + w)))))) → ((sy0 ≤ 0) → ∀ v3 : Int32, v3 = x3 + 1 → At G mX3_steps 202 Q X b 2 [(0, .ref h0), (1, .ref a1), (2, .ref a2), (3, .int v3)] [] s1) ∧ ((¬ sy0 ≤ 0) → ∃ a_state : Nat, Fg s1 3 h0 0 (.ref a_state) ∧ (∃ rc : Nat, rc + 1 ≤ 202 ∧ CallS_flows G rc a1 [.ref h0, .ref a_state, .long sy0] s1 (qV (fun s1_5 => ∀ v3 : Int32, v3 = x3 + 1 → At G mX3_steps 202 Q X b 2 [(0, .ref h0), (1, .ref a1), (2, .ref a2), (3, .int v3)] [] s1_5)))))))))) : At G mX3_steps 202 Q X b 57 [(0, .ref h0), (1, .ref a1), (2, .ref a2), (3, .int x3)] [.long sy0] (σ) := by
  refine g_lstore (ls1 := [(4, .long sy0), (0, .ref h0), (1, .ref a1), (2, .ref a2), (3, .int x3)]) dX3_steps_57 (by decide) rfl ?_
  refine g_aload_n dX3_steps_59 rfl 1 rfl ?_
  obtain ⟨a_next, hf, h⟩ := h
  refine g_get 3 dX3_steps_60 in_X3 cl3 (by decide) q240 hf ?_
  refine g_iload_n dX3_steps_63 rfl 4 rfl ?_
  refine g_dup2 dX3_steps_64 rfl rfl ?_
  obtain ⟨n, f, h1, h2, h⟩ := h
  refine g_lald dX3_steps_65 h1 h2 ?_
  refine g_aload_n dX3_steps_66 rfl 1 rfl ?_
  obtain ⟨a_now, hf, h⟩ := h
  refine g_get 2 dX3_steps_67 in_X3 cl3 (by decide) q239 hf ?_
  refine g_iload_n dX3_steps_70 rfl 4 rfl ?_
  obtain ⟨n_1, f_2, h1, h2, h⟩ := h
  refine g_lald dX3_steps_71 h1 h2 ?_
  refine g_lload dX3_steps_72 0 rfl ?_
  refine g_lsub dX3_steps_74 ?_
  refine g_topl (fun w ew => ?_)
  replace h := h w ew
  refine g_ladd dX3_steps_75 ?_
  obtain ⟨n_3, f_4, h1, h2, h⟩ := h
  refine g_last dX3_steps_76 h1 h2 ?_
  refine g_tops (fun s1 es1 => ?_)
  replace h := h s1 es1
  refine g_lload dX3_steps_77 0 rfl ?_
  refine g_lconst (v := 0) dX3_steps_79 (by decide) ?_
  refine g_lcmp_le (tgt := 95) dX3_steps_80 dX3_steps_81 (by decide) (fun c => ?_) (fun c => ?_)
  · replace h := h.1 c
    obtain ⟨v3, ev3⟩ : ∃ z : Int32, z = x3 + 1 := ⟨_, rfl⟩
    refine g_iinc (v := v3) (ls1 := [(3, .int v3), (4, .long sy0), (0, .ref h0), (1, .ref a1), (2, .ref a2)]) dX3_steps_95 4 rfl (by rw [ev3]; rfl) (by decide) rfl ?_
    replace h := h v3 ev3
    refine g_goto (tgt := 2) dX3_steps_98 (by decide) ?_
    exact At.sub (ls := [(3, .int v3), (4, .long sy0), (0, .ref h0), (1, .ref a1), (2, .ref a2)]) [2, 3, 4, 0] rfl h
  · replace h := h.2 c
    refine g_aload_n dX3_steps_84 rfl 2 rfl ?_
    refine g_aload_n dX3_steps_85 rfl 1 rfl ?_
    refine g_aload_n dX3_steps_86 rfl 1 rfl ?_
    obtain ⟨a_state, hf, h⟩ := h
    refine g_get 0 dX3_steps_87 in_X3 cl3 (by decide) q236 hf ?_
    refine g_lload dX3_steps_90 0 rfl ?_
    obtain ⟨rc, hr9, h⟩ := h
    refine g_callS_flows (st := []) (As := [.ref h0, .ref a_state, .long sy0]) (a := a1) dX3_steps_92 q680 rfl hr9 (Nat.zero_le _) h (fun _ s1_5 hq => ?_)
    obtain ⟨rfl, h⟩ := hq
    refine At.stk (st' := []) rfl ?_
    obtain ⟨v3, ev3⟩ : ∃ z : Int32, z = x3 + 1 := ⟨_, rfl⟩
    refine g_iinc (v := v3) (ls1 := [(3, .int v3), (4, .long sy0), (0, .ref h0), (1, .ref a1), (2, .ref a2)]) dX3_steps_95 4 rfl (by rw [ev3]; rfl) (by decide) rfl ?_
    replace h := h v3 ev3
    refine g_goto (tgt := 2) dX3_steps_98 (by decide) ?_
    exact At.sub (ls := [(3, .int v3), (4, .long sy0), (0, .ref h0), (1, .ref a1), (2, .ref a2)]) [2, 3, 4, 0] rfl h
theorem eX3_steps {G : GC} {Q : Option Value → PS → Prop} {X : String → Nat → PS → Prop} {b : Nat} {h0 : Nat} {p1 : Nat} {p2 : Nat} {σ : PS} (h : At G mX3_steps 202 Q X b 0 [(0, .ref h0), (1, .ref p1), (2, .ref p2)] [] σ) : Call G mX3_steps 202 b [.ref h0, .ref p1, .ref p2] σ Q X :=
  Call.of (by decide +kernel) wsX3_steps rfl (Nat.le_of_ble_eq_true rfl) (At.sub (ls := [(0, .ref h0), (1, .ref p1), (2, .ref p2)]) [0, 1, 2] rfl h)
set_option maxHeartbeats 4000000 in
theorem bX3_adds_0 {G : GC} {Q : Option Value → PS → Prop} {X : String → Nat → PS → Prop} {b : Nat} {h0 : Nat} {a1 : Nat} {y2 : Int64} {σ : PS} (h : ((y2 = 0) → Q none (σ)) ∧ ((¬ y2 = 0) → ∃ a_next : Nat, Fg (σ) 3 h0 3 (.ref a_next) ∧ ((∃ fs : List Value, Ob (σ) 4 a1 fs) ∧ CallO G mX4_code 4 [.ref a1] (σ) (pI (fun rx => ∃ (n : Nat) (f : Nat → Int64), La (σ) 101 a_next n f ∧ vp_in rx n ∧ (∀ w : Int64, w = ((f rx.toNatClampNeg) + y2) → ∃ (n_1 : Nat) (f_2 : Nat → Int64), La (σ) 101 a_next n_1 f_2 ∧ vp_in rx n_1 ∧ (∀ s1_3 : PS, s1_3 = up (σ) 101 a_next (.inr (n_1, .inr (.inl (vp_updL f_2 rx.toNatClampNeg w)))) → Q none s1_3))))))) : At G mX3_adds 5 Q X b 0 [(0, .ref h0), (1, .ref a1), (2, .long y2)] [] (σ) := by
  refine g_lload_n dX3_adds_0 rfl 2 rfl ?_
  refine g_lconst (v := 0) dX3_adds_1 (by decide) ?_
  refine g_lcmp_eq (tgt := 19) dX3_adds_2 dX3_adds_3 (by decide) (fun c => ?_) (fun c => ?_)
  · replace h := h.1 c
    exact g_vret rfl dX3_adds_19 h
  · replace h := h.2 c
    refine g_aload_n dX3_adds_6 rfl 0 rfl ?_
    obtain ⟨a_next, hf, h⟩ := h
    refine g_get 3 dX3_adds_7 in_X3 cl3 (by decide) q240 hf ?_
    refine g_aload_n dX3_adds_10 rfl 1 rfl ?_
    obtain ⟨⟨_, hO⟩, h⟩ := h
    refine g_callV (N := mX4_code) (st := [.ref a_next]) (As := []) (a := a1) dX3_adds_11 wsX4_code (lw_V q693 q694 q695 q111 q696) rfl mokX4_code rfl cl4 (by decide) (by decide) (Nat.zero_le _) (by simp [Value.category]) hO h (fun E q s hx => AtX.never hx) (fun _ s1 hq => ?_)
    obtain ⟨es, hq⟩ := hq
    refine g_tops2 es ?_
    obtain ⟨rx, rfl, h⟩ := hq
    refine At.stk (st' := [.int rx, .ref a_next]) rfl ?_
    refine g_dup2 dX3_adds_14 rfl rfl ?_
    obtain ⟨n, f, h1, h2, h⟩ := h
    refine g_lald dX3_adds_15 h1 h2 ?_
    refine g_lload_n dX3_adds_16 rfl 2 rfl ?_
    refine g_ladd dX3_adds_17 ?_
    refine g_topl (fun w ew => ?_)
    replace h := h w ew
    obtain ⟨n_1, f_2, h1, h2, h⟩ := h
    refine g_last dX3_adds_18 h1 h2 ?_
    refine g_tops (fun s1_3 es1_3 => ?_)
    replace h := h s1_3 es1_3
    exact g_vret rfl dX3_adds_19 h
theorem eX3_adds {G : GC} {Q : Option Value → PS → Prop} {X : String → Nat → PS → Prop} {b : Nat} {h0 : Nat} {p1 : Nat} {p2 : Int64} {σ : PS} (h : At G mX3_adds 5 Q X b 0 [(0, .ref h0), (1, .ref p1), (2, .long p2)] [] σ) : Call G mX3_adds 5 b [.ref h0, .ref p1, .long p2] σ Q X :=
  Call.of (by decide +kernel) wsX3_adds rfl (Nat.le_of_ble_eq_true rfl) (At.sub (ls := [(0, .ref h0), (1, .ref p1), (2, .long p2)]) [0, 1, 2] rfl h)
set_option maxHeartbeats 4000000 in
theorem bX3_drinks_0 {G : GC} {Q : Option Value → PS → Prop} {X : String → Nat → PS → Prop} {b : Nat} {h0 : Nat} {y1 : Int64} {σ : PS} (h : ∃ a_drunk : Nat, Fg (σ) 3 h0 1 (.ref a_drunk) ∧ (∃ x_who : Int32, Fg (σ) 3 h0 10 (.int x_who) ∧ (∃ (n : Nat) (f : Nat → Int64), La (σ) 101 a_drunk n f ∧ vp_in x_who n ∧ (∀ w : Int64, w = ((f x_who.toNatClampNeg) + y1) → ∃ (n_1 : Nat) (f_2 : Nat → Int64), La (σ) 101 a_drunk n_1 f_2 ∧ vp_in x_who n_1 ∧ (∀ s1 : PS, s1 = up (σ) 101 a_drunk (.inr (n_1, .inr (.inl (vp_updL f_2 x_who.toNatClampNeg w)))) → Q none s1))))) : At G mX3_drinks 3 Q X b 0 [(0, .ref h0), (1, .long y1)] [] (σ) := by
  refine g_aload_n dX3_drinks_0 rfl 0 rfl ?_
  obtain ⟨a_drunk, hf, h⟩ := h
  refine g_get 1 dX3_drinks_1 in_X3 cl3 (by decide) q237 hf ?_
  refine g_aload_n dX3_drinks_4 rfl 0 rfl ?_
  obtain ⟨x_who, hf, h⟩ := h
  refine g_get 10 dX3_drinks_5 in_X3 cl3 (by decide) q254 hf ?_
  refine g_dup2 dX3_drinks_8 rfl rfl ?_
  obtain ⟨n, f, h1, h2, h⟩ := h
  refine g_lald dX3_drinks_9 h1 h2 ?_
  refine g_lload_n dX3_drinks_10 rfl 1 rfl ?_
  refine g_ladd dX3_drinks_11 ?_
  refine g_topl (fun w ew => ?_)
  replace h := h w ew
  obtain ⟨n_1, f_2, h1, h2, h⟩ := h
  refine g_last dX3_drinks_12 h1 h2 ?_
  refine g_tops (fun s1 es1 => ?_)
  replace h := h s1 es1
  exact g_vret rfl dX3_drinks_13 h
theorem eX3_drinks {G : GC} {Q : Option Value → PS → Prop} {X : String → Nat → PS → Prop} {b : Nat} {h0 : Nat} {p1 : Int64} {σ : PS} (h : At G mX3_drinks 3 Q X b 0 [(0, .ref h0), (1, .long p1)] [] σ) : Call G mX3_drinks 3 b [.ref h0, .long p1] σ Q X :=
  Call.of (by decide +kernel) wsX3_drinks rfl (Nat.le_of_ble_eq_true rfl) (At.sub (ls := [(0, .ref h0), (1, .long p1)]) [0, 1] rfl h)
set_option maxHeartbeats 4000000 in
theorem bX3_addsAt_0 {G : GC} {Q : Option Value → PS → Prop} {X : String → Nat → PS → Prop} {b : Nat} {h0 : Nat} {x1 : Int32} {y2 : Int64} {σ : PS} (h : ∃ a_next : Nat, Fg (σ) 3 h0 3 (.ref a_next) ∧ (∃ (n : Nat) (f : Nat → Int64), La (σ) 101 a_next n f ∧ vp_in x1 n ∧ (∀ w : Int64, w = ((f x1.toNatClampNeg) + y2) → ∃ (n_1 : Nat) (f_2 : Nat → Int64), La (σ) 101 a_next n_1 f_2 ∧ vp_in x1 n_1 ∧ (∀ s1 : PS, s1 = up (σ) 101 a_next (.inr (n_1, .inr (.inl (vp_updL f_2 x1.toNatClampNeg w)))) → Q none s1)))) : At G mX3_addsAt 3 Q X b 0 [(0, .ref h0), (1, .int x1), (2, .long y2)] [] (σ) := by
  refine g_aload_n dX3_addsAt_0 rfl 0 rfl ?_
  obtain ⟨a_next, hf, h⟩ := h
  refine g_get 3 dX3_addsAt_1 in_X3 cl3 (by decide) q240 hf ?_
  refine g_iload_n dX3_addsAt_4 rfl 1 rfl ?_
  refine g_dup2 dX3_addsAt_5 rfl rfl ?_
  obtain ⟨n, f, h1, h2, h⟩ := h
  refine g_lald dX3_addsAt_6 h1 h2 ?_
  refine g_lload_n dX3_addsAt_7 rfl 2 rfl ?_
  refine g_ladd dX3_addsAt_8 ?_
  refine g_topl (fun w ew => ?_)
  replace h := h w ew
  obtain ⟨n_1, f_2, h1, h2, h⟩ := h
  refine g_last dX3_addsAt_9 h1 h2 ?_
  refine g_tops (fun s1 es1 => ?_)
  replace h := h s1 es1
  exact g_vret rfl dX3_addsAt_10 h
theorem eX3_addsAt {G : GC} {Q : Option Value → PS → Prop} {X : String → Nat → PS → Prop} {b : Nat} {h0 : Nat} {p1 : Int32} {p2 : Int64} {σ : PS} (h : At G mX3_addsAt 3 Q X b 0 [(0, .ref h0), (1, .int p1), (2, .long p2)] [] σ) : Call G mX3_addsAt 3 b [.ref h0, .int p1, .long p2] σ Q X :=
  Call.of (by decide +kernel) wsX3_addsAt rfl (Nat.le_of_ble_eq_true rfl) (At.sub (ls := [(0, .ref h0), (1, .int p1), (2, .long p2)]) [0, 1, 2] rfl h)
set_option maxHeartbeats 4000000 in
theorem bX3_ends_0 {G : GC} {Q : Option Value → PS → Prop} {X : String → Nat → PS → Prop} {b : Nat} {h0 : Nat} {x1 : Int32} {σ : PS} (h : At G mX3_ends 6 Q X b 2 [(0, .ref h0), (1, .int x1), (2, .int 0)] [] (σ)) : At G mX3_ends 6 Q X b 0 [(0, .ref h0), (1, .int x1)] [] (σ) := by
  refine g_iconst (v := 0) dX3_ends_0 (by decide) ?_
  refine g_istore_n (ls1 := [(2, .int 0), (0, .ref h0), (1, .int x1)]) dX3_ends_1 rfl (by decide) rfl ?_
  exact At.sub (ls := [(2, .int 0), (0, .ref h0), (1, .int x1)]) [1, 2, 0] rfl h
set_option maxHeartbeats 4000000 in
theorem bX3_ends_2 {G : GC} {Q : Option Value → PS → Prop} {X : String → Nat → PS → Prop} {b : Nat} {h0 : Nat} {x1 : Int32} {x2 : Int32} {σ : PS} (h : (∃ fs_18 : List Value, Ob (σ) 3 h0 fs_18) ∧ CallO G mX3_last 4 [.ref h0] (σ) (pI (fun rx => ((rx ≤ x2) → (∃ fs : List Value, Ob (σ) 3 h0 fs) ∧ Call G mX3_turns 5 0 [.ref h0] (σ) (qV (fun s1_1 => Q none s1_1)) X) ∧ ((¬ rx ≤ x2) → ∃ a_now : Nat, Fg (σ) 3 h0 2 (.ref a_now) ∧ (∃ (n : Nat) (f : Nat → Int64), La (σ) 101 a_now n f ∧ vp_in x2 n ∧ (((¬ (f x2.toNatClampNeg) = 0) → ∃ a_state : Nat, Fg (σ) 3 h0 0 (.ref a_state) ∧ ((∃ fs_17 : List Value, Ob (σ) 4 a_state fs_17) ∧ Call G mX4_of 3 0 [.ref a_state, .int x2] (σ) (qR (fun ra s1_2 => ∃ fs : List Value, Ob s1_2 4 ra fs ∧ 4 < fs.length ∧ (∀ s1_3 : PS, s1_3 = up s1_2 4 ra (.inl (fs.set 4 (.int 0))) → ((x1 = (-1)) → At G mX3_ends 6 Q X b 80 [(0, .ref h0), (1, .int x1), (2, .int x2)] [] s1_3) ∧ ((¬ x1 = (-1)) → ∃ a_state_4 : Nat, Fg s1_3 3 h0 0 (.ref a_state_4) ∧ ((∃ fs_16 : List Value, Ob s1_3 4 a_state_4 fs_16) ∧ CallO G mX4_in 3 [.ref a_state_4] s1_3 (pI (fun rx_6 => ((rx_6 < x1) → At G mX3_ends 6 Q X b 80 [(0, .ref h0), (1, .int x1), (2, .int x2)] [] s1_3) ∧ ((¬ rx_6 < x1) → ∃ y_washed : Int64, Fg s1_3 3 h0 6 (.long y_washed) ∧ (∃ a_now_7 : Nat, Fg s1_3 3 h0 2 (.ref a_now_7) ∧ (∃ (n_8 : Nat) (f_9 : Nat → Int64), La s1_3 101 a_now_7 n_8 f_9 ∧ vp_in x2 n_8 ∧ (∃ a_state_10 : Nat, Fg s1_3 3 h0 0 (.ref a_state_10) ∧ (∃ x_visit : Int32, Fg s1_3 3 h0 8 (.int x_visit) ∧ ((∃ fs_15 : List Value, Ob s1_3 4 a_state_10 fs_15) ∧ Call G mX4_starts 4 0 [.ref a_state_10, .int x_visit] s1_3 (qI (fun rx_12 s1_11 => ∀ w : Int64, w = ((f_9 x2.toNatClampNeg) * rx_12.toInt64) → ∃ fs_13 : List Value, Ob s1_11 3 h0 fs_13 ∧ 6 < fs_13.length ∧ (∀ s1_14 : PS, s1_14 = up s1_11 3 h0 (.inl (fs_13.set 6 (.long (y_washed + w)))) → At G mX3_ends 6 Q X b 80 [(0, .ref h0), (1, .int x1), (2, .int x2)] [] s1_14))) X))))))))))))) X)) ∧ (((f x2.toNatClampNeg) = 0) → ∀ v2 : Int32, v2 = x2 + 1 → At G mX3_ends 6 Q X b 2 [(0, .ref h0), (1, .int x1), (2, .int v2)] [] (σ)))))))) : At G mX3_ends 6 Q X b 2 [(0, .ref h0), (1, .int x1), (2, .int x2)] [] (σ) := by
  refine g_iload_n dX3_ends_2 rfl 2 rfl ?_
  refine g_aload_n dX3_ends_3 rfl 0 rfl ?_
  obtain ⟨⟨_, hO⟩, h⟩ := h
  refine g_callV (N := mX3_last) (st := [.int x2]) (As := []) (a := h0) dX3_ends_4 wsX3_last (lw_V q582 q584 qs3 q110 q585) rfl mokX3_last rfl cl3 (by decide) (by decide) (Nat.zero_le _) (by simp [Value.category]) hO h (fun E q s hx => AtX.never hx) (fun _ s1 hq => ?_)
  obtain ⟨es, hq⟩ := hq
  refine g_tops2 es ?_
  obtain ⟨rx, rfl, h⟩ := hq
  refine At.stk (st' := [.int rx, .int x2]) rfl ?_
  refine g_icmp_ge (tgt := 107) dX3_ends_7 (by decide) (fun c => ?_) (fun c => ?_)
  · replace h := h.1 c
    refine g_aload_n dX3_ends_107 rfl 0 rfl ?_
    obtain ⟨⟨_, hO⟩, h⟩ := h
    refine g_callV (N := mX3_turns) (st := []) (As := []) (a := h0) dX3_ends_108 wsX3_turns (lw_V q590 q592 qs4 q110 q593) rfl mokX3_turns rfl cl3 (by decide) (by decide) (Nat.zero_le _) (Nat.zero_le _) hO h (fun E q s hx => AtX.out0 rfl hx) (fun _ s1_1 hq => ?_)
    obtain ⟨rfl, h⟩ := hq
    refine At.stk (st' := []) rfl ?_
    exact g_vret rfl dX3_ends_111 h
  · replace h := h.2 c
    refine g_aload_n dX3_ends_10 rfl 0 rfl ?_
    obtain ⟨a_now, hf, h⟩ := h
    refine g_get 2 dX3_ends_11 in_X3 cl3 (by decide) q239 hf ?_
    refine g_iload_n dX3_ends_14 rfl 2 rfl ?_
    obtain ⟨n, f, h1, h2, h⟩ := h
    refine g_lald dX3_ends_15 h1 h2 ?_
    refine g_lconst (v := 0) dX3_ends_16 (by decide) ?_
    refine g_lcmp_ne (tgt := 24) dX3_ends_17 dX3_ends_18 (by decide) (fun c => ?_) (fun c => ?_)
    · replace h := h.1 c
      refine g_aload_n dX3_ends_24 rfl 0 rfl ?_
      obtain ⟨a_state, hf, h⟩ := h
      refine g_get 0 dX3_ends_25 in_X3 cl3 (by decide) q236 hf ?_
      refine g_iload_n dX3_ends_28 rfl 2 rfl ?_
      obtain ⟨⟨_, hO⟩, h⟩ := h
      refine g_callV (N := mX4_of) (st := []) (As := [.int x2]) (a := a_state) dX3_ends_29 wsX4_of (lw_V q598 q599 q600 q111 q601) rfl mokX4_of rfl cl4 (by decide) (by decide) (Nat.zero_le _) (Nat.zero_le _) hO h (fun E q s hx => AtX.out0 rfl hx) (fun _ s1_2 hq => ?_)
      obtain ⟨ra, rfl, h⟩ := hq
      refine At.stk (st' := [.ref ra]) rfl ?_
      refine g_iconst (v := 0) dX3_ends_32 (by decide) ?_
      obtain ⟨fs, hO, hl, h⟩ := h
      refine g_putN 4 dX3_ends_33 in_X4 tyX4 tyX4_ok nmX4 cl4 (by decide) q224 rfl rfl rfl hO hl ?_
      refine g_tops (fun s1_3 es1_3 => ?_)
      replace h := h s1_3 es1_3
      refine g_iload_n dX3_ends_36 rfl 1 rfl ?_
      refine g_iconst (v := (-1)) dX3_ends_37 (by decide) ?_
      refine g_icmp_eq (tgt := 80) dX3_ends_38 (by decide) (fun c => ?_) (fun c => ?_)
      · replace h := h.1 c
        exact At.sub (ls := [(0, .ref h0), (1, .int x1), (2, .int x2)]) [0, 1, 2] rfl h
      · replace h := h.2 c
        refine g_aload_n dX3_ends_41 rfl 0 rfl ?_
        obtain ⟨a_state_4, hf, h⟩ := h
        refine g_get 0 dX3_ends_42 in_X3 cl3 (by decide) q236 hf ?_
        obtain ⟨⟨_, hO⟩, h⟩ := h
        refine g_callV (N := mX4_in) (st := []) (As := []) (a := a_state_4) dX3_ends_45 wsX4_in (lw_V q747 q619 q620 q111 q621) rfl mokX4_in rfl cl4 (by decide) (by decide) (Nat.zero_le _) (Nat.zero_le _) hO h (fun E q s hx => AtX.never hx) (fun _ s1_5 hq => ?_)
        obtain ⟨es, hq⟩ := hq
        refine g_tops2 es ?_
        obtain ⟨rx_6, rfl, h⟩ := hq
        refine At.stk (st' := [.int rx_6]) rfl ?_
        refine g_iload_n dX3_ends_48 rfl 1 rfl ?_
        refine g_icmp_lt (tgt := 80) dX3_ends_49 (by decide) (fun c => ?_) (fun c => ?_)
        · replace h := h.1 c
          exact At.sub (ls := [(0, .ref h0), (1, .int x1), (2, .int x2)]) [0, 1, 2] rfl h
        · replace h := h.2 c
          refine g_aload_n dX3_ends_52 rfl 0 rfl ?_
          refine g_dup dX3_ends_53 rfl ?_
          obtain ⟨y_washed, hf, h⟩ := h
          refine g_get 6 dX3_ends_54 in_X3 cl3 (by decide) q245 hf ?_
          refine g_aload_n dX3_ends_57 rfl 0 rfl ?_
          obtain ⟨a_now_7, hf, h⟩ := h
          refine g_get 2 dX3_ends_58 in_X3 cl3 (by decide) q239 hf ?_
          refine g_iload_n dX3_ends_61 rfl 2 rfl ?_
          obtain ⟨n_8, f_9, h1, h2, h⟩ := h
          refine g_lald dX3_ends_62 h1 h2 ?_
          refine g_aload_n dX3_ends_63 rfl 0 rfl ?_
          obtain ⟨a_state_10, hf, h⟩ := h
          refine g_get 0 dX3_ends_64 in_X3 cl3 (by decide) q236 hf ?_
          refine g_aload_n dX3_ends_67 rfl 0 rfl ?_
          obtain ⟨x_visit, hf, h⟩ := h
          refine g_get 8 dX3_ends_68 in_X3 cl3 (by decide) q251 hf ?_
          obtain ⟨⟨_, hO⟩, h⟩ := h
          refine g_callV (N := mX4_starts) (st := [.long (f_9 x2.toNatClampNeg), .long y_washed, .ref h0]) (As := [.int x_visit]) (a := a_state_10) dX3_ends_71 wsX4_starts (lw_V q748 q715 q716 q111 q717) rfl mokX4_starts rfl cl4 (by decide) (by decide) (Nat.zero_le _) (by simp [Value.category]) hO h (fun E q s hx => AtX.out0 rfl hx) (fun _ s1_11 hq => ?_)
          obtain ⟨rx_12, rfl, h⟩ := hq
          refine At.stk (st' := [.int rx_12, .long (f_9 x2.toNatClampNeg), .long y_washed, .ref h0]) rfl ?_
          refine g_i2l dX3_ends_74 ?_
          refine g_lmul dX3_ends_75 ?_
          refine g_topl (fun w ew => ?_)
          replace h := h w ew
          refine g_ladd dX3_ends_76 ?_
          obtain ⟨fs_13, hO, hl, h⟩ := h
          refine g_put 6 dX3_ends_77 in_X3 tyX3 tyX3_ok nmX3 cl3 (by decide) q245 rfl rfl rfl hO hl ?_
          refine g_tops (fun s1_14 es1_14 => ?_)
          replace h := h s1_14 es1_14
          exact At.sub (ls := [(0, .ref h0), (1, .int x1), (2, .int x2)]) [0, 1, 2] rfl h
    · replace h := h.2 c
      refine g_goto (tgt := 101) dX3_ends_21 (by decide) ?_
      obtain ⟨v2, ev2⟩ : ∃ z : Int32, z = x2 + 1 := ⟨_, rfl⟩
      refine g_iinc (v := v2) (ls1 := [(2, .int v2), (0, .ref h0), (1, .int x1)]) dX3_ends_101 2 rfl (by rw [ev2]; rfl) (by decide) rfl ?_
      replace h := h v2 ev2
      refine g_goto (tgt := 2) dX3_ends_104 (by decide) ?_
      exact At.sub (ls := [(2, .int v2), (0, .ref h0), (1, .int x1)]) [1, 2, 0] rfl h
set_option maxHeartbeats 4000000 in
theorem bX3_ends_80 {G : GC} {Q : Option Value → PS → Prop} {X : String → Nat → PS → Prop} {b : Nat} {h0 : Nat} {x1 : Int32} {x2 : Int32} {σ : PS} (h : ∃ a_next : Nat, Fg (σ) 3 h0 3 (.ref a_next) ∧ (∃ a_state : Nat, Fg (σ) 3 h0 0 (.ref a_state) ∧ ((∃ fs : List Value, Ob (σ) 4 a_state fs) ∧ CallO G mX4_code 4 [.ref a_state] (σ) (pI (fun rx => ∃ (n : Nat) (f : Nat → Int64), La (σ) 101 a_next n f ∧ vp_in rx n ∧ (∃ a_now : Nat, Fg (σ) 3 h0 2 (.ref a_now) ∧ (∃ (n_1 : Nat) (f_2 : Nat → Int64), La (σ) 101 a_now n_1 f_2 ∧ vp_in x2 n_1 ∧ (∀ w : Int64, w = ((f rx.toNatClampNeg) + (f_2 x2.toNatClampNeg)) → ∃ (n_3 : Nat) (f_4 : Nat → Int64), La (σ) 101 a_next n_3 f_4 ∧ vp_in rx n_3 ∧ (∀ s1_5 : PS, s1_5 = up (σ) 101 a_next (.inr (n_3, .inr (.inl (vp_updL f_4 rx.toNatClampNeg w)))) → ∀ v2 : Int32, v2 = x2 + 1 → At G mX3_ends 6 Q X b 2 [(0, .ref h0), (1, .int x1), (2, .int v2)] [] s1_5))))))))) : At G mX3_ends 6 Q X b 80 [(0, .ref h0), (1, .int x1), (2, .int x2)] [] (σ) := by
  refine g_aload_n dX3_ends_80 rfl 0 rfl ?_
  obtain ⟨a_next, hf, h⟩ := h
  refine g_get 3 dX3_ends_81 in_X3 cl3 (by decide) q240 hf ?_
  refine g_aload_n dX3_ends_84 rfl 0 rfl ?_
  obtain ⟨a_state, hf, h⟩ := h
  refine g_get 0 dX3_ends_85 in_X3 cl3 (by decide) q236 hf ?_
  obtain ⟨⟨_, hO⟩, h⟩ := h
  refine g_callV (N := mX4_code) (st := [.ref a_next]) (As := []) (a := a_state) dX3_ends_88 wsX4_code (lw_V q693 q694 q695 q111 q696) rfl mokX4_code rfl cl4 (by decide) (by decide) (Nat.zero_le _) (by simp [Value.category]) hO h (fun E q s hx => AtX.never hx) (fun _ s1 hq => ?_)
  obtain ⟨es, hq⟩ := hq
  refine g_tops2 es ?_
  obtain ⟨rx, rfl, h⟩ := hq
  refine At.stk (st' := [.int rx, .ref a_next]) rfl ?_
  refine g_dup2 dX3_ends_91 rfl rfl ?_
  obtain ⟨n, f, h1, h2, h⟩ := h
  refine g_lald dX3_ends_92 h1 h2 ?_
  refine g_aload_n dX3_ends_93 rfl 0 rfl ?_
  obtain ⟨a_now, hf, h⟩ := h
  refine g_get 2 dX3_ends_94 in_X3 cl3 (by decide) q239 hf ?_
  refine g_iload_n dX3_ends_97 rfl 2 rfl ?_
  obtain ⟨n_1, f_2, h1, h2, h⟩ := h
  refine g_lald dX3_ends_98 h1 h2 ?_
  refine g_ladd dX3_ends_99 ?_
  refine g_topl (fun w ew => ?_)
  replace h := h w ew
  obtain ⟨n_3, f_4, h1, h2, h⟩ := h
  refine g_last dX3_ends_100 h1 h2 ?_
  refine g_tops (fun s1_5 es1_5 => ?_)
  replace h := h s1_5 es1_5
  obtain ⟨v2, ev2⟩ : ∃ z : Int32, z = x2 + 1 := ⟨_, rfl⟩
  refine g_iinc (v := v2) (ls1 := [(2, .int v2), (0, .ref h0), (1, .int x1)]) dX3_ends_101 2 rfl (by rw [ev2]; rfl) (by decide) rfl ?_
  replace h := h v2 ev2
  refine g_goto (tgt := 2) dX3_ends_104 (by decide) ?_
  exact At.sub (ls := [(2, .int v2), (0, .ref h0), (1, .int x1)]) [1, 2, 0] rfl h
theorem eX3_ends {G : GC} {Q : Option Value → PS → Prop} {X : String → Nat → PS → Prop} {b : Nat} {h0 : Nat} {p1 : Int32} {σ : PS} (h : At G mX3_ends 6 Q X b 0 [(0, .ref h0), (1, .int p1)] [] σ) : Call G mX3_ends 6 b [.ref h0, .int p1] σ Q X :=
  Call.of (by decide +kernel) wsX3_ends rfl (Nat.le_of_ble_eq_true rfl) (At.sub (ls := [(0, .ref h0), (1, .int p1)]) [0, 1] rfl h)
set_option maxHeartbeats 4000000 in
theorem bX3_truly_0 {G : GC} {Q : Option Value → PS → Prop} {X : String → Nat → PS → Prop} {b : Nat} {h0 : Nat} {σ : PS} (h : ∃ bc : Nat, bc ≤ b ∧ (∃ fs : List Value, Ob (σ) 3 h0 fs) ∧ Call G mX3_likely 5 bc [.ref h0, .int 1, .int (-1)] (σ) (qJ (fun ry s1 => Q (some (.long ry)) s1)) X) : At G mX3_truly 6 Q X b 0 [(0, .ref h0)] [] (σ) := by
  refine g_aload_n dX3_truly_0 rfl 0 rfl ?_
  refine g_iconst (v := 1) dX3_truly_1 (by decide) ?_
  refine g_iconst (v := (-1)) dX3_truly_2 (by decide) ?_
  obtain ⟨bc, hb9, h⟩ := h
  obtain ⟨⟨_, hO⟩, h⟩ := h
  refine g_callV (N := mX3_likely) (st := []) (As := [.int 1, .int (-1)]) (a := h0) dX3_truly_3 wsX3_likely (lw_V q753 q754 q755 q110 q756) rfl mokX3_likely rfl cl3 (by decide) (by decide) hb9 (Nat.zero_le _) hO h (fun E q s hx => AtX.out0 rfl hx) (fun _ s1 hq => ?_)
  obtain ⟨ry, rfl, h⟩ := hq
  refine At.stk (st' := [.long ry]) rfl ?_
  exact g_lret rfl dX3_truly_6 h
theorem eX3_truly {G : GC} {Q : Option Value → PS → Prop} {X : String → Nat → PS → Prop} {b : Nat} {h0 : Nat} {σ : PS} (h : At G mX3_truly 6 Q X b 0 [(0, .ref h0)] [] σ) : Call G mX3_truly 6 b [.ref h0] σ Q X :=
  Call.of (by decide +kernel) wsX3_truly rfl (Nat.le_of_ble_eq_true rfl) (At.sub (ls := [(0, .ref h0)]) [0] rfl h)
set_option maxHeartbeats 4000000 in
theorem bX3_likely_0 {G : GC} {Q : Option Value → PS → Prop} {X : String → Nat → PS → Prop} {b : Nat} {h0 : Nat} {x1 : Int32} {x2 : Int32} {σ : PS} (h : ((¬ x2 = (-1)) → 1 ≤ b ∧ (∀ q : Nat, (∀ κ, σ κ q = none) → (∀ s1 : PS, s1 = up (σ) 26 q (.inl [.null, .null, .int 0, .int 0, .int 0, .null]) → ∃ a_office : Nat, Fg s1 3 h0 4 (.ref a_office) ∧ (∃ a_calendar : Nat, Fg s1 3 h0 5 (.ref a_calendar) ∧ (Call G mX26_init 4 0 [.ref q, .ref a_office, .ref a_calendar, .int x2] s1 (qV (fun s1_1 => At G mX3_likely 5 Q X (b - 1) 32 [(0, .ref h0), (1, .int x1), (3, va_rf (some q)), (4, .long 0), (6, .int 0)] [] s1_1)) X))))) ∧ ((x2 = (-1)) → At G mX3_likely 5 Q X b 32 [(0, .ref h0), (1, .int x1), (3, va_rf none), (4, .long 0), (6, .int 0)] [] (σ))) : At G mX3_likely 5 Q X b 0 [(0, .ref h0), (1, .int x1), (2, .int x2)] [] (σ) := by
  refine g_iload_n dX3_likely_0 rfl 2 rfl ?_
  refine g_iconst (v := (-1)) dX3_likely_1 (by decide) ?_
  refine g_icmp_ne (tgt := 9) dX3_likely_2 (by decide) (fun c => ?_) (fun c => ?_)
  · replace h := h.1 c
    obtain ⟨hb, h⟩ := h
    refine g_new (ci := 26) (fs := [.null, .null, .int 0, .int 0, .int 0, .null]) 1 dX3_likely_9 in_X26 tyX26 tyX26_ok cl26 q544 q545 q144 new26 (by decide) (by decide) hb (fun q hq => ?_)
    replace h := h q hq
    refine g_tops (fun s1 es1 => ?_)
    replace h := h s1 es1
    refine g_dup dX3_likely_12 rfl ?_
    refine g_aload_n dX3_likely_13 rfl 0 rfl ?_
    obtain ⟨a_office, hf, h⟩ := h
    refine g_get 4 dX3_likely_14 in_X3 cl3 (by decide) q241 hf ?_
    refine g_aload_n dX3_likely_17 rfl 0 rfl ?_
    obtain ⟨a_calendar, hf, h⟩ := h
    refine g_get 5 dX3_likely_18 in_X3 cl3 (by decide) q243 hf ?_
    refine g_iload_n dX3_likely_21 rfl 2 rfl ?_
    refine g_callI (N := mX26_init) (st := [.ref q]) (As := [.ref a_office, .ref a_calendar, .int x2]) (a := q) dX3_likely_22 wsX26_init q548 q144 q546 q547 rfl mokX26_init rfl (by decide) (by decide) (Nat.zero_le _) (by simp [Value.category]) h (fun E q s hx => AtX.out0 rfl hx) (fun _ s1_1 hq => ?_)
    obtain ⟨rfl, h⟩ := hq
    refine At.stk (st' := [.ref q]) rfl ?_
    refine g_astore_n (ls1 := [(3, .ref q), (0, .ref h0), (1, .int x1), (2, .int x2)]) dX3_likely_25 rfl (by decide) rfl ?_
    refine g_lconst (v := 0) dX3_likely_26 (by decide) ?_
    refine g_lstore (ls1 := [(4, .long 0), (3, .ref q), (0, .ref h0), (1, .int x1), (2, .int x2)]) dX3_likely_27 (by decide) rfl ?_
    refine g_iconst (v := 0) dX3_likely_29 (by decide) ?_
    refine g_istore (ls1 := [(6, .int 0), (4, .long 0), (3, .ref q), (0, .ref h0), (1, .int x1), (2, .int x2)]) dX3_likely_30 (by decide) rfl ?_
    exact At.sub (ls := [(6, .int 0), (4, .long 0), (3, .ref q), (0, .ref h0), (1, .int x1), (2, .int x2)]) [3, 4, 2, 1, 0] rfl h
  · replace h := h.2 c
    refine g_null dX3_likely_5 ?_
    refine g_goto (tgt := 25) dX3_likely_6 (by decide) ?_
    refine g_astoreq_n (x := none) (ls1 := [(3, va_rf none), (0, .ref h0), (1, .int x1), (2, .int x2)]) dX3_likely_25 rfl (by decide) rfl ?_
    refine g_lconst (v := 0) dX3_likely_26 (by decide) ?_
    refine g_lstore (ls1 := [(4, .long 0), (3, va_rf none), (0, .ref h0), (1, .int x1), (2, .int x2)]) dX3_likely_27 (by decide) (by simp [cat_q, cat_i9, cat_j9, cat_r9, cat_n9]) ?_
    refine g_iconst (v := 0) dX3_likely_29 (by decide) ?_
    refine g_istore (ls1 := [(6, .int 0), (4, .long 0), (3, va_rf none), (0, .ref h0), (1, .int x1), (2, .int x2)]) dX3_likely_30 (by decide) (by simp [cat_q, cat_i9, cat_j9, cat_r9, cat_n9]) ?_
    exact At.sub (ls := [(6, .int 0), (4, .long 0), (3, va_rf none), (0, .ref h0), (1, .int x1), (2, .int x2)]) [3, 4, 2, 1, 0] rfl h
set_option maxHeartbeats 4000000 in
theorem bX3_likely_32 {G : GC} {Q : Option Value → PS → Prop} {X : String → Nat → PS → Prop} {b : Nat} {h0 : Nat} {x1 : Int32} {u3 : Option Nat} {y4 : Int64} {x6 : Int32} {σ : PS} (h : ((16900 ≤ x6) → Q (some (.long y4)) (σ)) ∧ ((¬ 16900 ≤ x6) → ∃ a_now : Nat, Fg (σ) 3 h0 2 (.ref a_now) ∧ (∃ (n : Nat) (f : Nat → Int64), La (σ) 101 a_now n f ∧ vp_in x6 n ∧ ((((f x6.toNatClampNeg) = 0) → ∀ v6 : Int32, v6 = x6 + 1 → At G mX3_likely 5 Q X b 32 [(0, .ref h0), (1, .int x1), (3, va_rf u3), (4, .long y4), (6, .int v6)] [] (σ)) ∧ ((¬ (f x6.toNatClampNeg) = 0) → ∃ a_state : Nat, Fg (σ) 3 h0 0 (.ref a_state) ∧ ((∃ fs_5 : List Value, Ob (σ) 4 a_state fs_5) ∧ Call G mX4_of 3 0 [.ref a_state, .int x6] (σ) (qR (fun ra s1 => (∃ fs : List Value, Ob s1 3 h0 fs) ∧ Call G mX3_is 4 0 [.ref h0, .int x1, .ref ra, va_rf u3] s1 (qI (fun rx s1_1 => ((rx = 0) → ∀ v6 : Int32, v6 = x6 + 1 → At G mX3_likely 5 Q X b 32 [(0, .ref h0), (1, .int x1), (3, va_rf u3), (4, .long y4), (6, .int v6)] [] s1_1) ∧ ((¬ rx = 0) → ∃ a_now_2 : Nat, Fg s1_1 3 h0 2 (.ref a_now_2) ∧ (∃ (n_3 : Nat) (f_4 : Nat → Int64), La s1_1 101 a_now_2 n_3 f_4 ∧ vp_in x6 n_3 ∧ (∀ w : Int64, w = (y4 + (f_4 x6.toNatClampNeg)) → ∀ v6 : Int32, v6 = x6 + 1 → At G mX3_likely 5 Q X b 32 [(0, .ref h0), (1, .int x1), (3, va_rf u3), (4, .long w), (6, .int v6)] [] s1_1))))) X)) X)))))) : At G mX3_likely 5 Q X b 32 [(0, .ref h0), (1, .int x1), (3, va_rf u3), (4, .long y4), (6, .int x6)] [] (σ) := by
  refine g_iload dX3_likely_32 4 rfl ?_
  refine g_sipush (v := 16900) dX3_likely_34 (by decide) ?_
  refine g_icmp_ge (tgt := 88) dX3_likely_37 (by decide) (fun c => ?_) (fun c => ?_)
  · replace h := h.1 c
    refine g_lload dX3_likely_88 3 rfl ?_
    exact g_lret rfl dX3_likely_90 h
  · replace h := h.2 c
    refine g_aload_n dX3_likely_40 rfl 0 rfl ?_
    obtain ⟨a_now, hf, h⟩ := h
    refine g_get 2 dX3_likely_41 in_X3 cl3 (by decide) q239 hf ?_
    refine g_iload dX3_likely_44 4 rfl ?_
    obtain ⟨n, f, h1, h2, h⟩ := h
    refine g_lald dX3_likely_46 h1 h2 ?_
    refine g_lconst (v := 0) dX3_likely_47 (by decide) ?_
    refine g_lcmp_eq (tgt := 82) dX3_likely_48 dX3_likely_49 (by decide) (fun c => ?_) (fun c => ?_)
    · replace h := h.1 c
      obtain ⟨v6, ev6⟩ : ∃ z : Int32, z = x6 + 1 := ⟨_, rfl⟩
      refine g_iinc (v := v6) (ls1 := [(6, .int v6), (0, .ref h0), (1, .int x1), (3, va_rf u3), (4, .long y4)]) dX3_likely_82 4 rfl (by rw [ev6]; rfl) (by decide) (by simp [cat_q, cat_i9, cat_j9, cat_r9, cat_n9]) ?_
      replace h := h v6 ev6
      refine g_goto (tgt := 32) dX3_likely_85 (by decide) ?_
      exact At.sub (ls := [(6, .int v6), (0, .ref h0), (1, .int x1), (3, va_rf u3), (4, .long y4)]) [1, 2, 3, 4, 0] rfl h
    · replace h := h.2 c
      refine g_aload_n dX3_likely_52 rfl 0 rfl ?_
      refine g_iload_n dX3_likely_53 rfl 1 rfl ?_
      refine g_aload_n dX3_likely_54 rfl 0 rfl ?_
      obtain ⟨a_state, hf, h⟩ := h
      refine g_get 0 dX3_likely_55 in_X3 cl3 (by decide) q236 hf ?_
      refine g_iload dX3_likely_58 4 rfl ?_
      obtain ⟨⟨_, hO⟩, h⟩ := h
      refine g_callV (N := mX4_of) (st := [.int x1, .ref h0]) (As := [.int x6]) (a := a_state) dX3_likely_60 wsX4_of (lw_V q598 q599 q600 q111 q601) rfl mokX4_of rfl cl4 (by decide) (by decide) (Nat.zero_le _) (by simp [Value.category]) hO h (fun E q s hx => AtX.out0 rfl hx) (fun _ s1 hq => ?_)
      obtain ⟨ra, rfl, h⟩ := hq
      refine At.stk (st' := [.ref ra, .int x1, .ref h0]) rfl ?_
      refine g_aloadq_n dX3_likely_63 rfl 2 rfl ?_
      obtain ⟨⟨_, hO⟩, h⟩ := h
      refine g_callV (N := mX3_is) (st := []) (As := [.int x1, .ref ra, va_rf u3]) (a := h0) dX3_likely_64 wsX3_is (lw_V q757 q759 qs9 q110 q760) rfl mokX3_is rfl cl3 (by decide) (by decide) (Nat.zero_le _) (Nat.zero_le _) hO h (fun E q s hx => AtX.out0 rfl hx) (fun _ s1_1 hq => ?_)
      obtain ⟨rx, rfl, h⟩ := hq
      refine At.stk (st' := [.int rx]) rfl ?_
      refine g_if_eq (tgt := 82) dX3_likely_67 (by decide) (fun c => ?_) (fun c => ?_)
      · replace h := h.1 c
        obtain ⟨v6, ev6⟩ : ∃ z : Int32, z = x6 + 1 := ⟨_, rfl⟩
        refine g_iinc (v := v6) (ls1 := [(6, .int v6), (0, .ref h0), (1, .int x1), (3, va_rf u3), (4, .long y4)]) dX3_likely_82 4 rfl (by rw [ev6]; rfl) (by decide) (by simp [cat_q, cat_i9, cat_j9, cat_r9, cat_n9]) ?_
        replace h := h v6 ev6
        refine g_goto (tgt := 32) dX3_likely_85 (by decide) ?_
        exact At.sub (ls := [(6, .int v6), (0, .ref h0), (1, .int x1), (3, va_rf u3), (4, .long y4)]) [1, 2, 3, 4, 0] rfl h
      · replace h := h.2 c
        refine g_lload dX3_likely_70 3 rfl ?_
        refine g_aload_n dX3_likely_72 rfl 0 rfl ?_
        obtain ⟨a_now_2, hf, h⟩ := h
        refine g_get 2 dX3_likely_73 in_X3 cl3 (by decide) q239 hf ?_
        refine g_iload dX3_likely_76 4 rfl ?_
        obtain ⟨n_3, f_4, h1, h2, h⟩ := h
        refine g_lald dX3_likely_78 h1 h2 ?_
        refine g_ladd dX3_likely_79 ?_
        refine g_topl (fun w ew => ?_)
        replace h := h w ew
        refine g_lstore (ls1 := [(4, .long w), (0, .ref h0), (1, .int x1), (3, va_rf u3), (6, .int x6)]) dX3_likely_80 (by decide) (by simp [cat_q, cat_i9, cat_j9, cat_r9, cat_n9]) ?_
        obtain ⟨v6, ev6⟩ : ∃ z : Int32, z = x6 + 1 := ⟨_, rfl⟩
        refine g_iinc (v := v6) (ls1 := [(6, .int v6), (4, .long w), (0, .ref h0), (1, .int x1), (3, va_rf u3)]) dX3_likely_82 4 rfl (by rw [ev6]; rfl) (by decide) (by simp [cat_q, cat_i9, cat_j9, cat_r9, cat_n9]) ?_
        replace h := h v6 ev6
        refine g_goto (tgt := 32) dX3_likely_85 (by decide) ?_
        exact At.sub (ls := [(6, .int v6), (4, .long w), (0, .ref h0), (1, .int x1), (3, va_rf u3)]) [2, 3, 4, 1, 0] rfl h
theorem eX3_likely {G : GC} {Q : Option Value → PS → Prop} {X : String → Nat → PS → Prop} {b : Nat} {h0 : Nat} {p1 : Int32} {p2 : Int32} {σ : PS} (h : At G mX3_likely 5 Q X b 0 [(0, .ref h0), (1, .int p1), (2, .int p2)] [] σ) : Call G mX3_likely 5 b [.ref h0, .int p1, .int p2] σ Q X :=
  Call.of (by decide +kernel) wsX3_likely rfl (Nat.le_of_ble_eq_true rfl) (At.sub (ls := [(0, .ref h0), (1, .int p1), (2, .int p2)]) [0, 1, 2] rfl h)
set_option maxHeartbeats 4000000 in
theorem bX3_is_0 {G : GC} {Q : Option Value → PS → Prop} {X : String → Nat → PS → Prop} {b : Nat} {h0 : Nat} {x1 : Int32} {a2 : Nat} {u3 : Option Nat} {σ : PS} (h : (x1.toInt < 0 ∨ 4 < x1.toInt → (∃ fs : List Value, Ob (σ) 4 a2 fs) ∧ CallO G mX4_in 3 [.ref a2] (σ) (pI (fun rx => ∃ a_office : Nat, Fg (σ) 3 h0 4 (.ref a_office) ∧ (∃ x_cups : Int32, Fg (σ) 7 a_office 1 (.int x_cups) ∧ (((¬ rx = x_cups) → Q (some (.int 0)) (σ)) ∧ ((rx = x_cups) → Q (some (.int 1)) (σ))))))) ∧ (x1 = 0 → ∃ x_dirty : Int32, Fg (σ) 4 a2 2 (.int x_dirty) ∧ (((¬ x_dirty = 0) → Q (some (.int 0)) (σ)) ∧ ((x_dirty = 0) → Q (some (.int 1)) (σ)))) ∧ (x1 = 1 → (∃ fs : List Value, Ob (σ) 4 a2 fs) ∧ CallO G mX4_isTrue 3 [.ref a2] (σ) (pI (fun rx => (rx = 0 ∨ rx = 1) ∧ Q (some (.int rx)) (σ)))) ∧ (x1 = 2 → ∃ z : Nat, u3 = some z ∧ ((∃ fs_2 : List Value, Ob (σ) 26 z fs_2) ∧ Call G mX26_at 3 0 [.ref z, .ref a2] (σ) (qR (fun ra s1 => (∃ fs : List Value, Ob s1 26 ra fs) ∧ CallO G mX26_isWarm 3 [.ref ra] s1 (pI (fun rx => (rx = 0 ∨ rx = 1) ∧ Q (some (.int rx)) s1)))) X)) ∧ (x1 = 3 → ∃ x_card : Int32, Fg (σ) 4 a2 3 (.int x_card) ∧ (((¬ x_card = 1) → Q (some (.int 0)) (σ)) ∧ ((x_card = 1) → Q (some (.int 1)) (σ)))) ∧ (x1 = 4 → (∃ fs : List Value, Ob (σ) 4 a2 fs) ∧ CallO G mX4_in 3 [.ref a2] (σ) (pI (fun rx => ((¬ rx = 0) → Q (some (.int 0)) (σ)) ∧ ((rx = 0) → Q (some (.int 1)) (σ)))))) : At G mX3_is 4 Q X b 0 [(0, .ref h0), (1, .int x1), (2, .ref a2), (3, va_rf u3)] [] (σ) := by
  refine g_iload_n dX3_is_0 rfl 1 rfl ?_
  rcases tb_split x1 0 5 with ho | ⟨i9, hi9, ex9⟩
  · refine g_tableOut (tgt := 90) dX3_is_1 (by omega) (by decide) ?_
    replace h := h.1 ho
    refine g_aload_n dX3_is_90 rfl 2 rfl ?_
    obtain ⟨⟨_, hO⟩, h⟩ := h
    refine g_callV (N := mX4_in) (st := []) (As := []) (a := a2) dX3_is_91 wsX4_in (lw_V q747 q619 q620 q111 q621) rfl mokX4_in rfl cl4 (by decide) (by decide) (Nat.zero_le _) (Nat.zero_le _) hO h (fun E q s hx => AtX.never hx) (fun _ s1 hq => ?_)
    obtain ⟨es, hq⟩ := hq
    refine g_tops2 es ?_
    obtain ⟨rx, rfl, h⟩ := hq
    refine At.stk (st' := [.int rx]) rfl ?_
    refine g_aload_n dX3_is_94 rfl 0 rfl ?_
    obtain ⟨a_office, hf, h⟩ := h
    refine g_get 4 dX3_is_95 in_X3 cl3 (by decide) q241 hf ?_
    obtain ⟨x_cups, hf, h⟩ := h
    refine g_getN 1 dX3_is_98 in_X7 cl7 (by decide) q383 hf ?_
    refine g_icmp_ne (tgt := 108) dX3_is_101 (by decide) (fun c => ?_) (fun c => ?_)
    · replace h := h.1 c
      refine g_iconst (v := 0) dX3_is_108 (by decide) ?_
      exact g_zret rfl rfl dX3_is_109 h
    · replace h := h.2 c
      refine g_iconst (v := 1) dX3_is_104 (by decide) ?_
      refine g_goto (tgt := 109) dX3_is_105 (by decide) ?_
      exact g_zret rfl rfl dX3_is_109 h
  · replace h := h.2
    match i9, hi9, ex9 with
    | 0, _, ex9 =>
      have ex9 : x1 = 0 := ex9.trans (by decide)
      replace h := h.1 ex9
      refine g_tableIn (tgt := 36) dX3_is_1 (by rw [ex9]; decide) (by rw [ex9]; decide) (off := 35) (by rw [ex9]; decide) (by decide) ?_
      refine g_aload_n dX3_is_36 rfl 2 rfl ?_
      obtain ⟨x_dirty, hf, h⟩ := h
      refine g_getN 2 dX3_is_37 in_X4 cl4 (by decide) q210 hf ?_
      refine g_if_ne (tgt := 47) dX3_is_40 (by decide) (fun c => ?_) (fun c => ?_)
      · replace h := h.1 c
        refine g_iconst (v := 0) dX3_is_47 (by decide) ?_
        exact g_zret rfl rfl dX3_is_48 h
      · replace h := h.2 c
        refine g_iconst (v := 1) dX3_is_43 (by decide) ?_
        refine g_goto (tgt := 48) dX3_is_44 (by decide) ?_
        exact g_zret rfl rfl dX3_is_48 h
    | 1, _, ex9 =>
      have ex9 : x1 = 1 := ex9.trans (by decide)
      replace h := h.2.1 ex9
      refine g_tableIn (tgt := 49) dX3_is_1 (by rw [ex9]; decide) (by rw [ex9]; decide) (off := 48) (by rw [ex9]; decide) (by decide) ?_
      refine g_aload_n dX3_is_49 rfl 2 rfl ?_
      obtain ⟨⟨_, hO⟩, h⟩ := h
      refine g_callV (N := mX4_isTrue) (st := []) (As := []) (a := a2) dX3_is_50 wsX4_isTrue (lw_V q761 q762 q763 q111 q764) rfl mokX4_isTrue rfl cl4 (by decide) (by decide) (Nat.zero_le _) (Nat.zero_le _) hO h (fun E q s hx => AtX.never hx) (fun _ s1 hq => ?_)
      obtain ⟨es, hq⟩ := hq
      refine g_tops2 es ?_
      obtain ⟨rx, rfl, h⟩ := hq
      refine At.stk (st' := [.int rx]) rfl ?_
      exact g_zret rfl (nar_z h.1) dX3_is_53 h.2
    | 2, _, ex9 =>
      have ex9 : x1 = 2 := ex9.trans (by decide)
      replace h := h.2.2.1 ex9
      refine g_tableIn (tgt := 54) dX3_is_1 (by rw [ex9]; decide) (by rw [ex9]; decide) (off := 53) (by rw [ex9]; decide) (by decide) ?_
      refine g_aloadq_n dX3_is_54 rfl 3 rfl ?_
      refine g_aload_n dX3_is_55 rfl 2 rfl ?_
      obtain ⟨z, hz9, h⟩ := h
      refine At.stk (st' := [.ref a2, .ref z]) (by rw [hz9]; rfl) ?_
      obtain ⟨⟨_, hO⟩, h⟩ := h
      refine g_callV (N := mX26_at) (st := []) (As := [.ref a2]) (a := z) dX3_is_56 wsX26_at (lw_V q602 q603 q604 q144 q605) rfl mokX26_at rfl cl26 (by decide) (by decide) (Nat.zero_le _) (Nat.zero_le _) hO h (fun E q s hx => AtX.out0 rfl hx) (fun _ s1 hq => ?_)
      obtain ⟨ra, rfl, h⟩ := hq
      refine At.stk (st' := [.ref ra]) rfl ?_
      obtain ⟨⟨_, hO⟩, h⟩ := h
      refine g_callV (N := mX26_isWarm) (st := []) (As := []) (a := ra) dX3_is_59 wsX26_isWarm (lw_V q765 q615 q616 q144 q617) rfl mokX26_isWarm rfl cl26 (by decide) (by decide) (Nat.zero_le _) (Nat.zero_le _) hO h (fun E q s hx => AtX.never hx) (fun _ s1_1 hq => ?_)
      obtain ⟨es, hq⟩ := hq
      refine g_tops2 es ?_
      obtain ⟨rx, rfl, h⟩ := hq
      refine At.stk (st' := [.int rx]) rfl ?_
      exact g_zret rfl (nar_z h.1) dX3_is_62 h.2
    | 3, _, ex9 =>
      have ex9 : x1 = 3 := ex9.trans (by decide)
      replace h := h.2.2.2.1 ex9
      refine g_tableIn (tgt := 63) dX3_is_1 (by rw [ex9]; decide) (by rw [ex9]; decide) (off := 62) (by rw [ex9]; decide) (by decide) ?_
      refine g_aload_n dX3_is_63 rfl 2 rfl ?_
      obtain ⟨x_card, hf, h⟩ := h
      refine g_getN 3 dX3_is_64 in_X4 cl4 (by decide) q217 hf ?_
      refine g_iconst (v := 1) dX3_is_67 (by decide) ?_
      refine g_icmp_ne (tgt := 75) dX3_is_68 (by decide) (fun c => ?_) (fun c => ?_)
      · replace h := h.1 c
        refine g_iconst (v := 0) dX3_is_75 (by decide) ?_
        exact g_zret rfl rfl dX3_is_76 h
      · replace h := h.2 c
        refine g_iconst (v := 1) dX3_is_71 (by decide) ?_
        refine g_goto (tgt := 76) dX3_is_72 (by decide) ?_
        exact g_zret rfl rfl dX3_is_76 h
    | 4, _, ex9 =>
      have ex9 : x1 = 4 := ex9.trans (by decide)
      replace h := h.2.2.2.2 ex9
      refine g_tableIn (tgt := 77) dX3_is_1 (by rw [ex9]; decide) (by rw [ex9]; decide) (off := 76) (by rw [ex9]; decide) (by decide) ?_
      refine g_aload_n dX3_is_77 rfl 2 rfl ?_
      obtain ⟨⟨_, hO⟩, h⟩ := h
      refine g_callV (N := mX4_in) (st := []) (As := []) (a := a2) dX3_is_78 wsX4_in (lw_V q747 q619 q620 q111 q621) rfl mokX4_in rfl cl4 (by decide) (by decide) (Nat.zero_le _) (Nat.zero_le _) hO h (fun E q s hx => AtX.never hx) (fun _ s1 hq => ?_)
      obtain ⟨es, hq⟩ := hq
      refine g_tops2 es ?_
      obtain ⟨rx, rfl, h⟩ := hq
      refine At.stk (st' := [.int rx]) rfl ?_
      refine g_if_ne (tgt := 88) dX3_is_81 (by decide) (fun c => ?_) (fun c => ?_)
      · replace h := h.1 c
        refine g_iconst (v := 0) dX3_is_88 (by decide) ?_
        exact g_zret rfl rfl dX3_is_89 h
      · replace h := h.2 c
        refine g_iconst (v := 1) dX3_is_84 (by decide) ?_
        refine g_goto (tgt := 89) dX3_is_85 (by decide) ?_
        exact g_zret rfl rfl dX3_is_89 h
    | i9 + 5, hi9, _ => exact absurd hi9 (by omega)
theorem eX3_is {G : GC} {Q : Option Value → PS → Prop} {X : String → Nat → PS → Prop} {b : Nat} {h0 : Nat} {p1 : Int32} {p2 : Nat} {p3 : Option Nat} {σ : PS} (h : At G mX3_is 4 Q X b 0 [(0, .ref h0), (1, .int p1), (2, .ref p2), (3, va_rf p3)] [] σ) : Call G mX3_is 4 b [.ref h0, .int p1, .ref p2, va_rf p3] σ Q X :=
  by cases p3 <;> exact Call.of (by decide +kernel) wsX3_is rfl (Nat.le_of_ble_eq_true rfl) (At.sub [0, 1, 2, 3] rfl h)
set_option maxHeartbeats 4000000 in
theorem bX3_cost_0 {G : GC} {Q : Option Value → PS → Prop} {X : String → Nat → PS → Prop} {b : Nat} {h0 : Nat} {σ : PS} (h : ∃ y_washed : Int64, Fg (σ) 3 h0 6 (.long y_washed) ∧ (∃ a_office : Nat, Fg (σ) 3 h0 4 (.ref a_office) ∧ (∃ a_price : Nat, Fg (σ) 7 a_office 0 (.ref a_price) ∧ (∃ (n : Nat) (f : Nat → Int32), Ia (σ) 100 a_price n f ∧ 1 < n ∧ (∃ y_looks : Int64, Fg (σ) 3 h0 7 (.long y_looks) ∧ (∃ a_office_1 : Nat, Fg (σ) 3 h0 4 (.ref a_office_1) ∧ (∃ a_price_2 : Nat, Fg (σ) 7 a_office_1 0 (.ref a_price_2) ∧ (∃ (n_3 : Nat) (f_4 : Nat → Int32), Ia (σ) 100 a_price_2 n_3 f_4 ∧ 2 < n_3 ∧ (∀ w : Int64, w = (y_looks * (f_4 2).toInt64) → ∀ w_5 : Int64, w_5 = ((y_washed * (f 1).toInt64) + w) → At G mX3_cost 3 Q X b 34 [(0, .ref h0), (1, .long w_5), (3, .int 0)] [] (σ)))))))))) : At G mX3_cost 3 Q X b 0 [(0, .ref h0)] [] (σ) := by
  refine g_aload_n dX3_cost_0 rfl 0 rfl ?_
  obtain ⟨y_washed, hf, h⟩ := h
  refine g_get 6 dX3_cost_1 in_X3 cl3 (by decide) q245 hf ?_
  refine g_aload_n dX3_cost_4 rfl 0 rfl ?_
  obtain ⟨a_office, hf, h⟩ := h
  refine g_get 4 dX3_cost_5 in_X3 cl3 (by decide) q241 hf ?_
  obtain ⟨a_price, hf, h⟩ := h
  refine g_getN 0 dX3_cost_8 in_X7 cl7 (by decide) q376 hf ?_
  refine g_iconst (v := 1) dX3_cost_11 (by decide) ?_
  obtain ⟨n, f, h1, h2, h⟩ := h
  refine g_iald0 (j := 1) dX3_cost_12 h1 (by decide) rfl h2 ?_
  refine g_i2l dX3_cost_13 ?_
  refine g_lmul dX3_cost_14 ?_
  refine g_aload_n dX3_cost_15 rfl 0 rfl ?_
  obtain ⟨y_looks, hf, h⟩ := h
  refine g_get 7 dX3_cost_16 in_X3 cl3 (by decide) q247 hf ?_
  refine g_aload_n dX3_cost_19 rfl 0 rfl ?_
  obtain ⟨a_office_1, hf, h⟩ := h
  refine g_get 4 dX3_cost_20 in_X3 cl3 (by decide) q241 hf ?_
  obtain ⟨a_price_2, hf, h⟩ := h
  refine g_getN 0 dX3_cost_23 in_X7 cl7 (by decide) q376 hf ?_
  refine g_iconst (v := 2) dX3_cost_26 (by decide) ?_
  obtain ⟨n_3, f_4, h1, h2, h⟩ := h
  refine g_iald0 (j := 2) dX3_cost_27 h1 (by decide) rfl h2 ?_
  refine g_i2l dX3_cost_28 ?_
  refine g_lmul dX3_cost_29 ?_
  refine g_topl (fun w ew => ?_)
  replace h := h w ew
  refine g_ladd dX3_cost_30 ?_
  refine g_topl (fun w_5 ew_5 => ?_)
  replace h := h w_5 ew_5
  refine g_lstore_n (ls1 := [(1, .long w_5), (0, .ref h0)]) dX3_cost_31 rfl (by decide) rfl ?_
  refine g_iconst (v := 0) dX3_cost_32 (by decide) ?_
  refine g_istore_n (ls1 := [(3, .int 0), (1, .long w_5), (0, .ref h0)]) dX3_cost_33 rfl (by decide) rfl ?_
  exact At.sub (ls := [(3, .int 0), (1, .long w_5), (0, .ref h0)]) [2, 1, 0] rfl h
set_option maxHeartbeats 4000000 in
theorem bX3_cost_34 {G : GC} {Q : Option Value → PS → Prop} {X : String → Nat → PS → Prop} {b : Nat} {h0 : Nat} {y1 : Int64} {x3 : Int32} {σ : PS} (h : ((6 ≤ x3) → Q (some (.long y1)) (σ)) ∧ ((¬ 6 ≤ x3) → ∃ a_drunk : Nat, Fg (σ) 3 h0 1 (.ref a_drunk) ∧ (∃ (n : Nat) (f : Nat → Int64), La (σ) 101 a_drunk n f ∧ vp_in x3 n ∧ (∃ a_office : Nat, Fg (σ) 3 h0 4 (.ref a_office) ∧ (∃ a_price : Nat, Fg (σ) 7 a_office 0 (.ref a_price) ∧ (∃ (n_1 : Nat) (f_2 : Nat → Int32), Ia (σ) 100 a_price n_1 f_2 ∧ 0 < n_1 ∧ (∀ w : Int64, w = ((f x3.toNatClampNeg) * (f_2 0).toInt64) → ∀ v1 : Int64, v1 = (y1 + w) → ∀ v3 : Int32, v3 = x3 + 1 → At G mX3_cost 3 Q X b 34 [(0, .ref h0), (1, .long v1), (3, .int v3)] [] (σ)))))))) : At G mX3_cost 3 Q X b 34 [(0, .ref h0), (1, .long y1), (3, .int x3)] [] (σ) := by
  refine g_iload_n dX3_cost_34 rfl 2 rfl ?_
  refine g_bipush (v := 6) dX3_cost_35 (by decide) ?_
  refine g_icmp_ge (tgt := 66) dX3_cost_37 (by decide) (fun c => ?_) (fun c => ?_)
  · replace h := h.1 c
    refine g_lload_n dX3_cost_66 rfl 1 rfl ?_
    exact g_lret rfl dX3_cost_67 h
  · replace h := h.2 c
    refine g_lload_n dX3_cost_40 rfl 1 rfl ?_
    refine g_aload_n dX3_cost_41 rfl 0 rfl ?_
    obtain ⟨a_drunk, hf, h⟩ := h
    refine g_get 1 dX3_cost_42 in_X3 cl3 (by decide) q237 hf ?_
    refine g_iload_n dX3_cost_45 rfl 2 rfl ?_
    obtain ⟨n, f, h1, h2, h⟩ := h
    refine g_lald dX3_cost_46 h1 h2 ?_
    refine g_aload_n dX3_cost_47 rfl 0 rfl ?_
    obtain ⟨a_office, hf, h⟩ := h
    refine g_get 4 dX3_cost_48 in_X3 cl3 (by decide) q241 hf ?_
    obtain ⟨a_price, hf, h⟩ := h
    refine g_getN 0 dX3_cost_51 in_X7 cl7 (by decide) q376 hf ?_
    refine g_iconst (v := 0) dX3_cost_54 (by decide) ?_
    obtain ⟨n_1, f_2, h1, h2, h⟩ := h
    refine g_iald0 (j := 0) dX3_cost_55 h1 (by decide) rfl h2 ?_
    refine g_i2l dX3_cost_56 ?_
    refine g_lmul dX3_cost_57 ?_
    refine g_topl (fun w ew => ?_)
    replace h := h w ew
    refine g_ladd dX3_cost_58 ?_
    refine g_topl (fun v1 ev1 => ?_)
    replace h := h v1 ev1
    refine g_lstore_n (ls1 := [(1, .long v1), (0, .ref h0), (3, .int x3)]) dX3_cost_59 rfl (by decide) rfl ?_
    obtain ⟨v3, ev3⟩ : ∃ z : Int32, z = x3 + 1 := ⟨_, rfl⟩
    refine g_iinc (v := v3) (ls1 := [(3, .int v3), (1, .long v1), (0, .ref h0)]) dX3_cost_60 2 rfl (by rw [ev3]; rfl) (by decide) rfl ?_
    replace h := h v3 ev3
    refine g_goto (tgt := 34) dX3_cost_63 (by decide) ?_
    exact At.sub (ls := [(3, .int v3), (1, .long v1), (0, .ref h0)]) [2, 1, 0] rfl h
theorem eX3_cost {G : GC} {Q : Option Value → PS → Prop} {X : String → Nat → PS → Prop} {b : Nat} {h0 : Nat} {σ : PS} (h : At G mX3_cost 3 Q X b 0 [(0, .ref h0)] [] σ) : Call G mX3_cost 3 b [.ref h0] σ Q X :=
  Call.of (by decide +kernel) wsX3_cost rfl (Nat.le_of_ble_eq_true rfl) (At.sub (ls := [(0, .ref h0)]) [0] rfl h)
set_option maxHeartbeats 4000000 in
theorem bX3_many_0 {G : GC} {Q : Option Value → PS → Prop} {X : String → Nat → PS → Prop} {b : Nat} {h0 : Nat} {σ : PS} (h : At G mX3_many 3 Q X b 4 [(0, .ref h0), (1, .int 0), (2, .int 0)] [] (σ)) : At G mX3_many 3 Q X b 0 [(0, .ref h0)] [] (σ) := by
  refine g_iconst (v := 0) dX3_many_0 (by decide) ?_
  refine g_istore_n (ls1 := [(1, .int 0), (0, .ref h0)]) dX3_many_1 rfl (by decide) rfl ?_
  refine g_iconst (v := 0) dX3_many_2 (by decide) ?_
  refine g_istore_n (ls1 := [(2, .int 0), (1, .int 0), (0, .ref h0)]) dX3_many_3 rfl (by decide) rfl ?_
  exact At.sub (ls := [(2, .int 0), (1, .int 0), (0, .ref h0)]) [2, 1, 0] rfl h
set_option maxHeartbeats 4000000 in
theorem bX3_many_4 {G : GC} {Q : Option Value → PS → Prop} {X : String → Nat → PS → Prop} {b : Nat} {h0 : Nat} {x1 : Int32} {x2 : Int32} {σ : PS} (h : ((16900 ≤ x2) → Q (some (.int x1)) (σ)) ∧ ((¬ 16900 ≤ x2) → ∃ a_now : Nat, Fg (σ) 3 h0 2 (.ref a_now) ∧ (∃ (n : Nat) (f : Nat → Int64), La (σ) 101 a_now n f ∧ vp_in x2 n ∧ ((((f x2.toNatClampNeg) = 0) → ∀ v2 : Int32, v2 = x2 + 1 → At G mX3_many 3 Q X b 4 [(0, .ref h0), (1, .int x1), (2, .int v2)] [] (σ)) ∧ ((¬ (f x2.toNatClampNeg) = 0) → ∀ v1 : Int32, v1 = x1 + 1 → ∀ v2 : Int32, v2 = x2 + 1 → At G mX3_many 3 Q X b 4 [(0, .ref h0), (1, .int v1), (2, .int v2)] [] (σ)))))) : At G mX3_many 3 Q X b 4 [(0, .ref h0), (1, .int x1), (2, .int x2)] [] (σ) := by
  refine g_iload_n dX3_many_4 rfl 2 rfl ?_
  refine g_sipush (v := 16900) dX3_many_5 (by decide) ?_
  refine g_icmp_ge (tgt := 31) dX3_many_8 (by decide) (fun c => ?_) (fun c => ?_)
  · replace h := h.1 c
    refine g_iload_n dX3_many_31 rfl 1 rfl ?_
    exact g_iret rfl dX3_many_32 h
  · replace h := h.2 c
    refine g_aload_n dX3_many_11 rfl 0 rfl ?_
    obtain ⟨a_now, hf, h⟩ := h
    refine g_get 2 dX3_many_12 in_X3 cl3 (by decide) q239 hf ?_
    refine g_iload_n dX3_many_15 rfl 2 rfl ?_
    obtain ⟨n, f, h1, h2, h⟩ := h
    refine g_lald dX3_many_16 h1 h2 ?_
    refine g_lconst (v := 0) dX3_many_17 (by decide) ?_
    refine g_lcmp_eq (tgt := 25) dX3_many_18 dX3_many_19 (by decide) (fun c => ?_) (fun c => ?_)
    · replace h := h.1 c
      obtain ⟨v2, ev2⟩ : ∃ z : Int32, z = x2 + 1 := ⟨_, rfl⟩
      refine g_iinc (v := v2) (ls1 := [(2, .int v2), (0, .ref h0), (1, .int x1)]) dX3_many_25 2 rfl (by rw [ev2]; rfl) (by decide) rfl ?_
      replace h := h v2 ev2
      refine g_goto (tgt := 4) dX3_many_28 (by decide) ?_
      exact At.sub (ls := [(2, .int v2), (0, .ref h0), (1, .int x1)]) [1, 2, 0] rfl h
    · replace h := h.2 c
      obtain ⟨v1, ev1⟩ : ∃ z : Int32, z = x1 + 1 := ⟨_, rfl⟩
      refine g_iinc (v := v1) (ls1 := [(1, .int v1), (0, .ref h0), (2, .int x2)]) dX3_many_22 1 rfl (by rw [ev1]; rfl) (by decide) rfl ?_
      replace h := h v1 ev1
      obtain ⟨v2, ev2⟩ : ∃ z : Int32, z = x2 + 1 := ⟨_, rfl⟩
      refine g_iinc (v := v2) (ls1 := [(2, .int v2), (1, .int v1), (0, .ref h0)]) dX3_many_25 2 rfl (by rw [ev2]; rfl) (by decide) rfl ?_
      replace h := h v2 ev2
      refine g_goto (tgt := 4) dX3_many_28 (by decide) ?_
      exact At.sub (ls := [(2, .int v2), (1, .int v1), (0, .ref h0)]) [2, 1, 0] rfl h
theorem eX3_many {G : GC} {Q : Option Value → PS → Prop} {X : String → Nat → PS → Prop} {b : Nat} {h0 : Nat} {σ : PS} (h : At G mX3_many 3 Q X b 0 [(0, .ref h0)] [] σ) : Call G mX3_many 3 b [.ref h0] σ Q X :=
  Call.of (by decide +kernel) wsX3_many rfl (Nat.le_of_ble_eq_true rfl) (At.sub (ls := [(0, .ref h0)]) [0] rfl h)
set_option maxHeartbeats 4000000 in
theorem bX3_at_0 {G : GC} {Q : Option Value → PS → Prop} {X : String → Nat → PS → Prop} {b : Nat} {h0 : Nat} {x1 : Int32} {x2 : Int32} {x3 : Int32} {σ : PS} (h : At G mX3_at 4 Q X b 6 [(0, .ref h0), (1, .int x1), (2, .int x2), (3, .int x3), (4, .long 0), (6, .int 0)] [] (σ)) : At G mX3_at 4 Q X b 0 [(0, .ref h0), (1, .int x1), (2, .int x2), (3, .int x3)] [] (σ) := by
  refine g_lconst (v := 0) dX3_at_0 (by decide) ?_
  refine g_lstore (ls1 := [(4, .long 0), (0, .ref h0), (1, .int x1), (2, .int x2), (3, .int x3)]) dX3_at_1 (by decide) rfl ?_
  refine g_iconst (v := 0) dX3_at_3 (by decide) ?_
  refine g_istore (ls1 := [(6, .int 0), (4, .long 0), (0, .ref h0), (1, .int x1), (2, .int x2), (3, .int x3)]) dX3_at_4 (by decide) rfl ?_
  exact At.sub (ls := [(6, .int 0), (4, .long 0), (0, .ref h0), (1, .int x1), (2, .int x2), (3, .int x3)]) [2, 3, 4, 5, 1, 0] rfl h
set_option maxHeartbeats 4000000 in
theorem bX3_at_6 {G : GC} {Q : Option Value → PS → Prop} {X : String → Nat → PS → Prop} {b : Nat} {h0 : Nat} {x1 : Int32} {x2 : Int32} {x3 : Int32} {y4 : Int64} {x6 : Int32} {σ : PS} (h : ((24 < x6) → Q (some (.long y4)) (σ)) ∧ ((¬ 24 < x6) → ∃ a_now : Nat, Fg (σ) 3 h0 2 (.ref a_now) ∧ (CallO G mX4_codeOf 3 [.int x6, .int x1, .int x2, .int x3, .int 0] (σ) (pI (fun rx => ∃ (n : Nat) (f : Nat → Int64), La (σ) 101 a_now n f ∧ vp_in rx n ∧ (∀ w : Int64, w = (y4 + (f rx.toNatClampNeg)) → ∀ v6 : Int32, v6 = x6 + 1 → At G mX3_at 4 Q X b 6 [(0, .ref h0), (1, .int x1), (2, .int x2), (3, .int x3), (4, .long w), (6, .int v6)] [] (σ))))))) : At G mX3_at 4 Q X b 6 [(0, .ref h0), (1, .int x1), (2, .int x2), (3, .int x3), (4, .long y4), (6, .int x6)] [] (σ) := by
  refine g_iload dX3_at_6 5 rfl ?_
  refine g_bipush (v := 24) dX3_at_8 (by decide) ?_
  refine g_icmp_gt (tgt := 38) dX3_at_10 (by decide) (fun c => ?_) (fun c => ?_)
  · replace h := h.1 c
    refine g_lload dX3_at_38 4 rfl ?_
    exact g_lret rfl dX3_at_40 h
  · replace h := h.2 c
    refine g_lload dX3_at_13 4 rfl ?_
    refine g_aload_n dX3_at_15 rfl 0 rfl ?_
    obtain ⟨a_now, hf, h⟩ := h
    refine g_get 2 dX3_at_16 in_X3 cl3 (by decide) q239 hf ?_
    refine g_iload dX3_at_19 5 rfl ?_
    refine g_iload_n dX3_at_21 rfl 1 rfl ?_
    refine g_iload_n dX3_at_22 rfl 2 rfl ?_
    refine g_iload_n dX3_at_23 rfl 3 rfl ?_
    refine g_iconst (v := 0) dX3_at_24 (by decide) ?_
    refine g_callS (N := mX4_codeOf) (st := [.ref a_now, .long y4]) (As := [.int x6, .int x1, .int x2, .int x3, .int 0]) dX3_at_25 wsX4_codeOf (lw_S q540 q541 q111 q542) mokX4_codeOf rfl (by decide) (by decide) (Nat.zero_le _) (by simp [Value.category]) h (fun E q s hx => AtX.never hx) (fun _ s1 hq => ?_)
    obtain ⟨es, hq⟩ := hq
    refine g_tops2 es ?_
    obtain ⟨rx, rfl, h⟩ := hq
    refine At.stk (st' := [.int rx, .ref a_now, .long y4]) rfl ?_
    obtain ⟨n, f, h1, h2, h⟩ := h
    refine g_lald dX3_at_28 h1 h2 ?_
    refine g_ladd dX3_at_29 ?_
    refine g_topl (fun w ew => ?_)
    replace h := h w ew
    refine g_lstore (ls1 := [(4, .long w), (0, .ref h0), (1, .int x1), (2, .int x2), (3, .int x3), (6, .int x6)]) dX3_at_30 (by decide) rfl ?_
    obtain ⟨v6, ev6⟩ : ∃ z : Int32, z = x6 + 1 := ⟨_, rfl⟩
    refine g_iinc (v := v6) (ls1 := [(6, .int v6), (4, .long w), (0, .ref h0), (1, .int x1), (2, .int x2), (3, .int x3)]) dX3_at_32 5 rfl (by rw [ev6]; rfl) (by decide) rfl ?_
    replace h := h v6 ev6
    refine g_goto (tgt := 6) dX3_at_35 (by decide) ?_
    exact At.sub (ls := [(6, .int v6), (4, .long w), (0, .ref h0), (1, .int x1), (2, .int x2), (3, .int x3)]) [2, 3, 4, 5, 1, 0] rfl h
theorem eX3_at {G : GC} {Q : Option Value → PS → Prop} {X : String → Nat → PS → Prop} {b : Nat} {h0 : Nat} {p1 : Int32} {p2 : Int32} {p3 : Int32} {σ : PS} (h : At G mX3_at 4 Q X b 0 [(0, .ref h0), (1, .int p1), (2, .int p2), (3, .int p3)] [] σ) : Call G mX3_at 4 b [.ref h0, .int p1, .int p2, .int p3] σ Q X :=
  Call.of (by decide +kernel) wsX3_at rfl (Nat.le_of_ble_eq_true rfl) (At.sub (ls := [(0, .ref h0), (1, .int p1), (2, .int p2), (3, .int p3)]) [0, 1, 2, 3] rfl h)
set_option maxHeartbeats 4000000 in
theorem bX3_mean_0 {G : GC} {Q : Option Value → PS → Prop} {X : String → Nat → PS → Prop} {b : Nat} {h0 : Nat} {x1 : Int32} {σ : PS} (h : At G mX3_mean 4 Q X b 5 [(0, .ref h0), (1, .int x1), (2, .long 0), (4, .int 0)] [] (σ)) : At G mX3_mean 4 Q X b 0 [(0, .ref h0), (1, .int x1)] [] (σ) := by
  refine g_lconst (v := 0) dX3_mean_0 (by decide) ?_
  refine g_lstore_n (ls1 := [(2, .long 0), (0, .ref h0), (1, .int x1)]) dX3_mean_1 rfl (by decide) rfl ?_
  refine g_iconst (v := 0) dX3_mean_2 (by decide) ?_
  refine g_istore (ls1 := [(4, .int 0), (2, .long 0), (0, .ref h0), (1, .int x1)]) dX3_mean_3 (by decide) rfl ?_
  exact At.sub (ls := [(4, .int 0), (2, .long 0), (0, .ref h0), (1, .int x1)]) [2, 3, 1, 0] rfl h
set_option maxHeartbeats 4000000 in
theorem bX3_mean_5 {G : GC} {Q : Option Value → PS → Prop} {X : String → Nat → PS → Prop} {b : Nat} {h0 : Nat} {x1 : Int32} {y2 : Int64} {x4 : Int32} {σ : PS} (h : ((16900 ≤ x4) → Q (some (.long y2)) (σ)) ∧ ((¬ 16900 ≤ x4) → ∃ a_now : Nat, Fg (σ) 3 h0 2 (.ref a_now) ∧ (∃ (n : Nat) (f : Nat → Int64), La (σ) 101 a_now n f ∧ vp_in x4 n ∧ ((((f x4.toNatClampNeg) = 0) → ∀ v4 : Int32, v4 = x4 + 1 → At G mX3_mean 4 Q X b 5 [(0, .ref h0), (1, .int x1), (2, .long y2), (4, .int v4)] [] (σ)) ∧ ((¬ (f x4.toNatClampNeg) = 0) → ∃ a_now_1 : Nat, Fg (σ) 3 h0 2 (.ref a_now_1) ∧ (∃ (n_2 : Nat) (f_3 : Nat → Int64), La (σ) 101 a_now_1 n_2 f_3 ∧ vp_in x4 n_2 ∧ (((¬ x1 = 0) → ∃ a_state : Nat, Fg (σ) 3 h0 0 (.ref a_state) ∧ ((∃ fs : List Value, Ob (σ) 4 a_state fs) ∧ Call G mX4_of 3 0 [.ref a_state, .int x4] (σ) (qR (fun ra s1 => ∃ x_dirty : Int32, Fg s1 4 ra 2 (.int x_dirty) ∧ (∀ w : Int64, w = ((f_3 x4.toNatClampNeg) * x_dirty.toInt64) → ∀ v2 : Int64, v2 = (y2 + w) → ∀ v4 : Int32, v4 = x4 + 1 → At G mX3_mean 4 Q X b 5 [(0, .ref h0), (1, .int x1), (2, .long v2), (4, .int v4)] [] s1))) X)) ∧ ((x1 = 0) → ∃ a_state : Nat, Fg (σ) 3 h0 0 (.ref a_state) ∧ ((∃ fs : List Value, Ob (σ) 4 a_state fs) ∧ Call G mX4_of 3 0 [.ref a_state, .int x4] (σ) (qR (fun ra s1 => ∃ x_clean : Int32, Fg s1 4 ra 1 (.int x_clean) ∧ (∀ w : Int64, w = ((f_3 x4.toNatClampNeg) * x_clean.toInt64) → ∀ v2 : Int64, v2 = (y2 + w) → ∀ v4 : Int32, v4 = x4 + 1 → At G mX3_mean 4 Q X b 5 [(0, .ref h0), (1, .int x1), (2, .long v2), (4, .int v4)] [] s1))) X))))))))) : At G mX3_mean 4 Q X b 5 [(0, .ref h0), (1, .int x1), (2, .long y2), (4, .int x4)] [] (σ) := by
  refine g_iload dX3_mean_5 3 rfl ?_
  refine g_sipush (v := 16900) dX3_mean_7 (by decide) ?_
  refine g_icmp_ge (tgt := 74) dX3_mean_10 (by decide) (fun c => ?_) (fun c => ?_)
  · replace h := h.1 c
    refine g_lload_n dX3_mean_74 rfl 2 rfl ?_
    exact g_lret rfl dX3_mean_75 h
  · replace h := h.2 c
    refine g_aload_n dX3_mean_13 rfl 0 rfl ?_
    obtain ⟨a_now, hf, h⟩ := h
    refine g_get 2 dX3_mean_14 in_X3 cl3 (by decide) q239 hf ?_
    refine g_iload dX3_mean_17 3 rfl ?_
    obtain ⟨n, f, h1, h2, h⟩ := h
    refine g_lald dX3_mean_19 h1 h2 ?_
    refine g_lconst (v := 0) dX3_mean_20 (by decide) ?_
    refine g_lcmp_eq (tgt := 68) dX3_mean_21 dX3_mean_22 (by decide) (fun c => ?_) (fun c => ?_)
    · replace h := h.1 c
      obtain ⟨v4, ev4⟩ : ∃ z : Int32, z = x4 + 1 := ⟨_, rfl⟩
      refine g_iinc (v := v4) (ls1 := [(4, .int v4), (0, .ref h0), (1, .int x1), (2, .long y2)]) dX3_mean_68 3 rfl (by rw [ev4]; rfl) (by decide) rfl ?_
      replace h := h v4 ev4
      refine g_goto (tgt := 5) dX3_mean_71 (by decide) ?_
      exact At.sub (ls := [(4, .int v4), (0, .ref h0), (1, .int x1), (2, .long y2)]) [1, 2, 3, 0] rfl h
    · replace h := h.2 c
      refine g_lload_n dX3_mean_25 rfl 2 rfl ?_
      refine g_aload_n dX3_mean_26 rfl 0 rfl ?_
      obtain ⟨a_now_1, hf, h⟩ := h
      refine g_get 2 dX3_mean_27 in_X3 cl3 (by decide) q239 hf ?_
      refine g_iload dX3_mean_30 3 rfl ?_
      obtain ⟨n_2, f_3, h1, h2, h⟩ := h
      refine g_lald dX3_mean_32 h1 h2 ?_
      refine g_iload_n dX3_mean_33 rfl 1 rfl ?_
      refine g_if_ne (tgt := 52) dX3_mean_34 (by decide) (fun c => ?_) (fun c => ?_)
      · replace h := h.1 c
        refine g_aload_n dX3_mean_52 rfl 0 rfl ?_
        obtain ⟨a_state, hf, h⟩ := h
        refine g_get 0 dX3_mean_53 in_X3 cl3 (by decide) q236 hf ?_
        refine g_iload dX3_mean_56 3 rfl ?_
        obtain ⟨⟨_, hO⟩, h⟩ := h
        refine g_callV (N := mX4_of) (st := [.long (f_3 x4.toNatClampNeg), .long y2]) (As := [.int x4]) (a := a_state) dX3_mean_58 wsX4_of (lw_V q598 q599 q600 q111 q601) rfl mokX4_of rfl cl4 (by decide) (by decide) (Nat.zero_le _) (by simp [Value.category]) hO h (fun E q s hx => AtX.out0 rfl hx) (fun _ s1 hq => ?_)
        obtain ⟨ra, rfl, h⟩ := hq
        refine At.stk (st' := [.ref ra, .long (f_3 x4.toNatClampNeg), .long y2]) rfl ?_
        obtain ⟨x_dirty, hf, h⟩ := h
        refine g_getN 2 dX3_mean_61 in_X4 cl4 (by decide) q210 hf ?_
        refine g_i2l dX3_mean_64 ?_
        refine g_lmul dX3_mean_65 ?_
        refine g_topl (fun w ew => ?_)
        replace h := h w ew
        refine g_ladd dX3_mean_66 ?_
        refine g_topl (fun v2 ev2 => ?_)
        replace h := h v2 ev2
        refine g_lstore_n (ls1 := [(2, .long v2), (0, .ref h0), (1, .int x1), (4, .int x4)]) dX3_mean_67 rfl (by decide) rfl ?_
        obtain ⟨v4, ev4⟩ : ∃ z : Int32, z = x4 + 1 := ⟨_, rfl⟩
        refine g_iinc (v := v4) (ls1 := [(4, .int v4), (2, .long v2), (0, .ref h0), (1, .int x1)]) dX3_mean_68 3 rfl (by rw [ev4]; rfl) (by decide) rfl ?_
        replace h := h v4 ev4
        refine g_goto (tgt := 5) dX3_mean_71 (by decide) ?_
        exact At.sub (ls := [(4, .int v4), (2, .long v2), (0, .ref h0), (1, .int x1)]) [2, 3, 1, 0] rfl h
      · replace h := h.2 c
        refine g_aload_n dX3_mean_37 rfl 0 rfl ?_
        obtain ⟨a_state, hf, h⟩ := h
        refine g_get 0 dX3_mean_38 in_X3 cl3 (by decide) q236 hf ?_
        refine g_iload dX3_mean_41 3 rfl ?_
        obtain ⟨⟨_, hO⟩, h⟩ := h
        refine g_callV (N := mX4_of) (st := [.long (f_3 x4.toNatClampNeg), .long y2]) (As := [.int x4]) (a := a_state) dX3_mean_43 wsX4_of (lw_V q598 q599 q600 q111 q601) rfl mokX4_of rfl cl4 (by decide) (by decide) (Nat.zero_le _) (by simp [Value.category]) hO h (fun E q s hx => AtX.out0 rfl hx) (fun _ s1 hq => ?_)
        obtain ⟨ra, rfl, h⟩ := hq
        refine At.stk (st' := [.ref ra, .long (f_3 x4.toNatClampNeg), .long y2]) rfl ?_
        obtain ⟨x_clean, hf, h⟩ := h
        refine g_getN 1 dX3_mean_46 in_X4 cl4 (by decide) q203 hf ?_
        refine g_goto (tgt := 64) dX3_mean_49 (by decide) ?_
        refine g_i2l dX3_mean_64 ?_
        refine g_lmul dX3_mean_65 ?_
        refine g_topl (fun w ew => ?_)
        replace h := h w ew
        refine g_ladd dX3_mean_66 ?_
        refine g_topl (fun v2 ev2 => ?_)
        replace h := h v2 ev2
        refine g_lstore_n (ls1 := [(2, .long v2), (0, .ref h0), (1, .int x1), (4, .int x4)]) dX3_mean_67 rfl (by decide) rfl ?_
        obtain ⟨v4, ev4⟩ : ∃ z : Int32, z = x4 + 1 := ⟨_, rfl⟩
        refine g_iinc (v := v4) (ls1 := [(4, .int v4), (2, .long v2), (0, .ref h0), (1, .int x1)]) dX3_mean_68 3 rfl (by rw [ev4]; rfl) (by decide) rfl ?_
        replace h := h v4 ev4
        refine g_goto (tgt := 5) dX3_mean_71 (by decide) ?_
        exact At.sub (ls := [(4, .int v4), (2, .long v2), (0, .ref h0), (1, .int x1)]) [2, 3, 1, 0] rfl h
theorem eX3_mean {G : GC} {Q : Option Value → PS → Prop} {X : String → Nat → PS → Prop} {b : Nat} {h0 : Nat} {p1 : Int32} {σ : PS} (h : At G mX3_mean 4 Q X b 0 [(0, .ref h0), (1, .int p1)] [] σ) : Call G mX3_mean 4 b [.ref h0, .int p1] σ Q X :=
  Call.of (by decide +kernel) wsX3_mean rfl (Nat.le_of_ble_eq_true rfl) (At.sub (ls := [(0, .ref h0), (1, .int p1)]) [0, 1] rfl h)
set_option maxHeartbeats 4000000 in
theorem bX3_all_0 {G : GC} {Q : Option Value → PS → Prop} {X : String → Nat → PS → Prop} {b : Nat} {h0 : Nat} {σ : PS} (h : At G mX3_all 3 Q X b 4 [(0, .ref h0), (1, .long 0), (3, .int 0)] [] (σ)) : At G mX3_all 3 Q X b 0 [(0, .ref h0)] [] (σ) := by
  refine g_lconst (v := 0) dX3_all_0 (by decide) ?_
  refine g_lstore_n (ls1 := [(1, .long 0), (0, .ref h0)]) dX3_all_1 rfl (by decide) rfl ?_
  refine g_iconst (v := 0) dX3_all_2 (by decide) ?_
  refine g_istore_n (ls1 := [(3, .int 0), (1, .long 0), (0, .ref h0)]) dX3_all_3 rfl (by decide) rfl ?_
  exact At.sub (ls := [(3, .int 0), (1, .long 0), (0, .ref h0)]) [2, 1, 0] rfl h
set_option maxHeartbeats 4000000 in
theorem bX3_all_4 {G : GC} {Q : Option Value → PS → Prop} {X : String → Nat → PS → Prop} {b : Nat} {h0 : Nat} {y1 : Int64} {x3 : Int32} {σ : PS} (h : ((16900 ≤ x3) → Q (some (.long y1)) (σ)) ∧ ((¬ 16900 ≤ x3) → ∃ a_now : Nat, Fg (σ) 3 h0 2 (.ref a_now) ∧ (∃ (n : Nat) (f : Nat → Int64), La (σ) 101 a_now n f ∧ vp_in x3 n ∧ (∀ w : Int64, w = (y1 + (f x3.toNatClampNeg)) → ∀ v3 : Int32, v3 = x3 + 1 → At G mX3_all 3 Q X b 4 [(0, .ref h0), (1, .long w), (3, .int v3)] [] (σ))))) : At G mX3_all 3 Q X b 4 [(0, .ref h0), (1, .long y1), (3, .int x3)] [] (σ) := by
  refine g_iload_n dX3_all_4 rfl 2 rfl ?_
  refine g_sipush (v := 16900) dX3_all_5 (by decide) ?_
  refine g_icmp_ge (tgt := 26) dX3_all_8 (by decide) (fun c => ?_) (fun c => ?_)
  · replace h := h.1 c
    refine g_lload_n dX3_all_26 rfl 1 rfl ?_
    exact g_lret rfl dX3_all_27 h
  · replace h := h.2 c
    refine g_lload_n dX3_all_11 rfl 1 rfl ?_
    refine g_aload_n dX3_all_12 rfl 0 rfl ?_
    obtain ⟨a_now, hf, h⟩ := h
    refine g_get 2 dX3_all_13 in_X3 cl3 (by decide) q239 hf ?_
    refine g_iload_n dX3_all_16 rfl 2 rfl ?_
    obtain ⟨n, f, h1, h2, h⟩ := h
    refine g_lald dX3_all_17 h1 h2 ?_
    refine g_ladd dX3_all_18 ?_
    refine g_topl (fun w ew => ?_)
    replace h := h w ew
    refine g_lstore_n (ls1 := [(1, .long w), (0, .ref h0), (3, .int x3)]) dX3_all_19 rfl (by decide) rfl ?_
    obtain ⟨v3, ev3⟩ : ∃ z : Int32, z = x3 + 1 := ⟨_, rfl⟩
    refine g_iinc (v := v3) (ls1 := [(3, .int v3), (1, .long w), (0, .ref h0)]) dX3_all_20 2 rfl (by rw [ev3]; rfl) (by decide) rfl ?_
    replace h := h v3 ev3
    refine g_goto (tgt := 4) dX3_all_23 (by decide) ?_
    exact At.sub (ls := [(3, .int v3), (1, .long w), (0, .ref h0)]) [2, 1, 0] rfl h
theorem eX3_all {G : GC} {Q : Option Value → PS → Prop} {X : String → Nat → PS → Prop} {b : Nat} {h0 : Nat} {σ : PS} (h : At G mX3_all 3 Q X b 0 [(0, .ref h0)] [] σ) : Call G mX3_all 3 b [.ref h0] σ Q X :=
  Call.of (by decide +kernel) wsX3_all rfl (Nat.le_of_ble_eq_true rfl) (At.sub (ls := [(0, .ref h0)]) [0] rfl h)
set_option maxHeartbeats 4000000 in
theorem bX3_worth_0 {G : GC} {Q : Option Value → PS → Prop} {X : String → Nat → PS → Prop} {b : Nat} {h0 : Nat} {x1 : Int32} {σ : PS} (h : ((¬ x1 = 0) → ((¬ x1 = 1) → ((¬ x1 = 2) → (∃ fs : List Value, Ob (σ) 3 h0 fs) ∧ CallO G mX3_all 3 [.ref h0] (σ) (pJ (fun ry => ∃ a_office : Nat, Fg (σ) 3 h0 4 (.ref a_office) ∧ (∃ a_price : Nat, Fg (σ) 7 a_office 0 (.ref a_price) ∧ (∃ (n : Nat) (f : Nat → Int32), Ia (σ) 100 a_price n f ∧ 4 < n ∧ (∀ v2 : Int64, v2 = (ry * (f 4).toInt64) → At G mX3_worth 6 Q X b 89 [(0, .ref h0), (2, .long v2), (4, .int 0)] [] (σ))))))) ∧ ((x1 = 2) → (∃ fs_14 : List Value, Ob (σ) 3 h0 fs_14) ∧ CallO G mX3_all 3 [.ref h0] (σ) (pJ (fun ry => ∃ a_office : Nat, Fg (σ) 3 h0 4 (.ref a_office) ∧ (∃ a_price : Nat, Fg (σ) 7 a_office 0 (.ref a_price) ∧ (∃ (n : Nat) (f : Nat → Int32), Ia (σ) 100 a_price n f ∧ 2 < n ∧ ((∃ fs_13 : List Value, Ob (σ) 3 h0 fs_13) ∧ Call G mX3_taking 5 0 [.ref h0, .int 0] (σ) (qJ (fun ry_2 s1_1 => (∃ fs_12 : List Value, Ob s1_1 3 h0 fs_12) ∧ Call G mX3_owning 5 0 [.ref h0, .int 0] s1_1 (qJ (fun ry_4 s1_3 => ∀ w : Int64, w = (if ry_4 < ry_2 then ry_4 else ry_2) → (∃ fs_11 : List Value, Ob s1_3 3 h0 fs_11) ∧ Call G mX3_taking 5 0 [.ref h0, .int 1] s1_3 (qJ (fun ry_6 s1_5 => (∃ fs : List Value, Ob s1_5 3 h0 fs) ∧ Call G mX3_owning 5 0 [.ref h0, .int 1] s1_5 (qJ (fun ry_8 s1_7 => ∀ w_9 : Int64, w_9 = (if ry_8 < ry_6 then ry_8 else ry_6) → ∀ w_10 : Int64, w_10 = (((ry * (f 2).toInt64) + w) + w_9) → Q (some (.long w_10)) s1_7)) X)) X)) X)) X))))))) ∧ ((x1 = 1) → (∃ fs : List Value, Ob (σ) 3 h0 fs) ∧ Call G mX3_owning 5 0 [.ref h0, .int 2] (σ) (qJ (fun ry s1 => Q (some (.long ry)) s1)) X)) ∧ ((x1 = 0) → (∃ fs : List Value, Ob (σ) 3 h0 fs) ∧ Call G mX3_taking 5 0 [.ref h0, .int 2] (σ) (qJ (fun ry s1 => Q (some (.long ry)) s1)) X)) : At G mX3_worth 6 Q X b 0 [(0, .ref h0), (1, .int x1)] [] (σ) := by
  refine g_iload_n dX3_worth_0 rfl 1 rfl ?_
  refine g_if_ne (tgt := 10) dX3_worth_1 (by decide) (fun c => ?_) (fun c => ?_)
  · replace h := h.1 c
    refine g_iload_n dX3_worth_10 rfl 1 rfl ?_
    refine g_iconst (v := 1) dX3_worth_11 (by decide) ?_
    refine g_icmp_ne (tgt := 21) dX3_worth_12 (by decide) (fun c => ?_) (fun c => ?_)
    · replace h := h.1 c
      refine g_iload_n dX3_worth_21 rfl 1 rfl ?_
      refine g_iconst (v := 2) dX3_worth_22 (by decide) ?_
      refine g_icmp_ne (tgt := 70) dX3_worth_23 (by decide) (fun c => ?_) (fun c => ?_)
      · replace h := h.1 c
        refine g_aload_n dX3_worth_70 rfl 0 rfl ?_
        obtain ⟨⟨_, hO⟩, h⟩ := h
        refine g_callV (N := mX3_all) (st := []) (As := []) (a := h0) dX3_worth_71 wsX3_all (lw_V q1565 q1520 q1521 q110 q1522) rfl mokX3_all rfl cl3 (by decide) (by decide) (Nat.zero_le _) (Nat.zero_le _) hO h (fun E q s hx => AtX.never hx) (fun _ s1 hq => ?_)
        obtain ⟨es, hq⟩ := hq
        refine g_tops2 es ?_
        obtain ⟨ry, rfl, h⟩ := hq
        refine At.stk (st' := [.long ry]) rfl ?_
        refine g_aload_n dX3_worth_74 rfl 0 rfl ?_
        obtain ⟨a_office, hf, h⟩ := h
        refine g_get 4 dX3_worth_75 in_X3 cl3 (by decide) q241 hf ?_
        obtain ⟨a_price, hf, h⟩ := h
        refine g_getN 0 dX3_worth_78 in_X7 cl7 (by decide) q376 hf ?_
        refine g_iconst (v := 4) dX3_worth_81 (by decide) ?_
        obtain ⟨n, f, h1, h2, h⟩ := h
        refine g_iald0 (j := 4) dX3_worth_82 h1 (by decide) rfl h2 ?_
        refine g_i2l dX3_worth_83 ?_
        refine g_lmul dX3_worth_84 ?_
        refine g_topl (fun v2 ev2 => ?_)
        replace h := h v2 ev2
        refine g_lstore_n (ls1 := [(2, .long v2), (0, .ref h0), (1, .int x1)]) dX3_worth_85 rfl (by decide) rfl ?_
        refine g_iconst (v := 0) dX3_worth_86 (by decide) ?_
        refine g_istore (ls1 := [(4, .int 0), (2, .long v2), (0, .ref h0), (1, .int x1)]) dX3_worth_87 (by decide) rfl ?_
        exact At.sub (ls := [(4, .int 0), (2, .long v2), (0, .ref h0), (1, .int x1)]) [2, 1, 0] rfl h
      · replace h := h.2 c
        refine g_aload_n dX3_worth_26 rfl 0 rfl ?_
        obtain ⟨⟨_, hO⟩, h⟩ := h
        refine g_callV (N := mX3_all) (st := []) (As := []) (a := h0) dX3_worth_27 wsX3_all (lw_V q1565 q1520 q1521 q110 q1522) rfl mokX3_all rfl cl3 (by decide) (by decide) (Nat.zero_le _) (Nat.zero_le _) hO h (fun E q s hx => AtX.never hx) (fun _ s1 hq => ?_)
        obtain ⟨es, hq⟩ := hq
        refine g_tops2 es ?_
        obtain ⟨ry, rfl, h⟩ := hq
        refine At.stk (st' := [.long ry]) rfl ?_
        refine g_aload_n dX3_worth_30 rfl 0 rfl ?_
        obtain ⟨a_office, hf, h⟩ := h
        refine g_get 4 dX3_worth_31 in_X3 cl3 (by decide) q241 hf ?_
        obtain ⟨a_price, hf, h⟩ := h
        refine g_getN 0 dX3_worth_34 in_X7 cl7 (by decide) q376 hf ?_
        refine g_iconst (v := 2) dX3_worth_37 (by decide) ?_
        obtain ⟨n, f, h1, h2, h⟩ := h
        refine g_iald0 (j := 2) dX3_worth_38 h1 (by decide) rfl h2 ?_
        refine g_i2l dX3_worth_39 ?_
        refine g_lmul dX3_worth_40 ?_
        refine g_aload_n dX3_worth_41 rfl 0 rfl ?_
        refine g_iconst (v := 0) dX3_worth_42 (by decide) ?_
        obtain ⟨⟨_, hO⟩, h⟩ := h
        refine g_callV (N := mX3_taking) (st := [.long (ry * (f 2).toInt64)]) (As := [.int 0]) (a := h0) dX3_worth_43 wsX3_taking (lw_V q1549 q1551 qs29 q110 q1552) rfl mokX3_taking rfl cl3 (by decide) (by decide) (Nat.zero_le _) (by simp [Value.category]) hO h (fun E q s hx => AtX.out0 rfl hx) (fun _ s1_1 hq => ?_)
        obtain ⟨ry_2, rfl, h⟩ := hq
        refine At.stk (st' := [.long ry_2, .long (ry * (f 2).toInt64)]) rfl ?_
        refine g_aload_n dX3_worth_46 rfl 0 rfl ?_
        refine g_iconst (v := 0) dX3_worth_47 (by decide) ?_
        obtain ⟨⟨_, hO⟩, h⟩ := h
        refine g_callV (N := mX3_owning) (st := [.long ry_2, .long (ry * (f 2).toInt64)]) (As := [.int 0]) (a := h0) dX3_worth_48 wsX3_owning (lw_V q1561 q1563 qs32 q110 q1564) rfl mokX3_owning rfl cl3 (by decide) (by decide) (Nat.zero_le _) (by simp [Value.category]) hO h (fun E q s hx => AtX.out0 rfl hx) (fun _ s1_3 hq => ?_)
        obtain ⟨ry_4, rfl, h⟩ := hq
        refine At.stk (st' := [.long ry_4, .long ry_2, .long (ry * (f 2).toInt64)]) rfl ?_
        refine g_lmin dX3_worth_51 q1566 (by decide) (by simp [Value.category]) ?_
        refine g_topl (fun w ew => ?_)
        replace h := h w ew
        refine g_ladd dX3_worth_54 ?_
        refine g_aload_n dX3_worth_55 rfl 0 rfl ?_
        refine g_iconst (v := 1) dX3_worth_56 (by decide) ?_
        obtain ⟨⟨_, hO⟩, h⟩ := h
        refine g_callV (N := mX3_taking) (st := [.long ((ry * (f 2).toInt64) + w)]) (As := [.int 1]) (a := h0) dX3_worth_57 wsX3_taking (lw_V q1549 q1551 qs29 q110 q1552) rfl mokX3_taking rfl cl3 (by decide) (by decide) (Nat.zero_le _) (by simp [Value.category]) hO h (fun E q s hx => AtX.out0 rfl hx) (fun _ s1_5 hq => ?_)
        obtain ⟨ry_6, rfl, h⟩ := hq
        refine At.stk (st' := [.long ry_6, .long ((ry * (f 2).toInt64) + w)]) rfl ?_
        refine g_aload_n dX3_worth_60 rfl 0 rfl ?_
        refine g_iconst (v := 1) dX3_worth_61 (by decide) ?_
        obtain ⟨⟨_, hO⟩, h⟩ := h
        refine g_callV (N := mX3_owning) (st := [.long ry_6, .long ((ry * (f 2).toInt64) + w)]) (As := [.int 1]) (a := h0) dX3_worth_62 wsX3_owning (lw_V q1561 q1563 qs32 q110 q1564) rfl mokX3_owning rfl cl3 (by decide) (by decide) (Nat.zero_le _) (by simp [Value.category]) hO h (fun E q s hx => AtX.out0 rfl hx) (fun _ s1_7 hq => ?_)
        obtain ⟨ry_8, rfl, h⟩ := hq
        refine At.stk (st' := [.long ry_8, .long ry_6, .long ((ry * (f 2).toInt64) + w)]) rfl ?_
        refine g_lmin dX3_worth_65 q1566 (by decide) (by simp [Value.category]) ?_
        refine g_topl (fun w_9 ew_9 => ?_)
        replace h := h w_9 ew_9
        refine g_ladd dX3_worth_68 ?_
        refine g_topl (fun w_10 ew_10 => ?_)
        replace h := h w_10 ew_10
        exact g_lret rfl dX3_worth_69 h
    · replace h := h.2 c
      refine g_aload_n dX3_worth_15 rfl 0 rfl ?_
      refine g_iconst (v := 2) dX3_worth_16 (by decide) ?_
      obtain ⟨⟨_, hO⟩, h⟩ := h
      refine g_callV (N := mX3_owning) (st := []) (As := [.int 2]) (a := h0) dX3_worth_17 wsX3_owning (lw_V q1561 q1563 qs32 q110 q1564) rfl mokX3_owning rfl cl3 (by decide) (by decide) (Nat.zero_le _) (Nat.zero_le _) hO h (fun E q s hx => AtX.out0 rfl hx) (fun _ s1 hq => ?_)
      obtain ⟨ry, rfl, h⟩ := hq
      refine At.stk (st' := [.long ry]) rfl ?_
      exact g_lret rfl dX3_worth_20 h
  · replace h := h.2 c
    refine g_aload_n dX3_worth_4 rfl 0 rfl ?_
    refine g_iconst (v := 2) dX3_worth_5 (by decide) ?_
    obtain ⟨⟨_, hO⟩, h⟩ := h
    refine g_callV (N := mX3_taking) (st := []) (As := [.int 2]) (a := h0) dX3_worth_6 wsX3_taking (lw_V q1549 q1551 qs29 q110 q1552) rfl mokX3_taking rfl cl3 (by decide) (by decide) (Nat.zero_le _) (Nat.zero_le _) hO h (fun E q s hx => AtX.out0 rfl hx) (fun _ s1 hq => ?_)
    obtain ⟨ry, rfl, h⟩ := hq
    refine At.stk (st' := [.long ry]) rfl ?_
    exact g_lret rfl dX3_worth_9 h
set_option maxHeartbeats 4000000 in
theorem bX3_worth_89 {G : GC} {Q : Option Value → PS → Prop} {X : String → Nat → PS → Prop} {b : Nat} {h0 : Nat} {y2 : Int64} {x4 : Int32} {σ : PS} (h : ((16900 ≤ x4) → Q (some (.long y2)) (σ)) ∧ ((¬ 16900 ≤ x4) → ∃ a_now : Nat, Fg (σ) 3 h0 2 (.ref a_now) ∧ (∃ (n : Nat) (f : Nat → Int64), La (σ) 101 a_now n f ∧ vp_in x4 n ∧ (((¬ (f x4.toNatClampNeg) = 0) → ∃ a_now_1 : Nat, Fg (σ) 3 h0 2 (.ref a_now_1) ∧ (∃ (n_2 : Nat) (f_3 : Nat → Int64), La (σ) 101 a_now_1 n_2 f_3 ∧ vp_in x4 n_2 ∧ (∃ a_state : Nat, Fg (σ) 3 h0 0 (.ref a_state) ∧ ((∃ fs_17 : List Value, Ob (σ) 4 a_state fs_17) ∧ Call G mX4_of 3 0 [.ref a_state, .int x4] (σ) (qR (fun ra s1 => ∃ x_clean : Int32, Fg s1 4 ra 1 (.int x_clean) ∧ (∀ w : Int64, w = ((f_3 x4.toNatClampNeg) * x_clean.toInt64) → ∃ a_office : Nat, Fg s1 3 h0 4 (.ref a_office) ∧ (∃ a_price : Nat, Fg s1 7 a_office 0 (.ref a_price) ∧ (∃ (n_4 : Nat) (f_5 : Nat → Int32), Ia s1 100 a_price n_4 f_5 ∧ 1 < n_4 ∧ (∀ w_6 : Int64, w_6 = (y2 + (w * (f_5 1).toInt64)) → ∃ a_state_7 : Nat, Fg s1 3 h0 0 (.ref a_state_7) ∧ ((∃ fs : List Value, Ob s1 4 a_state_7 fs) ∧ CallO G mX4_in 3 [.ref a_state_7] s1 (pI (fun rx => ((¬ rx = 0) → ∀ v4 : Int32, v4 = x4 + 1 → At G mX3_worth 6 Q X b 89 [(0, .ref h0), (2, .long w_6), (4, .int v4)] [] s1) ∧ ((rx = 0) → ∃ a_now_9 : Nat, Fg s1 3 h0 2 (.ref a_now_9) ∧ (∃ (n_10 : Nat) (f_11 : Nat → Int64), La s1 101 a_now_9 n_10 f_11 ∧ vp_in x4 n_10 ∧ (∃ a_office_12 : Nat, Fg s1 3 h0 4 (.ref a_office_12) ∧ (∃ a_price_13 : Nat, Fg s1 7 a_office_12 0 (.ref a_price_13) ∧ (∃ (n_14 : Nat) (f_15 : Nat → Int32), Ia s1 100 a_price_13 n_14 f_15 ∧ 3 < n_14 ∧ (∀ w_16 : Int64, w_16 = ((f_11 x4.toNatClampNeg) * (f_15 3).toInt64) → ∀ v2 : Int64, v2 = (w_6 + w_16) → ∀ v4 : Int32, v4 = x4 + 1 → At G mX3_worth 6 Q X b 89 [(0, .ref h0), (2, .long v2), (4, .int v4)] [] s1))))))))))))))) X)))) ∧ (((f x4.toNatClampNeg) = 0) → ∀ v4 : Int32, v4 = x4 + 1 → At G mX3_worth 6 Q X b 89 [(0, .ref h0), (2, .long y2), (4, .int v4)] [] (σ)))))) : At G mX3_worth 6 Q X b 89 [(0, .ref h0), (2, .long y2), (4, .int x4)] [] (σ) := by
  refine g_iload dX3_worth_89 2 rfl ?_
  refine g_sipush (v := 16900) dX3_worth_91 (by decide) ?_
  refine g_icmp_ge (tgt := 184) dX3_worth_94 (by decide) (fun c => ?_) (fun c => ?_)
  · replace h := h.1 c
    refine g_lload_n dX3_worth_184 rfl 1 rfl ?_
    exact g_lret rfl dX3_worth_185 h
  · replace h := h.2 c
    refine g_aload_n dX3_worth_97 rfl 0 rfl ?_
    obtain ⟨a_now, hf, h⟩ := h
    refine g_get 2 dX3_worth_98 in_X3 cl3 (by decide) q239 hf ?_
    refine g_iload dX3_worth_101 2 rfl ?_
    obtain ⟨n, f, h1, h2, h⟩ := h
    refine g_lald dX3_worth_103 h1 h2 ?_
    refine g_lconst (v := 0) dX3_worth_104 (by decide) ?_
    refine g_lcmp_ne (tgt := 112) dX3_worth_105 dX3_worth_106 (by decide) (fun c => ?_) (fun c => ?_)
    · replace h := h.1 c
      refine g_lload_n dX3_worth_112 rfl 1 rfl ?_
      refine g_aload_n dX3_worth_113 rfl 0 rfl ?_
      obtain ⟨a_now_1, hf, h⟩ := h
      refine g_get 2 dX3_worth_114 in_X3 cl3 (by decide) q239 hf ?_
      refine g_iload dX3_worth_117 2 rfl ?_
      obtain ⟨n_2, f_3, h1, h2, h⟩ := h
      refine g_lald dX3_worth_119 h1 h2 ?_
      refine g_aload_n dX3_worth_120 rfl 0 rfl ?_
      obtain ⟨a_state, hf, h⟩ := h
      refine g_get 0 dX3_worth_121 in_X3 cl3 (by decide) q236 hf ?_
      refine g_iload dX3_worth_124 2 rfl ?_
      obtain ⟨⟨_, hO⟩, h⟩ := h
      refine g_callV (N := mX4_of) (st := [.long (f_3 x4.toNatClampNeg), .long y2]) (As := [.int x4]) (a := a_state) dX3_worth_126 wsX4_of (lw_V q598 q599 q600 q111 q601) rfl mokX4_of rfl cl4 (by decide) (by decide) (Nat.zero_le _) (by simp [Value.category]) hO h (fun E q s hx => AtX.out0 rfl hx) (fun _ s1 hq => ?_)
      obtain ⟨ra, rfl, h⟩ := hq
      refine At.stk (st' := [.ref ra, .long (f_3 x4.toNatClampNeg), .long y2]) rfl ?_
      obtain ⟨x_clean, hf, h⟩ := h
      refine g_getN 1 dX3_worth_129 in_X4 cl4 (by decide) q203 hf ?_
      refine g_i2l dX3_worth_132 ?_
      refine g_lmul dX3_worth_133 ?_
      refine g_topl (fun w ew => ?_)
      replace h := h w ew
      refine g_aload_n dX3_worth_134 rfl 0 rfl ?_
      obtain ⟨a_office, hf, h⟩ := h
      refine g_get 4 dX3_worth_135 in_X3 cl3 (by decide) q241 hf ?_
      obtain ⟨a_price, hf, h⟩ := h
      refine g_getN 0 dX3_worth_138 in_X7 cl7 (by decide) q376 hf ?_
      refine g_iconst (v := 1) dX3_worth_141 (by decide) ?_
      obtain ⟨n_4, f_5, h1, h2, h⟩ := h
      refine g_iald0 (j := 1) dX3_worth_142 h1 (by decide) rfl h2 ?_
      refine g_i2l dX3_worth_143 ?_
      refine g_lmul dX3_worth_144 ?_
      refine g_ladd dX3_worth_145 ?_
      refine g_topl (fun w_6 ew_6 => ?_)
      replace h := h w_6 ew_6
      refine g_lstore_n (ls1 := [(2, .long w_6), (0, .ref h0), (4, .int x4)]) dX3_worth_146 rfl (by decide) rfl ?_
      refine g_aload_n dX3_worth_147 rfl 1 rfl ?_
      obtain ⟨a_state_7, hf, h⟩ := h
      refine g_get 0 dX3_worth_148 in_X3 cl3 (by decide) q236 hf ?_
      obtain ⟨⟨_, hO⟩, h⟩ := h
      refine g_callV (N := mX4_in) (st := []) (As := []) (a := a_state_7) dX3_worth_151 wsX4_in (lw_V q747 q619 q620 q111 q621) rfl mokX4_in rfl cl4 (by decide) (by decide) (Nat.zero_le _) (Nat.zero_le _) hO h (fun E q s hx => AtX.never hx) (fun _ s1_8 hq => ?_)
      obtain ⟨es, hq⟩ := hq
      refine g_tops2 es ?_
      obtain ⟨rx, rfl, h⟩ := hq
      refine At.stk (st' := [.int rx]) rfl ?_
      refine g_if_ne (tgt := 178) dX3_worth_154 (by decide) (fun c => ?_) (fun c => ?_)
      · replace h := h.1 c
        obtain ⟨v4, ev4⟩ : ∃ z : Int32, z = x4 + 1 := ⟨_, rfl⟩
        refine g_iinc (v := v4) (ls1 := [(4, .int v4), (2, .long w_6), (0, .ref h0)]) dX3_worth_178 2 rfl (by rw [ev4]; rfl) (by decide) rfl ?_
        replace h := h v4 ev4
        refine g_goto (tgt := 89) dX3_worth_181 (by decide) ?_
        exact At.sub (ls := [(4, .int v4), (2, .long w_6), (0, .ref h0)]) [2, 1, 0] rfl h
      · replace h := h.2 c
        refine g_lload_n dX3_worth_157 rfl 0 rfl ?_
        refine g_aload_n dX3_worth_158 rfl 1 rfl ?_
        obtain ⟨a_now_9, hf, h⟩ := h
        refine g_get 2 dX3_worth_159 in_X3 cl3 (by decide) q239 hf ?_
        refine g_iload dX3_worth_162 2 rfl ?_
        obtain ⟨n_10, f_11, h1, h2, h⟩ := h
        refine g_lald dX3_worth_164 h1 h2 ?_
        refine g_aload_n dX3_worth_165 rfl 1 rfl ?_
        obtain ⟨a_office_12, hf, h⟩ := h
        refine g_get 4 dX3_worth_166 in_X3 cl3 (by decide) q241 hf ?_
        obtain ⟨a_price_13, hf, h⟩ := h
        refine g_getN 0 dX3_worth_169 in_X7 cl7 (by decide) q376 hf ?_
        refine g_iconst (v := 3) dX3_worth_172 (by decide) ?_
        obtain ⟨n_14, f_15, h1, h2, h⟩ := h
        refine g_iald0 (j := 3) dX3_worth_173 h1 (by decide) rfl h2 ?_
        refine g_i2l dX3_worth_174 ?_
        refine g_lmul dX3_worth_175 ?_
        refine g_topl (fun w_16 ew_16 => ?_)
        replace h := h w_16 ew_16
        refine g_ladd dX3_worth_176 ?_
        refine g_topl (fun v2 ev2 => ?_)
        replace h := h v2 ev2
        refine g_lstore_n (ls1 := [(2, .long v2), (0, .ref h0), (4, .int x4)]) dX3_worth_177 rfl (by decide) rfl ?_
        obtain ⟨v4, ev4⟩ : ∃ z : Int32, z = x4 + 1 := ⟨_, rfl⟩
        refine g_iinc (v := v4) (ls1 := [(4, .int v4), (2, .long v2), (0, .ref h0)]) dX3_worth_178 2 rfl (by rw [ev4]; rfl) (by decide) rfl ?_
        replace h := h v4 ev4
        refine g_goto (tgt := 89) dX3_worth_181 (by decide) ?_
        exact At.sub (ls := [(4, .int v4), (2, .long v2), (0, .ref h0)]) [2, 1, 0] rfl h
    · replace h := h.2 c
      refine g_goto (tgt := 178) dX3_worth_109 (by decide) ?_
      obtain ⟨v4, ev4⟩ : ∃ z : Int32, z = x4 + 1 := ⟨_, rfl⟩
      refine g_iinc (v := v4) (ls1 := [(4, .int v4), (0, .ref h0), (2, .long y2)]) dX3_worth_178 2 rfl (by rw [ev4]; rfl) (by decide) rfl ?_
      replace h := h v4 ev4
      refine g_goto (tgt := 89) dX3_worth_181 (by decide) ?_
      exact At.sub (ls := [(4, .int v4), (0, .ref h0), (2, .long y2)]) [1, 2, 0] rfl h
theorem eX3_worth {G : GC} {Q : Option Value → PS → Prop} {X : String → Nat → PS → Prop} {b : Nat} {h0 : Nat} {p1 : Int32} {σ : PS} (h : At G mX3_worth 6 Q X b 0 [(0, .ref h0), (1, .int p1)] [] σ) : Call G mX3_worth 6 b [.ref h0, .int p1] σ Q X :=
  Call.of (by decide +kernel) wsX3_worth rfl (Nat.le_of_ble_eq_true rfl) (At.sub (ls := [(0, .ref h0), (1, .int p1)]) [0, 1] rfl h)
set_option maxHeartbeats 4000000 in
theorem bX3_taking_0 {G : GC} {Q : Option Value → PS → Prop} {X : String → Nat → PS → Prop} {b : Nat} {h0 : Nat} {x1 : Int32} {σ : PS} (h : At G mX3_taking 5 Q X b 5 [(0, .ref h0), (1, .int x1), (2, .long 0), (4, .int 0)] [] (σ)) : At G mX3_taking 5 Q X b 0 [(0, .ref h0), (1, .int x1)] [] (σ) := by
  refine g_lconst (v := 0) dX3_taking_0 (by decide) ?_
  refine g_lstore_n (ls1 := [(2, .long 0), (0, .ref h0), (1, .int x1)]) dX3_taking_1 rfl (by decide) rfl ?_
  refine g_iconst (v := 0) dX3_taking_2 (by decide) ?_
  refine g_istore (ls1 := [(4, .int 0), (2, .long 0), (0, .ref h0), (1, .int x1)]) dX3_taking_3 (by decide) rfl ?_
  exact At.sub (ls := [(4, .int 0), (2, .long 0), (0, .ref h0), (1, .int x1)]) [2, 3, 1, 0] rfl h
set_option maxHeartbeats 4000000 in
theorem bX3_taking_5 {G : GC} {Q : Option Value → PS → Prop} {X : String → Nat → PS → Prop} {b : Nat} {h0 : Nat} {x1 : Int32} {y2 : Int64} {x4 : Int32} {σ : PS} (h : ((16900 ≤ x4) → Q (some (.long y2)) (σ)) ∧ ((¬ 16900 ≤ x4) → ∃ a_now : Nat, Fg (σ) 3 h0 2 (.ref a_now) ∧ (∃ (n : Nat) (f : Nat → Int64), La (σ) 101 a_now n f ∧ vp_in x4 n ∧ (((¬ (f x4.toNatClampNeg) = 0) → (∃ fs_12 : List Value, Ob (σ) 3 h0 fs_12) ∧ Call G mX3_partsOf 4 0 [.ref h0, .int x4, .int x1] (σ) (qJ (fun ry s1 => ∃ a_state : Nat, Fg s1 3 h0 0 (.ref a_state) ∧ ((∃ fs_11 : List Value, Ob s1 4 a_state fs_11) ∧ CallO G mX4_in 3 [.ref a_state] s1 (pI (fun rx => ((¬ rx = 0) → ∃ a_state_2 : Nat, Fg s1 3 h0 0 (.ref a_state_2) ∧ (∃ x_dirty : Int32, Fg s1 4 a_state_2 2 (.int x_dirty) ∧ (∃ a_state_3 : Nat, Fg s1 3 h0 0 (.ref a_state_3) ∧ ((∃ fs : List Value, Ob s1 4 a_state_3 fs) ∧ CallO G mX4_in 3 [.ref a_state_3] s1 (pI (fun rx_5 => ¬ rx_5.toInt64 = 0 ∧ (∀ w : Int64, w = ((ry * x_dirty.toInt64) / rx_5.toInt64) → ∃ a_office : Nat, Fg s1 3 h0 4 (.ref a_office) ∧ (∃ a_price : Nat, Fg s1 7 a_office 0 (.ref a_price) ∧ (∃ (n_6 : Nat) (f_7 : Nat → Int32), Ia s1 100 a_price n_6 f_7 ∧ 0 < n_6 ∧ (∀ w_8 : Int64, w_8 = (y2 + (w * (f_7 0).toInt64)) → ∀ v4 : Int32, v4 = x4 + 1 → At G mX3_taking 5 Q X b 5 [(0, .ref h0), (1, .int x1), (2, .long w_8), (4, .int v4)] [] s1)))))))))) ∧ ((rx = 0) → ∃ a_office : Nat, Fg s1 3 h0 4 (.ref a_office) ∧ (∃ a_price : Nat, Fg s1 7 a_office 0 (.ref a_price) ∧ (∃ (n_9 : Nat) (f_10 : Nat → Int32), Ia s1 100 a_price n_9 f_10 ∧ 3 < n_9 ∧ (∀ w : Int64, w = (y2 + (ry * (f_10 3).toInt64)) → ∀ v4 : Int32, v4 = x4 + 1 → At G mX3_taking 5 Q X b 5 [(0, .ref h0), (1, .int x1), (2, .long w), (4, .int v4)] [] s1))))))))) X) ∧ (((f x4.toNatClampNeg) = 0) → ∀ v4 : Int32, v4 = x4 + 1 → At G mX3_taking 5 Q X b 5 [(0, .ref h0), (1, .int x1), (2, .long y2), (4, .int v4)] [] (σ)))))) : At G mX3_taking 5 Q X b 5 [(0, .ref h0), (1, .int x1), (2, .long y2), (4, .int x4)] [] (σ) := by
  refine g_iload dX3_taking_5 3 rfl ?_
  refine g_sipush (v := 16900) dX3_taking_7 (by decide) ?_
  refine g_icmp_ge (tgt := 103) dX3_taking_10 (by decide) (fun c => ?_) (fun c => ?_)
  · replace h := h.1 c
    refine g_lload_n dX3_taking_103 rfl 2 rfl ?_
    exact g_lret rfl dX3_taking_104 h
  · replace h := h.2 c
    refine g_aload_n dX3_taking_13 rfl 0 rfl ?_
    obtain ⟨a_now, hf, h⟩ := h
    refine g_get 2 dX3_taking_14 in_X3 cl3 (by decide) q239 hf ?_
    refine g_iload dX3_taking_17 3 rfl ?_
    obtain ⟨n, f, h1, h2, h⟩ := h
    refine g_lald dX3_taking_19 h1 h2 ?_
    refine g_lconst (v := 0) dX3_taking_20 (by decide) ?_
    refine g_lcmp_ne (tgt := 28) dX3_taking_21 dX3_taking_22 (by decide) (fun c => ?_) (fun c => ?_)
    · replace h := h.1 c
      refine g_aload_n dX3_taking_28 rfl 0 rfl ?_
      refine g_iload dX3_taking_29 3 rfl ?_
      refine g_iload_n dX3_taking_31 rfl 1 rfl ?_
      obtain ⟨⟨_, hO⟩, h⟩ := h
      refine g_callV (N := mX3_partsOf) (st := []) (As := [.int x4, .int x1]) (a := h0) dX3_taking_32 wsX3_partsOf (lw_V q1553 q1555 qs30 q110 q1556) rfl mokX3_partsOf rfl cl3 (by decide) (by decide) (Nat.zero_le _) (Nat.zero_le _) hO h (fun E q s hx => AtX.out0 rfl hx) (fun _ s1 hq => ?_)
      obtain ⟨ry, rfl, h⟩ := hq
      refine At.stk (st' := [.long ry]) rfl ?_
      refine g_lstore (ls1 := [(5, .long ry), (0, .ref h0), (1, .int x1), (2, .long y2), (4, .int x4)]) dX3_taking_35 (by decide) rfl ?_
      refine g_lload_n dX3_taking_37 rfl 3 rfl ?_
      refine g_aload_n dX3_taking_38 rfl 1 rfl ?_
      obtain ⟨a_state, hf, h⟩ := h
      refine g_get 0 dX3_taking_39 in_X3 cl3 (by decide) q236 hf ?_
      obtain ⟨⟨_, hO⟩, h⟩ := h
      refine g_callV (N := mX4_in) (st := [.long y2]) (As := []) (a := a_state) dX3_taking_42 wsX4_in (lw_V q747 q619 q620 q111 q621) rfl mokX4_in rfl cl4 (by decide) (by decide) (Nat.zero_le _) (by simp [Value.category]) hO h (fun E q s hx => AtX.never hx) (fun _ s1_1 hq => ?_)
      obtain ⟨es, hq⟩ := hq
      refine g_tops2 es ?_
      obtain ⟨rx, rfl, h⟩ := hq
      refine At.stk (st' := [.int rx, .long y2]) rfl ?_
      refine g_if_ne (tgt := 64) dX3_taking_45 (by decide) (fun c => ?_) (fun c => ?_)
      · replace h := h.1 c
        refine g_lload dX3_taking_64 0 rfl ?_
        refine g_aload_n dX3_taking_66 rfl 1 rfl ?_
        obtain ⟨a_state_2, hf, h⟩ := h
        refine g_get 0 dX3_taking_67 in_X3 cl3 (by decide) q236 hf ?_
        obtain ⟨x_dirty, hf, h⟩ := h
        refine g_getN 2 dX3_taking_70 in_X4 cl4 (by decide) q210 hf ?_
        refine g_i2l dX3_taking_73 ?_
        refine g_lmul dX3_taking_74 ?_
        refine g_aload_n dX3_taking_75 rfl 1 rfl ?_
        obtain ⟨a_state_3, hf, h⟩ := h
        refine g_get 0 dX3_taking_76 in_X3 cl3 (by decide) q236 hf ?_
        obtain ⟨⟨_, hO⟩, h⟩ := h
        refine g_callV (N := mX4_in) (st := [.long (ry * x_dirty.toInt64), .long y2]) (As := []) (a := a_state_3) dX3_taking_79 wsX4_in (lw_V q747 q619 q620 q111 q621) rfl mokX4_in rfl cl4 (by decide) (by decide) (Nat.zero_le _) (by simp [Value.category]) hO h (fun E q s hx => AtX.never hx) (fun _ s1_4 hq => ?_)
        obtain ⟨es, hq⟩ := hq
        refine g_tops2 es ?_
        obtain ⟨rx_5, rfl, h⟩ := hq
        refine At.stk (st' := [.int rx_5, .long (ry * x_dirty.toInt64), .long y2]) rfl ?_
        refine g_i2l dX3_taking_82 ?_
        obtain ⟨hnz, h⟩ := h
        refine g_ldiv dX3_taking_83 hnz ?_
        refine g_topl (fun w ew => ?_)
        replace h := h w ew
        refine g_aload_n dX3_taking_84 rfl 1 rfl ?_
        obtain ⟨a_office, hf, h⟩ := h
        refine g_get 4 dX3_taking_85 in_X3 cl3 (by decide) q241 hf ?_
        obtain ⟨a_price, hf, h⟩ := h
        refine g_getN 0 dX3_taking_88 in_X7 cl7 (by decide) q376 hf ?_
        refine g_iconst (v := 0) dX3_taking_91 (by decide) ?_
        obtain ⟨n_6, f_7, h1, h2, h⟩ := h
        refine g_iald0 (j := 0) dX3_taking_92 h1 (by decide) rfl h2 ?_
        refine g_i2l dX3_taking_93 ?_
        refine g_lmul dX3_taking_94 ?_
        refine g_ladd dX3_taking_95 ?_
        refine g_topl (fun w_8 ew_8 => ?_)
        replace h := h w_8 ew_8
        refine g_lstore_n (ls1 := [(2, .long w_8), (5, .long ry), (0, .ref h0), (1, .int x1), (4, .int x4)]) dX3_taking_96 rfl (by decide) rfl ?_
        obtain ⟨v4, ev4⟩ : ∃ z : Int32, z = x4 + 1 := ⟨_, rfl⟩
        refine g_iinc (v := v4) (ls1 := [(4, .int v4), (2, .long w_8), (5, .long ry), (0, .ref h0), (1, .int x1)]) dX3_taking_97 4 rfl (by rw [ev4]; rfl) (by decide) rfl ?_
        replace h := h v4 ev4
        refine g_goto (tgt := 5) dX3_taking_100 (by decide) ?_
        exact At.sub (ls := [(4, .int v4), (2, .long w_8), (5, .long ry), (0, .ref h0), (1, .int x1)]) [3, 4, 1, 0] rfl h
      · replace h := h.2 c
        refine g_lload dX3_taking_48 0 rfl ?_
        refine g_aload_n dX3_taking_50 rfl 1 rfl ?_
        obtain ⟨a_office, hf, h⟩ := h
        refine g_get 4 dX3_taking_51 in_X3 cl3 (by decide) q241 hf ?_
        obtain ⟨a_price, hf, h⟩ := h
        refine g_getN 0 dX3_taking_54 in_X7 cl7 (by decide) q376 hf ?_
        refine g_iconst (v := 3) dX3_taking_57 (by decide) ?_
        obtain ⟨n_9, f_10, h1, h2, h⟩ := h
        refine g_iald0 (j := 3) dX3_taking_58 h1 (by decide) rfl h2 ?_
        refine g_i2l dX3_taking_59 ?_
        refine g_lmul dX3_taking_60 ?_
        refine g_goto (tgt := 95) dX3_taking_61 (by decide) ?_
        refine g_ladd dX3_taking_95 ?_
        refine g_topl (fun w ew => ?_)
        replace h := h w ew
        refine g_lstore_n (ls1 := [(2, .long w), (5, .long ry), (0, .ref h0), (1, .int x1), (4, .int x4)]) dX3_taking_96 rfl (by decide) rfl ?_
        obtain ⟨v4, ev4⟩ : ∃ z : Int32, z = x4 + 1 := ⟨_, rfl⟩
        refine g_iinc (v := v4) (ls1 := [(4, .int v4), (2, .long w), (5, .long ry), (0, .ref h0), (1, .int x1)]) dX3_taking_97 4 rfl (by rw [ev4]; rfl) (by decide) rfl ?_
        replace h := h v4 ev4
        refine g_goto (tgt := 5) dX3_taking_100 (by decide) ?_
        exact At.sub (ls := [(4, .int v4), (2, .long w), (5, .long ry), (0, .ref h0), (1, .int x1)]) [3, 4, 1, 0] rfl h
    · replace h := h.2 c
      refine g_goto (tgt := 97) dX3_taking_25 (by decide) ?_
      obtain ⟨v4, ev4⟩ : ∃ z : Int32, z = x4 + 1 := ⟨_, rfl⟩
      refine g_iinc (v := v4) (ls1 := [(4, .int v4), (0, .ref h0), (1, .int x1), (2, .long y2)]) dX3_taking_97 3 rfl (by rw [ev4]; rfl) (by decide) rfl ?_
      replace h := h v4 ev4
      refine g_goto (tgt := 5) dX3_taking_100 (by decide) ?_
      exact At.sub (ls := [(4, .int v4), (0, .ref h0), (1, .int x1), (2, .long y2)]) [1, 2, 3, 0] rfl h
theorem eX3_taking {G : GC} {Q : Option Value → PS → Prop} {X : String → Nat → PS → Prop} {b : Nat} {h0 : Nat} {p1 : Int32} {σ : PS} (h : At G mX3_taking 5 Q X b 0 [(0, .ref h0), (1, .int p1)] [] σ) : Call G mX3_taking 5 b [.ref h0, .int p1] σ Q X :=
  Call.of (by decide +kernel) wsX3_taking rfl (Nat.le_of_ble_eq_true rfl) (At.sub (ls := [(0, .ref h0), (1, .int p1)]) [0, 1] rfl h)
set_option maxHeartbeats 4000000 in
theorem bX3_partsOf_0 {G : GC} {Q : Option Value → PS → Prop} {X : String → Nat → PS → Prop} {b : Nat} {h0 : Nat} {x1 : Int32} {x2 : Int32} {σ : PS} (h : ∃ a_now : Nat, Fg (σ) 3 h0 2 (.ref a_now) ∧ (∃ (n : Nat) (f : Nat → Int64), La (σ) 101 a_now n f ∧ vp_in x1 n ∧ (∃ a_state : Nat, Fg (σ) 3 h0 0 (.ref a_state) ∧ ((∃ fs_8 : List Value, Ob (σ) 4 a_state fs_8) ∧ Call G mX4_of 3 0 [.ref a_state, .int x1] (σ) (qR (fun ra s1 => (∃ fs : List Value, Ob s1 3 h0 fs) ∧ CallO G mX3_seeing 3 [.ref h0, .long (f x1.toNatClampNeg), .ref ra] s1 (pJ (fun ry => ((¬ x2 = 2) → ((¬ x2 = 1) → ∃ a_now_2 : Nat, Fg s1 3 h0 2 (.ref a_now_2) ∧ (∃ (n_3 : Nat) (f_4 : Nat → Int64), La s1 101 a_now_2 n_3 f_4 ∧ vp_in x1 n_3 ∧ (∀ w : Int64, w = ((f_4 x1.toNatClampNeg) - ry) → Q (some (.long w)) s1))) ∧ ((x2 = 1) → Q (some (.long ry)) s1)) ∧ ((x2 = 2) → ∃ a_now_5 : Nat, Fg s1 3 h0 2 (.ref a_now_5) ∧ (∃ (n_6 : Nat) (f_7 : Nat → Int64), La s1 101 a_now_5 n_6 f_7 ∧ vp_in x1 n_6 ∧ (Q (some (.long (f_7 x1.toNatClampNeg))) s1))))))) X)))) : At G mX3_partsOf 4 Q X b 0 [(0, .ref h0), (1, .int x1), (2, .int x2)] [] (σ) := by
  refine g_aload_n dX3_partsOf_0 rfl 0 rfl ?_
  refine g_aload_n dX3_partsOf_1 rfl 0 rfl ?_
  obtain ⟨a_now, hf, h⟩ := h
  refine g_get 2 dX3_partsOf_2 in_X3 cl3 (by decide) q239 hf ?_
  refine g_iload_n dX3_partsOf_5 rfl 1 rfl ?_
  obtain ⟨n, f, h1, h2, h⟩ := h
  refine g_lald dX3_partsOf_6 h1 h2 ?_
  refine g_aload_n dX3_partsOf_7 rfl 0 rfl ?_
  obtain ⟨a_state, hf, h⟩ := h
  refine g_get 0 dX3_partsOf_8 in_X3 cl3 (by decide) q236 hf ?_
  refine g_iload_n dX3_partsOf_11 rfl 1 rfl ?_
  obtain ⟨⟨_, hO⟩, h⟩ := h
  refine g_callV (N := mX4_of) (st := [.long (f x1.toNatClampNeg), .ref h0]) (As := [.int x1]) (a := a_state) dX3_partsOf_12 wsX4_of (lw_V q598 q599 q600 q111 q601) rfl mokX4_of rfl cl4 (by decide) (by decide) (Nat.zero_le _) (by simp [Value.category]) hO h (fun E q s hx => AtX.out0 rfl hx) (fun _ s1 hq => ?_)
  obtain ⟨ra, rfl, h⟩ := hq
  refine At.stk (st' := [.ref ra, .long (f x1.toNatClampNeg), .ref h0]) rfl ?_
  obtain ⟨⟨_, hO⟩, h⟩ := h
  refine g_callV (N := mX3_seeing) (st := []) (As := [.long (f x1.toNatClampNeg), .ref ra]) (a := h0) dX3_partsOf_15 wsX3_seeing (lw_V q1557 q1559 qs31 q110 q1560) rfl mokX3_seeing rfl cl3 (by decide) (by decide) (Nat.zero_le _) (Nat.zero_le _) hO h (fun E q s hx => AtX.never hx) (fun _ s1_1 hq => ?_)
  obtain ⟨es, hq⟩ := hq
  refine g_tops2 es ?_
  obtain ⟨ry, rfl, h⟩ := hq
  refine At.stk (st' := [.long ry]) rfl ?_
  refine g_lstore_n (ls1 := [(3, .long ry), (0, .ref h0), (1, .int x1), (2, .int x2)]) dX3_partsOf_18 rfl (by decide) rfl ?_
  refine g_iload_n dX3_partsOf_19 rfl 3 rfl ?_
  refine g_iconst (v := 2) dX3_partsOf_20 (by decide) ?_
  refine g_icmp_ne (tgt := 33) dX3_partsOf_21 (by decide) (fun c => ?_) (fun c => ?_)
  · replace h := h.1 c
    refine g_iload_n dX3_partsOf_33 rfl 3 rfl ?_
    refine g_iconst (v := 1) dX3_partsOf_34 (by decide) ?_
    refine g_icmp_ne (tgt := 42) dX3_partsOf_35 (by decide) (fun c => ?_) (fun c => ?_)
    · replace h := h.1 c
      refine g_aload_n dX3_partsOf_42 rfl 1 rfl ?_
      obtain ⟨a_now_2, hf, h⟩ := h
      refine g_get 2 dX3_partsOf_43 in_X3 cl3 (by decide) q239 hf ?_
      refine g_iload_n dX3_partsOf_46 rfl 2 rfl ?_
      obtain ⟨n_3, f_4, h1, h2, h⟩ := h
      refine g_lald dX3_partsOf_47 h1 h2 ?_
      refine g_lload_n dX3_partsOf_48 rfl 0 rfl ?_
      refine g_lsub dX3_partsOf_49 ?_
      refine g_topl (fun w ew => ?_)
      replace h := h w ew
      exact g_lret rfl dX3_partsOf_50 h
    · replace h := h.2 c
      refine g_lload_n dX3_partsOf_38 rfl 0 rfl ?_
      refine g_goto (tgt := 50) dX3_partsOf_39 (by decide) ?_
      exact g_lret rfl dX3_partsOf_50 h
  · replace h := h.2 c
    refine g_aload_n dX3_partsOf_24 rfl 1 rfl ?_
    obtain ⟨a_now_5, hf, h⟩ := h
    refine g_get 2 dX3_partsOf_25 in_X3 cl3 (by decide) q239 hf ?_
    refine g_iload_n dX3_partsOf_28 rfl 2 rfl ?_
    obtain ⟨n_6, f_7, h1, h2, h⟩ := h
    refine g_lald dX3_partsOf_29 h1 h2 ?_
    refine g_goto (tgt := 50) dX3_partsOf_30 (by decide) ?_
    exact g_lret rfl dX3_partsOf_50 h
theorem eX3_partsOf {G : GC} {Q : Option Value → PS → Prop} {X : String → Nat → PS → Prop} {b : Nat} {h0 : Nat} {p1 : Int32} {p2 : Int32} {σ : PS} (h : At G mX3_partsOf 4 Q X b 0 [(0, .ref h0), (1, .int p1), (2, .int p2)] [] σ) : Call G mX3_partsOf 4 b [.ref h0, .int p1, .int p2] σ Q X :=
  Call.of (by decide +kernel) wsX3_partsOf rfl (Nat.le_of_ble_eq_true rfl) (At.sub (ls := [(0, .ref h0), (1, .int p1), (2, .int p2)]) [0, 1, 2] rfl h)
set_option maxHeartbeats 4000000 in
theorem bX3_seeing_0 {G : GC} {Q : Option Value → PS → Prop} {X : String → Nat → PS → Prop} {b : Nat} {h0 : Nat} {y1 : Int64} {a3 : Nat} {σ : PS} (h : ∃ x_dirty : Int32, Fg (σ) 4 a3 2 (.int x_dirty) ∧ (((¬ x_dirty = 0) → ∃ x_see : Int32, Fg (σ) 3 h0 9 (.int x_see) ∧ (∀ w : Int64, w = ((y1 * x_see.toInt64) / 16) → Q (some (.long w)) (σ))) ∧ ((x_dirty = 0) → Q (some (.long 0)) (σ)))) : At G mX3_seeing 3 Q X b 0 [(0, .ref h0), (1, .long y1), (3, .ref a3)] [] (σ) := by
  refine g_aload_n dX3_seeing_0 rfl 2 rfl ?_
  obtain ⟨x_dirty, hf, h⟩ := h
  refine g_getN 2 dX3_seeing_1 in_X4 cl4 (by decide) q210 hf ?_
  refine g_if_ne (tgt := 11) dX3_seeing_4 (by decide) (fun c => ?_) (fun c => ?_)
  · replace h := h.1 c
    refine g_lload_n dX3_seeing_11 rfl 1 rfl ?_
    refine g_aload_n dX3_seeing_12 rfl 0 rfl ?_
    obtain ⟨x_see, hf, h⟩ := h
    refine g_get 9 dX3_seeing_13 in_X3 cl3 (by decide) q253 hf ?_
    refine g_i2l dX3_seeing_16 ?_
    refine g_lmul dX3_seeing_17 ?_
    refine g_ldc2 dX3_seeing_18 q589 ?_
    refine g_ldiv dX3_seeing_21 (by decide) ?_
    refine g_topl (fun w ew => ?_)
    replace h := h w ew
    exact g_lret rfl dX3_seeing_22 h
  · replace h := h.2 c
    refine g_lconst (v := 0) dX3_seeing_7 (by decide) ?_
    refine g_goto (tgt := 22) dX3_seeing_8 (by decide) ?_
    exact g_lret rfl dX3_seeing_22 h
theorem eX3_seeing {G : GC} {Q : Option Value → PS → Prop} {X : String → Nat → PS → Prop} {b : Nat} {h0 : Nat} {p1 : Int64} {p3 : Nat} {σ : PS} (h : At G mX3_seeing 3 Q X b 0 [(0, .ref h0), (1, .long p1), (3, .ref p3)] [] σ) : Call G mX3_seeing 3 b [.ref h0, .long p1, .ref p3] σ Q X :=
  Call.of (by decide +kernel) wsX3_seeing rfl (Nat.le_of_ble_eq_true rfl) (At.sub (ls := [(0, .ref h0), (1, .long p1), (3, .ref p3)]) [0, 1, 2] rfl h)
set_option maxHeartbeats 4000000 in
theorem bX3_owning_0 {G : GC} {Q : Option Value → PS → Prop} {X : String → Nat → PS → Prop} {b : Nat} {h0 : Nat} {x1 : Int32} {σ : PS} (h : At G mX3_owning 5 Q X b 5 [(0, .ref h0), (1, .int x1), (2, .long 0), (4, .int 0)] [] (σ)) : At G mX3_owning 5 Q X b 0 [(0, .ref h0), (1, .int x1)] [] (σ) := by
  refine g_lconst (v := 0) dX3_owning_0 (by decide) ?_
  refine g_lstore_n (ls1 := [(2, .long 0), (0, .ref h0), (1, .int x1)]) dX3_owning_1 rfl (by decide) rfl ?_
  refine g_iconst (v := 0) dX3_owning_2 (by decide) ?_
  refine g_istore (ls1 := [(4, .int 0), (2, .long 0), (0, .ref h0), (1, .int x1)]) dX3_owning_3 (by decide) rfl ?_
  exact At.sub (ls := [(4, .int 0), (2, .long 0), (0, .ref h0), (1, .int x1)]) [2, 3, 1, 0] rfl h
set_option maxHeartbeats 4000000 in
theorem bX3_owning_5 {G : GC} {Q : Option Value → PS → Prop} {X : String → Nat → PS → Prop} {b : Nat} {h0 : Nat} {x1 : Int32} {y2 : Int64} {x4 : Int32} {σ : PS} (h : ((16900 ≤ x4) → Q (some (.long y2)) (σ)) ∧ ((¬ 16900 ≤ x4) → ∃ a_now : Nat, Fg (σ) 3 h0 2 (.ref a_now) ∧ (∃ (n : Nat) (f : Nat → Int64), La (σ) 101 a_now n f ∧ vp_in x4 n ∧ ((((f x4.toNatClampNeg) = 0) → ∀ v4 : Int32, v4 = x4 + 1 → At G mX3_owning 5 Q X b 5 [(0, .ref h0), (1, .int x1), (2, .long y2), (4, .int v4)] [] (σ)) ∧ ((¬ (f x4.toNatClampNeg) = 0) → (∃ fs : List Value, Ob (σ) 3 h0 fs) ∧ Call G mX3_partsOf 4 0 [.ref h0, .int x4, .int x1] (σ) (qJ (fun ry s1 => ∃ a_office : Nat, Fg s1 3 h0 4 (.ref a_office) ∧ (∃ a_price : Nat, Fg s1 7 a_office 0 (.ref a_price) ∧ (∃ (n_1 : Nat) (f_2 : Nat → Int32), Ia s1 100 a_price n_1 f_2 ∧ 3 < n_1 ∧ (∀ w : Int64, w = (y2 + (ry * (f_2 3).toInt64)) → ∀ v4 : Int32, v4 = x4 + 1 → At G mX3_owning 5 Q X b 5 [(0, .ref h0), (1, .int x1), (2, .long w), (4, .int v4)] [] s1))))) X))))) : At G mX3_owning 5 Q X b 5 [(0, .ref h0), (1, .int x1), (2, .long y2), (4, .int x4)] [] (σ) := by
  refine g_iload dX3_owning_5 3 rfl ?_
  refine g_sipush (v := 16900) dX3_owning_7 (by decide) ?_
  refine g_icmp_ge (tgt := 52) dX3_owning_10 (by decide) (fun c => ?_) (fun c => ?_)
  · replace h := h.1 c
    refine g_lload_n dX3_owning_52 rfl 2 rfl ?_
    exact g_lret rfl dX3_owning_53 h
  · replace h := h.2 c
    refine g_aload_n dX3_owning_13 rfl 0 rfl ?_
    obtain ⟨a_now, hf, h⟩ := h
    refine g_get 2 dX3_owning_14 in_X3 cl3 (by decide) q239 hf ?_
    refine g_iload dX3_owning_17 3 rfl ?_
    obtain ⟨n, f, h1, h2, h⟩ := h
    refine g_lald dX3_owning_19 h1 h2 ?_
    refine g_lconst (v := 0) dX3_owning_20 (by decide) ?_
    refine g_lcmp_eq (tgt := 46) dX3_owning_21 dX3_owning_22 (by decide) (fun c => ?_) (fun c => ?_)
    · replace h := h.1 c
      obtain ⟨v4, ev4⟩ : ∃ z : Int32, z = x4 + 1 := ⟨_, rfl⟩
      refine g_iinc (v := v4) (ls1 := [(4, .int v4), (0, .ref h0), (1, .int x1), (2, .long y2)]) dX3_owning_46 3 rfl (by rw [ev4]; rfl) (by decide) rfl ?_
      replace h := h v4 ev4
      refine g_goto (tgt := 5) dX3_owning_49 (by decide) ?_
      exact At.sub (ls := [(4, .int v4), (0, .ref h0), (1, .int x1), (2, .long y2)]) [1, 2, 3, 0] rfl h
    · replace h := h.2 c
      refine g_lload_n dX3_owning_25 rfl 2 rfl ?_
      refine g_aload_n dX3_owning_26 rfl 0 rfl ?_
      refine g_iload dX3_owning_27 3 rfl ?_
      refine g_iload_n dX3_owning_29 rfl 1 rfl ?_
      obtain ⟨⟨_, hO⟩, h⟩ := h
      refine g_callV (N := mX3_partsOf) (st := [.long y2]) (As := [.int x4, .int x1]) (a := h0) dX3_owning_30 wsX3_partsOf (lw_V q1553 q1555 qs30 q110 q1556) rfl mokX3_partsOf rfl cl3 (by decide) (by decide) (Nat.zero_le _) (by simp [Value.category]) hO h (fun E q s hx => AtX.out0 rfl hx) (fun _ s1 hq => ?_)
      obtain ⟨ry, rfl, h⟩ := hq
      refine At.stk (st' := [.long ry, .long y2]) rfl ?_
      refine g_aload_n dX3_owning_33 rfl 0 rfl ?_
      obtain ⟨a_office, hf, h⟩ := h
      refine g_get 4 dX3_owning_34 in_X3 cl3 (by decide) q241 hf ?_
      obtain ⟨a_price, hf, h⟩ := h
      refine g_getN 0 dX3_owning_37 in_X7 cl7 (by decide) q376 hf ?_
      refine g_iconst (v := 3) dX3_owning_40 (by decide) ?_
      obtain ⟨n_1, f_2, h1, h2, h⟩ := h
      refine g_iald0 (j := 3) dX3_owning_41 h1 (by decide) rfl h2 ?_
      refine g_i2l dX3_owning_42 ?_
      refine g_lmul dX3_owning_43 ?_
      refine g_ladd dX3_owning_44 ?_
      refine g_topl (fun w ew => ?_)
      replace h := h w ew
      refine g_lstore_n (ls1 := [(2, .long w), (0, .ref h0), (1, .int x1), (4, .int x4)]) dX3_owning_45 rfl (by decide) rfl ?_
      obtain ⟨v4, ev4⟩ : ∃ z : Int32, z = x4 + 1 := ⟨_, rfl⟩
      refine g_iinc (v := v4) (ls1 := [(4, .int v4), (2, .long w), (0, .ref h0), (1, .int x1)]) dX3_owning_46 3 rfl (by rw [ev4]; rfl) (by decide) rfl ?_
      replace h := h v4 ev4
      refine g_goto (tgt := 5) dX3_owning_49 (by decide) ?_
      exact At.sub (ls := [(4, .int v4), (2, .long w), (0, .ref h0), (1, .int x1)]) [2, 3, 1, 0] rfl h
theorem eX3_owning {G : GC} {Q : Option Value → PS → Prop} {X : String → Nat → PS → Prop} {b : Nat} {h0 : Nat} {p1 : Int32} {σ : PS} (h : At G mX3_owning 5 Q X b 0 [(0, .ref h0), (1, .int p1)] [] σ) : Call G mX3_owning 5 b [.ref h0, .int p1] σ Q X :=
  Call.of (by decide +kernel) wsX3_owning rfl (Nat.le_of_ble_eq_true rfl) (At.sub (ls := [(0, .ref h0), (1, .int p1)]) [0, 1] rfl h)
set_option maxHeartbeats 4000000 in
theorem bX5_init_0 {G : GC} {Q : Option Value → PS → Prop} {X : String → Nat → PS → Prop} {b : Nat} {h0 : Nat} {σ : PS} (h : 1 ≤ b ∧ (∀ q : Nat, (∀ κ, σ κ q = none) → (∀ s1 : PS, s1 = up (σ) 4 q (.inl [.int 0, .int 0, .int 0, .int 0, .int 0]) → CallO G mX4_init 4 [.ref q] s1 (pV (∃ fs : List Value, Ob s1 5 h0 fs ∧ 0 < fs.length ∧ (∀ s1_2 : PS, s1_2 = up s1 5 h0 (.inl (fs.set 0 (.ref q))) → Q none s1_2)))))) : At G mX5_init 5 Q X b 0 [(0, .ref h0)] [] (σ) := by
  refine g_aload_n dX5_init_0 rfl 0 rfl ?_
  refine g_objInit dX5_init_1 q284 q151 q152 (by decide) (Nat.zero_le _) ?_
  refine g_aload_n dX5_init_4 rfl 0 rfl ?_
  obtain ⟨hb, h⟩ := h
  refine g_new (ci := 4) (fs := [.int 0, .int 0, .int 0, .int 0, .int 0]) 1 dX5_init_5 in_X4 tyX4 tyX4_ok cl4 q285 q191 q111 new4 (by decide) (by decide) hb (fun q hq => ?_)
  replace h := h q hq
  refine g_tops (fun s1 es1 => ?_)
  replace h := h s1 es1
  refine g_dup dX5_init_8 rfl ?_
  refine g_callIN (N := mX4_init) (st := [.ref q, .ref h0]) (As := []) (a := q) dX5_init_9 wsX4_init q194 q111 q286 q193 rfl mokX4_init rfl (by decide) (by decide) (Nat.zero_le _) (by simp [Value.category]) h (fun E q s hx => AtX.never hx) (fun _ s1_1 hq => ?_)
  obtain ⟨es, hq⟩ := hq
  refine g_tops2 es ?_
  obtain ⟨rfl, h⟩ := hq
  refine At.stk (st' := [.ref q, .ref h0]) rfl ?_
  obtain ⟨fs, hO, hl, h⟩ := h
  refine g_putF 0 dX5_init_12 in_X5 tyX5 tyX5_ok nmX5 cl5 (by decide) q287 rfl rfl rfl rfl rfl hO hl ?_
  refine g_tops (fun s1_2 es1_2 => ?_)
  replace h := h s1_2 es1_2
  exact g_vret rfl dX5_init_15 h
theorem eX5_init {G : GC} {Q : Option Value → PS → Prop} {X : String → Nat → PS → Prop} {b : Nat} {h0 : Nat} {σ : PS} (h : At G mX5_init 5 Q X b 0 [(0, .ref h0)] [] σ) : Call G mX5_init 5 b [.ref h0] σ Q X :=
  Call.of (by decide +kernel) wsX5_init rfl (Nat.le_of_ble_eq_true rfl) (At.sub (ls := [(0, .ref h0)]) [0] rfl h)
set_option maxHeartbeats 4000000 in
theorem bX5_runs_0 {G : GC} {Q : Option Value → PS → Prop} {X : String → Nat → PS → Prop} {b : Nat} {h0 : Nat} {a1 : Nat} {a2 : Nat} {a3 : Nat} {x4 : Int32} {x5 : Int32} {σ : PS} (h : ∃ fs : List Value, Ob (σ) 5 h0 fs ∧ 1 < fs.length ∧ (∀ s1 : PS, s1 = up (σ) 5 h0 (.inl (fs.set 1 (.ref a1))) → ∃ fs_1 : List Value, Ob s1 5 h0 fs_1 ∧ 2 < fs_1.length ∧ (∀ s1_2 : PS, s1_2 = up s1 5 h0 (.inl (fs_1.set 2 (.int x4))) → ∃ fs_3 : List Value, Ob s1_2 5 h0 fs_3 ∧ 4 < fs_3.length ∧ (∀ s1_4 : PS, s1_4 = up s1_2 5 h0 (.inl (fs_3.set 4 (.int 0))) → ∃ fs_5 : List Value, Ob s1_4 5 h0 fs_5 ∧ 5 < fs_5.length ∧ (∀ s1_6 : PS, s1_6 = up s1_4 5 h0 (.inl (fs_5.set 5 (.int 0))) → ∃ fs_7 : List Value, Ob s1_6 5 h0 fs_7 ∧ 6 < fs_7.length ∧ (∀ s1_8 : PS, s1_8 = up s1_6 5 h0 (.inl (fs_7.set 6 (.int 0))) → ∃ a_state : Nat, Fg s1_8 5 h0 0 (.ref a_state) ∧ (∃ x_clean : Int32, Fg s1_8 7 a1 2 (.int x_clean) ∧ (∃ x_dirty : Int32, Fg s1_8 7 a1 3 (.int x_dirty) ∧ (∃ x_card : Int32, Fg s1_8 7 a1 4 (.int x_card) ∧ (CallO G mX4_codeOf 3 [.int 0, .int x_clean, .int x_dirty, .int x_card, .int 0] s1_8 (pI (fun rx => (∃ fs_13 : List Value, Ob s1_8 4 a_state fs_13) ∧ Call G mX4_of 3 0 [.ref a_state, .int rx] s1_8 (qR (fun ra s1_10 => ∃ fs_11 : List Value, Ob s1_10 5 h0 fs_11 ∧ 3 < fs_11.length ∧ (∀ s1_12 : PS, s1_12 = up s1_10 5 h0 (.inl (fs_11.set 3 (.int 0))) → At G mX5_runs 202 Q X b 56 [(0, .ref h0), (1, .ref a1), (2, .ref a2), (3, .ref a3), (5, .int x5)] [] s1_12))) X)))))))))))) : At G mX5_runs 202 Q X b 0 [(0, .ref h0), (1, .ref a1), (2, .ref a2), (3, .ref a3), (4, .int x4), (5, .int x5)] [] (σ) := by
  refine g_aload_n dX5_runs_0 rfl 0 rfl ?_
  refine g_aload_n dX5_runs_1 rfl 1 rfl ?_
  obtain ⟨fs, hO, hl, h⟩ := h
  refine g_put 1 dX5_runs_2 in_X5 tyX5 tyX5_ok nmX5 cl5 (by decide) q295 rfl rfl rfl hO hl ?_
  refine g_tops (fun s1 es1 => ?_)
  replace h := h s1 es1
  refine g_aload_n dX5_runs_5 rfl 0 rfl ?_
  refine g_iload dX5_runs_6 4 rfl ?_
  obtain ⟨fs_1, hO, hl, h⟩ := h
  refine g_put 2 dX5_runs_8 in_X5 tyX5 tyX5_ok nmX5 cl5 (by decide) q298 rfl rfl rfl hO hl ?_
  refine g_tops (fun s1_2 es1_2 => ?_)
  replace h := h s1_2 es1_2
  refine g_aload_n dX5_runs_11 rfl 0 rfl ?_
  refine g_iconst (v := 0) dX5_runs_12 (by decide) ?_
  obtain ⟨fs_3, hO, hl, h⟩ := h
  refine g_put 4 dX5_runs_13 in_X5 tyX5 tyX5_ok nmX5 cl5 (by decide) q301 rfl rfl rfl hO hl ?_
  refine g_tops (fun s1_4 es1_4 => ?_)
  replace h := h s1_4 es1_4
  refine g_aload_n dX5_runs_16 rfl 0 rfl ?_
  refine g_iconst (v := 0) dX5_runs_17 (by decide) ?_
  obtain ⟨fs_5, hO, hl, h⟩ := h
  refine g_put 5 dX5_runs_18 in_X5 tyX5 tyX5_ok nmX5 cl5 (by decide) q305 rfl rfl rfl hO hl ?_
  refine g_tops (fun s1_6 es1_6 => ?_)
  replace h := h s1_6 es1_6
  refine g_aload_n dX5_runs_21 rfl 0 rfl ?_
  refine g_iconst (v := 0) dX5_runs_22 (by decide) ?_
  obtain ⟨fs_7, hO, hl, h⟩ := h
  refine g_put 6 dX5_runs_23 in_X5 tyX5 tyX5_ok nmX5 cl5 (by decide) q308 rfl rfl rfl hO hl ?_
  refine g_tops (fun s1_8 es1_8 => ?_)
  replace h := h s1_8 es1_8
  refine g_aload_n dX5_runs_26 rfl 0 rfl ?_
  obtain ⟨a_state, hf, h⟩ := h
  refine g_get 0 dX5_runs_27 in_X5 cl5 (by decide) q287 hf ?_
  refine g_iconst (v := 0) dX5_runs_30 (by decide) ?_
  refine g_aload_n dX5_runs_31 rfl 1 rfl ?_
  obtain ⟨x_clean, hf, h⟩ := h
  refine g_getN 2 dX5_runs_32 in_X7 cl7 (by decide) q385 hf ?_
  refine g_aload_n dX5_runs_35 rfl 1 rfl ?_
  obtain ⟨x_dirty, hf, h⟩ := h
  refine g_getN 3 dX5_runs_36 in_X7 cl7 (by decide) q389 hf ?_
  refine g_aload_n dX5_runs_39 rfl 1 rfl ?_
  obtain ⟨x_card, hf, h⟩ := h
  refine g_getN 4 dX5_runs_40 in_X7 cl7 (by decide) q393 hf ?_
  refine g_iconst (v := 0) dX5_runs_43 (by decide) ?_
  refine g_callS (N := mX4_codeOf) (st := [.ref a_state]) (As := [.int 0, .int x_clean, .int x_dirty, .int x_card, .int 0]) dX5_runs_44 wsX4_codeOf (lw_S q1648 q541 q111 q542) mokX4_codeOf rfl (by decide) (by decide) (Nat.zero_le _) (by simp [Value.category]) h (fun E q s hx => AtX.never hx) (fun _ s1_9 hq => ?_)
  obtain ⟨es, hq⟩ := hq
  refine g_tops2 es ?_
  obtain ⟨rx, rfl, h⟩ := hq
  refine At.stk (st' := [.int rx, .ref a_state]) rfl ?_
  obtain ⟨⟨_, hO⟩, h⟩ := h
  refine g_callV (N := mX4_of) (st := []) (As := [.int rx]) (a := a_state) dX5_runs_47 wsX4_of (lw_V q1649 q599 q600 q111 q601) rfl mokX4_of rfl cl4 (by decide) (by decide) (Nat.zero_le _) (Nat.zero_le _) hO h (fun E q s hx => AtX.out0 rfl hx) (fun _ s1_10 hq => ?_)
  obtain ⟨ra, rfl, h⟩ := hq
  refine At.stk (st' := [.ref ra]) rfl ?_
  refine g_pop dX5_runs_50 rfl ?_
  refine g_aload_n dX5_runs_51 rfl 0 rfl ?_
  refine g_iconst (v := 0) dX5_runs_52 (by decide) ?_
  obtain ⟨fs_11, hO, hl, h⟩ := h
  refine g_put 3 dX5_runs_53 in_X5 tyX5 tyX5_ok nmX5 cl5 (by decide) q300 rfl rfl rfl hO hl ?_
  refine g_tops (fun s1_12 es1_12 => ?_)
  replace h := h s1_12 es1_12
  exact At.sub (ls := [(0, .ref h0), (1, .ref a1), (2, .ref a2), (3, .ref a3), (4, .int x4), (5, .int x5)]) [0, 1, 2, 3, 5] rfl h
set_option maxHeartbeats 4000000 in
theorem bX5_runs_56 {G : GC} {Q : Option Value → PS → Prop} {X : String → Nat → PS → Prop} {b : Nat} {h0 : Nat} {a1 : Nat} {a2 : Nat} {a3 : Nat} {x5 : Int32} {σ : PS} (h : ∃ x_visit : Int32, Fg (σ) 5 h0 3 (.int x_visit) ∧ (((x5 < x_visit) → Q (some (.ref h0)) (σ)) ∧ ((¬ x5 < x_visit) → (∃ fs_3 : List Value, Ob (σ) 5 h0 fs_3) ∧ Call G mX5_draw 3 0 [.ref h0, .int 16] (σ) (qI (fun rx s1 => ∃ x_fall : Int32, Fg s1 7 a1 5 (.int x_fall) ∧ (((x_fall ≤ rx) → At G mX5_runs 202 Q X b 94 [(0, .ref h0), (1, .ref a1), (2, .ref a2), (3, .ref a3), (5, .int x5)] [] s1) ∧ ((¬ x_fall ≤ rx) → ∃ a_state : Nat, Fg s1 5 h0 0 (.ref a_state) ∧ (∃ a_state_1 : Nat, Fg s1 5 h0 0 (.ref a_state_1) ∧ (∃ x_card : Int32, Fg s1 4 a_state_1 3 (.int x_card) ∧ (∃ fs : List Value, Ob s1 4 a_state fs ∧ 3 < fs.length ∧ (∀ s1_2 : PS, s1_2 = up s1 4 a_state (.inl (fs.set 3 (.int (1 - x_card)))) → At G mX5_runs 202 Q X b 94 [(0, .ref h0), (1, .ref a1), (2, .ref a2), (3, .ref a3), (5, .int x5)] [] s1_2)))))))) X))) : At G mX5_runs 202 Q X b 56 [(0, .ref h0), (1, .ref a1), (2, .ref a2), (3, .ref a3), (5, .int x5)] [] (σ) := by
  refine g_aload_n dX5_runs_56 rfl 0 rfl ?_
  obtain ⟨x_visit, hf, h⟩ := h
  refine g_get 3 dX5_runs_57 in_X5 cl5 (by decide) q300 hf ?_
  refine g_iload dX5_runs_60 4 rfl ?_
  refine g_icmp_gt (tgt := 217) dX5_runs_62 (by decide) (fun c => ?_) (fun c => ?_)
  · replace h := h.1 c
    refine g_aload_n dX5_runs_217 rfl 0 rfl ?_
    exact g_aret (x := (some h0)) rfl dX5_runs_218 h
  · replace h := h.2 c
    refine g_aload_n dX5_runs_65 rfl 0 rfl ?_
    refine g_bipush (v := 16) dX5_runs_66 (by decide) ?_
    obtain ⟨⟨_, hO⟩, h⟩ := h
    refine g_callV (N := mX5_draw) (st := []) (As := [.int 16]) (a := h0) dX5_runs_68 wsX5_draw (lw_V q1650 q1651 q1652 q112 q1653) rfl mokX5_draw rfl cl5 (by decide) (by decide) (Nat.zero_le _) (Nat.zero_le _) hO h (fun E q s hx => AtX.out0 rfl hx) (fun _ s1 hq => ?_)
    obtain ⟨rx, rfl, h⟩ := hq
    refine At.stk (st' := [.int rx]) rfl ?_
    refine g_aload_n dX5_runs_71 rfl 1 rfl ?_
    obtain ⟨x_fall, hf, h⟩ := h
    refine g_getN 5 dX5_runs_72 in_X7 cl7 (by decide) q397 hf ?_
    refine g_icmp_ge (tgt := 94) dX5_runs_75 (by decide) (fun c => ?_) (fun c => ?_)
    · replace h := h.1 c
      exact At.sub (ls := [(0, .ref h0), (1, .ref a1), (2, .ref a2), (3, .ref a3), (5, .int x5)]) [0, 1, 2, 3, 4] rfl h
    · replace h := h.2 c
      refine g_aload_n dX5_runs_78 rfl 0 rfl ?_
      obtain ⟨a_state, hf, h⟩ := h
      refine g_get 0 dX5_runs_79 in_X5 cl5 (by decide) q287 hf ?_
      refine g_iconst (v := 1) dX5_runs_82 (by decide) ?_
      refine g_aload_n dX5_runs_83 rfl 0 rfl ?_
      obtain ⟨a_state_1, hf, h⟩ := h
      refine g_get 0 dX5_runs_84 in_X5 cl5 (by decide) q287 hf ?_
      obtain ⟨x_card, hf, h⟩ := h
      refine g_getN 3 dX5_runs_87 in_X4 cl4 (by decide) q215 hf ?_
      refine g_isub dX5_runs_90 ?_
      obtain ⟨fs, hO, hl, h⟩ := h
      refine g_putN 3 dX5_runs_91 in_X4 tyX4 tyX4_ok nmX4 cl4 (by decide) q215 rfl rfl rfl hO hl ?_
      refine g_tops (fun s1_2 es1_2 => ?_)
      replace h := h s1_2 es1_2
      exact At.sub (ls := [(0, .ref h0), (1, .ref a1), (2, .ref a2), (3, .ref a3), (5, .int x5)]) [0, 1, 2, 3, 4] rfl h
set_option maxHeartbeats 4000000 in
theorem bX5_runs_94 {G : GC} {Q : Option Value → PS → Prop} {X : String → Nat → PS → Prop} {b : Nat} {h0 : Nat} {a1 : Nat} {a2 : Nat} {a3 : Nat} {x5 : Int32} {σ : PS} (h : 1 ≤ b ∧ (∀ q : Nat, (∀ κ, σ κ q = none) → (∀ s1 : PS, s1 = up (σ) 26 q (.inl [.null, .null, .int 0, .int 0, .int 0, .null]) → ∃ x_visit : Int32, Fg s1 5 h0 3 (.int x_visit) ∧ (Call G mX26_init 4 0 [.ref q, .ref a1, .ref a2, .int x_visit] s1 (qV (fun s1_1 => ∃ a_state : Nat, Fg s1_1 5 h0 0 (.ref a_state) ∧ ((∃ fs : List Value, Ob s1_1 26 q fs) ∧ Call G mX26_at 3 0 [.ref q, .ref a_state] s1_1 (qR (fun ra s1_2 => ∃ a_who : Nat, Fg s1_2 2 a2 0 (.ref a_who) ∧ (∃ x_visit_3 : Int32, Fg s1_2 5 h0 3 (.int x_visit_3) ∧ (∃ (n : Nat) (f : Nat → Int32), Ia s1_2 100 a_who n f ∧ vp_in x_visit_3 n ∧ (∃ (n_4 : Nat) (f_5 : Nat → Option Nat), Qa s1_2 105 a3 n_4 f_5 ∧ vp_in ((f x_visit_3.toNatClampNeg)) n_4 ∧ (At G mX5_runs 202 Q X (b - 1) 132 [(0, .ref h0), (1, .ref a1), (2, .ref a2), (3, .ref a3), (5, .int x5), (6, .ref ra), (7, va_rf (f_5 ((f x_visit_3.toNatClampNeg)).toNatClampNeg)), (8, .int 0)] [] s1_2)))))) X))) X)))) : At G mX5_runs 202 Q X b 94 [(0, .ref h0), (1, .ref a1), (2, .ref a2), (3, .ref a3), (5, .int x5)] [] (σ) := by
  obtain ⟨hb, h⟩ := h
  refine g_new (ci := 26) (fs := [.null, .null, .int 0, .int 0, .int 0, .null]) 1 dX5_runs_94 in_X26 tyX26 tyX26_ok cl26 q1655 q545 q144 new26 (by decide) (by decide) hb (fun q hq => ?_)
  replace h := h q hq
  refine g_tops (fun s1 es1 => ?_)
  replace h := h s1 es1
  refine g_dup dX5_runs_97 rfl ?_
  refine g_aload_n dX5_runs_98 rfl 1 rfl ?_
  refine g_aload_n dX5_runs_99 rfl 2 rfl ?_
  refine g_aload_n dX5_runs_100 rfl 0 rfl ?_
  obtain ⟨x_visit, hf, h⟩ := h
  refine g_get 3 dX5_runs_101 in_X5 cl5 (by decide) q300 hf ?_
  refine g_callI (N := mX26_init) (st := [.ref q]) (As := [.ref a1, .ref a2, .int x_visit]) (a := q) dX5_runs_104 wsX26_init q548 q144 q1656 q547 rfl mokX26_init rfl (by decide) (by decide) (Nat.zero_le _) (by simp [Value.category]) h (fun E q s hx => AtX.out0 rfl hx) (fun _ s1_1 hq => ?_)
  obtain ⟨rfl, h⟩ := hq
  refine At.stk (st' := [.ref q]) rfl ?_
  refine g_aload_n dX5_runs_107 rfl 0 rfl ?_
  obtain ⟨a_state, hf, h⟩ := h
  refine g_get 0 dX5_runs_108 in_X5 cl5 (by decide) q287 hf ?_
  obtain ⟨⟨_, hO⟩, h⟩ := h
  refine g_callV (N := mX26_at) (st := []) (As := [.ref a_state]) (a := q) dX5_runs_111 wsX26_at (lw_V q1657 q603 q604 q144 q605) rfl mokX26_at rfl cl26 (by decide) (by decide) (Nat.zero_le _) (Nat.zero_le _) hO h (fun E q s hx => AtX.out0 rfl hx) (fun _ s1_2 hq => ?_)
  obtain ⟨ra, rfl, h⟩ := hq
  refine At.stk (st' := [.ref ra]) rfl ?_
  refine g_astore (ls1 := [(6, .ref ra), (0, .ref h0), (1, .ref a1), (2, .ref a2), (3, .ref a3), (5, .int x5)]) dX5_runs_114 (by decide) rfl ?_
  refine g_aload_n dX5_runs_116 rfl 4 rfl ?_
  refine g_aload_n dX5_runs_117 rfl 3 rfl ?_
  obtain ⟨a_who, hf, h⟩ := h
  refine g_getN 0 dX5_runs_118 in_X2 cl2 (by decide) q161 hf ?_
  refine g_aload_n dX5_runs_121 rfl 1 rfl ?_
  obtain ⟨x_visit_3, hf, h⟩ := h
  refine g_get 3 dX5_runs_122 in_X5 cl5 (by decide) q300 hf ?_
  obtain ⟨n, f, h1, h2, h⟩ := h
  refine g_iald dX5_runs_125 h1 h2 ?_
  obtain ⟨n_4, f_5, h1, h2, h⟩ := h
  refine g_aald (t0 := 5) dX5_runs_126 rfl rfl h1 h2 ?_
  refine g_astoreq (ls1 := [(7, va_rf (f_5 ((f x_visit_3.toNatClampNeg)).toNatClampNeg)), (6, .ref ra), (0, .ref h0), (1, .ref a1), (2, .ref a2), (3, .ref a3), (5, .int x5)]) dX5_runs_127 (by decide) rfl ?_
  refine g_iconst (v := 0) dX5_runs_129 (by decide) ?_
  refine g_istore (ls1 := [(8, .int 0), (7, va_rf (f_5 ((f x_visit_3.toNatClampNeg)).toNatClampNeg)), (6, .ref ra), (0, .ref h0), (1, .ref a1), (2, .ref a2), (3, .ref a3), (5, .int x5)]) dX5_runs_130 (by decide) (by simp [cat_q, cat_i9, cat_j9, cat_r9, cat_n9]) ?_
  exact At.sub (ls := [(8, .int 0), (7, va_rf (f_5 ((f x_visit_3.toNatClampNeg)).toNatClampNeg)), (6, .ref ra), (0, .ref h0), (1, .ref a1), (2, .ref a2), (3, .ref a3), (5, .int x5)]) [3, 4, 5, 6, 7, 2, 1, 0] rfl h
set_option maxHeartbeats 4000000 in
theorem bX5_runs_132 {G : GC} {Q : Option Value → PS → Prop} {X : String → Nat → PS → Prop} {b : Nat} {h0 : Nat} {a1 : Nat} {a2 : Nat} {a3 : Nat} {x5 : Int32} {a6 : Nat} {u7 : Option Nat} {x8 : Int32} {σ : PS} (h : (u7 = none → ∃ a_state : Nat, Fg (σ) 5 h0 0 (.ref a_state) ∧ (∃ fs : List Value, Ob (σ) 4 a_state fs ∧ 4 < fs.length ∧ (∀ s1 : PS, s1 = up (σ) 4 a_state (.inl (fs.set 4 (.int 0))) → ∃ x_visit : Int32, Fg s1 5 h0 3 (.int x_visit) ∧ (∃ fs_1 : List Value, Ob s1 5 h0 fs_1 ∧ 3 < fs_1.length ∧ (∀ s1_2 : PS, s1_2 = up s1 5 h0 (.inl (fs_1.set 3 (.int (x_visit + 1)))) → At G mX5_runs 202 Q X b 56 [(0, .ref h0), (1, .ref a1), (2, .ref a2), (3, .ref a3), (5, .int x5)] [] s1_2))))) ∧ (∀ z : Nat, u7 = some z → ∃ x_many : Int32, Fg (σ) 14 z 1 (.int x_many) ∧ (((x_many ≤ x8) → ∃ a_state : Nat, Fg (σ) 5 h0 0 (.ref a_state) ∧ (∃ fs : List Value, Ob (σ) 4 a_state fs ∧ 4 < fs.length ∧ (∀ s1 : PS, s1 = up (σ) 4 a_state (.inl (fs.set 4 (.int 0))) → ∃ x_visit : Int32, Fg s1 5 h0 3 (.int x_visit) ∧ (∃ fs_3 : List Value, Ob s1 5 h0 fs_3 ∧ 3 < fs_3.length ∧ (∀ s1_4 : PS, s1_4 = up s1 5 h0 (.inl (fs_3.set 3 (.int (x_visit + 1)))) → At G mX5_runs 202 Q X b 56 [(0, .ref h0), (1, .ref a1), (2, .ref a2), (3, .ref a3), (5, .int x5)] [] s1_4))))) ∧ ((¬ x_many ≤ x8) → ∃ a_steps : Nat, Fg (σ) 14 z 0 (.ref a_steps) ∧ (∃ (n : Nat) (f : Nat → Option Nat) (y : Nat), Qa (σ) 106 a_steps n f ∧ vp_in x8 n ∧ (f x8.toNatClampNeg) = some y ∧ (∃ rc : Nat, rc + 1 ≤ 202 ∧ CallS_isSo G rc y [.ref a6] (σ) (pI (fun rx => ((rx = 0) → ∀ v8 : Int32, v8 = x8 + 1 → At G mX5_runs 202 Q X b 132 [(0, .ref h0), (1, .ref a1), (2, .ref a2), (3, .ref a3), (5, .int x5), (6, .ref a6), (7, va_rf (some z)), (8, .int v8)] [] (σ)) ∧ ((¬ rx = 0) → ∃ a_steps_5 : Nat, Fg (σ) 14 z 0 (.ref a_steps_5) ∧ (∃ (n_6 : Nat) (f_7 : Nat → Option Nat) (y_8 : Nat), Qa (σ) 106 a_steps_5 n_6 f_7 ∧ vp_in x8 n_6 ∧ (f_7 x8.toNatClampNeg) = some y_8 ∧ (∃ rc_10 : Nat, rc_10 + 1 ≤ 202 ∧ CallS_isDrawn G rc_10 y_8 [.ref h0] (σ) (qI (fun rx_11 s1_9 => ((rx_11 = 0) → ∀ v8 : Int32, v8 = x8 + 1 → At G mX5_runs 202 Q X b 132 [(0, .ref h0), (1, .ref a1), (2, .ref a2), (3, .ref a3), (5, .int x5), (6, .ref a6), (7, va_rf (some z)), (8, .int v8)] [] s1_9) ∧ ((¬ rx_11 = 0) → ∃ a_steps_12 : Nat, Fg s1_9 14 z 0 (.ref a_steps_12) ∧ (∃ (n_13 : Nat) (f_14 : Nat → Option Nat) (y_15 : Nat), Qa s1_9 106 a_steps_12 n_13 f_14 ∧ vp_in x8 n_13 ∧ (f_14 x8.toNatClampNeg) = some y_15 ∧ (∃ rc_17 : Nat, rc_17 + 1 ≤ 202 ∧ CallS_on G rc_17 y_15 [.ref h0] s1_9 (qV (fun s1_16 => ∀ v8 : Int32, v8 = x8 + 1 → At G mX5_runs 202 Q X b 132 [(0, .ref h0), (1, .ref a1), (2, .ref a2), (3, .ref a3), (5, .int x5), (6, .ref a6), (7, va_rf (some z)), (8, .int v8)] [] s1_16)))))))))))))))))) : At G mX5_runs 202 Q X b 132 [(0, .ref h0), (1, .ref a1), (2, .ref a2), (3, .ref a3), (5, .int x5), (6, .ref a6), (7, va_rf u7), (8, .int x8)] [] (σ) := by
  refine g_aloadq dX5_runs_132 6 rfl ?_
  refine g_ifnull (tgt := 196) dX5_runs_134 (by decide) (fun hn => ?_) (fun z hs => ?_)
  · replace h := h.1 hn
    subst hn
    refine g_aload_n dX5_runs_196 rfl 0 rfl ?_
    obtain ⟨a_state, hf, h⟩ := h
    refine g_get 0 dX5_runs_197 in_X5 cl5 (by decide) q287 hf ?_
    refine g_iconst (v := 0) dX5_runs_200 (by decide) ?_
    obtain ⟨fs, hO, hl, h⟩ := h
    refine g_putN 4 dX5_runs_201 in_X4 tyX4 tyX4_ok nmX4 cl4 (by decide) q222 rfl rfl rfl hO hl ?_
    refine g_tops (fun s1 es1 => ?_)
    replace h := h s1 es1
    refine g_aload_n dX5_runs_204 rfl 0 rfl ?_
    refine g_dup dX5_runs_205 rfl ?_
    obtain ⟨x_visit, hf, h⟩ := h
    refine g_get 3 dX5_runs_206 in_X5 cl5 (by decide) q300 hf ?_
    refine g_iconst (v := 1) dX5_runs_209 (by decide) ?_
    refine g_iadd dX5_runs_210 ?_
    obtain ⟨fs_1, hO, hl, h⟩ := h
    refine g_put 3 dX5_runs_211 in_X5 tyX5 tyX5_ok nmX5 cl5 (by decide) q300 rfl rfl rfl hO hl ?_
    refine g_tops (fun s1_2 es1_2 => ?_)
    replace h := h s1_2 es1_2
    refine g_goto (tgt := 56) dX5_runs_214 (by decide) ?_
    exact At.sub (ls := [(0, .ref h0), (1, .ref a1), (2, .ref a2), (3, .ref a3), (5, .int x5), (6, .ref a6), (7, va_rf none), (8, .int x8)]) [0, 1, 2, 3, 4] rfl h
  · replace h := h.2 z hs
    subst hs
    refine g_iload dX5_runs_137 7 rfl ?_
    refine g_aload dX5_runs_139 6 rfl ?_
    obtain ⟨x_many, hf, h⟩ := h
    refine g_getN 1 dX5_runs_141 in_X14 cl14 (by decide) q1182 hf ?_
    refine g_icmp_ge (tgt := 196) dX5_runs_144 (by decide) (fun c => ?_) (fun c => ?_)
    · replace h := h.1 c
      refine g_aload_n dX5_runs_196 rfl 0 rfl ?_
      obtain ⟨a_state, hf, h⟩ := h
      refine g_get 0 dX5_runs_197 in_X5 cl5 (by decide) q287 hf ?_
      refine g_iconst (v := 0) dX5_runs_200 (by decide) ?_
      obtain ⟨fs, hO, hl, h⟩ := h
      refine g_putN 4 dX5_runs_201 in_X4 tyX4 tyX4_ok nmX4 cl4 (by decide) q222 rfl rfl rfl hO hl ?_
      refine g_tops (fun s1 es1 => ?_)
      replace h := h s1 es1
      refine g_aload_n dX5_runs_204 rfl 0 rfl ?_
      refine g_dup dX5_runs_205 rfl ?_
      obtain ⟨x_visit, hf, h⟩ := h
      refine g_get 3 dX5_runs_206 in_X5 cl5 (by decide) q300 hf ?_
      refine g_iconst (v := 1) dX5_runs_209 (by decide) ?_
      refine g_iadd dX5_runs_210 ?_
      obtain ⟨fs_3, hO, hl, h⟩ := h
      refine g_put 3 dX5_runs_211 in_X5 tyX5 tyX5_ok nmX5 cl5 (by decide) q300 rfl rfl rfl hO hl ?_
      refine g_tops (fun s1_4 es1_4 => ?_)
      replace h := h s1_4 es1_4
      refine g_goto (tgt := 56) dX5_runs_214 (by decide) ?_
      exact At.sub (ls := [(0, .ref h0), (1, .ref a1), (2, .ref a2), (3, .ref a3), (5, .int x5), (6, .ref a6), (7, .ref z), (8, .int x8)]) [0, 1, 2, 3, 4] rfl h
    · replace h := h.2 c
      refine g_aload dX5_runs_147 6 rfl ?_
      obtain ⟨a_steps, hf, h⟩ := h
      refine g_getN 0 dX5_runs_149 in_X14 cl14 (by decide) q1179 hf ?_
      refine g_iload dX5_runs_152 7 rfl ?_
      obtain ⟨n, f, y, h1, h2, h3, h⟩ := h
      refine g_aald (t0 := 6) dX5_runs_154 rfl rfl h1 h2 ?_
      rw [h3]
      refine At.stk (st' := [.ref y]) rfl ?_
      refine g_aload dX5_runs_155 5 rfl ?_
      obtain ⟨rc, hr9, h⟩ := h
      refine g_callS_isSo (st := []) (As := [.ref a6]) (a := y) dX5_runs_157 q1658 rfl hr9 (Nat.zero_le _) h (fun _ hq => ?_)
      obtain ⟨rx, rfl, h⟩ := hq
      refine At.stk (st' := [.int rx]) rfl ?_
      refine g_if_eq (tgt := 190) dX5_runs_160 (by decide) (fun c => ?_) (fun c => ?_)
      · replace h := h.1 c
        obtain ⟨v8, ev8⟩ : ∃ z : Int32, z = x8 + 1 := ⟨_, rfl⟩
        refine g_iinc (v := v8) (ls1 := [(8, .int v8), (0, .ref h0), (1, .ref a1), (2, .ref a2), (3, .ref a3), (5, .int x5), (6, .ref a6), (7, .ref z)]) dX5_runs_190 7 rfl (by rw [ev8]; rfl) (by decide) rfl ?_
        replace h := h v8 ev8
        refine g_goto (tgt := 132) dX5_runs_193 (by decide) ?_
        exact At.sub (ls := [(8, .int v8), (0, .ref h0), (1, .ref a1), (2, .ref a2), (3, .ref a3), (5, .int x5), (6, .ref a6), (7, .ref z)]) [1, 2, 3, 4, 5, 6, 7, 0] rfl h
      · replace h := h.2 c
        refine g_aload dX5_runs_163 6 rfl ?_
        obtain ⟨a_steps_5, hf, h⟩ := h
        refine g_getN 0 dX5_runs_165 in_X14 cl14 (by decide) q1179 hf ?_
        refine g_iload dX5_runs_168 7 rfl ?_
        obtain ⟨n_6, f_7, y_8, h1, h2, h3, h⟩ := h
        refine g_aald (t0 := 6) dX5_runs_170 rfl rfl h1 h2 ?_
        rw [h3]
        refine At.stk (st' := [.ref y_8]) rfl ?_
        refine g_aload_n dX5_runs_171 rfl 0 rfl ?_
        obtain ⟨rc_10, hr9, h⟩ := h
        refine g_callS_isDrawn (st := []) (As := [.ref h0]) (a := y_8) dX5_runs_172 q1659 rfl hr9 (Nat.zero_le _) h (fun _ s1_9 hq => ?_)
        obtain ⟨rx_11, rfl, h⟩ := hq
        refine At.stk (st' := [.int rx_11]) rfl ?_
        refine g_if_eq (tgt := 190) dX5_runs_175 (by decide) (fun c => ?_) (fun c => ?_)
        · replace h := h.1 c
          obtain ⟨v8, ev8⟩ : ∃ z : Int32, z = x8 + 1 := ⟨_, rfl⟩
          refine g_iinc (v := v8) (ls1 := [(8, .int v8), (0, .ref h0), (1, .ref a1), (2, .ref a2), (3, .ref a3), (5, .int x5), (6, .ref a6), (7, .ref z)]) dX5_runs_190 7 rfl (by rw [ev8]; rfl) (by decide) rfl ?_
          replace h := h v8 ev8
          refine g_goto (tgt := 132) dX5_runs_193 (by decide) ?_
          exact At.sub (ls := [(8, .int v8), (0, .ref h0), (1, .ref a1), (2, .ref a2), (3, .ref a3), (5, .int x5), (6, .ref a6), (7, .ref z)]) [1, 2, 3, 4, 5, 6, 7, 0] rfl h
        · replace h := h.2 c
          refine g_aload dX5_runs_178 6 rfl ?_
          obtain ⟨a_steps_12, hf, h⟩ := h
          refine g_getN 0 dX5_runs_180 in_X14 cl14 (by decide) q1179 hf ?_
          refine g_iload dX5_runs_183 7 rfl ?_
          obtain ⟨n_13, f_14, y_15, h1, h2, h3, h⟩ := h
          refine g_aald (t0 := 6) dX5_runs_185 rfl rfl h1 h2 ?_
          rw [h3]
          refine At.stk (st' := [.ref y_15]) rfl ?_
          refine g_aload_n dX5_runs_186 rfl 0 rfl ?_
          obtain ⟨rc_17, hr9, h⟩ := h
          refine g_callS_on (st := []) (As := [.ref h0]) (a := y_15) dX5_runs_187 q1670 rfl hr9 (Nat.zero_le _) h (fun _ s1_16 hq => ?_)
          obtain ⟨rfl, h⟩ := hq
          refine At.stk (st' := []) rfl ?_
          obtain ⟨v8, ev8⟩ : ∃ z : Int32, z = x8 + 1 := ⟨_, rfl⟩
          refine g_iinc (v := v8) (ls1 := [(8, .int v8), (0, .ref h0), (1, .ref a1), (2, .ref a2), (3, .ref a3), (5, .int x5), (6, .ref a6), (7, .ref z)]) dX5_runs_190 7 rfl (by rw [ev8]; rfl) (by decide) rfl ?_
          replace h := h v8 ev8
          refine g_goto (tgt := 132) dX5_runs_193 (by decide) ?_
          exact At.sub (ls := [(8, .int v8), (0, .ref h0), (1, .ref a1), (2, .ref a2), (3, .ref a3), (5, .int x5), (6, .ref a6), (7, .ref z)]) [1, 2, 3, 4, 5, 6, 7, 0] rfl h
theorem eX5_runs {G : GC} {Q : Option Value → PS → Prop} {X : String → Nat → PS → Prop} {b : Nat} {h0 : Nat} {p1 : Nat} {p2 : Nat} {p3 : Nat} {p4 : Int32} {p5 : Int32} {σ : PS} (h : At G mX5_runs 202 Q X b 0 [(0, .ref h0), (1, .ref p1), (2, .ref p2), (3, .ref p3), (4, .int p4), (5, .int p5)] [] σ) : Call G mX5_runs 202 b [.ref h0, .ref p1, .ref p2, .ref p3, .int p4, .int p5] σ Q X :=
  Call.of (by decide +kernel) wsX5_runs rfl (Nat.le_of_ble_eq_true rfl) (At.sub (ls := [(0, .ref h0), (1, .ref p1), (2, .ref p2), (3, .ref p3), (4, .int p4), (5, .int p5)]) [0, 1, 2, 3, 4, 5] rfl h)
set_option maxHeartbeats 4000000 in
theorem bX5_draw_0 {G : GC} {Q : Option Value → PS → Prop} {X : String → Nat → PS → Prop} {b : Nat} {h0 : Nat} {x1 : Int32} {σ : PS} (h : ∃ x_lots : Int32, Fg (σ) 5 h0 2 (.int x_lots) ∧ (∀ w : Int32, w = ((x_lots * 1103515245) + 12345) → ∃ fs : List Value, Ob (σ) 5 h0 fs ∧ 2 < fs.length ∧ (∀ s1 : PS, s1 = up (σ) 5 h0 (.inl (fs.set 2 (.int w))) → ∃ x_lots_1 : Int32, Fg s1 5 h0 2 (.int x_lots_1) ∧ (∀ w_2 : Int32, w_2 = ((x_lots_1 >>> (16 &&& 31)) &&& 32767) → ¬ x1 = 0 ∧ (Q (some (.int (w_2 - w_2 / x1 * x1))) s1))))) : At G mX5_draw 3 Q X b 0 [(0, .ref h0), (1, .int x1)] [] (σ) := by
  refine g_aload_n dX5_draw_0 rfl 0 rfl ?_
  refine g_aload_n dX5_draw_1 rfl 0 rfl ?_
  obtain ⟨x_lots, hf, h⟩ := h
  refine g_get 2 dX5_draw_2 in_X5 cl5 (by decide) q298 hf ?_
  refine g_ldc dX5_draw_5 q1654 ?_
  refine g_imul dX5_draw_7 ?_
  refine g_sipush (v := 12345) dX5_draw_8 (by decide) ?_
  refine g_iadd dX5_draw_11 ?_
  refine g_topi (fun w ew => ?_)
  replace h := h w ew
  obtain ⟨fs, hO, hl, h⟩ := h
  refine g_put 2 dX5_draw_12 in_X5 tyX5 tyX5_ok nmX5 cl5 (by decide) q298 rfl rfl rfl hO hl ?_
  refine g_tops (fun s1 es1 => ?_)
  replace h := h s1 es1
  refine g_aload_n dX5_draw_15 rfl 0 rfl ?_
  obtain ⟨x_lots_1, hf, h⟩ := h
  refine g_get 2 dX5_draw_16 in_X5 cl5 (by decide) q298 hf ?_
  refine g_bipush (v := 16) dX5_draw_19 (by decide) ?_
  refine g_ishr dX5_draw_21 ?_
  refine g_sipush (v := 32767) dX5_draw_22 (by decide) ?_
  refine g_iand dX5_draw_25 ?_
  refine g_topi (fun w_2 ew_2 => ?_)
  replace h := h w_2 ew_2
  refine g_iload_n dX5_draw_26 rfl 1 rfl ?_
  obtain ⟨hnz, h⟩ := h
  refine g_irem dX5_draw_27 hnz ?_
  exact g_iret rfl dX5_draw_28 h
theorem eX5_draw {G : GC} {Q : Option Value → PS → Prop} {X : String → Nat → PS → Prop} {b : Nat} {h0 : Nat} {p1 : Int32} {σ : PS} (h : At G mX5_draw 3 Q X b 0 [(0, .ref h0), (1, .int p1)] [] σ) : Call G mX5_draw 3 b [.ref h0, .int p1] σ Q X :=
  Call.of (by decide +kernel) wsX5_draw rfl (Nat.le_of_ble_eq_true rfl) (At.sub (ls := [(0, .ref h0), (1, .int p1)]) [0, 1] rfl h)
