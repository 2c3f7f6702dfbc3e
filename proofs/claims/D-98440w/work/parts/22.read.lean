set_option maxRecDepth 100000
set_option maxHeartbeats 4000000 in
theorem bJ0_init_2_0 {G : GC} {Q : Option Value → PS → Prop} {X : String → Nat → PS → Prop} {b : Nat} {h0 : Nat} {u1 : Option Nat} {u2 : Option Nat} {x3 : Int32} {x4 : Int32} {σ : PS} (h : ∃ fs : List Value, Ob (σ) 12 h0 fs ∧ 0 < fs.length ∧ (∀ s1 : PS, s1 = up (σ) 12 h0 (.inl (fs.set 0 (.ref h0))) → ∀ x : Option Nat, ∃ fs_1 : List Value, Ob s1 12 h0 fs_1 ∧ 1 < fs_1.length ∧ (∀ s1_2 : PS, s1_2 = up s1 12 h0 (.inl (fs_1.set 1 (va_rf x))) → ∀ x_3 : Option Nat, ∃ fs_4 : List Value, Ob s1_2 12 h0 fs_4 ∧ 2 < fs_4.length ∧ (∀ s1_5 : PS, s1_5 = up s1_2 12 h0 (.inl (fs_4.set 2 (va_rf x_3))) → ((x4 = 0) → ∃ fs_6 : List Value, Ob s1_5 12 h0 fs_6 ∧ 1 < fs_6.length ∧ (∀ s1_7 : PS, s1_7 = up s1_5 12 h0 (.inl (fs_6.set 1 (.null))) → ∃ fs_8 : List Value, Ob s1_7 12 h0 fs_8 ∧ 3 < fs_8.length ∧ (∀ s1_9 : PS, s1_9 = up s1_7 12 h0 (.inl (fs_8.set 3 (va_rf u1))) → ∃ fs_10 : List Value, Ob s1_9 12 h0 fs_10 ∧ 0 < fs_10.length ∧ (∀ s1_11 : PS, s1_11 = up s1_9 12 h0 (.inl (fs_10.set 0 (va_rf u2))) → ((¬ x3 = 0) → Q none s1_11) ∧ ((x3 = 0) → ∃ fs_12 : List Value, Ob s1_11 12 h0 fs_12 ∧ 2 < fs_12.length ∧ (∀ s1_13 : PS, s1_13 = up s1_11 12 h0 (.inl (fs_12.set 2 (.null))) → Q none s1_13)))))) ∧ ((¬ x4 = 0) → False))))) : At G mJ0_init_2 4 Q X b 0 [(0, .ref h0), (1, va_rf u1), (2, va_rf u2), (3, .int x3), (4, .int x4)] [] (σ) := by
  refine g_aload_n dJ0_init_2_0 rfl 0 rfl ?_
  refine g_objInit dJ0_init_2_1 q862 q151 q152 (by decide) (Nat.zero_le _) ?_
  refine g_aload_n dJ0_init_2_4 rfl 0 rfl ?_
  refine g_aload_n dJ0_init_2_5 rfl 0 rfl ?_
  obtain ⟨fs, hO, hl, h⟩ := h
  refine g_put 0 dJ0_init_2_6 in_X12 tyX12 tyX12_ok nmX12 cl12 (by decide) q890 rfl rfl rfl hO hl ?_
  refine g_tops (fun s1 es1 => ?_)
  replace h := h s1 es1
  refine g_aload_n dJ0_init_2_9 rfl 0 rfl ?_
  refine g_getsq dJ0_init_2_10 (fun U h => h.2.2.2.2.2.2.2.2.1.1) q863 (fun x => ?_)
  replace h := h x
  obtain ⟨fs_1, hO, hl, h⟩ := h
  refine g_put 1 dJ0_init_2_13 in_X12 tyX12 tyX12_ok nmX12 cl12 (by decide) q891 rfl (nar_q _ rfl) (fit_q _ rfl) hO hl ?_
  refine g_tops (fun s1_2 es1_2 => ?_)
  replace h := h s1_2 es1_2
  refine g_aload_n dJ0_init_2_16 rfl 0 rfl ?_
  refine g_getsq dJ0_init_2_17 (fun U h => h.2.2.2.2.2.2.2.2.2.1.1) q865 (fun x_3 => ?_)
  replace h := h x_3
  obtain ⟨fs_4, hO, hl, h⟩ := h
  refine g_put 2 dJ0_init_2_20 in_X12 tyX12 tyX12_ok nmX12 cl12 (by decide) q892 rfl (nar_q _ rfl) (fit_q _ rfl) hO hl ?_
  refine g_tops (fun s1_5 es1_5 => ?_)
  replace h := h s1_5 es1_5
  refine g_iload dJ0_init_2_23 4 rfl ?_
  refine g_if_eq (tgt := 36) dJ0_init_2_25 (by decide) (fun c => ?_) (fun c => ?_)
  · replace h := h.1 c
    refine g_aload_n dJ0_init_2_36 rfl 0 rfl ?_
    refine g_null dJ0_init_2_37 ?_
    obtain ⟨fs_6, hO, hl, h⟩ := h
    refine g_put 1 dJ0_init_2_38 in_X12 tyX12 tyX12_ok nmX12 cl12 (by decide) q891 rfl rfl rfl hO hl ?_
    refine g_tops (fun s1_7 es1_7 => ?_)
    replace h := h s1_7 es1_7
    refine g_aload_n dJ0_init_2_41 rfl 0 rfl ?_
    refine g_aloadq_n dJ0_init_2_42 rfl 1 rfl ?_
    obtain ⟨fs_8, hO, hl, h⟩ := h
    refine g_put 3 dJ0_init_2_43 in_X12 tyX12 tyX12_ok nmX12 cl12 (by decide) q889 rfl (nar_q _ rfl) (fit_q _ rfl) hO hl ?_
    refine g_tops (fun s1_9 es1_9 => ?_)
    replace h := h s1_9 es1_9
    refine g_aload_n dJ0_init_2_46 rfl 0 rfl ?_
    refine g_aloadq_n dJ0_init_2_47 rfl 2 rfl ?_
    obtain ⟨fs_10, hO, hl, h⟩ := h
    refine g_put 0 dJ0_init_2_48 in_X12 tyX12 tyX12_ok nmX12 cl12 (by decide) q890 rfl (nar_q _ rfl) (fit_q _ rfl) hO hl ?_
    refine g_tops (fun s1_11 es1_11 => ?_)
    replace h := h s1_11 es1_11
    refine g_iload_n dJ0_init_2_51 rfl 3 rfl ?_
    refine g_if_ne (tgt := 60) dJ0_init_2_52 (by decide) (fun c => ?_) (fun c => ?_)
    · replace h := h.1 c
      exact g_vret rfl dJ0_init_2_60 h
    · replace h := h.2 c
      refine g_aload_n dJ0_init_2_55 rfl 0 rfl ?_
      refine g_null dJ0_init_2_56 ?_
      obtain ⟨fs_12, hO, hl, h⟩ := h
      refine g_put 2 dJ0_init_2_57 in_X12 tyX12 tyX12_ok nmX12 cl12 (by decide) q892 rfl rfl rfl hO hl ?_
      refine g_tops (fun s1_13 es1_13 => ?_)
      replace h := h s1_13 es1_13
      exact g_vret rfl dJ0_init_2_60 h
  · replace h := h.2 c
    refine g_aload_n dJ0_init_2_28 rfl 0 rfl ?_
    exact h.elim
theorem eJ0_init_2 {G : GC} {Q : Option Value → PS → Prop} {X : String → Nat → PS → Prop} {b : Nat} {h0 : Nat} {p1 : Option Nat} {p2 : Option Nat} {p3 : Int32} {p4 : Int32} {σ : PS} (h : At G mJ0_init_2 4 Q X b 0 [(0, .ref h0), (1, va_rf p1), (2, va_rf p2), (3, .int p3), (4, .int p4)] [] σ) : Call G mJ0_init_2 4 b [.ref h0, va_rf p1, va_rf p2, .int p3, .int p4] σ Q X :=
  by cases p1 <;> cases p2 <;> exact Call.of (by decide +kernel) wsJ0_init_2 rfl (Nat.le_of_ble_eq_true rfl) (At.sub [0, 1, 2, 3, 4] rfl h)
set_option maxHeartbeats 4000000 in
theorem bJ1_init_2_0 {G : GC} {Q : Option Value → PS → Prop} {X : String → Nat → PS → Prop} {b : Nat} {h0 : Nat} {u1 : Option Nat} {u2 : Option Nat} {x3 : Int32} {x4 : Int32} {σ : PS} (h : Call G mJ0_init_2 4 0 [.ref h0, va_rf u1, va_rf u2, .int x3, .int x4] (σ) (qV (fun s1 => Q none s1)) X) : At G mJ1_init_2 5 Q X b 0 [(0, .ref h0), (1, va_rf u1), (2, va_rf u2), (3, .int x3), (4, .int x4)] [] (σ) := by
  refine g_aload_n dJ1_init_2_0 rfl 0 rfl ?_
  refine g_aloadq_n dJ1_init_2_1 rfl 1 rfl ?_
  refine g_aloadq_n dJ1_init_2_2 rfl 2 rfl ?_
  refine g_iload_n dJ1_init_2_3 rfl 3 rfl ?_
  refine g_iload dJ1_init_2_4 4 rfl ?_
  refine g_callI (N := mJ0_init_2) (st := []) (As := [va_rf u1, va_rf u2, .int x3, .int x4]) (a := h0) dJ1_init_2_6 wsJ0_init_2 q1061 q117 q1059 q1060 rfl mokJ0_init_2 rfl (by decide) (by decide) (Nat.zero_le _) (Nat.zero_le _) h (fun E q s hx => AtX.out0 rfl hx) (fun _ s1 hq => ?_)
  obtain ⟨rfl, h⟩ := hq
  refine At.stk (st' := []) rfl ?_
  exact g_vret rfl dJ1_init_2_9 h
theorem eJ1_init_2 {G : GC} {Q : Option Value → PS → Prop} {X : String → Nat → PS → Prop} {b : Nat} {h0 : Nat} {p1 : Option Nat} {p2 : Option Nat} {p3 : Int32} {p4 : Int32} {σ : PS} (h : At G mJ1_init_2 5 Q X b 0 [(0, .ref h0), (1, va_rf p1), (2, va_rf p2), (3, .int p3), (4, .int p4)] [] σ) : Call G mJ1_init_2 5 b [.ref h0, va_rf p1, va_rf p2, .int p3, .int p4] σ Q X :=
  by cases p1 <;> cases p2 <;> exact Call.of (by decide +kernel) wsJ1_init_2 rfl (Nat.le_of_ble_eq_true rfl) (At.sub [0, 1, 2, 3, 4] rfl h)
set_option maxHeartbeats 4000000 in
theorem bX10_init_0 {G : GC} {Q : Option Value → PS → Prop} {X : String → Nat → PS → Prop} {b : Nat} {h0 : Nat} {a1 : Nat} {σ : PS} (h : 1 ≤ b ∧ (∀ q : Nat, (∀ κ, σ κ q = none) → (∀ s1 : PS, s1 = up (σ) 107 q (.inr (9, .inr (.inr (fun _ => none)))) → ∃ (n : Nat) (f : Nat → Option Nat), Qa s1 107 q n f ∧ vp_in 0 n ∧ (∀ s1_1 : PS, s1_1 = up s1 107 q (.inr (n, .inr (.inr (va_up f (0 : Int32).toNatClampNeg (some (gk G 0)))))) → ∃ (n_2 : Nat) (f_3 : Nat → Option Nat), Qa s1_1 107 q n_2 f_3 ∧ vp_in 1 n_2 ∧ (∀ s1_4 : PS, s1_4 = up s1_1 107 q (.inr (n_2, .inr (.inr (va_up f_3 (1 : Int32).toNatClampNeg (some (gk G 1)))))) → ∃ (n_5 : Nat) (f_6 : Nat → Option Nat), Qa s1_4 107 q n_5 f_6 ∧ vp_in 2 n_5 ∧ (∀ s1_7 : PS, s1_7 = up s1_4 107 q (.inr (n_5, .inr (.inr (va_up f_6 (2 : Int32).toNatClampNeg (some (gk G 2)))))) → ∃ (n_8 : Nat) (f_9 : Nat → Option Nat), Qa s1_7 107 q n_8 f_9 ∧ vp_in 3 n_8 ∧ (∀ s1_10 : PS, s1_10 = up s1_7 107 q (.inr (n_8, .inr (.inr (va_up f_9 (3 : Int32).toNatClampNeg (some (gk G 3)))))) → ∃ (n_11 : Nat) (f_12 : Nat → Option Nat), Qa s1_10 107 q n_11 f_12 ∧ vp_in 4 n_11 ∧ (∀ s1_13 : PS, s1_13 = up s1_10 107 q (.inr (n_11, .inr (.inr (va_up f_12 (4 : Int32).toNatClampNeg (some (gk G 4)))))) → ∃ (n_14 : Nat) (f_15 : Nat → Option Nat), Qa s1_13 107 q n_14 f_15 ∧ vp_in 5 n_14 ∧ (∀ s1_16 : PS, s1_16 = up s1_13 107 q (.inr (n_14, .inr (.inr (va_up f_15 (5 : Int32).toNatClampNeg (some (gk G 5)))))) → ∃ (n_17 : Nat) (f_18 : Nat → Option Nat), Qa s1_16 107 q n_17 f_18 ∧ vp_in 6 n_17 ∧ (∀ s1_19 : PS, s1_19 = up s1_16 107 q (.inr (n_17, .inr (.inr (va_up f_18 (6 : Int32).toNatClampNeg (some (gk G 6)))))) → ∃ (n_20 : Nat) (f_21 : Nat → Option Nat), Qa s1_19 107 q n_20 f_21 ∧ vp_in 7 n_20 ∧ (∀ s1_22 : PS, s1_22 = up s1_19 107 q (.inr (n_20, .inr (.inr (va_up f_21 (7 : Int32).toNatClampNeg (some (gk G 7)))))) → ∃ (n_23 : Nat) (f_24 : Nat → Option Nat), Qa s1_22 107 q n_23 f_24 ∧ vp_in 8 n_23 ∧ (∀ s1_25 : PS, s1_25 = up s1_22 107 q (.inr (n_23, .inr (.inr (va_up f_24 (8 : Int32).toNatClampNeg (some (gk G 8)))))) → ∃ fs : List Value, Ob s1_25 10 h0 fs ∧ 0 < fs.length ∧ (∀ s1_26 : PS, s1_26 = up s1_25 10 h0 (.inl (fs.set 0 (.ref q))) → 1 ≤ b - 1 ∧ (∀ q_27 : Nat, (∀ κ, s1_26 κ q_27 = none) → (∀ s1_28 : PS, s1_28 = up s1_26 7 q_27 (.inl [.null, .int 0, .int 0, .int 0, .int 0, .int 0, .int 0, .int 0, .int 0]) → ∃ bc : Nat, bc ≤ b - 1 - 1 ∧ Call G mX7_init 4 bc [.ref q_27] s1_28 (qV (fun s1_29 => ∃ fs_30 : List Value, Ob s1_29 10 h0 fs_30 ∧ 2 < fs_30.length ∧ (∀ s1_31 : PS, s1_31 = up s1_29 10 h0 (.inl (fs_30.set 2 (.ref q_27))) → 1 ≤ b - 1 - 1 - bc ∧ (∀ q_32 : Nat, (∀ κ, s1_31 κ q_32 = none) → (∀ s1_33 : PS, s1_33 = up s1_31 2 q_32 (.inl [.null, .null, .int 0]) → ∃ bc_34 : Nat, bc_34 ≤ b - 1 - 1 - bc - 1 ∧ Call G mX2_init 4 bc_34 [.ref q_32] s1_33 (qV (fun s1_35 => ∃ fs_36 : List Value, Ob s1_35 10 h0 fs_36 ∧ 3 < fs_36.length ∧ (∀ s1_37 : PS, s1_37 = up s1_35 10 h0 (.inl (fs_36.set 3 (.ref q_32))) → ∃ fs_38 : List Value, Ob s1_37 10 h0 fs_38 ∧ 1 < fs_38.length ∧ (∀ s1_39 : PS, s1_39 = up s1_37 10 h0 (.inl (fs_38.set 1 (.ref a1))) → Q none s1_39)))) X))))) X))))))))))))))) : At G mX10_init 5 Q X b 0 [(0, .ref h0), (1, .ref a1)] [] (σ) := by
  refine g_aload_n dX10_init_0 rfl 0 rfl ?_
  refine g_objInit dX10_init_1 q929 q151 q152 (by decide) (Nat.zero_le _) ?_
  refine g_aload_n dX10_init_4 rfl 0 rfl ?_
  refine g_bipush (v := 9) dX10_init_5 (by decide) ?_
  obtain ⟨hb, h⟩ := h
  refine g_newq (κ := 107) (t0 := 7) (N := 9) 1 dX10_init_7 q930 (fun U h => h.2.2.2.1.2.2.2) rfl (by decide) (by decide) (Nat.le_of_ble_eq_true rfl) (by decide) (by decide) hb (fun q hq => ?_)
  replace h := h q hq
  refine g_tops (fun s1 es1 => ?_)
  replace h := h s1 es1
  refine g_dup dX10_init_10 rfl ?_
  refine g_iconst (v := 0) dX10_init_11 (by decide) ?_
  refine g_ldcS 0 dX10_init_12 rfl rfl rfl ?_
  obtain ⟨n, f, h1, h2, h⟩ := h
  refine g_aastStr dX10_init_14 rfl h1 h2 ?_
  refine g_tops (fun s1_1 es1_1 => ?_)
  replace h := h s1_1 es1_1
  refine g_dup dX10_init_15 rfl ?_
  refine g_iconst (v := 1) dX10_init_16 (by decide) ?_
  refine g_ldcS 1 dX10_init_17 rfl rfl rfl ?_
  obtain ⟨n_2, f_3, h1, h2, h⟩ := h
  refine g_aastStr dX10_init_19 rfl h1 h2 ?_
  refine g_tops (fun s1_4 es1_4 => ?_)
  replace h := h s1_4 es1_4
  refine g_dup dX10_init_20 rfl ?_
  refine g_iconst (v := 2) dX10_init_21 (by decide) ?_
  refine g_ldcS 2 dX10_init_22 rfl rfl rfl ?_
  obtain ⟨n_5, f_6, h1, h2, h⟩ := h
  refine g_aastStr dX10_init_24 rfl h1 h2 ?_
  refine g_tops (fun s1_7 es1_7 => ?_)
  replace h := h s1_7 es1_7
  refine g_dup dX10_init_25 rfl ?_
  refine g_iconst (v := 3) dX10_init_26 (by decide) ?_
  refine g_ldcS 3 dX10_init_27 rfl rfl rfl ?_
  obtain ⟨n_8, f_9, h1, h2, h⟩ := h
  refine g_aastStr dX10_init_29 rfl h1 h2 ?_
  refine g_tops (fun s1_10 es1_10 => ?_)
  replace h := h s1_10 es1_10
  refine g_dup dX10_init_30 rfl ?_
  refine g_iconst (v := 4) dX10_init_31 (by decide) ?_
  refine g_ldcS 4 dX10_init_32 rfl rfl rfl ?_
  obtain ⟨n_11, f_12, h1, h2, h⟩ := h
  refine g_aastStr dX10_init_34 rfl h1 h2 ?_
  refine g_tops (fun s1_13 es1_13 => ?_)
  replace h := h s1_13 es1_13
  refine g_dup dX10_init_35 rfl ?_
  refine g_iconst (v := 5) dX10_init_36 (by decide) ?_
  refine g_ldcS 5 dX10_init_37 rfl rfl rfl ?_
  obtain ⟨n_14, f_15, h1, h2, h⟩ := h
  refine g_aastStr dX10_init_39 rfl h1 h2 ?_
  refine g_tops (fun s1_16 es1_16 => ?_)
  replace h := h s1_16 es1_16
  refine g_dup dX10_init_40 rfl ?_
  refine g_bipush (v := 6) dX10_init_41 (by decide) ?_
  refine g_ldcS 6 dX10_init_43 rfl rfl rfl ?_
  obtain ⟨n_17, f_18, h1, h2, h⟩ := h
  refine g_aastStr dX10_init_45 rfl h1 h2 ?_
  refine g_tops (fun s1_19 es1_19 => ?_)
  replace h := h s1_19 es1_19
  refine g_dup dX10_init_46 rfl ?_
  refine g_bipush (v := 7) dX10_init_47 (by decide) ?_
  refine g_ldcS 7 dX10_init_49 rfl rfl rfl ?_
  obtain ⟨n_20, f_21, h1, h2, h⟩ := h
  refine g_aastStr dX10_init_51 rfl h1 h2 ?_
  refine g_tops (fun s1_22 es1_22 => ?_)
  replace h := h s1_22 es1_22
  refine g_dup dX10_init_52 rfl ?_
  refine g_bipush (v := 8) dX10_init_53 (by decide) ?_
  refine g_ldcS 8 dX10_init_55 rfl rfl rfl ?_
  obtain ⟨n_23, f_24, h1, h2, h⟩ := h
  refine g_aastStr dX10_init_57 rfl h1 h2 ?_
  refine g_tops (fun s1_25 es1_25 => ?_)
  replace h := h s1_25 es1_25
  obtain ⟨fs, hO, hl, h⟩ := h
  refine g_putF 0 dX10_init_58 in_X10 tyX10 tyX10_ok nmX10 cl10 (by decide) q945 rfl rfl rfl rfl rfl hO hl ?_
  refine g_tops (fun s1_26 es1_26 => ?_)
  replace h := h s1_26 es1_26
  refine g_aload_n dX10_init_61 rfl 0 rfl ?_
  obtain ⟨hb, h⟩ := h
  refine g_new (ci := 7) (fs := [.null, .int 0, .int 0, .int 0, .int 0, .int 0, .int 0, .int 0, .int 0]) 1 dX10_init_62 in_X7 tyX7 tyX7_ok cl7 q941 q369 q114 new7 (by decide) (by decide) hb (fun q_27 hq => ?_)
  replace h := h q_27 hq
  refine g_tops (fun s1_28 es1_28 => ?_)
  replace h := h s1_28 es1_28
  refine g_dup dX10_init_65 rfl ?_
  obtain ⟨bc, hb9, h⟩ := h
  refine g_callIN (N := mX7_init) (st := [.ref q_27, .ref h0]) (As := []) (a := q_27) dX10_init_66 wsX7_init q372 q114 q942 q371 rfl mokX7_init rfl (by decide) (by decide) hb9 (by simp [Value.category]) h (fun E q s hx => AtX.out0 rfl hx) (fun _ s1_29 hq => ?_)
  obtain ⟨rfl, h⟩ := hq
  refine At.stk (st' := [.ref q_27, .ref h0]) rfl ?_
  obtain ⟨fs_30, hO, hl, h⟩ := h
  refine g_putF 2 dX10_init_69 in_X10 tyX10 tyX10_ok nmX10 cl10 (by decide) q947 rfl rfl rfl rfl rfl hO hl ?_
  refine g_tops (fun s1_31 es1_31 => ?_)
  replace h := h s1_31 es1_31
  refine g_aload_n dX10_init_72 rfl 0 rfl ?_
  obtain ⟨hb, h⟩ := h
  refine g_new (ci := 2) (fs := [.null, .null, .int 0]) 1 dX10_init_73 in_X2 tyX2 tyX2_ok cl2 q943 q154 q109 new2 (by decide) (by decide) hb (fun q_32 hq => ?_)
  replace h := h q_32 hq
  refine g_tops (fun s1_33 es1_33 => ?_)
  replace h := h s1_33 es1_33
  refine g_dup dX10_init_76 rfl ?_
  obtain ⟨bc_34, hb9, h⟩ := h
  refine g_callIN (N := mX2_init) (st := [.ref q_32, .ref h0]) (As := []) (a := q_32) dX10_init_77 wsX2_init q157 q109 q944 q156 rfl mokX2_init rfl (by decide) (by decide) hb9 (by simp [Value.category]) h (fun E q s hx => AtX.out0 rfl hx) (fun _ s1_35 hq => ?_)
  obtain ⟨rfl, h⟩ := hq
  refine At.stk (st' := [.ref q_32, .ref h0]) rfl ?_
  obtain ⟨fs_36, hO, hl, h⟩ := h
  refine g_putF 3 dX10_init_80 in_X10 tyX10 tyX10_ok nmX10 cl10 (by decide) q949 rfl rfl rfl rfl rfl hO hl ?_
  refine g_tops (fun s1_37 es1_37 => ?_)
  replace h := h s1_37 es1_37
  refine g_aload_n dX10_init_83 rfl 0 rfl ?_
  refine g_aload_n dX10_init_84 rfl 1 rfl ?_
  obtain ⟨fs_38, hO, hl, h⟩ := h
  refine g_putF 1 dX10_init_85 in_X10 tyX10 tyX10_ok nmX10 cl10 (by decide) q946 rfl rfl rfl rfl rfl hO hl ?_
  refine g_tops (fun s1_39 es1_39 => ?_)
  replace h := h s1_39 es1_39
  exact g_vret rfl dX10_init_88 h
theorem eX10_init {G : GC} {Q : Option Value → PS → Prop} {X : String → Nat → PS → Prop} {b : Nat} {h0 : Nat} {p1 : Nat} {σ : PS} (h : At G mX10_init 5 Q X b 0 [(0, .ref h0), (1, .ref p1)] [] σ) : Call G mX10_init 5 b [.ref h0, .ref p1] σ Q X :=
  Call.of (by decide +kernel) wsX10_init rfl (Nat.le_of_ble_eq_true rfl) (At.sub (ls := [(0, .ref h0), (1, .ref p1)]) [0, 1] rfl h)
set_option maxHeartbeats 4000000 in
theorem bX10_reads_0 {G : GC} {Q : Option Value → PS → Prop} {X : String → Nat → PS → Prop} {b : Nat} {h0 : Nat} {σ : PS} (h : ∃ a_in : Nat, Fg (σ) 10 h0 1 (.ref a_in) ∧ ((∃ fs_2 : List Value, Ob (σ) 11 a_in fs_2) ∧ Call G mX11_now 4 0 [.ref a_in] (σ) (qI (fun rx s1 => ((rx = (-1)) → Q none s1) ∧ ((¬ rx = (-1)) → ∃ bc : Nat, bc ≤ b ∧ (∃ fs : List Value, Ob s1 10 h0 fs) ∧ Call G mX10_clause 11 bc [.ref h0] s1 (qV (fun s1_1 => At G mX10_reads 12 Q X (b - bc) 0 [(0, .ref h0)] [] s1_1)) X))) X)) : At G mX10_reads 12 Q X b 0 [(0, .ref h0)] [] (σ) := by
  refine g_aload_n dX10_reads_0 rfl 0 rfl ?_
  obtain ⟨a_in, hf, h⟩ := h
  refine g_get 1 dX10_reads_1 in_X10 cl10 (by decide) q946 hf ?_
  obtain ⟨⟨_, hO⟩, h⟩ := h
  refine g_callV (N := mX11_now) (st := []) (As := []) (a := a_in) dX10_reads_4 wsX11_now (lw_V q967 q968 q969 q122 q970) rfl mokX11_now rfl cl11 (by decide) (by decide) (Nat.zero_le _) (Nat.zero_le _) hO h (fun E q s hx => AtX.out0 rfl hx) (fun _ s1 hq => ?_)
  obtain ⟨rx, rfl, h⟩ := hq
  refine At.stk (st' := [.int rx]) rfl ?_
  refine g_iconst (v := (-1)) dX10_reads_7 (by decide) ?_
  refine g_icmp_eq (tgt := 18) dX10_reads_8 (by decide) (fun c => ?_) (fun c => ?_)
  · replace h := h.1 c
    exact g_vret rfl dX10_reads_18 h
  · replace h := h.2 c
    refine g_aload_n dX10_reads_11 rfl 0 rfl ?_
    obtain ⟨bc, hb9, h⟩ := h
    obtain ⟨⟨_, hO⟩, h⟩ := h
    refine g_callV (N := mX10_clause) (st := []) (As := []) (a := h0) dX10_reads_12 wsX10_clause (lw_V q975 q977 qs15 q121 q978) rfl mokX10_clause rfl cl10 (by decide) (by decide) hb9 (Nat.zero_le _) hO h (fun E q s hx => AtX.out0 rfl hx) (fun _ s1_1 hq => ?_)
    obtain ⟨rfl, h⟩ := hq
    refine At.stk (st' := []) rfl ?_
    refine g_goto (tgt := 0) dX10_reads_15 (by decide) ?_
    exact At.sub (ls := [(0, .ref h0)]) [0] rfl h
theorem eX10_reads {G : GC} {Q : Option Value → PS → Prop} {X : String → Nat → PS → Prop} {b : Nat} {h0 : Nat} {σ : PS} (h : At G mX10_reads 12 Q X b 0 [(0, .ref h0)] [] σ) : Call G mX10_reads 12 b [.ref h0] σ Q X :=
  Call.of (by decide +kernel) wsX10_reads rfl (Nat.le_of_ble_eq_true rfl) (At.sub (ls := [(0, .ref h0)]) [0] rfl h)
set_option maxHeartbeats 4000000 in
theorem bX10_clause_0 {G : GC} {Q : Option Value → PS → Prop} {X : String → Nat → PS → Prop} {b : Nat} {h0 : Nat} {σ : PS} (h : ∃ a_in : Nat, Fg (σ) 10 h0 1 (.ref a_in) ∧ ((∃ fs_11 : List Value, Ob (σ) 11 a_in fs_11) ∧ Call G mX11_place 5 0 [.ref a_in] (σ) (qI (fun rx s1 => ∃ a_in_1 : Nat, Fg s1 10 h0 1 (.ref a_in_1) ∧ (∃ a_words : Nat, Fg s1 10 h0 0 (.ref a_words) ∧ ((∃ fs_10 : List Value, Ob s1 11 a_in_1 fs_10) ∧ Call G mX11_which 8 0 [.ref a_in_1, .ref a_words] s1 (qI (fun rx_3 s1_2 => ((¬ rx_3 = (-1)) → ∃ x_clauses : Int32, Fg s1_2 10 h0 4 (.int x_clauses) ∧ (((x_clauses = 60) → 1 ≤ b ∧ (∀ q : Nat, (∀ κ, s1_2 κ q = none) → (∀ s1_4 : PS, s1_4 = up s1_2 12 q (.inl [.null, .null, .null, .null, .null, .int 0, .int 0, .int 0]) → Call G mX12_init 6 0 [.ref q, .int 3, .int rx] s1_4 (qV (fun s1_5 => ∃ fs : List Value, Ob s1_5 12 q fs ∧ X "CardCups$Wrong" q s1_5)) X))) ∧ ((¬ x_clauses = 60) → ((¬ rx_3 = 1) → At G mX10_clause 11 Q X b 61 [(0, .ref h0), (1, .int rx), (2, .int rx_3)] [] s1_2) ∧ ((rx_3 = 1) → ∃ a_office : Nat, Fg s1_2 10 h0 2 (.ref a_office) ∧ (∃ x_people : Int32, Fg s1_2 7 a_office 8 (.int x_people) ∧ (((x_people = 6) → 1 ≤ b ∧ (∀ q : Nat, (∀ κ, s1_2 κ q = none) → (∀ s1_6 : PS, s1_6 = up s1_2 12 q (.inl [.null, .null, .null, .null, .null, .int 0, .int 0, .int 0]) → Call G mX12_init 6 0 [.ref q, .int 3, .int rx] s1_6 (qV (fun s1_7 => ∃ fs : List Value, Ob s1_7 12 q fs ∧ X "CardCups$Wrong" q s1_7)) X))) ∧ ((¬ x_people = 6) → At G mX10_clause 11 Q X b 61 [(0, .ref h0), (1, .int rx), (2, .int rx_3)] [] s1_2))))))) ∧ ((rx_3 = (-1)) → 1 ≤ b ∧ (∀ q : Nat, (∀ κ, s1_2 κ q = none) → (∀ s1_8 : PS, s1_8 = up s1_2 12 q (.inl [.null, .null, .null, .null, .null, .int 0, .int 0, .int 0]) → Call G mX12_init 6 0 [.ref q, .int 1, .int rx] s1_8 (qV (fun s1_9 => ∃ fs : List Value, Ob s1_9 12 q fs ∧ X "CardCups$Wrong" q s1_9)) X))))) X)))) X)) : At G mX10_clause 11 Q X b 0 [(0, .ref h0)] [] (σ) := by
  refine g_aload_n dX10_clause_0 rfl 0 rfl ?_
  obtain ⟨a_in, hf, h⟩ := h
  refine g_get 1 dX10_clause_1 in_X10 cl10 (by decide) q946 hf ?_
  obtain ⟨⟨_, hO⟩, h⟩ := h
  refine g_callV (N := mX11_place) (st := []) (As := []) (a := a_in) dX10_clause_4 wsX11_place (lw_V q979 q980 q981 q122 q982) rfl mokX11_place rfl cl11 (by decide) (by decide) (Nat.zero_le _) (Nat.zero_le _) hO h (fun E q s hx => AtX.out0 rfl hx) (fun _ s1 hq => ?_)
  obtain ⟨rx, rfl, h⟩ := hq
  refine At.stk (st' := [.int rx]) rfl ?_
  refine g_istore_n (ls1 := [(1, .int rx), (0, .ref h0)]) dX10_clause_7 rfl (by decide) rfl ?_
  refine g_aload_n dX10_clause_8 rfl 1 rfl ?_
  obtain ⟨a_in_1, hf, h⟩ := h
  refine g_get 1 dX10_clause_9 in_X10 cl10 (by decide) q946 hf ?_
  refine g_aload_n dX10_clause_12 rfl 1 rfl ?_
  obtain ⟨a_words, hf, h⟩ := h
  refine g_get 0 dX10_clause_13 in_X10 cl10 (by decide) q945 hf ?_
  obtain ⟨⟨_, hO⟩, h⟩ := h
  refine g_callV (N := mX11_which) (st := []) (As := [.ref a_words]) (a := a_in_1) dX10_clause_16 wsX11_which (lw_V q984 q985 q986 q122 q987) rfl mokX11_which rfl cl11 (by decide) (by decide) (Nat.zero_le _) (Nat.zero_le _) hO h (fun E q s hx => AtX.out0 rfl hx) (fun _ s1_2 hq => ?_)
  obtain ⟨rx_3, rfl, h⟩ := hq
  refine At.stk (st' := [.int rx_3]) rfl ?_
  refine g_istore_n (ls1 := [(2, .int rx_3), (1, .int rx), (0, .ref h0)]) dX10_clause_19 rfl (by decide) rfl ?_
  refine g_iload_n dX10_clause_20 rfl 0 rfl ?_
  refine g_iconst (v := (-1)) dX10_clause_21 (by decide) ?_
  refine g_icmp_ne (tgt := 35) dX10_clause_22 (by decide) (fun c => ?_) (fun c => ?_)
  · replace h := h.1 c
    refine g_aload_n dX10_clause_35 rfl 2 rfl ?_
    obtain ⟨x_clauses, hf, h⟩ := h
    refine g_get 4 dX10_clause_36 in_X10 cl10 (by decide) q951 hf ?_
    refine g_bipush (v := 60) dX10_clause_39 (by decide) ?_
    refine g_icmp_eq (tgt := 78) dX10_clause_41 (by decide) (fun c => ?_) (fun c => ?_)
    · replace h := h.1 c
      obtain ⟨hb, h⟩ := h
      refine g_new (ci := 12) (fs := [.null, .null, .null, .null, .null, .int 0, .int 0, .int 0]) 1 dX10_clause_78 in_X12 tyX12 tyX12_ok cl12 q1044 q1045 q127 new12 (by decide) (by decide) hb (fun q hq => ?_)
      replace h := h q hq
      refine g_tops (fun s1_4 es1_4 => ?_)
      replace h := h s1_4 es1_4
      refine g_dup dX10_clause_81 rfl ?_
      refine g_iconst (v := 3) dX10_clause_82 (by decide) ?_
      refine g_iload_n dX10_clause_83 rfl 1 rfl ?_
      refine g_callI (N := mX12_init) (st := [.ref q]) (As := [.int 3, .int rx]) (a := q) dX10_clause_84 wsX12_init q1055 q127 q1053 q1054 rfl mokX12_init rfl (by decide) (by decide) (Nat.zero_le _) (by simp [Value.category]) h (fun E q s hx => AtX.out0 rfl hx) (fun _ s1_5 hq => ?_)
      obtain ⟨rfl, h⟩ := hq
      refine At.stk (st' := [.ref q]) rfl ?_
      obtain ⟨fs, hO, h⟩ := h
      exact g_athrow dX10_clause_87 cl12 rfl hO (AtX.out0 rfl h)
    · replace h := h.2 c
      refine g_iload_n dX10_clause_44 rfl 0 rfl ?_
      refine g_iconst (v := 1) dX10_clause_45 (by decide) ?_
      refine g_icmp_ne (tgt := 61) dX10_clause_46 (by decide) (fun c => ?_) (fun c => ?_)
      · replace h := h.1 c
        exact At.sub (ls := [(2, .int rx_3), (1, .int rx), (0, .ref h0)]) [2, 1, 0] rfl h
      · replace h := h.2 c
        refine g_aload_n dX10_clause_49 rfl 2 rfl ?_
        obtain ⟨a_office, hf, h⟩ := h
        refine g_get 2 dX10_clause_50 in_X10 cl10 (by decide) q947 hf ?_
        obtain ⟨x_people, hf, h⟩ := h
        refine g_getN 8 dX10_clause_53 in_X7 cl7 (by decide) q410 hf ?_
        refine g_bipush (v := 6) dX10_clause_56 (by decide) ?_
        refine g_icmp_eq (tgt := 78) dX10_clause_58 (by decide) (fun c => ?_) (fun c => ?_)
        · replace h := h.1 c
          obtain ⟨hb, h⟩ := h
          refine g_new (ci := 12) (fs := [.null, .null, .null, .null, .null, .int 0, .int 0, .int 0]) 1 dX10_clause_78 in_X12 tyX12 tyX12_ok cl12 q1044 q1045 q127 new12 (by decide) (by decide) hb (fun q hq => ?_)
          replace h := h q hq
          refine g_tops (fun s1_6 es1_6 => ?_)
          replace h := h s1_6 es1_6
          refine g_dup dX10_clause_81 rfl ?_
          refine g_iconst (v := 3) dX10_clause_82 (by decide) ?_
          refine g_iload_n dX10_clause_83 rfl 1 rfl ?_
          refine g_callI (N := mX12_init) (st := [.ref q]) (As := [.int 3, .int rx]) (a := q) dX10_clause_84 wsX12_init q1055 q127 q1053 q1054 rfl mokX12_init rfl (by decide) (by decide) (Nat.zero_le _) (by simp [Value.category]) h (fun E q s hx => AtX.out0 rfl hx) (fun _ s1_7 hq => ?_)
          obtain ⟨rfl, h⟩ := hq
          refine At.stk (st' := [.ref q]) rfl ?_
          obtain ⟨fs, hO, h⟩ := h
          exact g_athrow dX10_clause_87 cl12 rfl hO (AtX.out0 rfl h)
        · replace h := h.2 c
          exact At.sub (ls := [(2, .int rx_3), (1, .int rx), (0, .ref h0)]) [2, 1, 0] rfl h
  · replace h := h.2 c
    obtain ⟨hb, h⟩ := h
    refine g_new (ci := 12) (fs := [.null, .null, .null, .null, .null, .int 0, .int 0, .int 0]) 1 dX10_clause_25 in_X12 tyX12 tyX12_ok cl12 q1044 q1045 q127 new12 (by decide) (by decide) hb (fun q hq => ?_)
    replace h := h q hq
    refine g_tops (fun s1_8 es1_8 => ?_)
    replace h := h s1_8 es1_8
    refine g_dup dX10_clause_28 rfl ?_
    refine g_iconst (v := 1) dX10_clause_29 (by decide) ?_
    refine g_iload_n dX10_clause_30 rfl 1 rfl ?_
    refine g_callI (N := mX12_init) (st := [.ref q]) (As := [.int 1, .int rx]) (a := q) dX10_clause_31 wsX12_init q1055 q127 q1053 q1054 rfl mokX12_init rfl (by decide) (by decide) (Nat.zero_le _) (by simp [Value.category]) h (fun E q s hx => AtX.out0 rfl hx) (fun _ s1_9 hq => ?_)
    obtain ⟨rfl, h⟩ := hq
    refine At.stk (st' := [.ref q]) rfl ?_
    obtain ⟨fs, hO, h⟩ := h
    exact g_athrow dX10_clause_34 cl12 rfl hO (AtX.out0 rfl h)
set_option maxHeartbeats 4000000 in
theorem bX10_clause_61 {G : GC} {Q : Option Value → PS → Prop} {X : String → Nat → PS → Prop} {b : Nat} {h0 : Nat} {x1 : Int32} {x2 : Int32} {σ : PS} (h : ((¬ x2 = 2) → ((¬ x2 = 0) → At G mX10_clause 11 Q X b 109 [(0, .ref h0), (2, .int x2)] [] (σ)) ∧ ((x2 = 0) → ∃ x_clauses : Int32, Fg (σ) 10 h0 4 (.int x_clauses) ∧ (((x_clauses ≤ 0) → At G mX10_clause 11 Q X b 109 [(0, .ref h0), (2, .int x2)] [] (σ)) ∧ ((¬ x_clauses ≤ 0) → 1 ≤ b ∧ (∀ q : Nat, (∀ κ, σ κ q = none) → (∀ s1 : PS, s1 = up (σ) 12 q (.inl [.null, .null, .null, .null, .null, .int 0, .int 0, .int 0]) → Call G mX12_init 6 0 [.ref q, .int 4, .int x1] s1 (qV (fun s1_1 => ∃ fs : List Value, Ob s1_1 12 q fs ∧ X "CardCups$Wrong" q s1_1)) X)))))) ∧ ((x2 = 2) → ∃ a_calendar : Nat, Fg (σ) 10 h0 3 (.ref a_calendar) ∧ (∃ x_many : Int32, Fg (σ) 2 a_calendar 2 (.int x_many) ∧ (((¬ x_many = 24) → ((¬ x2 = 0) → At G mX10_clause 11 Q X b 109 [(0, .ref h0), (2, .int x2)] [] (σ)) ∧ ((x2 = 0) → ∃ x_clauses : Int32, Fg (σ) 10 h0 4 (.int x_clauses) ∧ (((x_clauses ≤ 0) → At G mX10_clause 11 Q X b 109 [(0, .ref h0), (2, .int x2)] [] (σ)) ∧ ((¬ x_clauses ≤ 0) → 1 ≤ b ∧ (∀ q : Nat, (∀ κ, σ κ q = none) → (∀ s1 : PS, s1 = up (σ) 12 q (.inl [.null, .null, .null, .null, .null, .int 0, .int 0, .int 0]) → Call G mX12_init 6 0 [.ref q, .int 4, .int x1] s1 (qV (fun s1_2 => ∃ fs : List Value, Ob s1_2 12 q fs ∧ X "CardCups$Wrong" q s1_2)) X)))))) ∧ ((x_many = 24) → 1 ≤ b ∧ (∀ q : Nat, (∀ κ, σ κ q = none) → (∀ s1 : PS, s1 = up (σ) 12 q (.inl [.null, .null, .null, .null, .null, .int 0, .int 0, .int 0]) → Call G mX12_init 6 0 [.ref q, .int 3, .int x1] s1 (qV (fun s1_3 => ∃ fs : List Value, Ob s1_3 12 q fs ∧ X "CardCups$Wrong" q s1_3)) X))))))) : At G mX10_clause 11 Q X b 61 [(0, .ref h0), (1, .int x1), (2, .int x2)] [] (σ) := by
  refine g_iload_n dX10_clause_61 rfl 2 rfl ?_
  refine g_iconst (v := 2) dX10_clause_62 (by decide) ?_
  refine g_icmp_ne (tgt := 88) dX10_clause_63 (by decide) (fun c => ?_) (fun c => ?_)
  · replace h := h.1 c
    refine g_iload_n dX10_clause_88 rfl 2 rfl ?_
    refine g_if_ne (tgt := 109) dX10_clause_89 (by decide) (fun c => ?_) (fun c => ?_)
    · replace h := h.1 c
      exact At.sub (ls := [(0, .ref h0), (1, .int x1), (2, .int x2)]) [0, 2] rfl h
    · replace h := h.2 c
      refine g_aload_n dX10_clause_92 rfl 0 rfl ?_
      obtain ⟨x_clauses, hf, h⟩ := h
      refine g_get 4 dX10_clause_93 in_X10 cl10 (by decide) q951 hf ?_
      refine g_if_le (tgt := 109) dX10_clause_96 (by decide) (fun c => ?_) (fun c => ?_)
      · replace h := h.1 c
        exact At.sub (ls := [(0, .ref h0), (1, .int x1), (2, .int x2)]) [0, 2] rfl h
      · replace h := h.2 c
        obtain ⟨hb, h⟩ := h
        refine g_new (ci := 12) (fs := [.null, .null, .null, .null, .null, .int 0, .int 0, .int 0]) 1 dX10_clause_99 in_X12 tyX12 tyX12_ok cl12 q1044 q1045 q127 new12 (by decide) (by decide) hb (fun q hq => ?_)
        replace h := h q hq
        refine g_tops (fun s1 es1 => ?_)
        replace h := h s1 es1
        refine g_dup dX10_clause_102 rfl ?_
        refine g_iconst (v := 4) dX10_clause_103 (by decide) ?_
        refine g_iload_n dX10_clause_104 rfl 1 rfl ?_
        refine g_callI (N := mX12_init) (st := [.ref q]) (As := [.int 4, .int x1]) (a := q) dX10_clause_105 wsX12_init q1055 q127 q1053 q1054 rfl mokX12_init rfl (by decide) (by decide) (Nat.zero_le _) (by simp [Value.category]) h (fun E q s hx => AtX.out0 rfl hx) (fun _ s1_1 hq => ?_)
        obtain ⟨rfl, h⟩ := hq
        refine At.stk (st' := [.ref q]) rfl ?_
        obtain ⟨fs, hO, h⟩ := h
        exact g_athrow dX10_clause_108 cl12 rfl hO (AtX.out0 rfl h)
  · replace h := h.2 c
    refine g_aload_n dX10_clause_66 rfl 0 rfl ?_
    obtain ⟨a_calendar, hf, h⟩ := h
    refine g_get 3 dX10_clause_67 in_X10 cl10 (by decide) q949 hf ?_
    obtain ⟨x_many, hf, h⟩ := h
    refine g_getN 2 dX10_clause_70 in_X2 cl2 (by decide) q167 hf ?_
    refine g_bipush (v := 24) dX10_clause_73 (by decide) ?_
    refine g_icmp_ne (tgt := 88) dX10_clause_75 (by decide) (fun c => ?_) (fun c => ?_)
    · replace h := h.1 c
      refine g_iload_n dX10_clause_88 rfl 2 rfl ?_
      refine g_if_ne (tgt := 109) dX10_clause_89 (by decide) (fun c => ?_) (fun c => ?_)
      · replace h := h.1 c
        exact At.sub (ls := [(0, .ref h0), (1, .int x1), (2, .int x2)]) [0, 2] rfl h
      · replace h := h.2 c
        refine g_aload_n dX10_clause_92 rfl 0 rfl ?_
        obtain ⟨x_clauses, hf, h⟩ := h
        refine g_get 4 dX10_clause_93 in_X10 cl10 (by decide) q951 hf ?_
        refine g_if_le (tgt := 109) dX10_clause_96 (by decide) (fun c => ?_) (fun c => ?_)
        · replace h := h.1 c
          exact At.sub (ls := [(0, .ref h0), (1, .int x1), (2, .int x2)]) [0, 2] rfl h
        · replace h := h.2 c
          obtain ⟨hb, h⟩ := h
          refine g_new (ci := 12) (fs := [.null, .null, .null, .null, .null, .int 0, .int 0, .int 0]) 1 dX10_clause_99 in_X12 tyX12 tyX12_ok cl12 q1044 q1045 q127 new12 (by decide) (by decide) hb (fun q hq => ?_)
          replace h := h q hq
          refine g_tops (fun s1 es1 => ?_)
          replace h := h s1 es1
          refine g_dup dX10_clause_102 rfl ?_
          refine g_iconst (v := 4) dX10_clause_103 (by decide) ?_
          refine g_iload_n dX10_clause_104 rfl 1 rfl ?_
          refine g_callI (N := mX12_init) (st := [.ref q]) (As := [.int 4, .int x1]) (a := q) dX10_clause_105 wsX12_init q1055 q127 q1053 q1054 rfl mokX12_init rfl (by decide) (by decide) (Nat.zero_le _) (by simp [Value.category]) h (fun E q s hx => AtX.out0 rfl hx) (fun _ s1_2 hq => ?_)
          obtain ⟨rfl, h⟩ := hq
          refine At.stk (st' := [.ref q]) rfl ?_
          obtain ⟨fs, hO, h⟩ := h
          exact g_athrow dX10_clause_108 cl12 rfl hO (AtX.out0 rfl h)
    · replace h := h.2 c
      obtain ⟨hb, h⟩ := h
      refine g_new (ci := 12) (fs := [.null, .null, .null, .null, .null, .int 0, .int 0, .int 0]) 1 dX10_clause_78 in_X12 tyX12 tyX12_ok cl12 q1044 q1045 q127 new12 (by decide) (by decide) hb (fun q hq => ?_)
      replace h := h q hq
      refine g_tops (fun s1 es1 => ?_)
      replace h := h s1 es1
      refine g_dup dX10_clause_81 rfl ?_
      refine g_iconst (v := 3) dX10_clause_82 (by decide) ?_
      refine g_iload_n dX10_clause_83 rfl 1 rfl ?_
      refine g_callI (N := mX12_init) (st := [.ref q]) (As := [.int 3, .int x1]) (a := q) dX10_clause_84 wsX12_init q1055 q127 q1053 q1054 rfl mokX12_init rfl (by decide) (by decide) (Nat.zero_le _) (by simp [Value.category]) h (fun E q s hx => AtX.out0 rfl hx) (fun _ s1_3 hq => ?_)
      obtain ⟨rfl, h⟩ := hq
      refine At.stk (st' := [.ref q]) rfl ?_
      obtain ⟨fs, hO, h⟩ := h
      exact g_athrow dX10_clause_87 cl12 rfl hO (AtX.out0 rfl h)
set_option maxHeartbeats 4000000 in
theorem bX10_clause_109 {G : GC} {Q : Option Value → PS → Prop} {X : String → Nat → PS → Prop} {b : Nat} {h0 : Nat} {x2 : Int32} {σ : PS} (h : ∃ a_in : Nat, Fg (σ) 10 h0 1 (.ref a_in) ∧ ((∃ fs_57 : List Value, Ob (σ) 11 a_in fs_57) ∧ Call G mX11_skipsWord 4 0 [.ref a_in] (σ) (qV (fun s1 => ∃ x_clauses : Int32, Fg s1 10 h0 4 (.int x_clauses) ∧ (∃ fs : List Value, Ob s1 10 h0 fs ∧ 4 < fs.length ∧ (∀ s1_1 : PS, s1_1 = up s1 10 h0 (.inl (fs.set 4 (.int (x_clauses + 1)))) → (x2.toInt < 0 ∨ 7 < x2.toInt → At G mX10_clause 11 Q X b 385 [(0, .ref h0), (3, .int 0)] [] s1_1) ∧ (x2 = 0 → ∃ a_office : Nat, Fg s1_1 10 h0 2 (.ref a_office) ∧ (∃ a_in_2 : Nat, Fg s1_1 10 h0 1 (.ref a_in_2) ∧ (∃ bc : Nat, bc ≤ b ∧ (∃ fs_6 : List Value, Ob s1_1 11 a_in_2 fs_6) ∧ Call G mX11_number 10 bc [.ref a_in_2, .int 1, .int 12] s1_1 (qI (fun rx s1_3 => ∃ fs_4 : List Value, Ob s1_3 7 a_office fs_4 ∧ 1 < fs_4.length ∧ (∀ s1_5 : PS, s1_5 = up s1_3 7 a_office (.inl (fs_4.set 1 (.int rx))) → At G mX10_clause 11 Q X (b - bc) 422 [(0, .ref h0)] [] s1_5))) X))) ∧ (x2 = 1 → ∃ a_office : Nat, Fg s1_1 10 h0 2 (.ref a_office) ∧ (∃ x_people : Int32, Fg s1_1 7 a_office 8 (.int x_people) ∧ (∃ fs_7 : List Value, Ob s1_1 7 a_office fs_7 ∧ 8 < fs_7.length ∧ (∀ s1_8 : PS, s1_8 = up s1_1 7 a_office (.inl (fs_7.set 8 (.int (x_people + 1)))) → At G mX10_clause 11 Q X b 422 [(0, .ref h0)] [] s1_8)))) ∧ (x2 = 2 → ∃ a_in_9 : Nat, Fg s1_1 10 h0 1 (.ref a_in_9) ∧ (∃ a_office : Nat, Fg s1_1 10 h0 2 (.ref a_office) ∧ (∃ x_people : Int32, Fg s1_1 7 a_office 8 (.int x_people) ∧ (∃ bc : Nat, bc ≤ b ∧ (∃ fs_19 : List Value, Ob s1_1 11 a_in_9 fs_19) ∧ Call G mX11_number 10 bc [.ref a_in_9, .int 0, .int (x_people - 1)] s1_1 (qI (fun rx s1_10 => ∃ a_calendar : Nat, Fg s1_10 10 h0 3 (.ref a_calendar) ∧ (∃ a_in_11 : Nat, Fg s1_10 10 h0 1 (.ref a_in_11) ∧ (∃ bc_12 : Nat, bc_12 ≤ b - bc ∧ (∃ fs_18 : List Value, Ob s1_10 11 a_in_11 fs_18) ∧ Call G mX11_number 10 bc_12 [.ref a_in_11, .int 0, .int 480] s1_10 (qI (fun rx_14 s1_13 => (∃ fs_17 : List Value, Ob s1_13 2 a_calendar fs_17) ∧ Call G mX2_comes 3 0 [.ref a_calendar, .int rx, .int rx_14] s1_13 (qI (fun rx_16 s1_15 => At G mX10_clause 11 Q X (b - bc - bc_12) 422 [(0, .ref h0)] [] s1_15)) X)) X)))) X)))) ∧ (x2 = 3 → ∃ a_office : Nat, Fg s1_1 10 h0 2 (.ref a_office) ∧ (∃ a_in_20 : Nat, Fg s1_1 10 h0 1 (.ref a_in_20) ∧ (∃ a_office_21 : Nat, Fg s1_1 10 h0 2 (.ref a_office_21) ∧ (∃ x_cups : Int32, Fg s1_1 7 a_office_21 1 (.int x_cups) ∧ (∃ bc : Nat, bc ≤ b ∧ (∃ fs_36 : List Value, Ob s1_1 11 a_in_20 fs_36) ∧ Call G mX11_number 10 bc [.ref a_in_20, .int 0, .int x_cups] s1_1 (qI (fun rx s1_22 => ∃ fs_23 : List Value, Ob s1_22 7 a_office fs_23 ∧ 2 < fs_23.length ∧ (∀ s1_24 : PS, s1_24 = up s1_22 7 a_office (.inl (fs_23.set 2 (.int rx))) → ∃ a_office_25 : Nat, Fg s1_24 10 h0 2 (.ref a_office_25) ∧ (∃ a_in_26 : Nat, Fg s1_24 10 h0 1 (.ref a_in_26) ∧ (∃ a_office_27 : Nat, Fg s1_24 10 h0 2 (.ref a_office_27) ∧ (∃ x_cups_28 : Int32, Fg s1_24 7 a_office_27 1 (.int x_cups_28) ∧ (∃ a_office_29 : Nat, Fg s1_24 10 h0 2 (.ref a_office_29) ∧ (∃ x_clean : Int32, Fg s1_24 7 a_office_29 2 (.int x_clean) ∧ (∃ bc_30 : Nat, bc_30 ≤ b - bc ∧ (∃ fs_35 : List Value, Ob s1_24 11 a_in_26 fs_35) ∧ Call G mX11_number 10 bc_30 [.ref a_in_26, .int 0, .int (x_cups_28 - x_clean)] s1_24 (qI (fun rx_32 s1_31 => ∃ fs_33 : List Value, Ob s1_31 7 a_office_25 fs_33 ∧ 3 < fs_33.length ∧ (∀ s1_34 : PS, s1_34 = up s1_31 7 a_office_25 (.inl (fs_33.set 3 (.int rx_32))) → At G mX10_clause 11 Q X (b - bc - bc_30) 422 [(0, .ref h0)] [] s1_34))) X))))))))) X))))) ∧ (x2 = 4 → ∃ a_office : Nat, Fg s1_1 10 h0 2 (.ref a_office) ∧ (∃ a_in_37 : Nat, Fg s1_1 10 h0 1 (.ref a_in_37) ∧ (∃ bc : Nat, bc ≤ b ∧ (∃ fs_41 : List Value, Ob s1_1 11 a_in_37 fs_41) ∧ Call G mX11_number 10 bc [.ref a_in_37, .int 0, .int 1] s1_1 (qI (fun rx s1_38 => ∃ fs_39 : List Value, Ob s1_38 7 a_office fs_39 ∧ 4 < fs_39.length ∧ (∀ s1_40 : PS, s1_40 = up s1_38 7 a_office (.inl (fs_39.set 4 (.int rx))) → At G mX10_clause 11 Q X (b - bc) 422 [(0, .ref h0)] [] s1_40))) X))) ∧ (x2 = 5 → ∃ a_office : Nat, Fg s1_1 10 h0 2 (.ref a_office) ∧ (∃ a_in_42 : Nat, Fg s1_1 10 h0 1 (.ref a_in_42) ∧ (∃ bc : Nat, bc ≤ b ∧ (∃ fs_46 : List Value, Ob s1_1 11 a_in_42 fs_46) ∧ Call G mX11_number 10 bc [.ref a_in_42, .int 0, .int 16] s1_1 (qI (fun rx s1_43 => ∃ fs_44 : List Value, Ob s1_43 7 a_office fs_44 ∧ 5 < fs_44.length ∧ (∀ s1_45 : PS, s1_45 = up s1_43 7 a_office (.inl (fs_44.set 5 (.int rx))) → At G mX10_clause 11 Q X (b - bc) 422 [(0, .ref h0)] [] s1_45))) X))) ∧ (x2 = 6 → ∃ a_office : Nat, Fg s1_1 10 h0 2 (.ref a_office) ∧ (∃ a_in_47 : Nat, Fg s1_1 10 h0 1 (.ref a_in_47) ∧ (∃ bc : Nat, bc ≤ b ∧ (∃ fs_51 : List Value, Ob s1_1 11 a_in_47 fs_51) ∧ Call G mX11_number 10 bc [.ref a_in_47, .int 1, .int 99] s1_1 (qI (fun rx s1_48 => ∃ fs_49 : List Value, Ob s1_48 7 a_office fs_49 ∧ 6 < fs_49.length ∧ (∀ s1_50 : PS, s1_50 = up s1_48 7 a_office (.inl (fs_49.set 6 (.int rx))) → At G mX10_clause 11 Q X (b - bc) 422 [(0, .ref h0)] [] s1_50))) X))) ∧ (x2 = 7 → ∃ a_office : Nat, Fg s1_1 10 h0 2 (.ref a_office) ∧ (∃ a_in_52 : Nat, Fg s1_1 10 h0 1 (.ref a_in_52) ∧ (∃ bc : Nat, bc ≤ b ∧ (∃ fs_56 : List Value, Ob s1_1 11 a_in_52 fs_56) ∧ Call G mX11_number 10 bc [.ref a_in_52, .int 0, .int 16] s1_1 (qI (fun rx s1_53 => ∃ fs_54 : List Value, Ob s1_53 7 a_office fs_54 ∧ 7 < fs_54.length ∧ (∀ s1_55 : PS, s1_55 = up s1_53 7 a_office (.inl (fs_54.set 7 (.int rx))) → At G mX10_clause 11 Q X (b - bc) 422 [(0, .ref h0)] [] s1_55))) X))))))) X)) : At G mX10_clause 11 Q X b 109 [(0, .ref h0), (2, .int x2)] [] (σ) := by
  refine g_aload_n dX10_clause_109 rfl 0 rfl ?_
  obtain ⟨a_in, hf, h⟩ := h
  refine g_get 1 dX10_clause_110 in_X10 cl10 (by decide) q946 hf ?_
  obtain ⟨⟨_, hO⟩, h⟩ := h
  refine g_callV (N := mX11_skipsWord) (st := []) (As := []) (a := a_in) dX10_clause_113 wsX11_skipsWord (lw_V q1072 q1073 q1074 q122 q1075) rfl mokX11_skipsWord rfl cl11 (by decide) (by decide) (Nat.zero_le _) (Nat.zero_le _) hO h (fun E q s hx => AtX.out0 rfl hx) (fun _ s1 hq => ?_)
  obtain ⟨rfl, h⟩ := hq
  refine At.stk (st' := []) rfl ?_
  refine g_aload_n dX10_clause_116 rfl 0 rfl ?_
  refine g_dup dX10_clause_117 rfl ?_
  obtain ⟨x_clauses, hf, h⟩ := h
  refine g_get 4 dX10_clause_118 in_X10 cl10 (by decide) q951 hf ?_
  refine g_iconst (v := 1) dX10_clause_121 (by decide) ?_
  refine g_iadd dX10_clause_122 ?_
  obtain ⟨fs, hO, hl, h⟩ := h
  refine g_put 4 dX10_clause_123 in_X10 tyX10 tyX10_ok nmX10 cl10 (by decide) q951 rfl rfl rfl hO hl ?_
  refine g_tops (fun s1_1 es1_1 => ?_)
  replace h := h s1_1 es1_1
  refine g_iload_n dX10_clause_126 rfl 1 rfl ?_
  rcases tb_split x2 0 8 with ho | ⟨i9, hi9, ex9⟩
  · refine g_tableOut (tgt := 383) dX10_clause_127 (by omega) (by decide) ?_
    replace h := h.1 ho
    refine g_iconst (v := 0) dX10_clause_383 (by decide) ?_
    refine g_istore_n (ls1 := [(3, .int 0), (0, .ref h0), (2, .int x2)]) dX10_clause_384 rfl (by decide) rfl ?_
    exact At.sub (ls := [(3, .int 0), (0, .ref h0), (2, .int x2)]) [1, 0] rfl h
  · replace h := h.2
    match i9, hi9, ex9 with
    | 0, _, ex9 =>
      have ex9 : x2 = 0 := ex9.trans (by decide)
      replace h := h.1 ex9
      refine g_tableIn (tgt := 172) dX10_clause_127 (by rw [ex9]; decide) (by rw [ex9]; decide) (off := 45) (by rw [ex9]; decide) (by decide) ?_
      refine g_aload_n dX10_clause_172 rfl 0 rfl ?_
      obtain ⟨a_office, hf, h⟩ := h
      refine g_get 2 dX10_clause_173 in_X10 cl10 (by decide) q947 hf ?_
      refine g_aload_n dX10_clause_176 rfl 0 rfl ?_
      obtain ⟨a_in_2, hf, h⟩ := h
      refine g_get 1 dX10_clause_177 in_X10 cl10 (by decide) q946 hf ?_
      refine g_iconst (v := 1) dX10_clause_180 (by decide) ?_
      refine g_bipush (v := 12) dX10_clause_181 (by decide) ?_
      obtain ⟨bc, hb9, h⟩ := h
      obtain ⟨⟨_, hO⟩, h⟩ := h
      refine g_callV (N := mX11_number) (st := [.ref a_office]) (As := [.int 1, .int 12]) (a := a_in_2) dX10_clause_183 wsX11_number (lw_V q1076 q1077 q1078 q122 q1079) rfl mokX11_number rfl cl11 (by decide) (by decide) hb9 (by simp [Value.category]) hO h (fun E q s hx => AtX.out0 rfl hx) (fun _ s1_3 hq => ?_)
      obtain ⟨rx, rfl, h⟩ := hq
      refine At.stk (st' := [.int rx, .ref a_office]) rfl ?_
      obtain ⟨fs_4, hO, hl, h⟩ := h
      refine g_putN 1 dX10_clause_186 in_X7 tyX7 tyX7_ok nmX7 cl7 (by decide) q380 rfl rfl rfl hO hl ?_
      refine g_tops (fun s1_5 es1_5 => ?_)
      replace h := h s1_5 es1_5
      refine g_goto (tgt := 422) dX10_clause_189 (by decide) ?_
      exact At.sub (ls := [(0, .ref h0), (2, .int x2)]) [0] rfl h
    | 1, _, ex9 =>
      have ex9 : x2 = 1 := ex9.trans (by decide)
      replace h := h.2.1 ex9
      refine g_tableIn (tgt := 192) dX10_clause_127 (by rw [ex9]; decide) (by rw [ex9]; decide) (off := 65) (by rw [ex9]; decide) (by decide) ?_
      refine g_aload_n dX10_clause_192 rfl 0 rfl ?_
      obtain ⟨a_office, hf, h⟩ := h
      refine g_get 2 dX10_clause_193 in_X10 cl10 (by decide) q947 hf ?_
      refine g_dup dX10_clause_196 rfl ?_
      obtain ⟨x_people, hf, h⟩ := h
      refine g_getN 8 dX10_clause_197 in_X7 cl7 (by decide) q410 hf ?_
      refine g_iconst (v := 1) dX10_clause_200 (by decide) ?_
      refine g_iadd dX10_clause_201 ?_
      obtain ⟨fs_7, hO, hl, h⟩ := h
      refine g_putN 8 dX10_clause_202 in_X7 tyX7 tyX7_ok nmX7 cl7 (by decide) q410 rfl rfl rfl hO hl ?_
      refine g_tops (fun s1_8 es1_8 => ?_)
      replace h := h s1_8 es1_8
      refine g_goto (tgt := 422) dX10_clause_205 (by decide) ?_
      exact At.sub (ls := [(0, .ref h0), (2, .int x2)]) [0] rfl h
    | 2, _, ex9 =>
      have ex9 : x2 = 2 := ex9.trans (by decide)
      replace h := h.2.2.1 ex9
      refine g_tableIn (tgt := 208) dX10_clause_127 (by rw [ex9]; decide) (by rw [ex9]; decide) (off := 81) (by rw [ex9]; decide) (by decide) ?_
      refine g_aload_n dX10_clause_208 rfl 0 rfl ?_
      obtain ⟨a_in_9, hf, h⟩ := h
      refine g_get 1 dX10_clause_209 in_X10 cl10 (by decide) q946 hf ?_
      refine g_iconst (v := 0) dX10_clause_212 (by decide) ?_
      refine g_aload_n dX10_clause_213 rfl 0 rfl ?_
      obtain ⟨a_office, hf, h⟩ := h
      refine g_get 2 dX10_clause_214 in_X10 cl10 (by decide) q947 hf ?_
      obtain ⟨x_people, hf, h⟩ := h
      refine g_getN 8 dX10_clause_217 in_X7 cl7 (by decide) q410 hf ?_
      refine g_iconst (v := 1) dX10_clause_220 (by decide) ?_
      refine g_isub dX10_clause_221 ?_
      obtain ⟨bc, hb9, h⟩ := h
      obtain ⟨⟨_, hO⟩, h⟩ := h
      refine g_callV (N := mX11_number) (st := []) (As := [.int 0, .int (x_people - 1)]) (a := a_in_9) dX10_clause_222 wsX11_number (lw_V q1076 q1077 q1078 q122 q1079) rfl mokX11_number rfl cl11 (by decide) (by decide) hb9 (Nat.zero_le _) hO h (fun E q s hx => AtX.out0 rfl hx) (fun _ s1_10 hq => ?_)
      obtain ⟨rx, rfl, h⟩ := hq
      refine At.stk (st' := [.int rx]) rfl ?_
      refine g_istore_n (ls1 := [(3, .int rx), (0, .ref h0), (2, .int x2)]) dX10_clause_225 rfl (by decide) rfl ?_
      refine g_aload_n dX10_clause_226 rfl 1 rfl ?_
      obtain ⟨a_calendar, hf, h⟩ := h
      refine g_get 3 dX10_clause_227 in_X10 cl10 (by decide) q949 hf ?_
      refine g_iload_n dX10_clause_230 rfl 0 rfl ?_
      refine g_aload_n dX10_clause_231 rfl 1 rfl ?_
      obtain ⟨a_in_11, hf, h⟩ := h
      refine g_get 1 dX10_clause_232 in_X10 cl10 (by decide) q946 hf ?_
      refine g_iconst (v := 0) dX10_clause_235 (by decide) ?_
      refine g_sipush (v := 480) dX10_clause_236 (by decide) ?_
      obtain ⟨bc_12, hb9, h⟩ := h
      obtain ⟨⟨_, hO⟩, h⟩ := h
      refine g_callV (N := mX11_number) (st := [.int rx, .ref a_calendar]) (As := [.int 0, .int 480]) (a := a_in_11) dX10_clause_239 wsX11_number (lw_V q1076 q1077 q1078 q122 q1079) rfl mokX11_number rfl cl11 (by decide) (by decide) hb9 (by simp [Value.category]) hO h (fun E q s hx => AtX.out0 rfl hx) (fun _ s1_13 hq => ?_)
      obtain ⟨rx_14, rfl, h⟩ := hq
      refine At.stk (st' := [.int rx_14, .int rx, .ref a_calendar]) rfl ?_
      obtain ⟨⟨_, hO⟩, h⟩ := h
      refine g_callV (N := mX2_comes) (st := []) (As := [.int rx, .int rx_14]) (a := a_calendar) dX10_clause_242 wsX2_comes (lw_V q1087 q1088 q1089 q109 q1090) rfl mokX2_comes rfl cl2 (by decide) (by decide) (Nat.zero_le _) (Nat.zero_le _) hO h (fun E q s hx => AtX.out0 rfl hx) (fun _ s1_15 hq => ?_)
      obtain ⟨rx_16, rfl, h⟩ := hq
      refine At.stk (st' := [.int rx_16]) rfl ?_
      refine g_pop dX10_clause_245 rfl ?_
      refine g_goto (tgt := 422) dX10_clause_246 (by decide) ?_
      exact At.sub (ls := [(3, .int rx), (0, .ref h0), (2, .int x2)]) [1] rfl h
    | 3, _, ex9 =>
      have ex9 : x2 = 3 := ex9.trans (by decide)
      replace h := h.2.2.2.1 ex9
      refine g_tableIn (tgt := 249) dX10_clause_127 (by rw [ex9]; decide) (by rw [ex9]; decide) (off := 122) (by rw [ex9]; decide) (by decide) ?_
      refine g_aload_n dX10_clause_249 rfl 0 rfl ?_
      obtain ⟨a_office, hf, h⟩ := h
      refine g_get 2 dX10_clause_250 in_X10 cl10 (by decide) q947 hf ?_
      refine g_aload_n dX10_clause_253 rfl 0 rfl ?_
      obtain ⟨a_in_20, hf, h⟩ := h
      refine g_get 1 dX10_clause_254 in_X10 cl10 (by decide) q946 hf ?_
      refine g_iconst (v := 0) dX10_clause_257 (by decide) ?_
      refine g_aload_n dX10_clause_258 rfl 0 rfl ?_
      obtain ⟨a_office_21, hf, h⟩ := h
      refine g_get 2 dX10_clause_259 in_X10 cl10 (by decide) q947 hf ?_
      obtain ⟨x_cups, hf, h⟩ := h
      refine g_getN 1 dX10_clause_262 in_X7 cl7 (by decide) q380 hf ?_
      obtain ⟨bc, hb9, h⟩ := h
      obtain ⟨⟨_, hO⟩, h⟩ := h
      refine g_callV (N := mX11_number) (st := [.ref a_office]) (As := [.int 0, .int x_cups]) (a := a_in_20) dX10_clause_265 wsX11_number (lw_V q1076 q1077 q1078 q122 q1079) rfl mokX11_number rfl cl11 (by decide) (by decide) hb9 (by simp [Value.category]) hO h (fun E q s hx => AtX.out0 rfl hx) (fun _ s1_22 hq => ?_)
      obtain ⟨rx, rfl, h⟩ := hq
      refine At.stk (st' := [.int rx, .ref a_office]) rfl ?_
      obtain ⟨fs_23, hO, hl, h⟩ := h
      refine g_putN 2 dX10_clause_268 in_X7 tyX7 tyX7_ok nmX7 cl7 (by decide) q386 rfl rfl rfl hO hl ?_
      refine g_tops (fun s1_24 es1_24 => ?_)
      replace h := h s1_24 es1_24
      refine g_aload_n dX10_clause_271 rfl 0 rfl ?_
      obtain ⟨a_office_25, hf, h⟩ := h
      refine g_get 2 dX10_clause_272 in_X10 cl10 (by decide) q947 hf ?_
      refine g_aload_n dX10_clause_275 rfl 0 rfl ?_
      obtain ⟨a_in_26, hf, h⟩ := h
      refine g_get 1 dX10_clause_276 in_X10 cl10 (by decide) q946 hf ?_
      refine g_iconst (v := 0) dX10_clause_279 (by decide) ?_
      refine g_aload_n dX10_clause_280 rfl 0 rfl ?_
      obtain ⟨a_office_27, hf, h⟩ := h
      refine g_get 2 dX10_clause_281 in_X10 cl10 (by decide) q947 hf ?_
      obtain ⟨x_cups_28, hf, h⟩ := h
      refine g_getN 1 dX10_clause_284 in_X7 cl7 (by decide) q380 hf ?_
      refine g_aload_n dX10_clause_287 rfl 0 rfl ?_
      obtain ⟨a_office_29, hf, h⟩ := h
      refine g_get 2 dX10_clause_288 in_X10 cl10 (by decide) q947 hf ?_
      obtain ⟨x_clean, hf, h⟩ := h
      refine g_getN 2 dX10_clause_291 in_X7 cl7 (by decide) q386 hf ?_
      refine g_isub dX10_clause_294 ?_
      obtain ⟨bc_30, hb9, h⟩ := h
      obtain ⟨⟨_, hO⟩, h⟩ := h
      refine g_callV (N := mX11_number) (st := [.ref a_office_25]) (As := [.int 0, .int (x_cups_28 - x_clean)]) (a := a_in_26) dX10_clause_295 wsX11_number (lw_V q1076 q1077 q1078 q122 q1079) rfl mokX11_number rfl cl11 (by decide) (by decide) hb9 (by simp [Value.category]) hO h (fun E q s hx => AtX.out0 rfl hx) (fun _ s1_31 hq => ?_)
      obtain ⟨rx_32, rfl, h⟩ := hq
      refine At.stk (st' := [.int rx_32, .ref a_office_25]) rfl ?_
      obtain ⟨fs_33, hO, hl, h⟩ := h
      refine g_putN 3 dX10_clause_298 in_X7 tyX7 tyX7_ok nmX7 cl7 (by decide) q390 rfl rfl rfl hO hl ?_
      refine g_tops (fun s1_34 es1_34 => ?_)
      replace h := h s1_34 es1_34
      refine g_goto (tgt := 422) dX10_clause_301 (by decide) ?_
      exact At.sub (ls := [(0, .ref h0), (2, .int x2)]) [0] rfl h
    | 4, _, ex9 =>
      have ex9 : x2 = 4 := ex9.trans (by decide)
      replace h := h.2.2.2.2.1 ex9
      refine g_tableIn (tgt := 304) dX10_clause_127 (by rw [ex9]; decide) (by rw [ex9]; decide) (off := 177) (by rw [ex9]; decide) (by decide) ?_
      refine g_aload_n dX10_clause_304 rfl 0 rfl ?_
      obtain ⟨a_office, hf, h⟩ := h
      refine g_get 2 dX10_clause_305 in_X10 cl10 (by decide) q947 hf ?_
      refine g_aload_n dX10_clause_308 rfl 0 rfl ?_
      obtain ⟨a_in_37, hf, h⟩ := h
      refine g_get 1 dX10_clause_309 in_X10 cl10 (by decide) q946 hf ?_
      refine g_iconst (v := 0) dX10_clause_312 (by decide) ?_
      refine g_iconst (v := 1) dX10_clause_313 (by decide) ?_
      obtain ⟨bc, hb9, h⟩ := h
      obtain ⟨⟨_, hO⟩, h⟩ := h
      refine g_callV (N := mX11_number) (st := [.ref a_office]) (As := [.int 0, .int 1]) (a := a_in_37) dX10_clause_314 wsX11_number (lw_V q1076 q1077 q1078 q122 q1079) rfl mokX11_number rfl cl11 (by decide) (by decide) hb9 (by simp [Value.category]) hO h (fun E q s hx => AtX.out0 rfl hx) (fun _ s1_38 hq => ?_)
      obtain ⟨rx, rfl, h⟩ := hq
      refine At.stk (st' := [.int rx, .ref a_office]) rfl ?_
      obtain ⟨fs_39, hO, hl, h⟩ := h
      refine g_putN 4 dX10_clause_317 in_X7 tyX7 tyX7_ok nmX7 cl7 (by decide) q394 rfl rfl rfl hO hl ?_
      refine g_tops (fun s1_40 es1_40 => ?_)
      replace h := h s1_40 es1_40
      refine g_goto (tgt := 422) dX10_clause_320 (by decide) ?_
      exact At.sub (ls := [(0, .ref h0), (2, .int x2)]) [0] rfl h
    | 5, _, ex9 =>
      have ex9 : x2 = 5 := ex9.trans (by decide)
      replace h := h.2.2.2.2.2.1 ex9
      refine g_tableIn (tgt := 323) dX10_clause_127 (by rw [ex9]; decide) (by rw [ex9]; decide) (off := 196) (by rw [ex9]; decide) (by decide) ?_
      refine g_aload_n dX10_clause_323 rfl 0 rfl ?_
      obtain ⟨a_office, hf, h⟩ := h
      refine g_get 2 dX10_clause_324 in_X10 cl10 (by decide) q947 hf ?_
      refine g_aload_n dX10_clause_327 rfl 0 rfl ?_
      obtain ⟨a_in_42, hf, h⟩ := h
      refine g_get 1 dX10_clause_328 in_X10 cl10 (by decide) q946 hf ?_
      refine g_iconst (v := 0) dX10_clause_331 (by decide) ?_
      refine g_bipush (v := 16) dX10_clause_332 (by decide) ?_
      obtain ⟨bc, hb9, h⟩ := h
      obtain ⟨⟨_, hO⟩, h⟩ := h
      refine g_callV (N := mX11_number) (st := [.ref a_office]) (As := [.int 0, .int 16]) (a := a_in_42) dX10_clause_334 wsX11_number (lw_V q1076 q1077 q1078 q122 q1079) rfl mokX11_number rfl cl11 (by decide) (by decide) hb9 (by simp [Value.category]) hO h (fun E q s hx => AtX.out0 rfl hx) (fun _ s1_43 hq => ?_)
      obtain ⟨rx, rfl, h⟩ := hq
      refine At.stk (st' := [.int rx, .ref a_office]) rfl ?_
      obtain ⟨fs_44, hO, hl, h⟩ := h
      refine g_putN 5 dX10_clause_337 in_X7 tyX7 tyX7_ok nmX7 cl7 (by decide) q398 rfl rfl rfl hO hl ?_
      refine g_tops (fun s1_45 es1_45 => ?_)
      replace h := h s1_45 es1_45
      refine g_goto (tgt := 422) dX10_clause_340 (by decide) ?_
      exact At.sub (ls := [(0, .ref h0), (2, .int x2)]) [0] rfl h
    | 6, _, ex9 =>
      have ex9 : x2 = 6 := ex9.trans (by decide)
      replace h := h.2.2.2.2.2.2.1 ex9
      refine g_tableIn (tgt := 343) dX10_clause_127 (by rw [ex9]; decide) (by rw [ex9]; decide) (off := 216) (by rw [ex9]; decide) (by decide) ?_
      refine g_aload_n dX10_clause_343 rfl 0 rfl ?_
      obtain ⟨a_office, hf, h⟩ := h
      refine g_get 2 dX10_clause_344 in_X10 cl10 (by decide) q947 hf ?_
      refine g_aload_n dX10_clause_347 rfl 0 rfl ?_
      obtain ⟨a_in_47, hf, h⟩ := h
      refine g_get 1 dX10_clause_348 in_X10 cl10 (by decide) q946 hf ?_
      refine g_iconst (v := 1) dX10_clause_351 (by decide) ?_
      refine g_bipush (v := 99) dX10_clause_352 (by decide) ?_
      obtain ⟨bc, hb9, h⟩ := h
      obtain ⟨⟨_, hO⟩, h⟩ := h
      refine g_callV (N := mX11_number) (st := [.ref a_office]) (As := [.int 1, .int 99]) (a := a_in_47) dX10_clause_354 wsX11_number (lw_V q1076 q1077 q1078 q122 q1079) rfl mokX11_number rfl cl11 (by decide) (by decide) hb9 (by simp [Value.category]) hO h (fun E q s hx => AtX.out0 rfl hx) (fun _ s1_48 hq => ?_)
      obtain ⟨rx, rfl, h⟩ := hq
      refine At.stk (st' := [.int rx, .ref a_office]) rfl ?_
      obtain ⟨fs_49, hO, hl, h⟩ := h
      refine g_putN 6 dX10_clause_357 in_X7 tyX7 tyX7_ok nmX7 cl7 (by decide) q402 rfl rfl rfl hO hl ?_
      refine g_tops (fun s1_50 es1_50 => ?_)
      replace h := h s1_50 es1_50
      refine g_goto (tgt := 422) dX10_clause_360 (by decide) ?_
      exact At.sub (ls := [(0, .ref h0), (2, .int x2)]) [0] rfl h
    | 7, _, ex9 =>
      have ex9 : x2 = 7 := ex9.trans (by decide)
      replace h := h.2.2.2.2.2.2.2 ex9
      refine g_tableIn (tgt := 363) dX10_clause_127 (by rw [ex9]; decide) (by rw [ex9]; decide) (off := 236) (by rw [ex9]; decide) (by decide) ?_
      refine g_aload_n dX10_clause_363 rfl 0 rfl ?_
      obtain ⟨a_office, hf, h⟩ := h
      refine g_get 2 dX10_clause_364 in_X10 cl10 (by decide) q947 hf ?_
      refine g_aload_n dX10_clause_367 rfl 0 rfl ?_
      obtain ⟨a_in_52, hf, h⟩ := h
      refine g_get 1 dX10_clause_368 in_X10 cl10 (by decide) q946 hf ?_
      refine g_iconst (v := 0) dX10_clause_371 (by decide) ?_
      refine g_bipush (v := 16) dX10_clause_372 (by decide) ?_
      obtain ⟨bc, hb9, h⟩ := h
      obtain ⟨⟨_, hO⟩, h⟩ := h
      refine g_callV (N := mX11_number) (st := [.ref a_office]) (As := [.int 0, .int 16]) (a := a_in_52) dX10_clause_374 wsX11_number (lw_V q1076 q1077 q1078 q122 q1079) rfl mokX11_number rfl cl11 (by decide) (by decide) hb9 (by simp [Value.category]) hO h (fun E q s hx => AtX.out0 rfl hx) (fun _ s1_53 hq => ?_)
      obtain ⟨rx, rfl, h⟩ := hq
      refine At.stk (st' := [.int rx, .ref a_office]) rfl ?_
      obtain ⟨fs_54, hO, hl, h⟩ := h
      refine g_putN 7 dX10_clause_377 in_X7 tyX7 tyX7_ok nmX7 cl7 (by decide) q407 rfl rfl rfl hO hl ?_
      refine g_tops (fun s1_55 es1_55 => ?_)
      replace h := h s1_55 es1_55
      refine g_goto (tgt := 422) dX10_clause_380 (by decide) ?_
      exact At.sub (ls := [(0, .ref h0), (2, .int x2)]) [0] rfl h
    | i9 + 8, hi9, _ => exact absurd hi9 (by omega)
set_option maxHeartbeats 4000000 in
theorem bX10_clause_385 {G : GC} {Q : Option Value → PS → Prop} {X : String → Nat → PS → Prop} {b : Nat} {h0 : Nat} {x3 : Int32} {σ : PS} (h : ∃ a_office : Nat, Fg (σ) 10 h0 2 (.ref a_office) ∧ (∃ a_price : Nat, Fg (σ) 7 a_office 0 (.ref a_price) ∧ (∃ (n : Nat) (x : (Nat → Int32) ⊕ ((Nat → Int64) ⊕ (Nat → Option Nat))), (σ) 100 a_price = some (.inr (n, x)) ∧ ((((nI n) ≤ x3) → At G mX10_clause 11 Q X b 422 [(0, .ref h0)] [] (σ)) ∧ ((¬ (nI n) ≤ x3) → ∃ a_office_1 : Nat, Fg (σ) 10 h0 2 (.ref a_office_1) ∧ (∃ a_price_2 : Nat, Fg (σ) 7 a_office_1 0 (.ref a_price_2) ∧ (∃ a_in : Nat, Fg (σ) 10 h0 1 (.ref a_in) ∧ (∃ bc : Nat, bc ≤ b ∧ (∃ fs : List Value, Ob (σ) 11 a_in fs) ∧ Call G mX11_number 10 bc [.ref a_in, .int 0, .int 99] (σ) (qI (fun rx s1 => ∃ (n_3 : Nat) (f : Nat → Int32), Ia s1 100 a_price_2 n_3 f ∧ vp_in x3 n_3 ∧ (∀ s1_4 : PS, s1_4 = up s1 100 a_price_2 (.inr (n_3, .inl (upd f x3.toNatClampNeg rx))) → ∀ v3 : Int32, v3 = x3 + 1 → At G mX10_clause 11 Q X (b - bc) 385 [(0, .ref h0), (3, .int v3)] [] s1_4))) X)))))))) : At G mX10_clause 11 Q X b 385 [(0, .ref h0), (3, .int x3)] [] (σ) := by
  refine g_iload_n dX10_clause_385 rfl 1 rfl ?_
  refine g_aload_n dX10_clause_386 rfl 0 rfl ?_
  obtain ⟨a_office, hf, h⟩ := h
  refine g_get 2 dX10_clause_387 in_X10 cl10 (by decide) q947 hf ?_
  obtain ⟨a_price, hf, h⟩ := h
  refine g_getN 0 dX10_clause_390 in_X7 cl7 (by decide) q375 hf ?_
  obtain ⟨n, x, h1, h⟩ := h
  refine g_alen (v := nI n) dX10_clause_393 0 rfl h1 rfl ?_
  refine g_icmp_ge (tgt := 422) dX10_clause_394 (by decide) (fun c => ?_) (fun c => ?_)
  · replace h := h.1 c
    exact At.sub (ls := [(0, .ref h0), (3, .int x3)]) [0] rfl h
  · replace h := h.2 c
    refine g_aload_n dX10_clause_397 rfl 0 rfl ?_
    obtain ⟨a_office_1, hf, h⟩ := h
    refine g_get 2 dX10_clause_398 in_X10 cl10 (by decide) q947 hf ?_
    obtain ⟨a_price_2, hf, h⟩ := h
    refine g_getN 0 dX10_clause_401 in_X7 cl7 (by decide) q375 hf ?_
    refine g_iload_n dX10_clause_404 rfl 1 rfl ?_
    refine g_aload_n dX10_clause_405 rfl 0 rfl ?_
    obtain ⟨a_in, hf, h⟩ := h
    refine g_get 1 dX10_clause_406 in_X10 cl10 (by decide) q946 hf ?_
    refine g_iconst (v := 0) dX10_clause_409 (by decide) ?_
    refine g_bipush (v := 99) dX10_clause_410 (by decide) ?_
    obtain ⟨bc, hb9, h⟩ := h
    obtain ⟨⟨_, hO⟩, h⟩ := h
    refine g_callV (N := mX11_number) (st := [.int x3, .ref a_price_2]) (As := [.int 0, .int 99]) (a := a_in) dX10_clause_412 wsX11_number (lw_V q1076 q1077 q1078 q122 q1079) rfl mokX11_number rfl cl11 (by decide) (by decide) hb9 (by simp [Value.category]) hO h (fun E q s hx => AtX.out0 rfl hx) (fun _ s1 hq => ?_)
    obtain ⟨rx, rfl, h⟩ := hq
    refine At.stk (st' := [.int rx, .int x3, .ref a_price_2]) rfl ?_
    obtain ⟨n_3, f, h1, h2, h⟩ := h
    refine g_iast dX10_clause_415 h1 h2 ?_
    refine g_tops (fun s1_4 es1_4 => ?_)
    replace h := h s1_4 es1_4
    obtain ⟨v3, ev3⟩ : ∃ z : Int32, z = x3 + 1 := ⟨_, rfl⟩
    refine g_iinc (v := v3) (ls1 := [(3, .int v3), (0, .ref h0)]) dX10_clause_416 1 rfl (by rw [ev3]; rfl) (by decide) rfl ?_
    replace h := h v3 ev3
    refine g_goto (tgt := 385) dX10_clause_419 (by decide) ?_
    exact At.sub (ls := [(3, .int v3), (0, .ref h0)]) [1, 0] rfl h
set_option maxHeartbeats 4000000 in
theorem bX10_clause_422 {G : GC} {Q : Option Value → PS → Prop} {X : String → Nat → PS → Prop} {b : Nat} {h0 : Nat} {σ : PS} (h : ∃ a_in : Nat, Fg (σ) 10 h0 1 (.ref a_in) ∧ (∃ bc : Nat, bc ≤ b ∧ (∃ fs : List Value, Ob (σ) 11 a_in fs) ∧ Call G mX11_sign 10 bc [.ref a_in, .int 59] (σ) (qV (fun s1 => Q none s1)) X)) : At G mX10_clause 11 Q X b 422 [(0, .ref h0)] [] (σ) := by
  refine g_aload_n dX10_clause_422 rfl 0 rfl ?_
  obtain ⟨a_in, hf, h⟩ := h
  refine g_get 1 dX10_clause_423 in_X10 cl10 (by decide) q946 hf ?_
  refine g_bipush (v := 59) dX10_clause_426 (by decide) ?_
  obtain ⟨bc, hb9, h⟩ := h
  obtain ⟨⟨_, hO⟩, h⟩ := h
  refine g_callV (N := mX11_sign) (st := []) (As := [.int 59]) (a := a_in) dX10_clause_428 wsX11_sign (lw_V q1091 q1092 q1093 q122 q1094) rfl mokX11_sign rfl cl11 (by decide) (by decide) hb9 (Nat.zero_le _) hO h (fun E q s hx => AtX.out0 rfl hx) (fun _ s1 hq => ?_)
  obtain ⟨rfl, h⟩ := hq
  refine At.stk (st' := []) rfl ?_
  exact g_vret rfl dX10_clause_431 h
theorem eX10_clause {G : GC} {Q : Option Value → PS → Prop} {X : String → Nat → PS → Prop} {b : Nat} {h0 : Nat} {σ : PS} (h : At G mX10_clause 11 Q X b 0 [(0, .ref h0)] [] σ) : Call G mX10_clause 11 b [.ref h0] σ Q X :=
  Call.of (by decide +kernel) wsX10_clause rfl (Nat.le_of_ble_eq_true rfl) (At.sub (ls := [(0, .ref h0)]) [0] rfl h)
set_option maxHeartbeats 4000000 in
theorem bX11_init_0 {G : GC} {Q : Option Value → PS → Prop} {X : String → Nat → PS → Prop} {b : Nat} {h0 : Nat} {a1 : Nat} {x2 : Int32} {σ : PS} (h : ∃ fs : List Value, Ob (σ) 11 h0 fs ∧ 0 < fs.length ∧ (∀ s1 : PS, s1 = up (σ) 11 h0 (.inl (fs.set 0 (.ref a1))) → ∃ fs_1 : List Value, Ob s1 11 h0 fs_1 ∧ 1 < fs_1.length ∧ (∀ s1_2 : PS, s1_2 = up s1 11 h0 (.inl (fs_1.set 1 (.int x2))) → Q none s1_2))) : At G mX11_init 4 Q X b 0 [(0, .ref h0), (1, .ref a1), (2, .int x2)] [] (σ) := by
  refine g_aload_n dX11_init_0 rfl 0 rfl ?_
  refine g_objInit dX11_init_1 q912 q151 q152 (by decide) (Nat.zero_le _) ?_
  refine g_aload_n dX11_init_4 rfl 0 rfl ?_
  refine g_aload_n dX11_init_5 rfl 1 rfl ?_
  obtain ⟨fs, hO, hl, h⟩ := h
  refine g_putF 0 dX11_init_6 in_X11 tyX11 tyX11_ok nmX11 cl11 (by decide) q913 rfl rfl rfl rfl rfl hO hl ?_
  refine g_tops (fun s1 es1 => ?_)
  replace h := h s1 es1
  refine g_aload_n dX11_init_9 rfl 0 rfl ?_
  refine g_iload_n dX11_init_10 rfl 2 rfl ?_
  obtain ⟨fs_1, hO, hl, h⟩ := h
  refine g_putF 1 dX11_init_11 in_X11 tyX11 tyX11_ok nmX11 cl11 (by decide) q914 rfl rfl rfl rfl rfl hO hl ?_
  refine g_tops (fun s1_2 es1_2 => ?_)
  replace h := h s1_2 es1_2
  exact g_vret rfl dX11_init_14 h
theorem eX11_init {G : GC} {Q : Option Value → PS → Prop} {X : String → Nat → PS → Prop} {b : Nat} {h0 : Nat} {p1 : Nat} {p2 : Int32} {σ : PS} (h : At G mX11_init 4 Q X b 0 [(0, .ref h0), (1, .ref p1), (2, .int p2)] [] σ) : Call G mX11_init 4 b [.ref h0, .ref p1, .int p2] σ Q X :=
  Call.of (by decide +kernel) wsX11_init rfl (Nat.le_of_ble_eq_true rfl) (At.sub (ls := [(0, .ref h0), (1, .ref p1), (2, .int p2)]) [0, 1, 2] rfl h)
set_option maxHeartbeats 4000000 in
theorem bX11_now_0 {G : GC} {Q : Option Value → PS → Prop} {X : String → Nat → PS → Prop} {b : Nat} {h0 : Nat} {σ : PS} (h : ∃ x_at : Int32, Fg (σ) 11 h0 2 (.int x_at) ∧ ((∃ fs_6 : List Value, Ob (σ) 11 h0 fs_6) ∧ CallO G mX11_byteAt 3 [.ref h0, .int x_at] (σ) (pI (fun rx => ((¬ rx = 32) → ∃ x_at_1 : Int32, Fg (σ) 11 h0 2 (.int x_at_1) ∧ ((∃ fs : List Value, Ob (σ) 11 h0 fs) ∧ CallO G mX11_byteAt 3 [.ref h0, .int x_at_1] (σ) (pI (fun rx_3 => Q (some (.int rx_3)) (σ))))) ∧ ((rx = 32) → ∃ x_at_4 : Int32, Fg (σ) 11 h0 2 (.int x_at_4) ∧ (∃ fs : List Value, Ob (σ) 11 h0 fs ∧ 2 < fs.length ∧ (∀ s1_5 : PS, s1_5 = up (σ) 11 h0 (.inl (fs.set 2 (.int (x_at_4 + 1)))) → At G mX11_now 4 Q X b 0 [(0, .ref h0)] [] s1_5))))))) : At G mX11_now 4 Q X b 0 [(0, .ref h0)] [] (σ) := by
  refine g_aload_n dX11_now_0 rfl 0 rfl ?_
  refine g_aload_n dX11_now_1 rfl 0 rfl ?_
  obtain ⟨x_at, hf, h⟩ := h
  refine g_get 2 dX11_now_2 in_X11 cl11 (by decide) q915 hf ?_
  obtain ⟨⟨_, hO⟩, h⟩ := h
  refine g_callV (N := mX11_byteAt) (st := []) (As := [.int x_at]) (a := h0) dX11_now_5 wsX11_byteAt (lw_V q971 q973 qs14 q122 q974) rfl mokX11_byteAt rfl cl11 (by decide) (by decide) (Nat.zero_le _) (Nat.zero_le _) hO h (fun E q s hx => AtX.never hx) (fun _ s1 hq => ?_)
  obtain ⟨es, hq⟩ := hq
  refine g_tops2 es ?_
  obtain ⟨rx, rfl, h⟩ := hq
  refine At.stk (st' := [.int rx]) rfl ?_
  refine g_bipush (v := 32) dX11_now_8 (by decide) ?_
  refine g_icmp_ne (tgt := 26) dX11_now_10 (by decide) (fun c => ?_) (fun c => ?_)
  · replace h := h.1 c
    refine g_aload_n dX11_now_26 rfl 0 rfl ?_
    refine g_aload_n dX11_now_27 rfl 0 rfl ?_
    obtain ⟨x_at_1, hf, h⟩ := h
    refine g_get 2 dX11_now_28 in_X11 cl11 (by decide) q915 hf ?_
    obtain ⟨⟨_, hO⟩, h⟩ := h
    refine g_callV (N := mX11_byteAt) (st := []) (As := [.int x_at_1]) (a := h0) dX11_now_31 wsX11_byteAt (lw_V q971 q973 qs14 q122 q974) rfl mokX11_byteAt rfl cl11 (by decide) (by decide) (Nat.zero_le _) (Nat.zero_le _) hO h (fun E q s hx => AtX.never hx) (fun _ s1_2 hq => ?_)
    obtain ⟨es, hq⟩ := hq
    refine g_tops2 es ?_
    obtain ⟨rx_3, rfl, h⟩ := hq
    refine At.stk (st' := [.int rx_3]) rfl ?_
    exact g_iret rfl dX11_now_34 h
  · replace h := h.2 c
    refine g_aload_n dX11_now_13 rfl 0 rfl ?_
    refine g_dup dX11_now_14 rfl ?_
    obtain ⟨x_at_4, hf, h⟩ := h
    refine g_get 2 dX11_now_15 in_X11 cl11 (by decide) q915 hf ?_
    refine g_iconst (v := 1) dX11_now_18 (by decide) ?_
    refine g_iadd dX11_now_19 ?_
    obtain ⟨fs, hO, hl, h⟩ := h
    refine g_put 2 dX11_now_20 in_X11 tyX11 tyX11_ok nmX11 cl11 (by decide) q915 rfl rfl rfl hO hl ?_
    refine g_tops (fun s1_5 es1_5 => ?_)
    replace h := h s1_5 es1_5
    refine g_goto (tgt := 0) dX11_now_23 (by decide) ?_
    exact At.sub (ls := [(0, .ref h0)]) [0] rfl h
theorem eX11_now {G : GC} {Q : Option Value → PS → Prop} {X : String → Nat → PS → Prop} {b : Nat} {h0 : Nat} {σ : PS} (h : At G mX11_now 4 Q X b 0 [(0, .ref h0)] [] σ) : Call G mX11_now 4 b [.ref h0] σ Q X :=
  Call.of (by decide +kernel) wsX11_now rfl (Nat.le_of_ble_eq_true rfl) (At.sub (ls := [(0, .ref h0)]) [0] rfl h)
set_option maxHeartbeats 4000000 in
theorem bX11_byteAt_0 {G : GC} {Q : Option Value → PS → Prop} {X : String → Nat → PS → Prop} {b : Nat} {h0 : Nat} {x1 : Int32} {σ : PS} (h : ∃ x_end : Int32, Fg (σ) 11 h0 1 (.int x_end) ∧ (((x_end ≤ x1) → Q (some (.int (-1))) (σ)) ∧ ((¬ x_end ≤ x1) → ∃ a_bytes : Nat, Fg (σ) 11 h0 0 (.ref a_bytes) ∧ (∃ (n : Nat) (f : Nat → Int32), Ia (σ) 102 a_bytes n f ∧ vp_in x1 n ∧ (∀ w : Int32, w = ((f x1.toNatClampNeg) &&& 255) → Q (some (.int w)) (σ)))))) : At G mX11_byteAt 3 Q X b 0 [(0, .ref h0), (1, .int x1)] [] (σ) := by
  refine g_iload_n dX11_byteAt_0 rfl 1 rfl ?_
  refine g_aload_n dX11_byteAt_1 rfl 0 rfl ?_
  obtain ⟨x_end, hf, h⟩ := h
  refine g_get 1 dX11_byteAt_2 in_X11 cl11 (by decide) q914 hf ?_
  refine g_icmp_ge (tgt := 21) dX11_byteAt_5 (by decide) (fun c => ?_) (fun c => ?_)
  · replace h := h.1 c
    refine g_iconst (v := (-1)) dX11_byteAt_21 (by decide) ?_
    exact g_iret rfl dX11_byteAt_22 h
  · replace h := h.2 c
    refine g_aload_n dX11_byteAt_8 rfl 0 rfl ?_
    obtain ⟨a_bytes, hf, h⟩ := h
    refine g_get 0 dX11_byteAt_9 in_X11 cl11 (by decide) q913 hf ?_
    refine g_iload_n dX11_byteAt_12 rfl 1 rfl ?_
    obtain ⟨n, f, h1, h2, h⟩ := h
    refine g_bald dX11_byteAt_13 h1 h2 ?_
    refine g_sipush (v := 255) dX11_byteAt_14 (by decide) ?_
    refine g_iand dX11_byteAt_17 ?_
    refine g_topi (fun w ew => ?_)
    replace h := h w ew
    refine g_goto (tgt := 22) dX11_byteAt_18 (by decide) ?_
    exact g_iret rfl dX11_byteAt_22 h
theorem eX11_byteAt {G : GC} {Q : Option Value → PS → Prop} {X : String → Nat → PS → Prop} {b : Nat} {h0 : Nat} {p1 : Int32} {σ : PS} (h : At G mX11_byteAt 3 Q X b 0 [(0, .ref h0), (1, .int p1)] [] σ) : Call G mX11_byteAt 3 b [.ref h0, .int p1] σ Q X :=
  Call.of (by decide +kernel) wsX11_byteAt rfl (Nat.le_of_ble_eq_true rfl) (At.sub (ls := [(0, .ref h0), (1, .int p1)]) [0, 1] rfl h)
set_option maxHeartbeats 4000000 in
theorem bX11_place_0 {G : GC} {Q : Option Value → PS → Prop} {X : String → Nat → PS → Prop} {b : Nat} {h0 : Nat} {σ : PS} (h : (∃ fs : List Value, Ob (σ) 11 h0 fs) ∧ Call G mX11_now 4 0 [.ref h0] (σ) (qI (fun rx s1 => ∃ x_at : Int32, Fg s1 11 h0 2 (.int x_at) ∧ (Q (some (.int x_at)) s1))) X) : At G mX11_place 5 Q X b 0 [(0, .ref h0)] [] (σ) := by
  refine g_aload_n dX11_place_0 rfl 0 rfl ?_
  obtain ⟨⟨_, hO⟩, h⟩ := h
  refine g_callV (N := mX11_now) (st := []) (As := []) (a := h0) dX11_place_1 wsX11_now (lw_V q983 q968 q969 q122 q970) rfl mokX11_now rfl cl11 (by decide) (by decide) (Nat.zero_le _) (Nat.zero_le _) hO h (fun E q s hx => AtX.out0 rfl hx) (fun _ s1 hq => ?_)
  obtain ⟨rx, rfl, h⟩ := hq
  refine At.stk (st' := [.int rx]) rfl ?_
  refine g_pop dX11_place_4 rfl ?_
  refine g_aload_n dX11_place_5 rfl 0 rfl ?_
  obtain ⟨x_at, hf, h⟩ := h
  refine g_get 2 dX11_place_6 in_X11 cl11 (by decide) q915 hf ?_
  exact g_iret rfl dX11_place_9 h
theorem eX11_place {G : GC} {Q : Option Value → PS → Prop} {X : String → Nat → PS → Prop} {b : Nat} {h0 : Nat} {σ : PS} (h : At G mX11_place 5 Q X b 0 [(0, .ref h0)] [] σ) : Call G mX11_place 5 b [.ref h0] σ Q X :=
  Call.of (by decide +kernel) wsX11_place rfl (Nat.le_of_ble_eq_true rfl) (At.sub (ls := [(0, .ref h0)]) [0] rfl h)
set_option maxHeartbeats 4000000 in
theorem bX11_which_0 {G : GC} {Q : Option Value → PS → Prop} {X : String → Nat → PS → Prop} {b : Nat} {h0 : Nat} {a1 : Nat} {σ : PS} (h : At G mX11_which 8 Q X b 2 [(0, .ref h0), (1, .ref a1), (2, .int 0)] [] (σ)) : At G mX11_which 8 Q X b 0 [(0, .ref h0), (1, .ref a1)] [] (σ) := by
  refine g_iconst (v := 0) dX11_which_0 (by decide) ?_
  refine g_istore_n (ls1 := [(2, .int 0), (0, .ref h0), (1, .ref a1)]) dX11_which_1 rfl (by decide) rfl ?_
  exact At.sub (ls := [(2, .int 0), (0, .ref h0), (1, .ref a1)]) [1, 2, 0] rfl h
set_option maxHeartbeats 4000000 in
theorem bX11_which_2 {G : GC} {Q : Option Value → PS → Prop} {X : String → Nat → PS → Prop} {b : Nat} {h0 : Nat} {a1 : Nat} {x2 : Int32} {σ : PS} (h : ∃ (n : Nat) (x : (Nat → Int32) ⊕ ((Nat → Int64) ⊕ (Nat → Option Nat))), (σ) 107 a1 = some (.inr (n, x)) ∧ ((((nI n) ≤ x2) → Q (some (.int (-1))) (σ)) ∧ ((¬ (nI n) ≤ x2) → ∃ (n_1 : Nat) (f : Nat → Option Nat) (y : Nat), Qa (σ) 107 a1 n_1 f ∧ vp_in x2 n_1 ∧ (f x2.toNatClampNeg) = some y ∧ ((∃ fs : List Value, Ob (σ) 11 h0 fs) ∧ Call G mX11_isWord 7 0 [.ref h0, .ref y] (σ) (qI (fun rx s1 => ((rx = 0) → ∀ v2 : Int32, v2 = x2 + 1 → At G mX11_which 8 Q X b 2 [(0, .ref h0), (1, .ref a1), (2, .int v2)] [] s1) ∧ ((¬ rx = 0) → Q (some (.int x2)) s1))) X)))) : At G mX11_which 8 Q X b 2 [(0, .ref h0), (1, .ref a1), (2, .int x2)] [] (σ) := by
  refine g_iload_n dX11_which_2 rfl 2 rfl ?_
  refine g_aload_n dX11_which_3 rfl 1 rfl ?_
  obtain ⟨n, x, h1, h⟩ := h
  refine g_alen (v := nI n) dX11_which_4 7 rfl h1 rfl ?_
  refine g_icmp_ge (tgt := 26) dX11_which_5 (by decide) (fun c => ?_) (fun c => ?_)
  · replace h := h.1 c
    refine g_iconst (v := (-1)) dX11_which_26 (by decide) ?_
    exact g_iret rfl dX11_which_27 h
  · replace h := h.2 c
    refine g_aload_n dX11_which_8 rfl 0 rfl ?_
    refine g_aload_n dX11_which_9 rfl 1 rfl ?_
    refine g_iload_n dX11_which_10 rfl 2 rfl ?_
    obtain ⟨n_1, f, y, h1, h2, h3, h⟩ := h
    refine g_aald (t0 := 7) dX11_which_11 rfl rfl h1 h2 ?_
    rw [h3]
    refine At.stk (st' := [.ref y, .ref h0]) rfl ?_
    obtain ⟨⟨_, hO⟩, h⟩ := h
    refine g_callV (N := mX11_isWord) (st := []) (As := [.ref y]) (a := h0) dX11_which_12 wsX11_isWord (lw_V q988 q989 q990 q122 q991) rfl mokX11_isWord rfl cl11 (by decide) (by decide) (Nat.zero_le _) (Nat.zero_le _) hO h (fun E q s hx => AtX.out0 rfl hx) (fun _ s1 hq => ?_)
    obtain ⟨rx, rfl, h⟩ := hq
    refine At.stk (st' := [.int rx]) rfl ?_
    refine g_if_eq (tgt := 20) dX11_which_15 (by decide) (fun c => ?_) (fun c => ?_)
    · replace h := h.1 c
      obtain ⟨v2, ev2⟩ : ∃ z : Int32, z = x2 + 1 := ⟨_, rfl⟩
      refine g_iinc (v := v2) (ls1 := [(2, .int v2), (0, .ref h0), (1, .ref a1)]) dX11_which_20 2 rfl (by rw [ev2]; rfl) (by decide) rfl ?_
      replace h := h v2 ev2
      refine g_goto (tgt := 2) dX11_which_23 (by decide) ?_
      exact At.sub (ls := [(2, .int v2), (0, .ref h0), (1, .ref a1)]) [1, 2, 0] rfl h
    · replace h := h.2 c
      refine g_iload_n dX11_which_18 rfl 2 rfl ?_
      exact g_iret rfl dX11_which_19 h
theorem eX11_which {G : GC} {Q : Option Value → PS → Prop} {X : String → Nat → PS → Prop} {b : Nat} {h0 : Nat} {p1 : Nat} {σ : PS} (h : At G mX11_which 8 Q X b 0 [(0, .ref h0), (1, .ref p1)] [] σ) : Call G mX11_which 8 b [.ref h0, .ref p1] σ Q X :=
  Call.of (by decide +kernel) wsX11_which rfl (Nat.le_of_ble_eq_true rfl) (At.sub (ls := [(0, .ref h0), (1, .ref p1)]) [0, 1] rfl h)
set_option maxHeartbeats 4000000 in
theorem bX11_isWord_0 {G : GC} {Q : Option Value → PS → Prop} {X : String → Nat → PS → Prop} {b : Nat} {h0 : Nat} {a1 : Nat} {σ : PS} (h : (∃ fs : List Value, Ob (σ) 11 h0 fs) ∧ Call G mX11_place 5 0 [.ref h0] (σ) (qI (fun rx s1 => At G mX11_isWord 7 Q X b 7 [(0, .ref h0), (1, .ref a1), (2, .int rx), (3, .int 0)] [] s1)) X) : At G mX11_isWord 7 Q X b 0 [(0, .ref h0), (1, .ref a1)] [] (σ) := by
  refine g_aload_n dX11_isWord_0 rfl 0 rfl ?_
  obtain ⟨⟨_, hO⟩, h⟩ := h
  refine g_callV (N := mX11_place) (st := []) (As := []) (a := h0) dX11_isWord_1 wsX11_place (lw_V q992 q980 q981 q122 q982) rfl mokX11_place rfl cl11 (by decide) (by decide) (Nat.zero_le _) (Nat.zero_le _) hO h (fun E q s hx => AtX.out0 rfl hx) (fun _ s1 hq => ?_)
  obtain ⟨rx, rfl, h⟩ := hq
  refine At.stk (st' := [.int rx]) rfl ?_
  refine g_istore_n (ls1 := [(2, .int rx), (0, .ref h0), (1, .ref a1)]) dX11_isWord_4 rfl (by decide) rfl ?_
  refine g_iconst (v := 0) dX11_isWord_5 (by decide) ?_
  refine g_istore_n (ls1 := [(3, .int 0), (2, .int rx), (0, .ref h0), (1, .ref a1)]) dX11_isWord_6 rfl (by decide) rfl ?_
  exact At.sub (ls := [(3, .int 0), (2, .int rx), (0, .ref h0), (1, .ref a1)]) [2, 3, 1, 0] rfl h
set_option maxHeartbeats 4000000 in
theorem bX11_isWord_7 {G : GC} {Q : Option Value → PS → Prop} {X : String → Nat → PS → Prop} {b : Nat} {h0 : Nat} {a1 : Nat} {x2 : Int32} {x3 : Int32} {σ : PS} (h : (∃ fs : List Value, Ob (σ) 11 h0 fs) ∧ CallO G mX11_byteAt 3 [.ref h0, .int (x2 + x3)] (σ) (pI (fun rx => CallO G mX11_isSmall 3 [.int rx] (σ) (pI (fun rx_2 => ((rx_2 = 0) → ∃ (i : Nat) (q : String × Nat × String × List Int32), a1 = gk G i ∧ strTab[i]? = some q ∧ (((x3 = (nI q.2.2.2.length)) → At G mX11_isWord 7 Q X b 39 [(0, .ref h0), (1, .ref a1), (2, .int x2), (3, .int x3), (4, .int 0)] [] (σ)) ∧ ((¬ x3 = (nI q.2.2.2.length)) → Q (some (.int 0)) (σ)))) ∧ ((¬ rx_2 = 0) → ∀ v3 : Int32, v3 = x3 + 1 → At G mX11_isWord 7 Q X b 7 [(0, .ref h0), (1, .ref a1), (2, .int x2), (3, .int v3)] [] (σ))))))) : At G mX11_isWord 7 Q X b 7 [(0, .ref h0), (1, .ref a1), (2, .int x2), (3, .int x3)] [] (σ) := by
  refine g_aload_n dX11_isWord_7 rfl 0 rfl ?_
  refine g_iload_n dX11_isWord_8 rfl 2 rfl ?_
  refine g_iload_n dX11_isWord_9 rfl 3 rfl ?_
  refine g_iadd dX11_isWord_10 ?_
  obtain ⟨⟨_, hO⟩, h⟩ := h
  refine g_callV (N := mX11_byteAt) (st := []) (As := [.int (x2 + x3)]) (a := h0) dX11_isWord_11 wsX11_byteAt (lw_V q971 q973 qs14 q122 q974) rfl mokX11_byteAt rfl cl11 (by decide) (by decide) (Nat.zero_le _) (Nat.zero_le _) hO h (fun E q s hx => AtX.never hx) (fun _ s1 hq => ?_)
  obtain ⟨es, hq⟩ := hq
  refine g_tops2 es ?_
  obtain ⟨rx, rfl, h⟩ := hq
  refine At.stk (st' := [.int rx]) rfl ?_
  refine g_callS (N := mX11_isSmall) (st := []) (As := [.int rx]) dX11_isWord_14 wsX11_isSmall (lw_S q993 q994 q122 q995) mokX11_isSmall rfl (by decide) (by decide) (Nat.zero_le _) (Nat.zero_le _) h (fun E q s hx => AtX.never hx) (fun _ s1_1 hq => ?_)
  obtain ⟨es, hq⟩ := hq
  refine g_tops2 es ?_
  obtain ⟨rx_2, rfl, h⟩ := hq
  refine At.stk (st' := [.int rx_2]) rfl ?_
  refine g_if_eq (tgt := 26) dX11_isWord_17 (by decide) (fun c => ?_) (fun c => ?_)
  · replace h := h.1 c
    refine g_iload_n dX11_isWord_26 rfl 3 rfl ?_
    refine g_aload_n dX11_isWord_27 rfl 1 rfl ?_
    obtain ⟨i, q, h1, h2, h⟩ := h
    refine At.stk (st' := [.ref (gk G i), .int x3]) (by rw [h1]) ?_
    refine g_callStr (N := mJ4_length) (st := [.int x3]) (As := []) dX11_isWord_28 wsJ4_length (lw_V q996 q997 q998 q123 q999) rfl mokJ4_length rfl h2 (by decide) (by decide) (by simp [Value.category]) (strlen_call h2) (fun _ s9 hq => ?_)
    obtain ⟨es, rfl⟩ := hq
    refine g_tops2 es ?_
    refine At.stk (st' := [.int (nI q.2.2.2.length), .int x3]) rfl ?_
    refine g_icmp_eq (tgt := 36) dX11_isWord_31 (by decide) (fun c => ?_) (fun c => ?_)
    · replace h := h.1 c
      refine g_iconst (v := 0) dX11_isWord_36 (by decide) ?_
      refine g_istore (ls1 := [(4, .int 0), (0, .ref h0), (1, .ref a1), (2, .int x2), (3, .int x3)]) dX11_isWord_37 (by decide) rfl ?_
      exact At.sub (ls := [(4, .int 0), (0, .ref h0), (1, .ref a1), (2, .int x2), (3, .int x3)]) [1, 2, 3, 4, 0] rfl h
    · replace h := h.2 c
      refine g_iconst (v := 0) dX11_isWord_34 (by decide) ?_
      exact g_zret rfl rfl dX11_isWord_35 h
  · replace h := h.2 c
    obtain ⟨v3, ev3⟩ : ∃ z : Int32, z = x3 + 1 := ⟨_, rfl⟩
    refine g_iinc (v := v3) (ls1 := [(3, .int v3), (0, .ref h0), (1, .ref a1), (2, .int x2)]) dX11_isWord_20 3 rfl (by rw [ev3]; rfl) (by decide) rfl ?_
    replace h := h v3 ev3
    refine g_goto (tgt := 7) dX11_isWord_23 (by decide) ?_
    exact At.sub (ls := [(3, .int v3), (0, .ref h0), (1, .ref a1), (2, .int x2)]) [1, 2, 3, 0] rfl h
set_option maxHeartbeats 4000000 in
theorem bX11_isWord_39 {G : GC} {Q : Option Value → PS → Prop} {X : String → Nat → PS → Prop} {b : Nat} {h0 : Nat} {a1 : Nat} {x2 : Int32} {x3 : Int32} {x4 : Int32} {σ : PS} (h : ((x3 ≤ x4) → Q (some (.int 1)) (σ)) ∧ ((¬ x3 ≤ x4) → (∃ fs : List Value, Ob (σ) 11 h0 fs) ∧ CallO G mX11_byteAt 3 [.ref h0, .int (x2 + x4)] (σ) (pI (fun rx => ∃ (i : Nat) (q : String × Nat × String × List Int32) (j : Nat), a1 = gk G i ∧ strTab[i]? = some q ∧ x4 = nI j ∧ j < q.2.2.2.length ∧ (((rx = (q.2.2.2.getD j 0)) → ∀ v4 : Int32, v4 = x4 + 1 → At G mX11_isWord 7 Q X b 39 [(0, .ref h0), (1, .ref a1), (2, .int x2), (3, .int x3), (4, .int v4)] [] (σ)) ∧ ((¬ rx = (q.2.2.2.getD j 0)) → Q (some (.int 0)) (σ))))))) : At G mX11_isWord 7 Q X b 39 [(0, .ref h0), (1, .ref a1), (2, .int x2), (3, .int x3), (4, .int x4)] [] (σ) := by
  refine g_iload dX11_isWord_39 4 rfl ?_
  refine g_iload_n dX11_isWord_41 rfl 3 rfl ?_
  refine g_icmp_ge (tgt := 70) dX11_isWord_42 (by decide) (fun c => ?_) (fun c => ?_)
  · replace h := h.1 c
    refine g_iconst (v := 1) dX11_isWord_70 (by decide) ?_
    exact g_zret rfl rfl dX11_isWord_71 h
  · replace h := h.2 c
    refine g_aload_n dX11_isWord_45 rfl 0 rfl ?_
    refine g_iload_n dX11_isWord_46 rfl 2 rfl ?_
    refine g_iload dX11_isWord_47 4 rfl ?_
    refine g_iadd dX11_isWord_49 ?_
    obtain ⟨⟨_, hO⟩, h⟩ := h
    refine g_callV (N := mX11_byteAt) (st := []) (As := [.int (x2 + x4)]) (a := h0) dX11_isWord_50 wsX11_byteAt (lw_V q971 q973 qs14 q122 q974) rfl mokX11_byteAt rfl cl11 (by decide) (by decide) (Nat.zero_le _) (Nat.zero_le _) hO h (fun E q s hx => AtX.never hx) (fun _ s1 hq => ?_)
    obtain ⟨es, hq⟩ := hq
    refine g_tops2 es ?_
    obtain ⟨rx, rfl, h⟩ := hq
    refine At.stk (st' := [.int rx]) rfl ?_
    refine g_aload_n dX11_isWord_53 rfl 1 rfl ?_
    refine g_iload dX11_isWord_54 4 rfl ?_
    obtain ⟨i, q, j, h1, h2, h3, h4, h⟩ := h
    refine At.stk (st' := [.int (nI j), .ref (gk G i), .int rx]) (by rw [h1, h3]) ?_
    refine g_callStr (N := mJ4_charAt) (st := [.int rx]) (As := [.int (nI j)]) dX11_isWord_56 wsJ4_charAt (lw_V q1006 q1007 q1008 q123 q1009) rfl mokJ4_charAt rfl h2 (by decide) (by decide) (by simp [Value.category]) (charAt_call h2 h4) (fun _ s9 hq => ?_)
    obtain ⟨es, rfl⟩ := hq
    refine g_tops2 es ?_
    refine At.stk (st' := [.int (q.2.2.2.getD j 0), .int rx]) rfl ?_
    refine g_icmp_eq (tgt := 64) dX11_isWord_59 (by decide) (fun c => ?_) (fun c => ?_)
    · replace h := h.1 c
      obtain ⟨v4, ev4⟩ : ∃ z : Int32, z = x4 + 1 := ⟨_, rfl⟩
      refine g_iinc (v := v4) (ls1 := [(4, .int v4), (0, .ref h0), (1, .ref a1), (2, .int x2), (3, .int x3)]) dX11_isWord_64 4 rfl (by rw [ev4]; rfl) (by decide) rfl ?_
      replace h := h v4 ev4
      refine g_goto (tgt := 39) dX11_isWord_67 (by decide) ?_
      exact At.sub (ls := [(4, .int v4), (0, .ref h0), (1, .ref a1), (2, .int x2), (3, .int x3)]) [1, 2, 3, 4, 0] rfl h
    · replace h := h.2 c
      refine g_iconst (v := 0) dX11_isWord_62 (by decide) ?_
      exact g_zret rfl rfl dX11_isWord_63 h
theorem eX11_isWord {G : GC} {Q : Option Value → PS → Prop} {X : String → Nat → PS → Prop} {b : Nat} {h0 : Nat} {p1 : Nat} {σ : PS} (h : At G mX11_isWord 7 Q X b 0 [(0, .ref h0), (1, .ref p1)] [] σ) : Call G mX11_isWord 7 b [.ref h0, .ref p1] σ Q X :=
  Call.of (by decide +kernel) wsX11_isWord rfl (Nat.le_of_ble_eq_true rfl) (At.sub (ls := [(0, .ref h0), (1, .ref p1)]) [0, 1] rfl h)
set_option maxHeartbeats 4000000 in
theorem bX11_isSmall_0 {G : GC} {Q : Option Value → PS → Prop} {X : String → Nat → PS → Prop} {b : Nat} {x0 : Int32} {σ : PS} (h : ((x0 < 97) → Q (some (.int 0)) (σ)) ∧ ((¬ x0 < 97) → ((122 < x0) → Q (some (.int 0)) (σ)) ∧ ((¬ 122 < x0) → Q (some (.int 1)) (σ)))) : At G mX11_isSmall 3 Q X b 0 [(0, .int x0)] [] (σ) := by
  refine g_iload_n dX11_isSmall_0 rfl 0 rfl ?_
  refine g_bipush (v := 97) dX11_isSmall_1 (by decide) ?_
  refine g_icmp_lt (tgt := 16) dX11_isSmall_3 (by decide) (fun c => ?_) (fun c => ?_)
  · replace h := h.1 c
    refine g_iconst (v := 0) dX11_isSmall_16 (by decide) ?_
    exact g_zret rfl rfl dX11_isSmall_17 h
  · replace h := h.2 c
    refine g_iload_n dX11_isSmall_6 rfl 0 rfl ?_
    refine g_bipush (v := 122) dX11_isSmall_7 (by decide) ?_
    refine g_icmp_gt (tgt := 16) dX11_isSmall_9 (by decide) (fun c => ?_) (fun c => ?_)
    · replace h := h.1 c
      refine g_iconst (v := 0) dX11_isSmall_16 (by decide) ?_
      exact g_zret rfl rfl dX11_isSmall_17 h
    · replace h := h.2 c
      refine g_iconst (v := 1) dX11_isSmall_12 (by decide) ?_
      refine g_goto (tgt := 17) dX11_isSmall_13 (by decide) ?_
      exact g_zret rfl rfl dX11_isSmall_17 h
theorem eX11_isSmall {G : GC} {Q : Option Value → PS → Prop} {X : String → Nat → PS → Prop} {b : Nat} {p0 : Int32} {σ : PS} (h : At G mX11_isSmall 3 Q X b 0 [(0, .int p0)] [] σ) : Call G mX11_isSmall 3 b [.int p0] σ Q X :=
  Call.of (by decide +kernel) wsX11_isSmall rfl (Nat.le_of_ble_eq_true rfl) (At.sub (ls := [(0, .int p0)]) [0] rfl h)
set_option maxHeartbeats 4000000 in
theorem bX11_skipsWord_0 {G : GC} {Q : Option Value → PS → Prop} {X : String → Nat → PS → Prop} {b : Nat} {h0 : Nat} {σ : PS} (h : ∃ x_at : Int32, Fg (σ) 11 h0 2 (.int x_at) ∧ ((∃ fs_5 : List Value, Ob (σ) 11 h0 fs_5) ∧ CallO G mX11_byteAt 3 [.ref h0, .int x_at] (σ) (pI (fun rx => CallO G mX11_isSmall 3 [.int rx] (σ) (pI (fun rx_2 => ((rx_2 = 0) → Q none (σ)) ∧ ((¬ rx_2 = 0) → ∃ x_at_3 : Int32, Fg (σ) 11 h0 2 (.int x_at_3) ∧ (∃ fs : List Value, Ob (σ) 11 h0 fs ∧ 2 < fs.length ∧ (∀ s1_4 : PS, s1_4 = up (σ) 11 h0 (.inl (fs.set 2 (.int (x_at_3 + 1)))) → At G mX11_skipsWord 4 Q X b 0 [(0, .ref h0)] [] s1_4))))))))) : At G mX11_skipsWord 4 Q X b 0 [(0, .ref h0)] [] (σ) := by
  refine g_aload_n dX11_skipsWord_0 rfl 0 rfl ?_
  refine g_aload_n dX11_skipsWord_1 rfl 0 rfl ?_
  obtain ⟨x_at, hf, h⟩ := h
  refine g_get 2 dX11_skipsWord_2 in_X11 cl11 (by decide) q915 hf ?_
  obtain ⟨⟨_, hO⟩, h⟩ := h
  refine g_callV (N := mX11_byteAt) (st := []) (As := [.int x_at]) (a := h0) dX11_skipsWord_5 wsX11_byteAt (lw_V q971 q973 qs14 q122 q974) rfl mokX11_byteAt rfl cl11 (by decide) (by decide) (Nat.zero_le _) (Nat.zero_le _) hO h (fun E q s hx => AtX.never hx) (fun _ s1 hq => ?_)
  obtain ⟨es, hq⟩ := hq
  refine g_tops2 es ?_
  obtain ⟨rx, rfl, h⟩ := hq
  refine At.stk (st' := [.int rx]) rfl ?_
  refine g_callS (N := mX11_isSmall) (st := []) (As := [.int rx]) dX11_skipsWord_8 wsX11_isSmall (lw_S q993 q994 q122 q995) mokX11_isSmall rfl (by decide) (by decide) (Nat.zero_le _) (Nat.zero_le _) h (fun E q s hx => AtX.never hx) (fun _ s1_1 hq => ?_)
  obtain ⟨es, hq⟩ := hq
  refine g_tops2 es ?_
  obtain ⟨rx_2, rfl, h⟩ := hq
  refine At.stk (st' := [.int rx_2]) rfl ?_
  refine g_if_eq (tgt := 27) dX11_skipsWord_11 (by decide) (fun c => ?_) (fun c => ?_)
  · replace h := h.1 c
    exact g_vret rfl dX11_skipsWord_27 h
  · replace h := h.2 c
    refine g_aload_n dX11_skipsWord_14 rfl 0 rfl ?_
    refine g_dup dX11_skipsWord_15 rfl ?_
    obtain ⟨x_at_3, hf, h⟩ := h
    refine g_get 2 dX11_skipsWord_16 in_X11 cl11 (by decide) q915 hf ?_
    refine g_iconst (v := 1) dX11_skipsWord_19 (by decide) ?_
    refine g_iadd dX11_skipsWord_20 ?_
    obtain ⟨fs, hO, hl, h⟩ := h
    refine g_put 2 dX11_skipsWord_21 in_X11 tyX11 tyX11_ok nmX11 cl11 (by decide) q915 rfl rfl rfl hO hl ?_
    refine g_tops (fun s1_4 es1_4 => ?_)
    replace h := h s1_4 es1_4
    refine g_goto (tgt := 0) dX11_skipsWord_24 (by decide) ?_
    exact At.sub (ls := [(0, .ref h0)]) [0] rfl h
theorem eX11_skipsWord {G : GC} {Q : Option Value → PS → Prop} {X : String → Nat → PS → Prop} {b : Nat} {h0 : Nat} {σ : PS} (h : At G mX11_skipsWord 4 Q X b 0 [(0, .ref h0)] [] σ) : Call G mX11_skipsWord 4 b [.ref h0] σ Q X :=
  Call.of (by decide +kernel) wsX11_skipsWord rfl (Nat.le_of_ble_eq_true rfl) (At.sub (ls := [(0, .ref h0)]) [0] rfl h)
set_option maxHeartbeats 4000000 in
theorem bX11_number_0 {G : GC} {Q : Option Value → PS → Prop} {X : String → Nat → PS → Prop} {b : Nat} {h0 : Nat} {x1 : Int32} {x2 : Int32} {σ : PS} (h : (∃ fs_9 : List Value, Ob (σ) 11 h0 fs_9) ∧ Call G mX11_place 5 0 [.ref h0] (σ) (qI (fun rx s1 => ∃ x_at : Int32, Fg s1 11 h0 2 (.int x_at) ∧ ((∃ fs_8 : List Value, Ob s1 11 h0 fs_8) ∧ CallO G mX11_byteAt 3 [.ref h0, .int x_at] s1 (pI (fun rx_2 => CallO G mX11_isDigit 3 [.int rx_2] s1 (pI (fun rx_4 => ((¬ rx_4 = 0) → At G mX11_number 10 Q X b 35 [(0, .ref h0), (1, .int x1), (2, .int x2), (3, .int rx), (4, .int 0)] [] s1) ∧ ((rx_4 = 0) → 1 ≤ b ∧ (∀ q : Nat, (∀ κ, s1 κ q = none) → (∀ s1_5 : PS, s1_5 = up s1 12 q (.inl [.null, .null, .null, .null, .null, .int 0, .int 0, .int 0]) → ∃ x_at_6 : Int32, Fg s1_5 11 h0 2 (.int x_at_6) ∧ (Call G mX12_init 6 0 [.ref q, .int 1, .int x_at_6] s1_5 (qV (fun s1_7 => ∃ fs : List Value, Ob s1_7 12 q fs ∧ X "CardCups$Wrong" q s1_7)) X))))))))))) X) : At G mX11_number 10 Q X b 0 [(0, .ref h0), (1, .int x1), (2, .int x2)] [] (σ) := by
  refine g_aload_n dX11_number_0 rfl 0 rfl ?_
  obtain ⟨⟨_, hO⟩, h⟩ := h
  refine g_callV (N := mX11_place) (st := []) (As := []) (a := h0) dX11_number_1 wsX11_place (lw_V q992 q980 q981 q122 q982) rfl mokX11_place rfl cl11 (by decide) (by decide) (Nat.zero_le _) (Nat.zero_le _) hO h (fun E q s hx => AtX.out0 rfl hx) (fun _ s1 hq => ?_)
  obtain ⟨rx, rfl, h⟩ := hq
  refine At.stk (st' := [.int rx]) rfl ?_
  refine g_istore_n (ls1 := [(3, .int rx), (0, .ref h0), (1, .int x1), (2, .int x2)]) dX11_number_4 rfl (by decide) rfl ?_
  refine g_iconst (v := 0) dX11_number_5 (by decide) ?_
  refine g_istore (ls1 := [(4, .int 0), (3, .int rx), (0, .ref h0), (1, .int x1), (2, .int x2)]) dX11_number_6 (by decide) rfl ?_
  refine g_aload_n dX11_number_8 rfl 2 rfl ?_
  refine g_aload_n dX11_number_9 rfl 2 rfl ?_
  obtain ⟨x_at, hf, h⟩ := h
  refine g_get 2 dX11_number_10 in_X11 cl11 (by decide) q915 hf ?_
  obtain ⟨⟨_, hO⟩, h⟩ := h
  refine g_callV (N := mX11_byteAt) (st := []) (As := [.int x_at]) (a := h0) dX11_number_13 wsX11_byteAt (lw_V q971 q973 qs14 q122 q974) rfl mokX11_byteAt rfl cl11 (by decide) (by decide) (Nat.zero_le _) (Nat.zero_le _) hO h (fun E q s hx => AtX.never hx) (fun _ s1_1 hq => ?_)
  obtain ⟨es, hq⟩ := hq
  refine g_tops2 es ?_
  obtain ⟨rx_2, rfl, h⟩ := hq
  refine At.stk (st' := [.int rx_2]) rfl ?_
  refine g_callS (N := mX11_isDigit) (st := []) (As := [.int rx_2]) dX11_number_16 wsX11_isDigit (lw_S q1080 q1081 q122 q1082) mokX11_isDigit rfl (by decide) (by decide) (Nat.zero_le _) (Nat.zero_le _) h (fun E q s hx => AtX.never hx) (fun _ s1_3 hq => ?_)
  obtain ⟨es, hq⟩ := hq
  refine g_tops2 es ?_
  obtain ⟨rx_4, rfl, h⟩ := hq
  refine At.stk (st' := [.int rx_4]) rfl ?_
  refine g_if_ne (tgt := 35) dX11_number_19 (by decide) (fun c => ?_) (fun c => ?_)
  · replace h := h.1 c
    exact At.sub (ls := [(4, .int 0), (3, .int rx), (0, .ref h0), (1, .int x1), (2, .int x2)]) [2, 3, 4, 1, 0] rfl h
  · replace h := h.2 c
    obtain ⟨hb, h⟩ := h
    refine g_new (ci := 12) (fs := [.null, .null, .null, .null, .null, .int 0, .int 0, .int 0]) 1 dX11_number_22 in_X12 tyX12 tyX12_ok cl12 q1083 q1045 q127 new12 (by decide) (by decide) hb (fun q hq => ?_)
    replace h := h q hq
    refine g_tops (fun s1_5 es1_5 => ?_)
    replace h := h s1_5 es1_5
    refine g_dup dX11_number_25 rfl ?_
    refine g_iconst (v := 1) dX11_number_26 (by decide) ?_
    refine g_aload_n dX11_number_27 rfl 2 rfl ?_
    obtain ⟨x_at_6, hf, h⟩ := h
    refine g_get 2 dX11_number_28 in_X11 cl11 (by decide) q915 hf ?_
    refine g_callI (N := mX12_init) (st := [.ref q]) (As := [.int 1, .int x_at_6]) (a := q) dX11_number_31 wsX12_init q1055 q127 q1084 q1054 rfl mokX12_init rfl (by decide) (by decide) (Nat.zero_le _) (by simp [Value.category]) h (fun E q s hx => AtX.out0 rfl hx) (fun _ s1_7 hq => ?_)
    obtain ⟨rfl, h⟩ := hq
    refine At.stk (st' := [.ref q]) rfl ?_
    obtain ⟨fs, hO, h⟩ := h
    exact g_athrow dX11_number_34 cl12 rfl hO (AtX.out0 rfl h)
set_option maxHeartbeats 4000000 in
theorem bX11_number_35 {G : GC} {Q : Option Value → PS → Prop} {X : String → Nat → PS → Prop} {b : Nat} {h0 : Nat} {x1 : Int32} {x2 : Int32} {x3 : Int32} {x4 : Int32} {σ : PS} (h : ∃ x_at : Int32, Fg (σ) 11 h0 2 (.int x_at) ∧ ((∃ fs_13 : List Value, Ob (σ) 11 h0 fs_13) ∧ CallO G mX11_byteAt 3 [.ref h0, .int x_at] (σ) (pI (fun rx => CallO G mX11_isDigit 3 [.int rx] (σ) (pI (fun rx_2 => ((rx_2 = 0) → ((x4 < x1) → 1 ≤ b ∧ (∀ q : Nat, (∀ κ, σ κ q = none) → (∀ s1_3 : PS, s1_3 = up (σ) 12 q (.inl [.null, .null, .null, .null, .null, .int 0, .int 0, .int 0]) → Call G mX12_init 6 0 [.ref q, .int 2, .int x3] s1_3 (qV (fun s1_4 => ∃ fs : List Value, Ob s1_4 12 q fs ∧ X "CardCups$Wrong" q s1_4)) X))) ∧ ((¬ x4 < x1) → ((x4 ≤ x2) → Q (some (.int x4)) (σ)) ∧ ((¬ x4 ≤ x2) → 1 ≤ b ∧ (∀ q : Nat, (∀ κ, σ κ q = none) → (∀ s1_5 : PS, s1_5 = up (σ) 12 q (.inl [.null, .null, .null, .null, .null, .int 0, .int 0, .int 0]) → Call G mX12_init 6 0 [.ref q, .int 2, .int x3] s1_5 (qV (fun s1_6 => ∃ fs : List Value, Ob s1_6 12 q fs ∧ X "CardCups$Wrong" q s1_6)) X))))) ∧ ((¬ rx_2 = 0) → ∃ x_at_7 : Int32, Fg (σ) 11 h0 2 (.int x_at_7) ∧ ((∃ fs_12 : List Value, Ob (σ) 11 h0 fs_12) ∧ CallO G mX11_byteAt 3 [.ref h0, .int x_at_7] (σ) (pI (fun rx_9 => ∀ w : Int32, w = (if 1000000 < (((10 * x4) + rx_9) - 48) then 1000000 else (((10 * x4) + rx_9) - 48)) → ∃ x_at_10 : Int32, Fg (σ) 11 h0 2 (.int x_at_10) ∧ (∃ fs : List Value, Ob (σ) 11 h0 fs ∧ 2 < fs.length ∧ (∀ s1_11 : PS, s1_11 = up (σ) 11 h0 (.inl (fs.set 2 (.int (x_at_10 + 1)))) → At G mX11_number 10 Q X b 35 [(0, .ref h0), (1, .int x1), (2, .int x2), (3, .int x3), (4, .int w)] [] s1_11)))))))))))) : At G mX11_number 10 Q X b 35 [(0, .ref h0), (1, .int x1), (2, .int x2), (3, .int x3), (4, .int x4)] [] (σ) := by
  refine g_aload_n dX11_number_35 rfl 0 rfl ?_
  refine g_aload_n dX11_number_36 rfl 0 rfl ?_
  obtain ⟨x_at, hf, h⟩ := h
  refine g_get 2 dX11_number_37 in_X11 cl11 (by decide) q915 hf ?_
  obtain ⟨⟨_, hO⟩, h⟩ := h
  refine g_callV (N := mX11_byteAt) (st := []) (As := [.int x_at]) (a := h0) dX11_number_40 wsX11_byteAt (lw_V q971 q973 qs14 q122 q974) rfl mokX11_byteAt rfl cl11 (by decide) (by decide) (Nat.zero_le _) (Nat.zero_le _) hO h (fun E q s hx => AtX.never hx) (fun _ s1 hq => ?_)
  obtain ⟨es, hq⟩ := hq
  refine g_tops2 es ?_
  obtain ⟨rx, rfl, h⟩ := hq
  refine At.stk (st' := [.int rx]) rfl ?_
  refine g_callS (N := mX11_isDigit) (st := []) (As := [.int rx]) dX11_number_43 wsX11_isDigit (lw_S q1080 q1081 q122 q1082) mokX11_isDigit rfl (by decide) (by decide) (Nat.zero_le _) (Nat.zero_le _) h (fun E q s hx => AtX.never hx) (fun _ s1_1 hq => ?_)
  obtain ⟨es, hq⟩ := hq
  refine g_tops2 es ?_
  obtain ⟨rx_2, rfl, h⟩ := hq
  refine At.stk (st' := [.int rx_2]) rfl ?_
  refine g_if_eq (tgt := 86) dX11_number_46 (by decide) (fun c => ?_) (fun c => ?_)
  · replace h := h.1 c
    refine g_iload dX11_number_86 4 rfl ?_
    refine g_iload_n dX11_number_88 rfl 1 rfl ?_
    refine g_icmp_lt (tgt := 98) dX11_number_89 (by decide) (fun c => ?_) (fun c => ?_)
    · replace h := h.1 c
      obtain ⟨hb, h⟩ := h
      refine g_new (ci := 12) (fs := [.null, .null, .null, .null, .null, .int 0, .int 0, .int 0]) 1 dX11_number_98 in_X12 tyX12 tyX12_ok cl12 q1083 q1045 q127 new12 (by decide) (by decide) hb (fun q hq => ?_)
      replace h := h q hq
      refine g_tops (fun s1_3 es1_3 => ?_)
      replace h := h s1_3 es1_3
      refine g_dup dX11_number_101 rfl ?_
      refine g_iconst (v := 2) dX11_number_102 (by decide) ?_
      refine g_iload_n dX11_number_103 rfl 3 rfl ?_
      refine g_callI (N := mX12_init) (st := [.ref q]) (As := [.int 2, .int x3]) (a := q) dX11_number_104 wsX12_init q1055 q127 q1084 q1054 rfl mokX12_init rfl (by decide) (by decide) (Nat.zero_le _) (by simp [Value.category]) h (fun E q s hx => AtX.out0 rfl hx) (fun _ s1_4 hq => ?_)
      obtain ⟨rfl, h⟩ := hq
      refine At.stk (st' := [.ref q]) rfl ?_
      obtain ⟨fs, hO, h⟩ := h
      exact g_athrow dX11_number_107 cl12 rfl hO (AtX.out0 rfl h)
    · replace h := h.2 c
      refine g_iload dX11_number_92 4 rfl ?_
      refine g_iload_n dX11_number_94 rfl 2 rfl ?_
      refine g_icmp_le (tgt := 108) dX11_number_95 (by decide) (fun c => ?_) (fun c => ?_)
      · replace h := h.1 c
        refine g_iload dX11_number_108 4 rfl ?_
        exact g_iret rfl dX11_number_110 h
      · replace h := h.2 c
        obtain ⟨hb, h⟩ := h
        refine g_new (ci := 12) (fs := [.null, .null, .null, .null, .null, .int 0, .int 0, .int 0]) 1 dX11_number_98 in_X12 tyX12 tyX12_ok cl12 q1083 q1045 q127 new12 (by decide) (by decide) hb (fun q hq => ?_)
        replace h := h q hq
        refine g_tops (fun s1_5 es1_5 => ?_)
        replace h := h s1_5 es1_5
        refine g_dup dX11_number_101 rfl ?_
        refine g_iconst (v := 2) dX11_number_102 (by decide) ?_
        refine g_iload_n dX11_number_103 rfl 3 rfl ?_
        refine g_callI (N := mX12_init) (st := [.ref q]) (As := [.int 2, .int x3]) (a := q) dX11_number_104 wsX12_init q1055 q127 q1084 q1054 rfl mokX12_init rfl (by decide) (by decide) (Nat.zero_le _) (by simp [Value.category]) h (fun E q s hx => AtX.out0 rfl hx) (fun _ s1_6 hq => ?_)
        obtain ⟨rfl, h⟩ := hq
        refine At.stk (st' := [.ref q]) rfl ?_
        obtain ⟨fs, hO, h⟩ := h
        exact g_athrow dX11_number_107 cl12 rfl hO (AtX.out0 rfl h)
  · replace h := h.2 c
    refine g_bipush (v := 10) dX11_number_49 (by decide) ?_
    refine g_iload dX11_number_51 4 rfl ?_
    refine g_imul dX11_number_53 ?_
    refine g_aload_n dX11_number_54 rfl 0 rfl ?_
    refine g_aload_n dX11_number_55 rfl 0 rfl ?_
    obtain ⟨x_at_7, hf, h⟩ := h
    refine g_get 2 dX11_number_56 in_X11 cl11 (by decide) q915 hf ?_
    obtain ⟨⟨_, hO⟩, h⟩ := h
    refine g_callV (N := mX11_byteAt) (st := [.int (10 * x4)]) (As := [.int x_at_7]) (a := h0) dX11_number_59 wsX11_byteAt (lw_V q971 q973 qs14 q122 q974) rfl mokX11_byteAt rfl cl11 (by decide) (by decide) (Nat.zero_le _) (by simp [Value.category]) hO h (fun E q s hx => AtX.never hx) (fun _ s1_8 hq => ?_)
    obtain ⟨es, hq⟩ := hq
    refine g_tops2 es ?_
    obtain ⟨rx_9, rfl, h⟩ := hq
    refine At.stk (st' := [.int rx_9, .int (10 * x4)]) rfl ?_
    refine g_iadd dX11_number_62 ?_
    refine g_bipush (v := 48) dX11_number_63 (by decide) ?_
    refine g_isub dX11_number_65 ?_
    refine g_ldc dX11_number_66 q1085 ?_
    refine g_imin dX11_number_68 q1086 (by decide) (Nat.zero_le _) ?_
    refine g_topi (fun w ew => ?_)
    replace h := h w ew
    refine g_istore (ls1 := [(4, .int w), (0, .ref h0), (1, .int x1), (2, .int x2), (3, .int x3)]) dX11_number_71 (by decide) rfl ?_
    refine g_aload_n dX11_number_73 rfl 1 rfl ?_
    refine g_dup dX11_number_74 rfl ?_
    obtain ⟨x_at_10, hf, h⟩ := h
    refine g_get 2 dX11_number_75 in_X11 cl11 (by decide) q915 hf ?_
    refine g_iconst (v := 1) dX11_number_78 (by decide) ?_
    refine g_iadd dX11_number_79 ?_
    obtain ⟨fs, hO, hl, h⟩ := h
    refine g_put 2 dX11_number_80 in_X11 tyX11 tyX11_ok nmX11 cl11 (by decide) q915 rfl rfl rfl hO hl ?_
    refine g_tops (fun s1_11 es1_11 => ?_)
    replace h := h s1_11 es1_11
    refine g_goto (tgt := 35) dX11_number_83 (by decide) ?_
    exact At.sub (ls := [(4, .int w), (0, .ref h0), (1, .int x1), (2, .int x2), (3, .int x3)]) [1, 2, 3, 4, 0] rfl h
theorem eX11_number {G : GC} {Q : Option Value → PS → Prop} {X : String → Nat → PS → Prop} {b : Nat} {h0 : Nat} {p1 : Int32} {p2 : Int32} {σ : PS} (h : At G mX11_number 10 Q X b 0 [(0, .ref h0), (1, .int p1), (2, .int p2)] [] σ) : Call G mX11_number 10 b [.ref h0, .int p1, .int p2] σ Q X :=
  Call.of (by decide +kernel) wsX11_number rfl (Nat.le_of_ble_eq_true rfl) (At.sub (ls := [(0, .ref h0), (1, .int p1), (2, .int p2)]) [0, 1, 2] rfl h)
set_option maxHeartbeats 4000000 in
theorem bX11_isDigit_0 {G : GC} {Q : Option Value → PS → Prop} {X : String → Nat → PS → Prop} {b : Nat} {x0 : Int32} {σ : PS} (h : ((x0 < 48) → Q (some (.int 0)) (σ)) ∧ ((¬ x0 < 48) → ((57 < x0) → Q (some (.int 0)) (σ)) ∧ ((¬ 57 < x0) → Q (some (.int 1)) (σ)))) : At G mX11_isDigit 3 Q X b 0 [(0, .int x0)] [] (σ) := by
  refine g_iload_n dX11_isDigit_0 rfl 0 rfl ?_
  refine g_bipush (v := 48) dX11_isDigit_1 (by decide) ?_
  refine g_icmp_lt (tgt := 16) dX11_isDigit_3 (by decide) (fun c => ?_) (fun c => ?_)
  · replace h := h.1 c
    refine g_iconst (v := 0) dX11_isDigit_16 (by decide) ?_
    exact g_zret rfl rfl dX11_isDigit_17 h
  · replace h := h.2 c
    refine g_iload_n dX11_isDigit_6 rfl 0 rfl ?_
    refine g_bipush (v := 57) dX11_isDigit_7 (by decide) ?_
    refine g_icmp_gt (tgt := 16) dX11_isDigit_9 (by decide) (fun c => ?_) (fun c => ?_)
    · replace h := h.1 c
      refine g_iconst (v := 0) dX11_isDigit_16 (by decide) ?_
      exact g_zret rfl rfl dX11_isDigit_17 h
    · replace h := h.2 c
      refine g_iconst (v := 1) dX11_isDigit_12 (by decide) ?_
      refine g_goto (tgt := 17) dX11_isDigit_13 (by decide) ?_
      exact g_zret rfl rfl dX11_isDigit_17 h
theorem eX11_isDigit {G : GC} {Q : Option Value → PS → Prop} {X : String → Nat → PS → Prop} {b : Nat} {p0 : Int32} {σ : PS} (h : At G mX11_isDigit 3 Q X b 0 [(0, .int p0)] [] σ) : Call G mX11_isDigit 3 b [.int p0] σ Q X :=
  Call.of (by decide +kernel) wsX11_isDigit rfl (Nat.le_of_ble_eq_true rfl) (At.sub (ls := [(0, .int p0)]) [0] rfl h)
set_option maxHeartbeats 4000000 in
theorem bX11_sign_0 {G : GC} {Q : Option Value → PS → Prop} {X : String → Nat → PS → Prop} {b : Nat} {h0 : Nat} {x1 : Int32} {σ : PS} (h : (∃ fs_4 : List Value, Ob (σ) 11 h0 fs_4) ∧ Call G mX11_now 4 0 [.ref h0] (σ) (qI (fun rx s1 => ((rx = x1) → ∃ x_at : Int32, Fg s1 11 h0 2 (.int x_at) ∧ (∃ fs : List Value, Ob s1 11 h0 fs ∧ 2 < fs.length ∧ (∀ s1_1 : PS, s1_1 = up s1 11 h0 (.inl (fs.set 2 (.int (x_at + 1)))) → Q none s1_1))) ∧ ((¬ rx = x1) → 1 ≤ b ∧ (∀ q : Nat, (∀ κ, s1 κ q = none) → (∀ s1_2 : PS, s1_2 = up s1 12 q (.inl [.null, .null, .null, .null, .null, .int 0, .int 0, .int 0]) → ∃ x_at : Int32, Fg s1_2 11 h0 2 (.int x_at) ∧ (Call G mX12_init 6 0 [.ref q, .int 1, .int x_at] s1_2 (qV (fun s1_3 => ∃ fs : List Value, Ob s1_3 12 q fs ∧ X "CardCups$Wrong" q s1_3)) X)))))) X) : At G mX11_sign 10 Q X b 0 [(0, .ref h0), (1, .int x1)] [] (σ) := by
  refine g_aload_n dX11_sign_0 rfl 0 rfl ?_
  obtain ⟨⟨_, hO⟩, h⟩ := h
  refine g_callV (N := mX11_now) (st := []) (As := []) (a := h0) dX11_sign_1 wsX11_now (lw_V q983 q968 q969 q122 q970) rfl mokX11_now rfl cl11 (by decide) (by decide) (Nat.zero_le _) (Nat.zero_le _) hO h (fun E q s hx => AtX.out0 rfl hx) (fun _ s1 hq => ?_)
  obtain ⟨rx, rfl, h⟩ := hq
  refine At.stk (st' := [.int rx]) rfl ?_
  refine g_iload_n dX11_sign_4 rfl 1 rfl ?_
  refine g_icmp_eq (tgt := 21) dX11_sign_5 (by decide) (fun c => ?_) (fun c => ?_)
  · replace h := h.1 c
    refine g_aload_n dX11_sign_21 rfl 0 rfl ?_
    refine g_dup dX11_sign_22 rfl ?_
    obtain ⟨x_at, hf, h⟩ := h
    refine g_get 2 dX11_sign_23 in_X11 cl11 (by decide) q915 hf ?_
    refine g_iconst (v := 1) dX11_sign_26 (by decide) ?_
    refine g_iadd dX11_sign_27 ?_
    obtain ⟨fs, hO, hl, h⟩ := h
    refine g_put 2 dX11_sign_28 in_X11 tyX11 tyX11_ok nmX11 cl11 (by decide) q915 rfl rfl rfl hO hl ?_
    refine g_tops (fun s1_1 es1_1 => ?_)
    replace h := h s1_1 es1_1
    exact g_vret rfl dX11_sign_31 h
  · replace h := h.2 c
    obtain ⟨hb, h⟩ := h
    refine g_new (ci := 12) (fs := [.null, .null, .null, .null, .null, .int 0, .int 0, .int 0]) 1 dX11_sign_8 in_X12 tyX12 tyX12_ok cl12 q1083 q1045 q127 new12 (by decide) (by decide) hb (fun q hq => ?_)
    replace h := h q hq
    refine g_tops (fun s1_2 es1_2 => ?_)
    replace h := h s1_2 es1_2
    refine g_dup dX11_sign_11 rfl ?_
    refine g_iconst (v := 1) dX11_sign_12 (by decide) ?_
    refine g_aload_n dX11_sign_13 rfl 0 rfl ?_
    obtain ⟨x_at, hf, h⟩ := h
    refine g_get 2 dX11_sign_14 in_X11 cl11 (by decide) q915 hf ?_
    refine g_callI (N := mX12_init) (st := [.ref q]) (As := [.int 1, .int x_at]) (a := q) dX11_sign_17 wsX12_init q1055 q127 q1084 q1054 rfl mokX12_init rfl (by decide) (by decide) (Nat.zero_le _) (by simp [Value.category]) h (fun E q s hx => AtX.out0 rfl hx) (fun _ s1_3 hq => ?_)
    obtain ⟨rfl, h⟩ := hq
    refine At.stk (st' := [.ref q]) rfl ?_
    obtain ⟨fs, hO, h⟩ := h
    exact g_athrow dX11_sign_20 cl12 rfl hO (AtX.out0 rfl h)
theorem eX11_sign {G : GC} {Q : Option Value → PS → Prop} {X : String → Nat → PS → Prop} {b : Nat} {h0 : Nat} {p1 : Int32} {σ : PS} (h : At G mX11_sign 10 Q X b 0 [(0, .ref h0), (1, .int p1)] [] σ) : Call G mX11_sign 10 b [.ref h0, .int p1] σ Q X :=
  Call.of (by decide +kernel) wsX11_sign rfl (Nat.le_of_ble_eq_true rfl) (At.sub (ls := [(0, .ref h0), (1, .int p1)]) [0, 1] rfl h)
set_option maxHeartbeats 4000000 in
theorem bX11_takes_0 {G : GC} {Q : Option Value → PS → Prop} {X : String → Nat → PS → Prop} {b : Nat} {h0 : Nat} {a1 : Nat} {σ : PS} (h : (∃ fs_2 : List Value, Ob (σ) 11 h0 fs_2) ∧ Call G mX11_isWord 7 0 [.ref h0, .ref a1] (σ) (qI (fun rx s1 => ((rx = 0) → (rx = 0 ∨ rx = 1) ∧ Q (some (.int rx)) s1) ∧ ((¬ rx = 0) → ∃ x_at : Int32, Fg s1 11 h0 2 (.int x_at) ∧ (∃ (i : Nat) (q : String × Nat × String × List Int32), a1 = gk G i ∧ strTab[i]? = some q ∧ (∀ w : Int32, w = (x_at + (nI q.2.2.2.length)) → ∃ fs : List Value, Ob s1 11 h0 fs ∧ 2 < fs.length ∧ (∀ s1_1 : PS, s1_1 = up s1 11 h0 (.inl (fs.set 2 (.int w))) → (rx = 0 ∨ rx = 1) ∧ Q (some (.int rx)) s1_1)))))) X) : At G mX11_takes 8 Q X b 0 [(0, .ref h0), (1, .ref a1)] [] (σ) := by
  refine g_aload_n dX11_takes_0 rfl 0 rfl ?_
  refine g_aload_n dX11_takes_1 rfl 1 rfl ?_
  obtain ⟨⟨_, hO⟩, h⟩ := h
  refine g_callV (N := mX11_isWord) (st := []) (As := [.ref a1]) (a := h0) dX11_takes_2 wsX11_isWord (lw_V q988 q989 q990 q122 q991) rfl mokX11_isWord rfl cl11 (by decide) (by decide) (Nat.zero_le _) (Nat.zero_le _) hO h (fun E q s hx => AtX.out0 rfl hx) (fun _ s1 hq => ?_)
  obtain ⟨rx, rfl, h⟩ := hq
  refine At.stk (st' := [.int rx]) rfl ?_
  refine g_istore_n (ls1 := [(2, .int rx), (0, .ref h0), (1, .ref a1)]) dX11_takes_5 rfl (by decide) rfl ?_
  refine g_iload_n dX11_takes_6 rfl 0 rfl ?_
  refine g_if_eq (tgt := 23) dX11_takes_7 (by decide) (fun c => ?_) (fun c => ?_)
  · replace h := h.1 c
    refine g_iload_n dX11_takes_23 rfl 0 rfl ?_
    exact g_zret rfl (nar_z h.1) dX11_takes_24 h.2
  · replace h := h.2 c
    refine g_aload_n dX11_takes_10 rfl 1 rfl ?_
    refine g_dup dX11_takes_11 rfl ?_
    obtain ⟨x_at, hf, h⟩ := h
    refine g_get 2 dX11_takes_12 in_X11 cl11 (by decide) q915 hf ?_
    refine g_aload_n dX11_takes_15 rfl 2 rfl ?_
    obtain ⟨i, q, h1, h2, h⟩ := h
    refine At.stk (st' := [.ref (gk G i), .int x_at, .ref h0]) (by rw [h1]) ?_
    refine g_callStr (N := mJ4_length) (st := [.int x_at, .ref h0]) (As := []) dX11_takes_16 wsJ4_length (lw_V q996 q997 q998 q123 q999) rfl mokJ4_length rfl h2 (by decide) (by decide) (by simp [Value.category]) (strlen_call h2) (fun _ s9 hq => ?_)
    obtain ⟨es, rfl⟩ := hq
    refine g_tops2 es ?_
    refine At.stk (st' := [.int (nI q.2.2.2.length), .int x_at, .ref h0]) rfl ?_
    refine g_iadd dX11_takes_19 ?_
    refine g_topi (fun w ew => ?_)
    replace h := h w ew
    obtain ⟨fs, hO, hl, h⟩ := h
    refine g_put 2 dX11_takes_20 in_X11 tyX11 tyX11_ok nmX11 cl11 (by decide) q915 rfl rfl rfl hO hl ?_
    refine g_tops (fun s1_1 es1_1 => ?_)
    replace h := h s1_1 es1_1
    refine g_iload_n dX11_takes_23 rfl 0 rfl ?_
    exact g_zret rfl (nar_z h.1) dX11_takes_24 h.2
theorem eX11_takes {G : GC} {Q : Option Value → PS → Prop} {X : String → Nat → PS → Prop} {b : Nat} {h0 : Nat} {p1 : Nat} {σ : PS} (h : At G mX11_takes 8 Q X b 0 [(0, .ref h0), (1, .ref p1)] [] σ) : Call G mX11_takes 8 b [.ref h0, .ref p1] σ Q X :=
  Call.of (by decide +kernel) wsX11_takes rfl (Nat.le_of_ble_eq_true rfl) (At.sub (ls := [(0, .ref h0), (1, .ref p1)]) [0, 1] rfl h)
set_option maxHeartbeats 4000000 in
theorem bX11_opens_0 {G : GC} {Q : Option Value → PS → Prop} {X : String → Nat → PS → Prop} {b : Nat} {h0 : Nat} {σ : PS} (h : ∃ x_open : Int32, Fg (σ) 11 h0 3 (.int x_open) ∧ (((¬ x_open = 6) → ∃ x_open_1 : Int32, Fg (σ) 11 h0 3 (.int x_open_1) ∧ (∃ fs : List Value, Ob (σ) 11 h0 fs ∧ 3 < fs.length ∧ (∀ s1 : PS, s1 = up (σ) 11 h0 (.inl (fs.set 3 (.int (x_open_1 + 1)))) → Q none s1))) ∧ ((x_open = 6) → 1 ≤ b ∧ (∀ q : Nat, (∀ κ, σ κ q = none) → (∀ s1 : PS, s1 = up (σ) 12 q (.inl [.null, .null, .null, .null, .null, .int 0, .int 0, .int 0]) → (∃ fs_4 : List Value, Ob s1 11 h0 fs_4) ∧ Call G mX11_place 5 0 [.ref h0] s1 (qI (fun rx s1_2 => Call G mX12_init 6 0 [.ref q, .int 3, .int rx] s1_2 (qV (fun s1_3 => ∃ fs : List Value, Ob s1_3 12 q fs ∧ X "CardCups$Wrong" q s1_3)) X)) X))))) : At G mX11_opens 10 Q X b 0 [(0, .ref h0)] [] (σ) := by
  refine g_aload_n dX11_opens_0 rfl 0 rfl ?_
  obtain ⟨x_open, hf, h⟩ := h
  refine g_get 3 dX11_opens_1 in_X11 cl11 (by decide) q916 hf ?_
  refine g_bipush (v := 6) dX11_opens_4 (by decide) ?_
  refine g_icmp_ne (tgt := 22) dX11_opens_6 (by decide) (fun c => ?_) (fun c => ?_)
  · replace h := h.1 c
    refine g_aload_n dX11_opens_22 rfl 0 rfl ?_
    refine g_dup dX11_opens_23 rfl ?_
    obtain ⟨x_open_1, hf, h⟩ := h
    refine g_get 3 dX11_opens_24 in_X11 cl11 (by decide) q916 hf ?_
    refine g_iconst (v := 1) dX11_opens_27 (by decide) ?_
    refine g_iadd dX11_opens_28 ?_
    obtain ⟨fs, hO, hl, h⟩ := h
    refine g_put 3 dX11_opens_29 in_X11 tyX11 tyX11_ok nmX11 cl11 (by decide) q916 rfl rfl rfl hO hl ?_
    refine g_tops (fun s1 es1 => ?_)
    replace h := h s1 es1
    exact g_vret rfl dX11_opens_32 h
  · replace h := h.2 c
    obtain ⟨hb, h⟩ := h
    refine g_new (ci := 12) (fs := [.null, .null, .null, .null, .null, .int 0, .int 0, .int 0]) 1 dX11_opens_9 in_X12 tyX12 tyX12_ok cl12 q1083 q1045 q127 new12 (by decide) (by decide) hb (fun q hq => ?_)
    replace h := h q hq
    refine g_tops (fun s1 es1 => ?_)
    replace h := h s1 es1
    refine g_dup dX11_opens_12 rfl ?_
    refine g_iconst (v := 3) dX11_opens_13 (by decide) ?_
    refine g_aload_n dX11_opens_14 rfl 0 rfl ?_
    obtain ⟨⟨_, hO⟩, h⟩ := h
    refine g_callV (N := mX11_place) (st := [.int 3, .ref q, .ref q]) (As := []) (a := h0) dX11_opens_15 wsX11_place (lw_V q992 q980 q981 q122 q982) rfl mokX11_place rfl cl11 (by decide) (by decide) (Nat.zero_le _) (by simp [Value.category]) hO h (fun E q s hx => AtX.out0 rfl hx) (fun _ s1_2 hq => ?_)
    obtain ⟨rx, rfl, h⟩ := hq
    refine At.stk (st' := [.int rx, .int 3, .ref q, .ref q]) rfl ?_
    refine g_callI (N := mX12_init) (st := [.ref q]) (As := [.int 3, .int rx]) (a := q) dX11_opens_18 wsX12_init q1055 q127 q1084 q1054 rfl mokX12_init rfl (by decide) (by decide) (Nat.zero_le _) (by simp [Value.category]) h (fun E q s hx => AtX.out0 rfl hx) (fun _ s1_3 hq => ?_)
    obtain ⟨rfl, h⟩ := hq
    refine At.stk (st' := [.ref q]) rfl ?_
    obtain ⟨fs, hO, h⟩ := h
    exact g_athrow dX11_opens_21 cl12 rfl hO (AtX.out0 rfl h)
theorem eX11_opens {G : GC} {Q : Option Value → PS → Prop} {X : String → Nat → PS → Prop} {b : Nat} {h0 : Nat} {σ : PS} (h : At G mX11_opens 10 Q X b 0 [(0, .ref h0)] [] σ) : Call G mX11_opens 10 b [.ref h0] σ Q X :=
  Call.of (by decide +kernel) wsX11_opens rfl (Nat.le_of_ble_eq_true rfl) (At.sub (ls := [(0, .ref h0)]) [0] rfl h)
set_option maxHeartbeats 4000000 in
theorem bX11_closes_0 {G : GC} {Q : Option Value → PS → Prop} {X : String → Nat → PS → Prop} {b : Nat} {h0 : Nat} {σ : PS} (h : ∃ x_open : Int32, Fg (σ) 11 h0 3 (.int x_open) ∧ (∃ fs : List Value, Ob (σ) 11 h0 fs ∧ 3 < fs.length ∧ (∀ s1 : PS, s1 = up (σ) 11 h0 (.inl (fs.set 3 (.int (x_open - 1)))) → Q none s1))) : At G mX11_closes 3 Q X b 0 [(0, .ref h0)] [] (σ) := by
  refine g_aload_n dX11_closes_0 rfl 0 rfl ?_
  refine g_dup dX11_closes_1 rfl ?_
  obtain ⟨x_open, hf, h⟩ := h
  refine g_get 3 dX11_closes_2 in_X11 cl11 (by decide) q916 hf ?_
  refine g_iconst (v := 1) dX11_closes_5 (by decide) ?_
  refine g_isub dX11_closes_6 ?_
  obtain ⟨fs, hO, hl, h⟩ := h
  refine g_put 3 dX11_closes_7 in_X11 tyX11 tyX11_ok nmX11 cl11 (by decide) q916 rfl rfl rfl hO hl ?_
  refine g_tops (fun s1 es1 => ?_)
  replace h := h s1 es1
  exact g_vret rfl dX11_closes_10 h
theorem eX11_closes {G : GC} {Q : Option Value → PS → Prop} {X : String → Nat → PS → Prop} {b : Nat} {h0 : Nat} {σ : PS} (h : At G mX11_closes 3 Q X b 0 [(0, .ref h0)] [] σ) : Call G mX11_closes 3 b [.ref h0] σ Q X :=
  Call.of (by decide +kernel) wsX11_closes rfl (Nat.le_of_ble_eq_true rfl) (At.sub (ls := [(0, .ref h0)]) [0] rfl h)
set_option maxHeartbeats 4000000 in
theorem bX11_takesSign_0 {G : GC} {Q : Option Value → PS → Prop} {X : String → Nat → PS → Prop} {b : Nat} {h0 : Nat} {x1 : Int32} {σ : PS} (h : (∃ fs_3 : List Value, Ob (σ) 11 h0 fs_3) ∧ Call G mX11_now 4 0 [.ref h0] (σ) (qI (fun rx s1 => ((¬ rx = x1) → (((0 : Int32) = 0) → Q (some (.int 0)) s1) ∧ ((¬ (0 : Int32) = 0) → ∃ x_at : Int32, Fg s1 11 h0 2 (.int x_at) ∧ (∃ fs : List Value, Ob s1 11 h0 fs ∧ 2 < fs.length ∧ (∀ s1_1 : PS, s1_1 = up s1 11 h0 (.inl (fs.set 2 (.int (x_at + 1)))) → Q (some (.int 0)) s1_1)))) ∧ ((rx = x1) → (((1 : Int32) = 0) → Q (some (.int 1)) s1) ∧ ((¬ (1 : Int32) = 0) → ∃ x_at : Int32, Fg s1 11 h0 2 (.int x_at) ∧ (∃ fs : List Value, Ob s1 11 h0 fs ∧ 2 < fs.length ∧ (∀ s1_2 : PS, s1_2 = up s1 11 h0 (.inl (fs.set 2 (.int (x_at + 1)))) → Q (some (.int 1)) s1_2)))))) X) : At G mX11_takesSign 5 Q X b 0 [(0, .ref h0), (1, .int x1)] [] (σ) := by
  refine g_aload_n dX11_takesSign_0 rfl 0 rfl ?_
  obtain ⟨⟨_, hO⟩, h⟩ := h
  refine g_callV (N := mX11_now) (st := []) (As := []) (a := h0) dX11_takesSign_1 wsX11_now (lw_V q983 q968 q969 q122 q970) rfl mokX11_now rfl cl11 (by decide) (by decide) (Nat.zero_le _) (Nat.zero_le _) hO h (fun E q s hx => AtX.out0 rfl hx) (fun _ s1 hq => ?_)
  obtain ⟨rx, rfl, h⟩ := hq
  refine At.stk (st' := [.int rx]) rfl ?_
  refine g_iload_n dX11_takesSign_4 rfl 1 rfl ?_
  refine g_icmp_ne (tgt := 12) dX11_takesSign_5 (by decide) (fun c => ?_) (fun c => ?_)
  · replace h := h.1 c
    refine g_iconst (v := 0) dX11_takesSign_12 (by decide) ?_
    refine g_istore_n (ls1 := [(2, .int 0), (0, .ref h0), (1, .int x1)]) dX11_takesSign_13 rfl (by decide) rfl ?_
    refine g_iload_n dX11_takesSign_14 rfl 0 rfl ?_
    refine g_if_eq (tgt := 28) dX11_takesSign_15 (by decide) (fun c => ?_) (fun c => ?_)
    · replace h := h.1 c
      refine g_iload_n dX11_takesSign_28 rfl 0 rfl ?_
      exact g_zret rfl rfl dX11_takesSign_29 h
    · replace h := h.2 c
      refine g_aload_n dX11_takesSign_18 rfl 1 rfl ?_
      refine g_dup dX11_takesSign_19 rfl ?_
      obtain ⟨x_at, hf, h⟩ := h
      refine g_get 2 dX11_takesSign_20 in_X11 cl11 (by decide) q915 hf ?_
      refine g_iconst (v := 1) dX11_takesSign_23 (by decide) ?_
      refine g_iadd dX11_takesSign_24 ?_
      obtain ⟨fs, hO, hl, h⟩ := h
      refine g_put 2 dX11_takesSign_25 in_X11 tyX11 tyX11_ok nmX11 cl11 (by decide) q915 rfl rfl rfl hO hl ?_
      refine g_tops (fun s1_1 es1_1 => ?_)
      replace h := h s1_1 es1_1
      refine g_iload_n dX11_takesSign_28 rfl 0 rfl ?_
      exact g_zret rfl rfl dX11_takesSign_29 h
  · replace h := h.2 c
    refine g_iconst (v := 1) dX11_takesSign_8 (by decide) ?_
    refine g_goto (tgt := 13) dX11_takesSign_9 (by decide) ?_
    refine g_istore_n (ls1 := [(2, .int 1), (0, .ref h0), (1, .int x1)]) dX11_takesSign_13 rfl (by decide) rfl ?_
    refine g_iload_n dX11_takesSign_14 rfl 0 rfl ?_
    refine g_if_eq (tgt := 28) dX11_takesSign_15 (by decide) (fun c => ?_) (fun c => ?_)
    · replace h := h.1 c
      refine g_iload_n dX11_takesSign_28 rfl 0 rfl ?_
      exact g_zret rfl rfl dX11_takesSign_29 h
    · replace h := h.2 c
      refine g_aload_n dX11_takesSign_18 rfl 1 rfl ?_
      refine g_dup dX11_takesSign_19 rfl ?_
      obtain ⟨x_at, hf, h⟩ := h
      refine g_get 2 dX11_takesSign_20 in_X11 cl11 (by decide) q915 hf ?_
      refine g_iconst (v := 1) dX11_takesSign_23 (by decide) ?_
      refine g_iadd dX11_takesSign_24 ?_
      obtain ⟨fs, hO, hl, h⟩ := h
      refine g_put 2 dX11_takesSign_25 in_X11 tyX11 tyX11_ok nmX11 cl11 (by decide) q915 rfl rfl rfl hO hl ?_
      refine g_tops (fun s1_2 es1_2 => ?_)
      replace h := h s1_2 es1_2
      refine g_iload_n dX11_takesSign_28 rfl 0 rfl ?_
      exact g_zret rfl rfl dX11_takesSign_29 h
theorem eX11_takesSign {G : GC} {Q : Option Value → PS → Prop} {X : String → Nat → PS → Prop} {b : Nat} {h0 : Nat} {p1 : Int32} {σ : PS} (h : At G mX11_takesSign 5 Q X b 0 [(0, .ref h0), (1, .int p1)] [] σ) : Call G mX11_takesSign 5 b [.ref h0, .int p1] σ Q X :=
  Call.of (by decide +kernel) wsX11_takesSign rfl (Nat.le_of_ble_eq_true rfl) (At.sub (ls := [(0, .ref h0), (1, .int p1)]) [0, 1] rfl h)
set_option maxHeartbeats 4000000 in
theorem bX12_init_0 {G : GC} {Q : Option Value → PS → Prop} {X : String → Nat → PS → Prop} {b : Nat} {h0 : Nat} {x1 : Int32} {x2 : Int32} {σ : PS} (h : Call G mJ1_init_2 5 0 [.ref h0, .null, .null, .int 0, .int 0] (σ) (qV (fun s1 => ∃ fs : List Value, Ob s1 12 h0 fs ∧ 6 < fs.length ∧ (∀ s1_1 : PS, s1_1 = up s1 12 h0 (.inl (fs.set 6 (.int x1))) → ∃ fs_2 : List Value, Ob s1_1 12 h0 fs_2 ∧ 7 < fs_2.length ∧ (∀ s1_3 : PS, s1_3 = up s1_1 12 h0 (.inl (fs_2.set 7 (.int x2))) → Q none s1_3)))) X) : At G mX12_init 6 Q X b 0 [(0, .ref h0), (1, .int x1), (2, .int x2)] [] (σ) := by
  refine g_aload_n dX12_init_0 rfl 0 rfl ?_
  refine g_null dX12_init_1 ?_
  refine g_null dX12_init_2 ?_
  refine g_iconst (v := 0) dX12_init_3 (by decide) ?_
  refine g_iconst (v := 0) dX12_init_4 (by decide) ?_
  refine g_callI (N := mJ1_init_2) (st := []) (As := [.null, .null, .int 0, .int 0]) (a := h0) dX12_init_5 wsJ1_init_2 q1058 q118 q1056 q1057 rfl mokJ1_init_2 rfl (by decide) (by decide) (Nat.zero_le _) (Nat.zero_le _) h (fun E q s hx => AtX.out0 rfl hx) (fun _ s1 hq => ?_)
  obtain ⟨rfl, h⟩ := hq
  refine At.stk (st' := []) rfl ?_
  refine g_aload_n dX12_init_8 rfl 0 rfl ?_
  refine g_iload_n dX12_init_9 rfl 1 rfl ?_
  obtain ⟨fs, hO, hl, h⟩ := h
  refine g_putF 6 dX12_init_10 in_X12 tyX12 tyX12_ok nmX12 cl12 (by decide) q1062 rfl rfl rfl rfl rfl hO hl ?_
  refine g_tops (fun s1_1 es1_1 => ?_)
  replace h := h s1_1 es1_1
  refine g_aload_n dX12_init_13 rfl 0 rfl ?_
  refine g_iload_n dX12_init_14 rfl 2 rfl ?_
  obtain ⟨fs_2, hO, hl, h⟩ := h
  refine g_putF 7 dX12_init_15 in_X12 tyX12 tyX12_ok nmX12 cl12 (by decide) q1064 rfl rfl rfl rfl rfl hO hl ?_
  refine g_tops (fun s1_3 es1_3 => ?_)
  replace h := h s1_3 es1_3
  exact g_vret rfl dX12_init_18 h
theorem eX12_init {G : GC} {Q : Option Value → PS → Prop} {X : String → Nat → PS → Prop} {b : Nat} {h0 : Nat} {p1 : Int32} {p2 : Int32} {σ : PS} (h : At G mX12_init 6 Q X b 0 [(0, .ref h0), (1, .int p1), (2, .int p2)] [] σ) : Call G mX12_init 6 b [.ref h0, .int p1, .int p2] σ Q X :=
  Call.of (by decide +kernel) wsX12_init rfl (Nat.le_of_ble_eq_true rfl) (At.sub (ls := [(0, .ref h0), (1, .int p1), (2, .int p2)]) [0, 1, 2] rfl h)
set_option maxHeartbeats 4000000 in
theorem bX13_init_0 {G : GC} {Q : Option Value → PS → Prop} {X : String → Nat → PS → Prop} {b : Nat} {h0 : Nat} {a1 : Nat} {σ : PS} (h : 1 ≤ b ∧ (∀ q : Nat, (∀ κ, σ κ q = none) → (∀ s1 : PS, s1 = up (σ) 107 q (.inr (8, .inr (.inr (fun _ => none)))) → ∃ (n : Nat) (f : Nat → Option Nat), Qa s1 107 q n f ∧ vp_in 0 n ∧ (∀ s1_1 : PS, s1_1 = up s1 107 q (.inr (n, .inr (.inr (va_up f (0 : Int32).toNatClampNeg (some (gk G 9)))))) → ∃ (n_2 : Nat) (f_3 : Nat → Option Nat), Qa s1_1 107 q n_2 f_3 ∧ vp_in 1 n_2 ∧ (∀ s1_4 : PS, s1_4 = up s1_1 107 q (.inr (n_2, .inr (.inr (va_up f_3 (1 : Int32).toNatClampNeg (some (gk G 10)))))) → ∃ (n_5 : Nat) (f_6 : Nat → Option Nat), Qa s1_4 107 q n_5 f_6 ∧ vp_in 2 n_5 ∧ (∀ s1_7 : PS, s1_7 = up s1_4 107 q (.inr (n_5, .inr (.inr (va_up f_6 (2 : Int32).toNatClampNeg (some (gk G 11)))))) → ∃ (n_8 : Nat) (f_9 : Nat → Option Nat), Qa s1_7 107 q n_8 f_9 ∧ vp_in 3 n_8 ∧ (∀ s1_10 : PS, s1_10 = up s1_7 107 q (.inr (n_8, .inr (.inr (va_up f_9 (3 : Int32).toNatClampNeg (some (gk G 12)))))) → ∃ (n_11 : Nat) (f_12 : Nat → Option Nat), Qa s1_10 107 q n_11 f_12 ∧ vp_in 4 n_11 ∧ (∀ s1_13 : PS, s1_13 = up s1_10 107 q (.inr (n_11, .inr (.inr (va_up f_12 (4 : Int32).toNatClampNeg (some (gk G 13)))))) → ∃ (n_14 : Nat) (f_15 : Nat → Option Nat), Qa s1_13 107 q n_14 f_15 ∧ vp_in 5 n_14 ∧ (∀ s1_16 : PS, s1_16 = up s1_13 107 q (.inr (n_14, .inr (.inr (va_up f_15 (5 : Int32).toNatClampNeg (some (gk G 14)))))) → ∃ (n_17 : Nat) (f_18 : Nat → Option Nat), Qa s1_16 107 q n_17 f_18 ∧ vp_in 6 n_17 ∧ (∀ s1_19 : PS, s1_19 = up s1_16 107 q (.inr (n_17, .inr (.inr (va_up f_18 (6 : Int32).toNatClampNeg (some (gk G 15)))))) → ∃ (n_20 : Nat) (f_21 : Nat → Option Nat), Qa s1_19 107 q n_20 f_21 ∧ vp_in 7 n_20 ∧ (∀ s1_22 : PS, s1_22 = up s1_19 107 q (.inr (n_20, .inr (.inr (va_up f_21 (7 : Int32).toNatClampNeg (some (gk G 16)))))) → ∃ fs : List Value, Ob s1_22 13 h0 fs ∧ 0 < fs.length ∧ (∀ s1_23 : PS, s1_23 = up s1_22 13 h0 (.inl (fs.set 0 (.ref q))) → 1 ≤ b - 1 ∧ (∀ q_24 : Nat, (∀ κ, s1_23 κ q_24 = none) → (∀ s1_25 : PS, s1_25 = up s1_23 107 q_24 (.inr (8, .inr (.inr (fun _ => none)))) → ∃ (n_26 : Nat) (f_27 : Nat → Option Nat), Qa s1_25 107 q_24 n_26 f_27 ∧ vp_in 0 n_26 ∧ (∀ s1_28 : PS, s1_28 = up s1_25 107 q_24 (.inr (n_26, .inr (.inr (va_up f_27 (0 : Int32).toNatClampNeg (some (gk G 17)))))) → ∃ (n_29 : Nat) (f_30 : Nat → Option Nat), Qa s1_28 107 q_24 n_29 f_30 ∧ vp_in 1 n_29 ∧ (∀ s1_31 : PS, s1_31 = up s1_28 107 q_24 (.inr (n_29, .inr (.inr (va_up f_30 (1 : Int32).toNatClampNeg (some (gk G 18)))))) → ∃ (n_32 : Nat) (f_33 : Nat → Option Nat), Qa s1_31 107 q_24 n_32 f_33 ∧ vp_in 2 n_32 ∧ (∀ s1_34 : PS, s1_34 = up s1_31 107 q_24 (.inr (n_32, .inr (.inr (va_up f_33 (2 : Int32).toNatClampNeg (some (gk G 19)))))) → ∃ (n_35 : Nat) (f_36 : Nat → Option Nat), Qa s1_34 107 q_24 n_35 f_36 ∧ vp_in 3 n_35 ∧ (∀ s1_37 : PS, s1_37 = up s1_34 107 q_24 (.inr (n_35, .inr (.inr (va_up f_36 (3 : Int32).toNatClampNeg (some (gk G 20)))))) → ∃ (n_38 : Nat) (f_39 : Nat → Option Nat), Qa s1_37 107 q_24 n_38 f_39 ∧ vp_in 4 n_38 ∧ (∀ s1_40 : PS, s1_40 = up s1_37 107 q_24 (.inr (n_38, .inr (.inr (va_up f_39 (4 : Int32).toNatClampNeg (some (gk G 21)))))) → ∃ (n_41 : Nat) (f_42 : Nat → Option Nat), Qa s1_40 107 q_24 n_41 f_42 ∧ vp_in 5 n_41 ∧ (∀ s1_43 : PS, s1_43 = up s1_40 107 q_24 (.inr (n_41, .inr (.inr (va_up f_42 (5 : Int32).toNatClampNeg (some (gk G 22)))))) → ∃ (n_44 : Nat) (f_45 : Nat → Option Nat), Qa s1_43 107 q_24 n_44 f_45 ∧ vp_in 6 n_44 ∧ (∀ s1_46 : PS, s1_46 = up s1_43 107 q_24 (.inr (n_44, .inr (.inr (va_up f_45 (6 : Int32).toNatClampNeg (some (gk G 23)))))) → ∃ (n_47 : Nat) (f_48 : Nat → Option Nat), Qa s1_46 107 q_24 n_47 f_48 ∧ vp_in 7 n_47 ∧ (∀ s1_49 : PS, s1_49 = up s1_46 107 q_24 (.inr (n_47, .inr (.inr (va_up f_48 (7 : Int32).toNatClampNeg (some (gk G 24)))))) → ∃ fs_50 : List Value, Ob s1_49 13 h0 fs_50 ∧ 1 < fs_50.length ∧ (∀ s1_51 : PS, s1_51 = up s1_49 13 h0 (.inl (fs_50.set 1 (.ref q_24))) → ∃ fs_52 : List Value, Ob s1_51 13 h0 fs_52 ∧ 2 < fs_52.length ∧ (∀ s1_53 : PS, s1_53 = up s1_51 13 h0 (.inl (fs_52.set 2 (.ref a1))) → Q none s1_53)))))))))))))))))))))))) : At G mX13_init 4 Q X b 0 [(0, .ref h0), (1, .ref a1)] [] (σ) := by
  refine g_aload_n dX13_init_0 rfl 0 rfl ?_
  refine g_objInit dX13_init_1 q1136 q151 q152 (by decide) (Nat.zero_le _) ?_
  refine g_aload_n dX13_init_4 rfl 0 rfl ?_
  refine g_bipush (v := 8) dX13_init_5 (by decide) ?_
  obtain ⟨hb, h⟩ := h
  refine g_newq (κ := 107) (t0 := 7) (N := 8) 1 dX13_init_7 q1137 (fun U h => h.2.2.2.1.2.2.2) rfl (by decide) (by decide) (Nat.le_of_ble_eq_true rfl) (by decide) (by decide) hb (fun q hq => ?_)
  replace h := h q hq
  refine g_tops (fun s1 es1 => ?_)
  replace h := h s1 es1
  refine g_dup dX13_init_10 rfl ?_
  refine g_iconst (v := 0) dX13_init_11 (by decide) ?_
  refine g_ldcS 9 dX13_init_12 rfl rfl rfl ?_
  obtain ⟨n, f, h1, h2, h⟩ := h
  refine g_aastStr dX13_init_14 rfl h1 h2 ?_
  refine g_tops (fun s1_1 es1_1 => ?_)
  replace h := h s1_1 es1_1
  refine g_dup dX13_init_15 rfl ?_
  refine g_iconst (v := 1) dX13_init_16 (by decide) ?_
  refine g_ldcS 10 dX13_init_17 rfl rfl rfl ?_
  obtain ⟨n_2, f_3, h1, h2, h⟩ := h
  refine g_aastStr dX13_init_19 rfl h1 h2 ?_
  refine g_tops (fun s1_4 es1_4 => ?_)
  replace h := h s1_4 es1_4
  refine g_dup dX13_init_20 rfl ?_
  refine g_iconst (v := 2) dX13_init_21 (by decide) ?_
  refine g_ldcS 11 dX13_init_22 rfl rfl rfl ?_
  obtain ⟨n_5, f_6, h1, h2, h⟩ := h
  refine g_aastStr dX13_init_24 rfl h1 h2 ?_
  refine g_tops (fun s1_7 es1_7 => ?_)
  replace h := h s1_7 es1_7
  refine g_dup dX13_init_25 rfl ?_
  refine g_iconst (v := 3) dX13_init_26 (by decide) ?_
  refine g_ldcS 12 dX13_init_27 rfl rfl rfl ?_
  obtain ⟨n_8, f_9, h1, h2, h⟩ := h
  refine g_aastStr dX13_init_29 rfl h1 h2 ?_
  refine g_tops (fun s1_10 es1_10 => ?_)
  replace h := h s1_10 es1_10
  refine g_dup dX13_init_30 rfl ?_
  refine g_iconst (v := 4) dX13_init_31 (by decide) ?_
  refine g_ldcS 13 dX13_init_32 rfl rfl rfl ?_
  obtain ⟨n_11, f_12, h1, h2, h⟩ := h
  refine g_aastStr dX13_init_34 rfl h1 h2 ?_
  refine g_tops (fun s1_13 es1_13 => ?_)
  replace h := h s1_13 es1_13
  refine g_dup dX13_init_35 rfl ?_
  refine g_iconst (v := 5) dX13_init_36 (by decide) ?_
  refine g_ldcS 14 dX13_init_37 rfl rfl rfl ?_
  obtain ⟨n_14, f_15, h1, h2, h⟩ := h
  refine g_aastStr dX13_init_39 rfl h1 h2 ?_
  refine g_tops (fun s1_16 es1_16 => ?_)
  replace h := h s1_16 es1_16
  refine g_dup dX13_init_40 rfl ?_
  refine g_bipush (v := 6) dX13_init_41 (by decide) ?_
  refine g_ldcS 15 dX13_init_43 rfl rfl rfl ?_
  obtain ⟨n_17, f_18, h1, h2, h⟩ := h
  refine g_aastStr dX13_init_45 rfl h1 h2 ?_
  refine g_tops (fun s1_19 es1_19 => ?_)
  replace h := h s1_19 es1_19
  refine g_dup dX13_init_46 rfl ?_
  refine g_bipush (v := 7) dX13_init_47 (by decide) ?_
  refine g_ldcS 16 dX13_init_49 rfl rfl rfl ?_
  obtain ⟨n_20, f_21, h1, h2, h⟩ := h
  refine g_aastStr dX13_init_51 rfl h1 h2 ?_
  refine g_tops (fun s1_22 es1_22 => ?_)
  replace h := h s1_22 es1_22
  obtain ⟨fs, hO, hl, h⟩ := h
  refine g_putF 0 dX13_init_52 in_X13 tyX13 tyX13_ok nmX13 cl13 (by decide) q1154 rfl rfl rfl rfl rfl hO hl ?_
  refine g_tops (fun s1_23 es1_23 => ?_)
  replace h := h s1_23 es1_23
  refine g_aload_n dX13_init_55 rfl 0 rfl ?_
  refine g_bipush (v := 8) dX13_init_56 (by decide) ?_
  obtain ⟨hb, h⟩ := h
  refine g_newq (κ := 107) (t0 := 7) (N := 8) 1 dX13_init_58 q1137 (fun U h => h.2.2.2.1.2.2.2) rfl (by decide) (by decide) (Nat.le_of_ble_eq_true rfl) (by decide) (by decide) hb (fun q_24 hq => ?_)
  replace h := h q_24 hq
  refine g_tops (fun s1_25 es1_25 => ?_)
  replace h := h s1_25 es1_25
  refine g_dup dX13_init_61 rfl ?_
  refine g_iconst (v := 0) dX13_init_62 (by decide) ?_
  refine g_ldcS 17 dX13_init_63 rfl rfl rfl ?_
  obtain ⟨n_26, f_27, h1, h2, h⟩ := h
  refine g_aastStr dX13_init_65 rfl h1 h2 ?_
  refine g_tops (fun s1_28 es1_28 => ?_)
  replace h := h s1_28 es1_28
  refine g_dup dX13_init_66 rfl ?_
  refine g_iconst (v := 1) dX13_init_67 (by decide) ?_
  refine g_ldcS 18 dX13_init_68 rfl rfl rfl ?_
  obtain ⟨n_29, f_30, h1, h2, h⟩ := h
  refine g_aastStr dX13_init_70 rfl h1 h2 ?_
  refine g_tops (fun s1_31 es1_31 => ?_)
  replace h := h s1_31 es1_31
  refine g_dup dX13_init_71 rfl ?_
  refine g_iconst (v := 2) dX13_init_72 (by decide) ?_
  refine g_ldcS 19 dX13_init_73 rfl rfl rfl ?_
  obtain ⟨n_32, f_33, h1, h2, h⟩ := h
  refine g_aastStr dX13_init_75 rfl h1 h2 ?_
  refine g_tops (fun s1_34 es1_34 => ?_)
  replace h := h s1_34 es1_34
  refine g_dup dX13_init_76 rfl ?_
  refine g_iconst (v := 3) dX13_init_77 (by decide) ?_
  refine g_ldcS 20 dX13_init_78 rfl rfl rfl ?_
  obtain ⟨n_35, f_36, h1, h2, h⟩ := h
  refine g_aastStr dX13_init_80 rfl h1 h2 ?_
  refine g_tops (fun s1_37 es1_37 => ?_)
  replace h := h s1_37 es1_37
  refine g_dup dX13_init_81 rfl ?_
  refine g_iconst (v := 4) dX13_init_82 (by decide) ?_
  refine g_ldcS 21 dX13_init_83 rfl rfl rfl ?_
  obtain ⟨n_38, f_39, h1, h2, h⟩ := h
  refine g_aastStr dX13_init_85 rfl h1 h2 ?_
  refine g_tops (fun s1_40 es1_40 => ?_)
  replace h := h s1_40 es1_40
  refine g_dup dX13_init_86 rfl ?_
  refine g_iconst (v := 5) dX13_init_87 (by decide) ?_
  refine g_ldcS 22 dX13_init_88 rfl rfl rfl ?_
  obtain ⟨n_41, f_42, h1, h2, h⟩ := h
  refine g_aastStr dX13_init_90 rfl h1 h2 ?_
  refine g_tops (fun s1_43 es1_43 => ?_)
  replace h := h s1_43 es1_43
  refine g_dup dX13_init_91 rfl ?_
  refine g_bipush (v := 6) dX13_init_92 (by decide) ?_
  refine g_ldcS 23 dX13_init_94 rfl rfl rfl ?_
  obtain ⟨n_44, f_45, h1, h2, h⟩ := h
  refine g_aastStr dX13_init_96 rfl h1 h2 ?_
  refine g_tops (fun s1_46 es1_46 => ?_)
  replace h := h s1_46 es1_46
  refine g_dup dX13_init_97 rfl ?_
  refine g_bipush (v := 7) dX13_init_98 (by decide) ?_
  refine g_ldcS 24 dX13_init_100 rfl rfl rfl ?_
  obtain ⟨n_47, f_48, h1, h2, h⟩ := h
  refine g_aastStr dX13_init_102 rfl h1 h2 ?_
  refine g_tops (fun s1_49 es1_49 => ?_)
  replace h := h s1_49 es1_49
  obtain ⟨fs_50, hO, hl, h⟩ := h
  refine g_putF 1 dX13_init_103 in_X13 tyX13 tyX13_ok nmX13 cl13 (by decide) q1155 rfl rfl rfl rfl rfl hO hl ?_
  refine g_tops (fun s1_51 es1_51 => ?_)
  replace h := h s1_51 es1_51
  refine g_aload_n dX13_init_106 rfl 0 rfl ?_
  refine g_aload_n dX13_init_107 rfl 1 rfl ?_
  obtain ⟨fs_52, hO, hl, h⟩ := h
  refine g_putF 2 dX13_init_108 in_X13 tyX13 tyX13_ok nmX13 cl13 (by decide) q1156 rfl rfl rfl rfl rfl hO hl ?_
  refine g_tops (fun s1_53 es1_53 => ?_)
  replace h := h s1_53 es1_53
  exact g_vret rfl dX13_init_111 h
theorem eX13_init {G : GC} {Q : Option Value → PS → Prop} {X : String → Nat → PS → Prop} {b : Nat} {h0 : Nat} {p1 : Nat} {σ : PS} (h : At G mX13_init 4 Q X b 0 [(0, .ref h0), (1, .ref p1)] [] σ) : Call G mX13_init 4 b [.ref h0, .ref p1] σ Q X :=
  Call.of (by decide +kernel) wsX13_init rfl (Nat.le_of_ble_eq_true rfl) (At.sub (ls := [(0, .ref h0), (1, .ref p1)]) [0, 1] rfl h)
set_option maxHeartbeats 4000000 in
theorem bX13_reads_0 {G : GC} {Q : Option Value → PS → Prop} {X : String → Nat → PS → Prop} {b : Nat} {h0 : Nat} {σ : PS} (h : 1 ≤ b ∧ (∀ q : Nat, (∀ κ, σ κ q = none) → (∀ s1 : PS, s1 = up (σ) 14 q (.inl [.null, .int 0]) → ∃ bc : Nat, bc ≤ b - 1 ∧ Call G mX14_init 4 bc [.ref q] s1 (qV (fun s1_1 => At G mX13_reads 151 Q X (b - 1 - bc) 8 [(0, .ref h0), (1, .ref q)] [] s1_1)) X))) : At G mX13_reads 151 Q X b 0 [(0, .ref h0)] [] (σ) := by
  obtain ⟨hb, h⟩ := h
  refine g_new (ci := 14) (fs := [.null, .int 0]) 1 dX13_reads_0 in_X14 tyX14 tyX14_ok cl14 q1168 q1169 q132 new14 (by decide) (by decide) hb (fun q hq => ?_)
  replace h := h q hq
  refine g_tops (fun s1 es1 => ?_)
  replace h := h s1 es1
  refine g_dup dX13_reads_3 rfl ?_
  obtain ⟨bc, hb9, h⟩ := h
  refine g_callIN (N := mX14_init) (st := [.ref q]) (As := []) (a := q) dX13_reads_4 wsX14_init q1172 q132 q1170 q1171 rfl mokX14_init rfl (by decide) (by decide) hb9 (by simp [Value.category]) h (fun E q s hx => AtX.out0 rfl hx) (fun _ s1_1 hq => ?_)
  obtain ⟨rfl, h⟩ := hq
  refine At.stk (st' := [.ref q]) rfl ?_
  refine g_astore_n (ls1 := [(1, .ref q), (0, .ref h0)]) dX13_reads_7 rfl (by decide) rfl ?_
  exact At.sub (ls := [(1, .ref q), (0, .ref h0)]) [1, 0] rfl h
set_option maxHeartbeats 4000000 in
theorem bX13_reads_8 {G : GC} {Q : Option Value → PS → Prop} {X : String → Nat → PS → Prop} {b : Nat} {h0 : Nat} {a1 : Nat} {σ : PS} (h : ∃ a_in : Nat, Fg (σ) 13 h0 2 (.ref a_in) ∧ ((∃ fs_35 : List Value, Ob (σ) 11 a_in fs_35) ∧ Call G mX11_now 4 0 [.ref a_in] (σ) (qI (fun rx s1 => ((rx = (-1)) → Q (some (.ref a1)) s1) ∧ ((¬ rx = (-1)) → ∃ a_in_1 : Nat, Fg s1 13 h0 2 (.ref a_in_1) ∧ ((∃ fs_34 : List Value, Ob s1 11 a_in_1 fs_34) ∧ Call G mX11_place 5 0 [.ref a_in_1] s1 (qI (fun rx_3 s1_2 => ∃ a_in_4 : Nat, Fg s1_2 13 h0 2 (.ref a_in_4) ∧ (∃ a_acts : Nat, Fg s1_2 13 h0 0 (.ref a_acts) ∧ ((∃ fs_33 : List Value, Ob s1_2 11 a_in_4 fs_33) ∧ Call G mX11_which 8 0 [.ref a_in_4, .ref a_acts] s1_2 (qI (fun rx_6 s1_5 => ((¬ rx_6 = (-1)) → ∃ x_many : Int32, Fg s1_5 14 a1 1 (.int x_many) ∧ (((¬ x_many = 8) → ∃ a_in_7 : Nat, Fg s1_5 13 h0 2 (.ref a_in_7) ∧ ((∃ fs_28 : List Value, Ob s1_5 11 a_in_7 fs_28) ∧ Call G mX11_skipsWord 4 0 [.ref a_in_7] s1_5 (qV (fun s1_8 => ∃ a_in_9 : Nat, Fg s1_8 13 h0 2 (.ref a_in_9) ∧ ((∃ fs_27 : List Value, Ob s1_8 11 a_in_9 fs_27) ∧ Call G mX11_takes 8 0 [.ref a_in_9, .ref (gk G 25)] s1_8 (qI (fun rx_11 s1_10 => ((rx_11 = 0) → ∃ a_in_12 : Nat, Fg s1_10 13 h0 2 (.ref a_in_12) ∧ ((∃ fs_16 : List Value, Ob s1_10 11 a_in_12 fs_16) ∧ Call G mX11_takes 8 0 [.ref a_in_12, .ref (gk G 26)] s1_10 (qI (fun rx_14 s1_13 => ((rx_14 = 0) → At G mX13_reads 151 Q X b 128 [(0, .ref h0), (1, .ref a1), (3, .int rx_6), (4, .int 0)] [va_rf none] s1_13) ∧ ((¬ rx_14 = 0) → ∃ bc : Nat, bc ≤ b ∧ (∃ fs : List Value, Ob s1_13 13 h0 fs) ∧ Call G mX13_any 150 bc [.ref h0] s1_13 (qR (fun ra s1_15 => At G mX13_reads 151 Q X (b - bc) 128 [(0, .ref h0), (1, .ref a1), (3, .int rx_6), (4, .int 0)] [va_rf (some ra)] s1_15)) X))) X)) ∧ ((¬ rx_11 = 0) → ∃ a_in_17 : Nat, Fg s1_10 13 h0 2 (.ref a_in_17) ∧ (∃ bc : Nat, bc ≤ b ∧ (∃ fs_26 : List Value, Ob s1_10 11 a_in_17 fs_26) ∧ Call G mX11_number 10 bc [.ref a_in_17, .int 1, .int 16] s1_10 (qI (fun rx_19 s1_18 => ∃ a_in_20 : Nat, Fg s1_18 13 h0 2 (.ref a_in_20) ∧ ((∃ fs_25 : List Value, Ob s1_18 11 a_in_20 fs_25) ∧ Call G mX11_takes 8 0 [.ref a_in_20, .ref (gk G 26)] s1_18 (qI (fun rx_22 s1_21 => ((rx_22 = 0) → At G mX13_reads 151 Q X (b - bc) 128 [(0, .ref h0), (1, .ref a1), (3, .int rx_6), (4, .int rx_19)] [va_rf none] s1_21) ∧ ((¬ rx_22 = 0) → ∃ bc_23 : Nat, bc_23 ≤ b - bc ∧ (∃ fs : List Value, Ob s1_21 13 h0 fs) ∧ Call G mX13_any 150 bc_23 [.ref h0] s1_21 (qR (fun ra s1_24 => At G mX13_reads 151 Q X (b - bc - bc_23) 128 [(0, .ref h0), (1, .ref a1), (3, .int rx_6), (4, .int rx_19)] [va_rf (some ra)] s1_24)) X))) X))) X)))) X))) X)) ∧ ((x_many = 8) → 1 ≤ b ∧ (∀ q : Nat, (∀ κ, s1_5 κ q = none) → (∀ s1_29 : PS, s1_29 = up s1_5 12 q (.inl [.null, .null, .null, .null, .null, .int 0, .int 0, .int 0]) → Call G mX12_init 6 0 [.ref q, .int 3, .int rx_3] s1_29 (qV (fun s1_30 => ∃ fs : List Value, Ob s1_30 12 q fs ∧ X "CardCups$Wrong" q s1_30)) X))))) ∧ ((rx_6 = (-1)) → 1 ≤ b ∧ (∀ q : Nat, (∀ κ, s1_5 κ q = none) → (∀ s1_31 : PS, s1_31 = up s1_5 12 q (.inl [.null, .null, .null, .null, .null, .int 0, .int 0, .int 0]) → Call G mX12_init 6 0 [.ref q, .int 1, .int rx_3] s1_31 (qV (fun s1_32 => ∃ fs : List Value, Ob s1_32 12 q fs ∧ X "CardCups$Wrong" q s1_32)) X))))) X)))) X)))) X)) : At G mX13_reads 151 Q X b 8 [(0, .ref h0), (1, .ref a1)] [] (σ) := by
  refine g_aload_n dX13_reads_8 rfl 0 rfl ?_
  obtain ⟨a_in, hf, h⟩ := h
  refine g_get 2 dX13_reads_9 in_X13 cl13 (by decide) q1156 hf ?_
  obtain ⟨⟨_, hO⟩, h⟩ := h
  refine g_callV (N := mX11_now) (st := []) (As := []) (a := a_in) dX13_reads_12 wsX11_now (lw_V q1189 q968 q969 q122 q970) rfl mokX11_now rfl cl11 (by decide) (by decide) (Nat.zero_le _) (Nat.zero_le _) hO h (fun E q s hx => AtX.out0 rfl hx) (fun _ s1 hq => ?_)
  obtain ⟨rx, rfl, h⟩ := hq
  refine At.stk (st' := [.int rx]) rfl ?_
  refine g_iconst (v := (-1)) dX13_reads_15 (by decide) ?_
  refine g_icmp_eq (tgt := 166) dX13_reads_16 (by decide) (fun c => ?_) (fun c => ?_)
  · replace h := h.1 c
    refine g_aload_n dX13_reads_166 rfl 1 rfl ?_
    exact g_aret (x := (some a1)) rfl dX13_reads_167 h
  · replace h := h.2 c
    refine g_aload_n dX13_reads_19 rfl 0 rfl ?_
    obtain ⟨a_in_1, hf, h⟩ := h
    refine g_get 2 dX13_reads_20 in_X13 cl13 (by decide) q1156 hf ?_
    obtain ⟨⟨_, hO⟩, h⟩ := h
    refine g_callV (N := mX11_place) (st := []) (As := []) (a := a_in_1) dX13_reads_23 wsX11_place (lw_V q1190 q980 q981 q122 q982) rfl mokX11_place rfl cl11 (by decide) (by decide) (Nat.zero_le _) (Nat.zero_le _) hO h (fun E q s hx => AtX.out0 rfl hx) (fun _ s1_2 hq => ?_)
    obtain ⟨rx_3, rfl, h⟩ := hq
    refine At.stk (st' := [.int rx_3]) rfl ?_
    refine g_istore_n (ls1 := [(2, .int rx_3), (0, .ref h0), (1, .ref a1)]) dX13_reads_26 rfl (by decide) rfl ?_
    refine g_aload_n dX13_reads_27 rfl 1 rfl ?_
    obtain ⟨a_in_4, hf, h⟩ := h
    refine g_get 2 dX13_reads_28 in_X13 cl13 (by decide) q1156 hf ?_
    refine g_aload_n dX13_reads_31 rfl 1 rfl ?_
    obtain ⟨a_acts, hf, h⟩ := h
    refine g_get 0 dX13_reads_32 in_X13 cl13 (by decide) q1154 hf ?_
    obtain ⟨⟨_, hO⟩, h⟩ := h
    refine g_callV (N := mX11_which) (st := []) (As := [.ref a_acts]) (a := a_in_4) dX13_reads_35 wsX11_which (lw_V q1191 q985 q986 q122 q987) rfl mokX11_which rfl cl11 (by decide) (by decide) (Nat.zero_le _) (Nat.zero_le _) hO h (fun E q s hx => AtX.out0 rfl hx) (fun _ s1_5 hq => ?_)
    obtain ⟨rx_6, rfl, h⟩ := hq
    refine At.stk (st' := [.int rx_6]) rfl ?_
    refine g_istore_n (ls1 := [(3, .int rx_6), (2, .int rx_3), (0, .ref h0), (1, .ref a1)]) dX13_reads_38 rfl (by decide) rfl ?_
    refine g_iload_n dX13_reads_39 rfl 0 rfl ?_
    refine g_iconst (v := (-1)) dX13_reads_40 (by decide) ?_
    refine g_icmp_ne (tgt := 54) dX13_reads_41 (by decide) (fun c => ?_) (fun c => ?_)
    · replace h := h.1 c
      refine g_aload_n dX13_reads_54 rfl 3 rfl ?_
      obtain ⟨x_many, hf, h⟩ := h
      refine g_getN 1 dX13_reads_55 in_X14 cl14 (by decide) q1180 hf ?_
      refine g_bipush (v := 8) dX13_reads_58 (by decide) ?_
      refine g_icmp_ne (tgt := 73) dX13_reads_60 (by decide) (fun c => ?_) (fun c => ?_)
      · replace h := h.1 c
        refine g_aload_n dX13_reads_73 rfl 2 rfl ?_
        obtain ⟨a_in_7, hf, h⟩ := h
        refine g_get 2 dX13_reads_74 in_X13 cl13 (by decide) q1156 hf ?_
        obtain ⟨⟨_, hO⟩, h⟩ := h
        refine g_callV (N := mX11_skipsWord) (st := []) (As := []) (a := a_in_7) dX13_reads_77 wsX11_skipsWord (lw_V q1194 q1073 q1074 q122 q1075) rfl mokX11_skipsWord rfl cl11 (by decide) (by decide) (Nat.zero_le _) (Nat.zero_le _) hO h (fun E q s hx => AtX.out0 rfl hx) (fun _ s1_8 hq => ?_)
        obtain ⟨rfl, h⟩ := hq
        refine At.stk (st' := []) rfl ?_
        refine g_aload_n dX13_reads_80 rfl 2 rfl ?_
        obtain ⟨a_in_9, hf, h⟩ := h
        refine g_get 2 dX13_reads_81 in_X13 cl13 (by decide) q1156 hf ?_
        refine g_ldcS 25 dX13_reads_84 rfl rfl rfl ?_
        obtain ⟨⟨_, hO⟩, h⟩ := h
        refine g_callV (N := mX11_takes) (st := []) (As := [.ref (gk G 25)]) (a := a_in_9) dX13_reads_86 wsX11_takes (lw_V q1196 q1197 q1198 q122 q1199) rfl mokX11_takes rfl cl11 (by decide) (by decide) (Nat.zero_le _) (Nat.zero_le _) hO h (fun E q s hx => AtX.out0 rfl hx) (fun _ s1_10 hq => ?_)
        obtain ⟨rx_11, rfl, h⟩ := hq
        refine At.stk (st' := [.int rx_11]) rfl ?_
        refine g_if_eq (tgt := 105) dX13_reads_89 (by decide) (fun c => ?_) (fun c => ?_)
        · replace h := h.1 c
          refine g_iconst (v := 0) dX13_reads_105 (by decide) ?_
          refine g_istore (ls1 := [(4, .int 0), (3, .int rx_6), (2, .int rx_3), (0, .ref h0), (1, .ref a1)]) dX13_reads_106 (by decide) rfl ?_
          refine g_aload_n dX13_reads_108 rfl 3 rfl ?_
          obtain ⟨a_in_12, hf, h⟩ := h
          refine g_get 2 dX13_reads_109 in_X13 cl13 (by decide) q1156 hf ?_
          refine g_ldcS 26 dX13_reads_112 rfl rfl rfl ?_
          obtain ⟨⟨_, hO⟩, h⟩ := h
          refine g_callV (N := mX11_takes) (st := []) (As := [.ref (gk G 26)]) (a := a_in_12) dX13_reads_114 wsX11_takes (lw_V q1196 q1197 q1198 q122 q1199) rfl mokX11_takes rfl cl11 (by decide) (by decide) (Nat.zero_le _) (Nat.zero_le _) hO h (fun E q s hx => AtX.out0 rfl hx) (fun _ s1_13 hq => ?_)
          obtain ⟨rx_14, rfl, h⟩ := hq
          refine At.stk (st' := [.int rx_14]) rfl ?_
          refine g_if_eq (tgt := 127) dX13_reads_117 (by decide) (fun c => ?_) (fun c => ?_)
          · replace h := h.1 c
            refine g_null dX13_reads_127 ?_
            exact At.sub (ls := [(4, .int 0), (3, .int rx_6), (2, .int rx_3), (0, .ref h0), (1, .ref a1)]) [3, 4, 1, 0] rfl h
          · replace h := h.2 c
            refine g_aload_n dX13_reads_120 rfl 3 rfl ?_
            obtain ⟨bc, hb9, h⟩ := h
            obtain ⟨⟨_, hO⟩, h⟩ := h
            refine g_callV (N := mX13_any) (st := []) (As := []) (a := h0) dX13_reads_121 wsX13_any (lw_V q1202 q1204 qs19 q131 q1205) rfl mokX13_any rfl cl13 (by decide) (by decide) hb9 (Nat.zero_le _) hO h (fun E q s hx => AtX.out0 rfl hx) (fun _ s1_15 hq => ?_)
            obtain ⟨ra, rfl, h⟩ := hq
            refine At.stk (st' := [.ref ra]) rfl ?_
            refine g_goto (tgt := 128) dX13_reads_124 (by decide) ?_
            exact At.sub (ls := [(4, .int 0), (3, .int rx_6), (2, .int rx_3), (0, .ref h0), (1, .ref a1)]) [3, 4, 1, 0] rfl h
        · replace h := h.2 c
          refine g_aload_n dX13_reads_92 rfl 2 rfl ?_
          obtain ⟨a_in_17, hf, h⟩ := h
          refine g_get 2 dX13_reads_93 in_X13 cl13 (by decide) q1156 hf ?_
          refine g_iconst (v := 1) dX13_reads_96 (by decide) ?_
          refine g_bipush (v := 16) dX13_reads_97 (by decide) ?_
          obtain ⟨bc, hb9, h⟩ := h
          obtain ⟨⟨_, hO⟩, h⟩ := h
          refine g_callV (N := mX11_number) (st := []) (As := [.int 1, .int 16]) (a := a_in_17) dX13_reads_99 wsX11_number (lw_V q1200 q1077 q1078 q122 q1079) rfl mokX11_number rfl cl11 (by decide) (by decide) hb9 (Nat.zero_le _) hO h (fun E q s hx => AtX.out0 rfl hx) (fun _ s1_18 hq => ?_)
          obtain ⟨rx_19, rfl, h⟩ := hq
          refine At.stk (st' := [.int rx_19]) rfl ?_
          refine g_goto (tgt := 106) dX13_reads_102 (by decide) ?_
          refine g_istore (ls1 := [(4, .int rx_19), (3, .int rx_6), (2, .int rx_3), (0, .ref h0), (1, .ref a1)]) dX13_reads_106 (by decide) rfl ?_
          refine g_aload_n dX13_reads_108 rfl 3 rfl ?_
          obtain ⟨a_in_20, hf, h⟩ := h
          refine g_get 2 dX13_reads_109 in_X13 cl13 (by decide) q1156 hf ?_
          refine g_ldcS 26 dX13_reads_112 rfl rfl rfl ?_
          obtain ⟨⟨_, hO⟩, h⟩ := h
          refine g_callV (N := mX11_takes) (st := []) (As := [.ref (gk G 26)]) (a := a_in_20) dX13_reads_114 wsX11_takes (lw_V q1196 q1197 q1198 q122 q1199) rfl mokX11_takes rfl cl11 (by decide) (by decide) (Nat.zero_le _) (Nat.zero_le _) hO h (fun E q s hx => AtX.out0 rfl hx) (fun _ s1_21 hq => ?_)
          obtain ⟨rx_22, rfl, h⟩ := hq
          refine At.stk (st' := [.int rx_22]) rfl ?_
          refine g_if_eq (tgt := 127) dX13_reads_117 (by decide) (fun c => ?_) (fun c => ?_)
          · replace h := h.1 c
            refine g_null dX13_reads_127 ?_
            exact At.sub (ls := [(4, .int rx_19), (3, .int rx_6), (2, .int rx_3), (0, .ref h0), (1, .ref a1)]) [3, 4, 1, 0] rfl h
          · replace h := h.2 c
            refine g_aload_n dX13_reads_120 rfl 3 rfl ?_
            obtain ⟨bc_23, hb9, h⟩ := h
            obtain ⟨⟨_, hO⟩, h⟩ := h
            refine g_callV (N := mX13_any) (st := []) (As := []) (a := h0) dX13_reads_121 wsX13_any (lw_V q1202 q1204 qs19 q131 q1205) rfl mokX13_any rfl cl13 (by decide) (by decide) hb9 (Nat.zero_le _) hO h (fun E q s hx => AtX.out0 rfl hx) (fun _ s1_24 hq => ?_)
            obtain ⟨ra, rfl, h⟩ := hq
            refine At.stk (st' := [.ref ra]) rfl ?_
            refine g_goto (tgt := 128) dX13_reads_124 (by decide) ?_
            exact At.sub (ls := [(4, .int rx_19), (3, .int rx_6), (2, .int rx_3), (0, .ref h0), (1, .ref a1)]) [3, 4, 1, 0] rfl h
      · replace h := h.2 c
        obtain ⟨hb, h⟩ := h
        refine g_new (ci := 12) (fs := [.null, .null, .null, .null, .null, .int 0, .int 0, .int 0]) 1 dX13_reads_63 in_X12 tyX12 tyX12_ok cl12 q1192 q1045 q127 new12 (by decide) (by decide) hb (fun q hq => ?_)
        replace h := h q hq
        refine g_tops (fun s1_29 es1_29 => ?_)
        replace h := h s1_29 es1_29
        refine g_dup dX13_reads_66 rfl ?_
        refine g_iconst (v := 3) dX13_reads_67 (by decide) ?_
        refine g_iload_n dX13_reads_68 rfl 1 rfl ?_
        refine g_callI (N := mX12_init) (st := [.ref q]) (As := [.int 3, .int rx_3]) (a := q) dX13_reads_69 wsX12_init q1055 q127 q1193 q1054 rfl mokX12_init rfl (by decide) (by decide) (Nat.zero_le _) (by simp [Value.category]) h (fun E q s hx => AtX.out0 rfl hx) (fun _ s1_30 hq => ?_)
        obtain ⟨rfl, h⟩ := hq
        refine At.stk (st' := [.ref q]) rfl ?_
        obtain ⟨fs, hO, h⟩ := h
        exact g_athrow dX13_reads_72 cl12 rfl hO (AtX.out0 rfl h)
    · replace h := h.2 c
      obtain ⟨hb, h⟩ := h
      refine g_new (ci := 12) (fs := [.null, .null, .null, .null, .null, .int 0, .int 0, .int 0]) 1 dX13_reads_44 in_X12 tyX12 tyX12_ok cl12 q1192 q1045 q127 new12 (by decide) (by decide) hb (fun q hq => ?_)
      replace h := h q hq
      refine g_tops (fun s1_31 es1_31 => ?_)
      replace h := h s1_31 es1_31
      refine g_dup dX13_reads_47 rfl ?_
      refine g_iconst (v := 1) dX13_reads_48 (by decide) ?_
      refine g_iload_n dX13_reads_49 rfl 1 rfl ?_
      refine g_callI (N := mX12_init) (st := [.ref q]) (As := [.int 1, .int rx_3]) (a := q) dX13_reads_50 wsX12_init q1055 q127 q1193 q1054 rfl mokX12_init rfl (by decide) (by decide) (Nat.zero_le _) (by simp [Value.category]) h (fun E q s hx => AtX.out0 rfl hx) (fun _ s1_32 hq => ?_)
      obtain ⟨rfl, h⟩ := hq
      refine At.stk (st' := [.ref q]) rfl ?_
      obtain ⟨fs, hO, h⟩ := h
      exact g_athrow dX13_reads_53 cl12 rfl hO (AtX.out0 rfl h)
set_option maxHeartbeats 4000000 in
theorem bX13_reads_128 {G : GC} {Q : Option Value → PS → Prop} {X : String → Nat → PS → Prop} {b : Nat} {h0 : Nat} {a1 : Nat} {x3 : Int32} {x4 : Int32} {su0 : Option Nat} {σ : PS} (h : ∃ a_in : Nat, Fg (σ) 13 h0 2 (.ref a_in) ∧ (∃ bc : Nat, bc ≤ b ∧ (∃ fs_5 : List Value, Ob (σ) 11 a_in fs_5) ∧ Call G mX11_sign 10 bc [.ref a_in, .int 59] (σ) (qV (fun s1 => ∃ a_steps : Nat, Fg s1 14 a1 0 (.ref a_steps) ∧ (∃ x_many : Int32, Fg s1 14 a1 1 (.int x_many) ∧ (∃ fs : List Value, Ob s1 14 a1 fs ∧ 1 < fs.length ∧ (∀ s1_1 : PS, s1_1 = up s1 14 a1 (.inl (fs.set 1 (.int (x_many + 1)))) → ∃ bc_2 : Nat, bc_2 ≤ b - bc ∧ Call G mX13_step 6 bc_2 [.int x3, .int x4, va_rf su0] s1_1 (qR (fun ra s1_3 => ∃ (n : Nat) (f : Nat → Option Nat) (κv : Nat) (vs : List Value), Qa s1_3 106 a_steps n f ∧ (20 ≤ κv ∧ κv ≤ 25) ∧ Ob s1_3 κv ra vs ∧ vp_in x_many n ∧ (∀ s1_4 : PS, s1_4 = up s1_3 106 a_steps (.inr (n, .inr (.inr (va_up f x_many.toNatClampNeg (some ra))))) → At G mX13_reads 151 Q X (b - bc - bc_2) 8 [(0, .ref h0), (1, .ref a1)] [] s1_4))) X))))) X)) : At G mX13_reads 151 Q X b 128 [(0, .ref h0), (1, .ref a1), (3, .int x3), (4, .int x4)] [va_rf su0] (σ) := by
  refine g_astoreq (ls1 := [(5, va_rf su0), (0, .ref h0), (1, .ref a1), (3, .int x3), (4, .int x4)]) dX13_reads_128 (by decide) rfl ?_
  refine g_aload_n dX13_reads_130 rfl 1 rfl ?_
  obtain ⟨a_in, hf, h⟩ := h
  refine g_get 2 dX13_reads_131 in_X13 cl13 (by decide) q1156 hf ?_
  refine g_bipush (v := 59) dX13_reads_134 (by decide) ?_
  obtain ⟨bc, hb9, h⟩ := h
  obtain ⟨⟨_, hO⟩, h⟩ := h
  refine g_callV (N := mX11_sign) (st := []) (As := [.int 59]) (a := a_in) dX13_reads_136 wsX11_sign (lw_V q1234 q1092 q1093 q122 q1094) rfl mokX11_sign rfl cl11 (by decide) (by decide) hb9 (Nat.zero_le _) hO h (fun E q s hx => AtX.out0 rfl hx) (fun _ s1 hq => ?_)
  obtain ⟨rfl, h⟩ := hq
  refine At.stk (st' := []) rfl ?_
  refine g_aload_n dX13_reads_139 rfl 2 rfl ?_
  obtain ⟨a_steps, hf, h⟩ := h
  refine g_getN 0 dX13_reads_140 in_X14 cl14 (by decide) q1177 hf ?_
  refine g_aload_n dX13_reads_143 rfl 2 rfl ?_
  refine g_dup dX13_reads_144 rfl ?_
  obtain ⟨x_many, hf, h⟩ := h
  refine g_getN 1 dX13_reads_145 in_X14 cl14 (by decide) q1180 hf ?_
  refine g_dup_x1 dX13_reads_148 rfl rfl ?_
  refine g_iconst (v := 1) dX13_reads_149 (by decide) ?_
  refine g_iadd dX13_reads_150 ?_
  obtain ⟨fs, hO, hl, h⟩ := h
  refine g_putN 1 dX13_reads_151 in_X14 tyX14 tyX14_ok nmX14 cl14 (by decide) q1180 rfl rfl rfl hO hl ?_
  refine g_tops (fun s1_1 es1_1 => ?_)
  replace h := h s1_1 es1_1
  refine g_iload_n dX13_reads_154 rfl 3 rfl ?_
  refine g_iload dX13_reads_155 4 rfl ?_
  refine g_aloadq dX13_reads_157 0 rfl ?_
  obtain ⟨bc_2, hb9, h⟩ := h
  refine g_callS (N := mX13_step) (st := [.int x_many, .ref a_steps]) (As := [.int x3, .int x4, va_rf su0]) dX13_reads_159 wsX13_step (lw_S q1289 q1290 q131 q1291) mokX13_step rfl (by decide) (by decide) hb9 (by simp [Value.category]) h (fun E q s hx => AtX.out0 rfl hx) (fun _ s1_3 hq => ?_)
  obtain ⟨ra, rfl, h⟩ := hq
  refine At.stk (st' := [.ref ra, .int x_many, .ref a_steps]) rfl ?_
  obtain ⟨n, f, κv, vs, h1, h4, h3, h2, h⟩ := h
  refine g_aastStep dX13_reads_162 h4 h1 h3 h2 ?_
  refine g_tops (fun s1_4 es1_4 => ?_)
  replace h := h s1_4 es1_4
  refine g_goto (tgt := 8) dX13_reads_163 (by decide) ?_
  exact At.sub (ls := [(5, va_rf su0), (0, .ref h0), (1, .ref a1), (3, .int x3), (4, .int x4)]) [1, 2] rfl h
theorem eX13_reads {G : GC} {Q : Option Value → PS → Prop} {X : String → Nat → PS → Prop} {b : Nat} {h0 : Nat} {σ : PS} (h : At G mX13_reads 151 Q X b 0 [(0, .ref h0)] [] σ) : Call G mX13_reads 151 b [.ref h0] σ Q X :=
  Call.of (by decide +kernel) wsX13_reads rfl (Nat.le_of_ble_eq_true rfl) (At.sub (ls := [(0, .ref h0)]) [0] rfl h)
set_option maxHeartbeats 4000000 in
theorem bX13_any_0 {G : GC} {r : Nat} {Q : Option Value → PS → Prop} {X : String → Nat → PS → Prop} {b : Nat} {h0 : Nat} {σ : PS} (h : ∃ rc : Nat, rc + 1 ≤ r ∧ ∃ bc : Nat, bc ≤ b ∧ (∃ fs : List Value, Ob (σ) 13 h0 fs) ∧ Call G mX13_each rc bc [.ref h0] (σ) (qR (fun ra s1 => At G mX13_any r Q X (b - bc) 5 [(0, .ref h0), (1, .ref ra)] [] s1)) X) : At G mX13_any r Q X b 0 [(0, .ref h0)] [] (σ) := by
  refine g_aload_n dX13_any_0 rfl 0 rfl ?_
  obtain ⟨rc, hr9, h⟩ := h
  obtain ⟨bc, hb9, h⟩ := h
  obtain ⟨⟨_, hO⟩, h⟩ := h
  refine g_callV (N := mX13_each) (st := []) (As := []) (a := h0) dX13_any_1 wsX13_each (lw_V q1206 q1208 qs20 q131 q1209) rfl mokX13_each rfl cl13 hr9 (by decide) hb9 (Nat.zero_le _) hO h (fun E q s hx => AtX.out0 rfl hx) (fun _ s1 hq => ?_)
  obtain ⟨ra, rfl, h⟩ := hq
  refine At.stk (st' := [.ref ra]) rfl ?_
  refine g_astore_n (ls1 := [(1, .ref ra), (0, .ref h0)]) dX13_any_4 rfl (by decide) rfl ?_
  exact At.sub (ls := [(1, .ref ra), (0, .ref h0)]) [1, 0] rfl h
set_option maxHeartbeats 4000000 in
theorem bX13_any_5 {G : GC} {r : Nat} {Q : Option Value → PS → Prop} {X : String → Nat → PS → Prop} {b : Nat} {h0 : Nat} {a1 : Nat} {σ : PS} (h : ∃ a_in : Nat, Fg (σ) 13 h0 2 (.ref a_in) ∧ (8 + 1 ≤ r ∧ (∃ fs_4 : List Value, Ob (σ) 11 a_in fs_4) ∧ Call G mX11_takes 8 0 [.ref a_in, .ref (gk G 29)] (σ) (qI (fun rx s1 => ((rx = 0) → Q (some (.ref a1)) s1) ∧ ((¬ rx = 0) → 1 ≤ b ∧ (∀ q : Nat, (∀ κ, s1 κ q = none) → (∀ s1_1 : PS, s1_1 = up s1 18 q (.inl [.int 0, .null, .null]) → ∃ rc : Nat, rc + 1 ≤ r ∧ ∃ bc : Nat, bc ≤ b - 1 ∧ (∃ fs : List Value, Ob s1_1 13 h0 fs) ∧ Call G mX13_each rc bc [.ref h0] s1_1 (qR (fun ra s1_2 => 4 + 1 ≤ r ∧ Call G mX18_init 4 0 [.ref q, .int 124, .ref a1, .ref ra] s1_2 (qV (fun s1_3 => At G mX13_any r Q X (b - 1 - bc) 5 [(0, .ref h0), (1, .ref q)] [] s1_3)) X)) X))))) X)) : At G mX13_any r Q X b 5 [(0, .ref h0), (1, .ref a1)] [] (σ) := by
  refine g_aload_n dX13_any_5 rfl 0 rfl ?_
  obtain ⟨a_in, hf, h⟩ := h
  refine g_get 2 dX13_any_6 in_X13 cl13 (by decide) q1156 hf ?_
  refine g_ldcS 29 dX13_any_9 rfl rfl rfl ?_
  obtain ⟨hr9, h⟩ := h
  obtain ⟨⟨_, hO⟩, h⟩ := h
  refine g_callV (N := mX11_takes) (st := []) (As := [.ref (gk G 29)]) (a := a_in) dX13_any_11 wsX11_takes (lw_V q1196 q1197 q1198 q122 q1199) rfl mokX11_takes rfl cl11 hr9 (by decide) (Nat.zero_le _) (Nat.zero_le _) hO h (fun E q s hx => AtX.out0 rfl hx) (fun _ s1 hq => ?_)
  obtain ⟨rx, rfl, h⟩ := hq
  refine At.stk (st' := [.int rx]) rfl ?_
  refine g_if_eq (tgt := 35) dX13_any_14 (by decide) (fun c => ?_) (fun c => ?_)
  · replace h := h.1 c
    refine g_aload_n dX13_any_35 rfl 1 rfl ?_
    exact g_aret (x := (some a1)) rfl dX13_any_36 h
  · replace h := h.2 c
    obtain ⟨hb, h⟩ := h
    refine g_new (ci := 18) (fs := [.int 0, .null, .null]) 1 dX13_any_17 in_X18 tyX18 tyX18_ok cl18 q1271 q1272 q136 new18 (by decide) (by decide) hb (fun q hq => ?_)
    replace h := h q hq
    refine g_tops (fun s1_1 es1_1 => ?_)
    replace h := h s1_1 es1_1
    refine g_dup dX13_any_20 rfl ?_
    refine g_bipush (v := 124) dX13_any_21 (by decide) ?_
    refine g_aload_n dX13_any_23 rfl 1 rfl ?_
    refine g_aload_n dX13_any_24 rfl 0 rfl ?_
    obtain ⟨rc, hr9, h⟩ := h
    obtain ⟨bc, hb9, h⟩ := h
    obtain ⟨⟨_, hO⟩, h⟩ := h
    refine g_callV (N := mX13_each) (st := [.ref a1, .int 124, .ref q, .ref q]) (As := []) (a := h0) dX13_any_25 wsX13_each (lw_V q1206 q1208 qs20 q131 q1209) rfl mokX13_each rfl cl13 hr9 (by decide) hb9 (by simp [Value.category]) hO h (fun E q s hx => AtX.out0 rfl hx) (fun _ s1_2 hq => ?_)
    obtain ⟨ra, rfl, h⟩ := hq
    refine At.stk (st' := [.ref ra, .ref a1, .int 124, .ref q, .ref q]) rfl ?_
    obtain ⟨hr9, h⟩ := h
    refine g_callI (N := mX18_init) (st := [.ref q]) (As := [.int 124, .ref a1, .ref ra]) (a := q) dX13_any_28 wsX18_init q1275 q136 q1273 q1274 rfl mokX18_init rfl hr9 (by decide) (Nat.zero_le _) (by simp [Value.category]) h (fun E q s hx => AtX.out0 rfl hx) (fun _ s1_3 hq => ?_)
    obtain ⟨rfl, h⟩ := hq
    refine At.stk (st' := [.ref q]) rfl ?_
    refine g_astore_n (ls1 := [(1, .ref q), (0, .ref h0)]) dX13_any_31 rfl (by decide) rfl ?_
    refine g_goto (tgt := 5) dX13_any_32 (by decide) ?_
    exact At.sub (ls := [(1, .ref q), (0, .ref h0)]) [1, 0] rfl h
theorem eX13_any {G : GC} {r : Nat} {Q : Option Value → PS → Prop} {X : String → Nat → PS → Prop} {b : Nat} {h0 : Nat} {σ : PS} (h : At G mX13_any r Q X b 0 [(0, .ref h0)] [] σ) : Call G mX13_any r b [.ref h0] σ Q X :=
  Call.of (by decide +kernel) wsX13_any rfl (Nat.le_of_ble_eq_true rfl) (At.sub (ls := [(0, .ref h0)]) [0] rfl h)
set_option maxHeartbeats 4000000 in
theorem bX13_each_0 {G : GC} {r : Nat} {Q : Option Value → PS → Prop} {X : String → Nat → PS → Prop} {b : Nat} {h0 : Nat} {σ : PS} (h : ∃ rc : Nat, rc + 1 ≤ r ∧ ∃ bc : Nat, bc ≤ b ∧ (∃ fs : List Value, Ob (σ) 13 h0 fs) ∧ Call G mX13_one rc bc [.ref h0] (σ) (qR (fun ra s1 => At G mX13_each r Q X (b - bc) 5 [(0, .ref h0), (1, .ref ra)] [] s1)) X) : At G mX13_each r Q X b 0 [(0, .ref h0)] [] (σ) := by
  refine g_aload_n dX13_each_0 rfl 0 rfl ?_
  obtain ⟨rc, hr9, h⟩ := h
  obtain ⟨bc, hb9, h⟩ := h
  obtain ⟨⟨_, hO⟩, h⟩ := h
  refine g_callV (N := mX13_one) (st := []) (As := []) (a := h0) dX13_each_1 wsX13_one (lw_V q1210 q1212 qs21 q131 q1213) rfl mokX13_one rfl cl13 hr9 (by decide) hb9 (Nat.zero_le _) hO h (fun E q s hx => AtX.out0 rfl hx) (fun _ s1 hq => ?_)
  obtain ⟨ra, rfl, h⟩ := hq
  refine At.stk (st' := [.ref ra]) rfl ?_
  refine g_astore_n (ls1 := [(1, .ref ra), (0, .ref h0)]) dX13_each_4 rfl (by decide) rfl ?_
  exact At.sub (ls := [(1, .ref ra), (0, .ref h0)]) [1, 0] rfl h
set_option maxHeartbeats 4000000 in
theorem bX13_each_5 {G : GC} {r : Nat} {Q : Option Value → PS → Prop} {X : String → Nat → PS → Prop} {b : Nat} {h0 : Nat} {a1 : Nat} {σ : PS} (h : ∃ a_in : Nat, Fg (σ) 13 h0 2 (.ref a_in) ∧ (8 + 1 ≤ r ∧ (∃ fs_4 : List Value, Ob (σ) 11 a_in fs_4) ∧ Call G mX11_takes 8 0 [.ref a_in, .ref (gk G 28)] (σ) (qI (fun rx s1 => ((rx = 0) → Q (some (.ref a1)) s1) ∧ ((¬ rx = 0) → 1 ≤ b ∧ (∀ q : Nat, (∀ κ, s1 κ q = none) → (∀ s1_1 : PS, s1_1 = up s1 18 q (.inl [.int 0, .null, .null]) → ∃ rc : Nat, rc + 1 ≤ r ∧ ∃ bc : Nat, bc ≤ b - 1 ∧ (∃ fs : List Value, Ob s1_1 13 h0 fs) ∧ Call G mX13_one rc bc [.ref h0] s1_1 (qR (fun ra s1_2 => 4 + 1 ≤ r ∧ Call G mX18_init 4 0 [.ref q, .int 38, .ref a1, .ref ra] s1_2 (qV (fun s1_3 => At G mX13_each r Q X (b - 1 - bc) 5 [(0, .ref h0), (1, .ref q)] [] s1_3)) X)) X))))) X)) : At G mX13_each r Q X b 5 [(0, .ref h0), (1, .ref a1)] [] (σ) := by
  refine g_aload_n dX13_each_5 rfl 0 rfl ?_
  obtain ⟨a_in, hf, h⟩ := h
  refine g_get 2 dX13_each_6 in_X13 cl13 (by decide) q1156 hf ?_
  refine g_ldcS 28 dX13_each_9 rfl rfl rfl ?_
  obtain ⟨hr9, h⟩ := h
  obtain ⟨⟨_, hO⟩, h⟩ := h
  refine g_callV (N := mX11_takes) (st := []) (As := [.ref (gk G 28)]) (a := a_in) dX13_each_11 wsX11_takes (lw_V q1196 q1197 q1198 q122 q1199) rfl mokX11_takes rfl cl11 hr9 (by decide) (Nat.zero_le _) (Nat.zero_le _) hO h (fun E q s hx => AtX.out0 rfl hx) (fun _ s1 hq => ?_)
  obtain ⟨rx, rfl, h⟩ := hq
  refine At.stk (st' := [.int rx]) rfl ?_
  refine g_if_eq (tgt := 35) dX13_each_14 (by decide) (fun c => ?_) (fun c => ?_)
  · replace h := h.1 c
    refine g_aload_n dX13_each_35 rfl 1 rfl ?_
    exact g_aret (x := (some a1)) rfl dX13_each_36 h
  · replace h := h.2 c
    obtain ⟨hb, h⟩ := h
    refine g_new (ci := 18) (fs := [.int 0, .null, .null]) 1 dX13_each_17 in_X18 tyX18 tyX18_ok cl18 q1271 q1272 q136 new18 (by decide) (by decide) hb (fun q hq => ?_)
    replace h := h q hq
    refine g_tops (fun s1_1 es1_1 => ?_)
    replace h := h s1_1 es1_1
    refine g_dup dX13_each_20 rfl ?_
    refine g_bipush (v := 38) dX13_each_21 (by decide) ?_
    refine g_aload_n dX13_each_23 rfl 1 rfl ?_
    refine g_aload_n dX13_each_24 rfl 0 rfl ?_
    obtain ⟨rc, hr9, h⟩ := h
    obtain ⟨bc, hb9, h⟩ := h
    obtain ⟨⟨_, hO⟩, h⟩ := h
    refine g_callV (N := mX13_one) (st := [.ref a1, .int 38, .ref q, .ref q]) (As := []) (a := h0) dX13_each_25 wsX13_one (lw_V q1210 q1212 qs21 q131 q1213) rfl mokX13_one rfl cl13 hr9 (by decide) hb9 (by simp [Value.category]) hO h (fun E q s hx => AtX.out0 rfl hx) (fun _ s1_2 hq => ?_)
    obtain ⟨ra, rfl, h⟩ := hq
    refine At.stk (st' := [.ref ra, .ref a1, .int 38, .ref q, .ref q]) rfl ?_
    obtain ⟨hr9, h⟩ := h
    refine g_callI (N := mX18_init) (st := [.ref q]) (As := [.int 38, .ref a1, .ref ra]) (a := q) dX13_each_28 wsX18_init q1275 q136 q1273 q1274 rfl mokX18_init rfl hr9 (by decide) (Nat.zero_le _) (by simp [Value.category]) h (fun E q s hx => AtX.out0 rfl hx) (fun _ s1_3 hq => ?_)
    obtain ⟨rfl, h⟩ := hq
    refine At.stk (st' := [.ref q]) rfl ?_
    refine g_astore_n (ls1 := [(1, .ref q), (0, .ref h0)]) dX13_each_31 rfl (by decide) rfl ?_
    refine g_goto (tgt := 5) dX13_each_32 (by decide) ?_
    exact At.sub (ls := [(1, .ref q), (0, .ref h0)]) [1, 0] rfl h
theorem eX13_each {G : GC} {r : Nat} {Q : Option Value → PS → Prop} {X : String → Nat → PS → Prop} {b : Nat} {h0 : Nat} {σ : PS} (h : At G mX13_each r Q X b 0 [(0, .ref h0)] [] σ) : Call G mX13_each r b [.ref h0] σ Q X :=
  Call.of (by decide +kernel) wsX13_each rfl (Nat.le_of_ble_eq_true rfl) (At.sub (ls := [(0, .ref h0)]) [0] rfl h)
set_option maxHeartbeats 4000000 in
theorem bX13_one_0 {G : GC} {r : Nat} {Q : Option Value → PS → Prop} {X : String → Nat → PS → Prop} {b : Nat} {h0 : Nat} {σ : PS} (h : ∃ a_in : Nat, Fg (σ) 13 h0 2 (.ref a_in) ∧ (7 + 1 ≤ r ∧ (∃ fs_43 : List Value, Ob (σ) 11 a_in fs_43) ∧ Call G mX11_isWord 7 0 [.ref a_in, .ref (gk G 27)] (σ) (qI (fun rx s1 => ((rx = 0) → ∃ a_in_1 : Nat, Fg s1 13 h0 2 (.ref a_in_1) ∧ (4 + 1 ≤ r ∧ (∃ fs_29 : List Value, Ob s1 11 a_in_1 fs_29) ∧ Call G mX11_now 4 0 [.ref a_in_1] s1 (qI (fun rx_3 s1_2 => ((¬ rx_3 = 91) → ∃ rc : Nat, rc + 1 ≤ r ∧ ∃ bc : Nat, bc ≤ b ∧ (∃ fs_12 : List Value, Ob s1_2 13 h0 fs_12) ∧ Call G mX13_sum rc bc [.ref h0] s1_2 (qR (fun ra s1_4 => ∃ a_in_5 : Nat, Fg s1_4 13 h0 2 (.ref a_in_5) ∧ (5 + 1 ≤ r ∧ (∃ fs_11 : List Value, Ob s1_4 11 a_in_5 fs_11) ∧ Call G mX11_takesSign 5 0 [.ref a_in_5, .int 60] s1_4 (qI (fun rx_7 s1_6 => ((rx_7 = 0) → ∃ a_in_8 : Nat, Fg s1_6 13 h0 2 (.ref a_in_8) ∧ (5 + 1 ≤ r ∧ (∃ fs : List Value, Ob s1_6 11 a_in_8 fs) ∧ Call G mX11_takesSign 5 0 [.ref a_in_8, .int 62] s1_6 (qI (fun rx_10 s1_9 => ((rx_10 = 0) → At G mX13_one r Q X (b - bc) 139 [(0, .ref h0), (1, .ref ra)] [.int 61] s1_9) ∧ ((¬ rx_10 = 0) → At G mX13_one r Q X (b - bc) 139 [(0, .ref h0), (1, .ref ra)] [.int 62] s1_9))) X)) ∧ ((¬ rx_7 = 0) → At G mX13_one r Q X (b - bc) 139 [(0, .ref h0), (1, .ref ra)] [.int 60] s1_6))) X))) X) ∧ ((rx_3 = 91) → ∃ a_in_13 : Nat, Fg s1_2 13 h0 2 (.ref a_in_13) ∧ (10 + 1 ≤ r ∧ ∃ bc : Nat, bc ≤ b ∧ (∃ fs_28 : List Value, Ob s1_2 11 a_in_13 fs_28) ∧ Call G mX11_opens 10 bc [.ref a_in_13] s1_2 (qV (fun s1_14 => ∃ a_in_15 : Nat, Fg s1_14 13 h0 2 (.ref a_in_15) ∧ (10 + 1 ≤ r ∧ ∃ bc_16 : Nat, bc_16 ≤ b - bc ∧ (∃ fs_27 : List Value, Ob s1_14 11 a_in_15 fs_27) ∧ Call G mX11_sign 10 bc_16 [.ref a_in_15, .int 91] s1_14 (qV (fun s1_17 => ∃ rc : Nat, rc + 1 ≤ r ∧ ∃ bc_18 : Nat, bc_18 ≤ b - bc - bc_16 ∧ (∃ fs_26 : List Value, Ob s1_17 13 h0 fs_26) ∧ Call G mX13_any rc bc_18 [.ref h0] s1_17 (qR (fun ra s1_19 => ∃ a_in_20 : Nat, Fg s1_19 13 h0 2 (.ref a_in_20) ∧ (10 + 1 ≤ r ∧ ∃ bc_21 : Nat, bc_21 ≤ b - bc - bc_16 - bc_18 ∧ (∃ fs_25 : List Value, Ob s1_19 11 a_in_20 fs_25) ∧ Call G mX11_sign 10 bc_21 [.ref a_in_20, .int 93] s1_19 (qV (fun s1_22 => ∃ a_in_23 : Nat, Fg s1_22 13 h0 2 (.ref a_in_23) ∧ (3 + 1 ≤ r ∧ (∃ fs : List Value, Ob s1_22 11 a_in_23 fs) ∧ Call G mX11_closes 3 0 [.ref a_in_23] s1_22 (qV (fun s1_24 => Q (some (.ref ra)) s1_24)) X))) X))) X)) X))) X)))) X)) ∧ ((¬ rx = 0) → ∃ a_in_30 : Nat, Fg s1 13 h0 2 (.ref a_in_30) ∧ (10 + 1 ≤ r ∧ ∃ bc : Nat, bc ≤ b ∧ (∃ fs_42 : List Value, Ob s1 11 a_in_30 fs_42) ∧ Call G mX11_opens 10 bc [.ref a_in_30] s1 (qV (fun s1_31 => ∃ a_in_32 : Nat, Fg s1_31 13 h0 2 (.ref a_in_32) ∧ (4 + 1 ≤ r ∧ (∃ fs_41 : List Value, Ob s1_31 11 a_in_32 fs_41) ∧ Call G mX11_skipsWord 4 0 [.ref a_in_32] s1_31 (qV (fun s1_33 => 1 ≤ b - bc ∧ (∀ q : Nat, (∀ κ, s1_33 κ q = none) → (∀ s1_34 : PS, s1_34 = up s1_33 15 q (.inl [.null]) → ∃ rc : Nat, rc + 1 ≤ r ∧ ∃ bc_35 : Nat, bc_35 ≤ b - bc - 1 ∧ (∃ fs_40 : List Value, Ob s1_34 13 h0 fs_40) ∧ Call G mX13_one rc bc_35 [.ref h0] s1_34 (qR (fun ra s1_36 => 4 + 1 ≤ r ∧ Call G mX15_init 4 0 [.ref q, .ref ra] s1_36 (qV (fun s1_37 => ∃ a_in_38 : Nat, Fg s1_37 13 h0 2 (.ref a_in_38) ∧ (3 + 1 ≤ r ∧ (∃ fs : List Value, Ob s1_37 11 a_in_38 fs) ∧ Call G mX11_closes 3 0 [.ref a_in_38] s1_37 (qV (fun s1_39 => Q (some (.ref q)) s1_39)) X))) X)) X)))) X))) X)))) X)) : At G mX13_one r Q X b 0 [(0, .ref h0)] [] (σ) := by
  refine g_aload_n dX13_one_0 rfl 0 rfl ?_
  obtain ⟨a_in, hf, h⟩ := h
  refine g_get 2 dX13_one_1 in_X13 cl13 (by decide) q1156 hf ?_
  refine g_ldcS 27 dX13_one_4 rfl rfl rfl ?_
  obtain ⟨hr9, h⟩ := h
  obtain ⟨⟨_, hO⟩, h⟩ := h
  refine g_callV (N := mX11_isWord) (st := []) (As := [.ref (gk G 27)]) (a := a_in) dX13_one_6 wsX11_isWord (lw_V q1215 q989 q990 q122 q991) rfl mokX11_isWord rfl cl11 hr9 (by decide) (Nat.zero_le _) (Nat.zero_le _) hO h (fun E q s hx => AtX.out0 rfl hx) (fun _ s1 hq => ?_)
  obtain ⟨rx, rfl, h⟩ := hq
  refine At.stk (st' := [.int rx]) rfl ?_
  refine g_if_eq (tgt := 47) dX13_one_9 (by decide) (fun c => ?_) (fun c => ?_)
  · replace h := h.1 c
    refine g_aload_n dX13_one_47 rfl 0 rfl ?_
    obtain ⟨a_in_1, hf, h⟩ := h
    refine g_get 2 dX13_one_48 in_X13 cl13 (by decide) q1156 hf ?_
    obtain ⟨hr9, h⟩ := h
    obtain ⟨⟨_, hO⟩, h⟩ := h
    refine g_callV (N := mX11_now) (st := []) (As := []) (a := a_in_1) dX13_one_51 wsX11_now (lw_V q1189 q968 q969 q122 q970) rfl mokX11_now rfl cl11 hr9 (by decide) (Nat.zero_le _) (Nat.zero_le _) hO h (fun E q s hx => AtX.out0 rfl hx) (fun _ s1_2 hq => ?_)
    obtain ⟨rx_3, rfl, h⟩ := hq
    refine At.stk (st' := [.int rx_3]) rfl ?_
    refine g_bipush (v := 91) dX13_one_54 (by decide) ?_
    refine g_icmp_ne (tgt := 98) dX13_one_56 (by decide) (fun c => ?_) (fun c => ?_)
    · replace h := h.1 c
      refine g_aload_n dX13_one_98 rfl 0 rfl ?_
      obtain ⟨rc, hr9, h⟩ := h
      obtain ⟨bc, hb9, h⟩ := h
      obtain ⟨⟨_, hO⟩, h⟩ := h
      refine g_callV (N := mX13_sum) (st := []) (As := []) (a := h0) dX13_one_99 wsX13_sum (lw_V q1235 q1237 qs22 q131 q1238) rfl mokX13_sum rfl cl13 hr9 (by decide) hb9 (Nat.zero_le _) hO h (fun E q s hx => AtX.out0 rfl hx) (fun _ s1_4 hq => ?_)
      obtain ⟨ra, rfl, h⟩ := hq
      refine At.stk (st' := [.ref ra]) rfl ?_
      refine g_astore_n (ls1 := [(1, .ref ra), (0, .ref h0)]) dX13_one_102 rfl (by decide) rfl ?_
      refine g_aload_n dX13_one_103 rfl 1 rfl ?_
      obtain ⟨a_in_5, hf, h⟩ := h
      refine g_get 2 dX13_one_104 in_X13 cl13 (by decide) q1156 hf ?_
      refine g_bipush (v := 60) dX13_one_107 (by decide) ?_
      obtain ⟨hr9, h⟩ := h
      obtain ⟨⟨_, hO⟩, h⟩ := h
      refine g_callV (N := mX11_takesSign) (st := []) (As := [.int 60]) (a := a_in_5) dX13_one_109 wsX11_takesSign (lw_V q1267 q1268 q1269 q122 q1270) rfl mokX11_takesSign rfl cl11 hr9 (by decide) (Nat.zero_le _) (Nat.zero_le _) hO h (fun E q s hx => AtX.out0 rfl hx) (fun _ s1_6 hq => ?_)
      obtain ⟨rx_7, rfl, h⟩ := hq
      refine At.stk (st' := [.int rx_7]) rfl ?_
      refine g_if_eq (tgt := 120) dX13_one_112 (by decide) (fun c => ?_) (fun c => ?_)
      · replace h := h.1 c
        refine g_aload_n dX13_one_120 rfl 1 rfl ?_
        obtain ⟨a_in_8, hf, h⟩ := h
        refine g_get 2 dX13_one_121 in_X13 cl13 (by decide) q1156 hf ?_
        refine g_bipush (v := 62) dX13_one_124 (by decide) ?_
        obtain ⟨hr9, h⟩ := h
        obtain ⟨⟨_, hO⟩, h⟩ := h
        refine g_callV (N := mX11_takesSign) (st := []) (As := [.int 62]) (a := a_in_8) dX13_one_126 wsX11_takesSign (lw_V q1267 q1268 q1269 q122 q1270) rfl mokX11_takesSign rfl cl11 hr9 (by decide) (Nat.zero_le _) (Nat.zero_le _) hO h (fun E q s hx => AtX.out0 rfl hx) (fun _ s1_9 hq => ?_)
        obtain ⟨rx_10, rfl, h⟩ := hq
        refine At.stk (st' := [.int rx_10]) rfl ?_
        refine g_if_eq (tgt := 137) dX13_one_129 (by decide) (fun c => ?_) (fun c => ?_)
        · replace h := h.1 c
          refine g_bipush (v := 61) dX13_one_137 (by decide) ?_
          exact At.sub (ls := [(1, .ref ra), (0, .ref h0)]) [1, 0] rfl h
        · replace h := h.2 c
          refine g_bipush (v := 62) dX13_one_132 (by decide) ?_
          refine g_goto (tgt := 139) dX13_one_134 (by decide) ?_
          exact At.sub (ls := [(1, .ref ra), (0, .ref h0)]) [1, 0] rfl h
      · replace h := h.2 c
        refine g_bipush (v := 60) dX13_one_115 (by decide) ?_
        refine g_goto (tgt := 139) dX13_one_117 (by decide) ?_
        exact At.sub (ls := [(1, .ref ra), (0, .ref h0)]) [1, 0] rfl h
    · replace h := h.2 c
      refine g_aload_n dX13_one_59 rfl 0 rfl ?_
      obtain ⟨a_in_13, hf, h⟩ := h
      refine g_get 2 dX13_one_60 in_X13 cl13 (by decide) q1156 hf ?_
      obtain ⟨hr9, h⟩ := h
      obtain ⟨bc, hb9, h⟩ := h
      obtain ⟨⟨_, hO⟩, h⟩ := h
      refine g_callV (N := mX11_opens) (st := []) (As := []) (a := a_in_13) dX13_one_63 wsX11_opens (lw_V q1216 q1217 q1218 q122 q1219) rfl mokX11_opens rfl cl11 hr9 (by decide) hb9 (Nat.zero_le _) hO h (fun E q s hx => AtX.out0 rfl hx) (fun _ s1_14 hq => ?_)
      obtain ⟨rfl, h⟩ := hq
      refine At.stk (st' := []) rfl ?_
      refine g_aload_n dX13_one_66 rfl 0 rfl ?_
      obtain ⟨a_in_15, hf, h⟩ := h
      refine g_get 2 dX13_one_67 in_X13 cl13 (by decide) q1156 hf ?_
      refine g_bipush (v := 91) dX13_one_70 (by decide) ?_
      obtain ⟨hr9, h⟩ := h
      obtain ⟨bc_16, hb9, h⟩ := h
      obtain ⟨⟨_, hO⟩, h⟩ := h
      refine g_callV (N := mX11_sign) (st := []) (As := [.int 91]) (a := a_in_15) dX13_one_72 wsX11_sign (lw_V q1234 q1092 q1093 q122 q1094) rfl mokX11_sign rfl cl11 hr9 (by decide) hb9 (Nat.zero_le _) hO h (fun E q s hx => AtX.out0 rfl hx) (fun _ s1_17 hq => ?_)
      obtain ⟨rfl, h⟩ := hq
      refine At.stk (st' := []) rfl ?_
      refine g_aload_n dX13_one_75 rfl 0 rfl ?_
      obtain ⟨rc, hr9, h⟩ := h
      obtain ⟨bc_18, hb9, h⟩ := h
      obtain ⟨⟨_, hO⟩, h⟩ := h
      refine g_callV (N := mX13_any) (st := []) (As := []) (a := h0) dX13_one_76 wsX13_any (lw_V q1202 q1204 qs19 q131 q1205) rfl mokX13_any rfl cl13 hr9 (by decide) hb9 (Nat.zero_le _) hO h (fun E q s hx => AtX.out0 rfl hx) (fun _ s1_19 hq => ?_)
      obtain ⟨ra, rfl, h⟩ := hq
      refine At.stk (st' := [.ref ra]) rfl ?_
      refine g_astore_n (ls1 := [(1, .ref ra), (0, .ref h0)]) dX13_one_79 rfl (by decide) rfl ?_
      refine g_aload_n dX13_one_80 rfl 1 rfl ?_
      obtain ⟨a_in_20, hf, h⟩ := h
      refine g_get 2 dX13_one_81 in_X13 cl13 (by decide) q1156 hf ?_
      refine g_bipush (v := 93) dX13_one_84 (by decide) ?_
      obtain ⟨hr9, h⟩ := h
      obtain ⟨bc_21, hb9, h⟩ := h
      obtain ⟨⟨_, hO⟩, h⟩ := h
      refine g_callV (N := mX11_sign) (st := []) (As := [.int 93]) (a := a_in_20) dX13_one_86 wsX11_sign (lw_V q1234 q1092 q1093 q122 q1094) rfl mokX11_sign rfl cl11 hr9 (by decide) hb9 (Nat.zero_le _) hO h (fun E q s hx => AtX.out0 rfl hx) (fun _ s1_22 hq => ?_)
      obtain ⟨rfl, h⟩ := hq
      refine At.stk (st' := []) rfl ?_
      refine g_aload_n dX13_one_89 rfl 1 rfl ?_
      obtain ⟨a_in_23, hf, h⟩ := h
      refine g_get 2 dX13_one_90 in_X13 cl13 (by decide) q1156 hf ?_
      obtain ⟨hr9, h⟩ := h
      obtain ⟨⟨_, hO⟩, h⟩ := h
      refine g_callV (N := mX11_closes) (st := []) (As := []) (a := a_in_23) dX13_one_93 wsX11_closes (lw_V q1230 q1231 q1232 q122 q1233) rfl mokX11_closes rfl cl11 hr9 (by decide) (Nat.zero_le _) (Nat.zero_le _) hO h (fun E q s hx => AtX.out0 rfl hx) (fun _ s1_24 hq => ?_)
      obtain ⟨rfl, h⟩ := hq
      refine At.stk (st' := []) rfl ?_
      refine g_aload_n dX13_one_96 rfl 0 rfl ?_
      exact g_aret (x := (some ra)) rfl dX13_one_97 h
  · replace h := h.2 c
    refine g_aload_n dX13_one_12 rfl 0 rfl ?_
    obtain ⟨a_in_30, hf, h⟩ := h
    refine g_get 2 dX13_one_13 in_X13 cl13 (by decide) q1156 hf ?_
    obtain ⟨hr9, h⟩ := h
    obtain ⟨bc, hb9, h⟩ := h
    obtain ⟨⟨_, hO⟩, h⟩ := h
    refine g_callV (N := mX11_opens) (st := []) (As := []) (a := a_in_30) dX13_one_16 wsX11_opens (lw_V q1216 q1217 q1218 q122 q1219) rfl mokX11_opens rfl cl11 hr9 (by decide) hb9 (Nat.zero_le _) hO h (fun E q s hx => AtX.out0 rfl hx) (fun _ s1_31 hq => ?_)
    obtain ⟨rfl, h⟩ := hq
    refine At.stk (st' := []) rfl ?_
    refine g_aload_n dX13_one_19 rfl 0 rfl ?_
    obtain ⟨a_in_32, hf, h⟩ := h
    refine g_get 2 dX13_one_20 in_X13 cl13 (by decide) q1156 hf ?_
    obtain ⟨hr9, h⟩ := h
    obtain ⟨⟨_, hO⟩, h⟩ := h
    refine g_callV (N := mX11_skipsWord) (st := []) (As := []) (a := a_in_32) dX13_one_23 wsX11_skipsWord (lw_V q1194 q1073 q1074 q122 q1075) rfl mokX11_skipsWord rfl cl11 hr9 (by decide) (Nat.zero_le _) (Nat.zero_le _) hO h (fun E q s hx => AtX.out0 rfl hx) (fun _ s1_33 hq => ?_)
    obtain ⟨rfl, h⟩ := hq
    refine At.stk (st' := []) rfl ?_
    obtain ⟨hb, h⟩ := h
    refine g_new (ci := 15) (fs := [.null]) 1 dX13_one_26 in_X15 tyX15 tyX15_ok cl15 q1220 q1221 q133 new15 (by decide) (by decide) hb (fun q hq => ?_)
    replace h := h q hq
    refine g_tops (fun s1_34 es1_34 => ?_)
    replace h := h s1_34 es1_34
    refine g_dup dX13_one_29 rfl ?_
    refine g_aload_n dX13_one_30 rfl 0 rfl ?_
    obtain ⟨rc, hr9, h⟩ := h
    obtain ⟨bc_35, hb9, h⟩ := h
    obtain ⟨⟨_, hO⟩, h⟩ := h
    refine g_callV (N := mX13_one) (st := [.ref q, .ref q]) (As := []) (a := h0) dX13_one_31 wsX13_one (lw_V q1210 q1212 qs21 q131 q1213) rfl mokX13_one rfl cl13 hr9 (by decide) hb9 (by simp [Value.category]) hO h (fun E q s hx => AtX.out0 rfl hx) (fun _ s1_36 hq => ?_)
    obtain ⟨ra, rfl, h⟩ := hq
    refine At.stk (st' := [.ref ra, .ref q, .ref q]) rfl ?_
    obtain ⟨hr9, h⟩ := h
    refine g_callI (N := mX15_init) (st := [.ref q]) (As := [.ref ra]) (a := q) dX13_one_34 wsX15_init q1224 q133 q1222 q1223 rfl mokX15_init rfl hr9 (by decide) (Nat.zero_le _) (by simp [Value.category]) h (fun E q s hx => AtX.out0 rfl hx) (fun _ s1_37 hq => ?_)
    obtain ⟨rfl, h⟩ := hq
    refine At.stk (st' := [.ref q]) rfl ?_
    refine g_astore_n (ls1 := [(1, .ref q), (0, .ref h0)]) dX13_one_37 rfl (by decide) rfl ?_
    refine g_aload_n dX13_one_38 rfl 1 rfl ?_
    obtain ⟨a_in_38, hf, h⟩ := h
    refine g_get 2 dX13_one_39 in_X13 cl13 (by decide) q1156 hf ?_
    obtain ⟨hr9, h⟩ := h
    obtain ⟨⟨_, hO⟩, h⟩ := h
    refine g_callV (N := mX11_closes) (st := []) (As := []) (a := a_in_38) dX13_one_42 wsX11_closes (lw_V q1230 q1231 q1232 q122 q1233) rfl mokX11_closes rfl cl11 hr9 (by decide) (Nat.zero_le _) (Nat.zero_le _) hO h (fun E q s hx => AtX.out0 rfl hx) (fun _ s1_39 hq => ?_)
    obtain ⟨rfl, h⟩ := hq
    refine At.stk (st' := []) rfl ?_
    refine g_aload_n dX13_one_45 rfl 0 rfl ?_
    exact g_aret (x := (some q)) rfl dX13_one_46 h
set_option maxHeartbeats 4000000 in
theorem bX13_one_139 {G : GC} {r : Nat} {Q : Option Value → PS → Prop} {X : String → Nat → PS → Prop} {b : Nat} {h0 : Nat} {a1 : Nat} {sx0 : Int32} {σ : PS} (h : ((¬ sx0 = 61) → 1 ≤ b ∧ (∀ q : Nat, (∀ κ, σ κ q = none) → (∀ s1 : PS, s1 = up (σ) 18 q (.inl [.int 0, .null, .null]) → ∃ rc : Nat, rc + 1 ≤ r ∧ ∃ bc : Nat, bc ≤ b - 1 ∧ (∃ fs : List Value, Ob s1 13 h0 fs) ∧ Call G mX13_sum rc bc [.ref h0] s1 (qR (fun ra s1_1 => 4 + 1 ≤ r ∧ Call G mX18_init 4 0 [.ref q, .int sx0, .ref a1, .ref ra] s1_1 (qV (fun s1_2 => Q (some (.ref q)) s1_2)) X)) X))) ∧ ((sx0 = 61) → ∃ a_in : Nat, Fg (σ) 13 h0 2 (.ref a_in) ∧ (10 + 1 ≤ r ∧ ∃ bc : Nat, bc ≤ b ∧ (∃ fs_7 : List Value, Ob (σ) 11 a_in fs_7) ∧ Call G mX11_sign 10 bc [.ref a_in, .int 61] (σ) (qV (fun s1 => 1 ≤ b - bc ∧ (∀ q : Nat, (∀ κ, s1 κ q = none) → (∀ s1_3 : PS, s1_3 = up s1 18 q (.inl [.int 0, .null, .null]) → ∃ rc : Nat, rc + 1 ≤ r ∧ ∃ bc_4 : Nat, bc_4 ≤ b - bc - 1 ∧ (∃ fs : List Value, Ob s1_3 13 h0 fs) ∧ Call G mX13_sum rc bc_4 [.ref h0] s1_3 (qR (fun ra s1_5 => 4 + 1 ≤ r ∧ Call G mX18_init 4 0 [.ref q, .int sx0, .ref a1, .ref ra] s1_5 (qV (fun s1_6 => Q (some (.ref q)) s1_6)) X)) X)))) X))) : At G mX13_one r Q X b 139 [(0, .ref h0), (1, .ref a1)] [.int sx0] (σ) := by
  refine g_istore_n (ls1 := [(2, .int sx0), (0, .ref h0), (1, .ref a1)]) dX13_one_139 rfl (by decide) rfl ?_
  refine g_iload_n dX13_one_140 rfl 0 rfl ?_
  refine g_bipush (v := 61) dX13_one_141 (by decide) ?_
  refine g_icmp_ne (tgt := 155) dX13_one_143 (by decide) (fun c => ?_) (fun c => ?_)
  · replace h := h.1 c
    obtain ⟨hb, h⟩ := h
    refine g_new (ci := 18) (fs := [.int 0, .null, .null]) 1 dX13_one_155 in_X18 tyX18 tyX18_ok cl18 q1271 q1272 q136 new18 (by decide) (by decide) hb (fun q hq => ?_)
    replace h := h q hq
    refine g_tops (fun s1 es1 => ?_)
    replace h := h s1 es1
    refine g_dup dX13_one_158 rfl ?_
    refine g_iload_n dX13_one_159 rfl 0 rfl ?_
    refine g_aload_n dX13_one_160 rfl 2 rfl ?_
    refine g_aload_n dX13_one_161 rfl 1 rfl ?_
    obtain ⟨rc, hr9, h⟩ := h
    obtain ⟨bc, hb9, h⟩ := h
    obtain ⟨⟨_, hO⟩, h⟩ := h
    refine g_callV (N := mX13_sum) (st := [.ref a1, .int sx0, .ref q, .ref q]) (As := []) (a := h0) dX13_one_162 wsX13_sum (lw_V q1235 q1237 qs22 q131 q1238) rfl mokX13_sum rfl cl13 hr9 (by decide) hb9 (by simp [Value.category]) hO h (fun E q s hx => AtX.out0 rfl hx) (fun _ s1_1 hq => ?_)
    obtain ⟨ra, rfl, h⟩ := hq
    refine At.stk (st' := [.ref ra, .ref a1, .int sx0, .ref q, .ref q]) rfl ?_
    obtain ⟨hr9, h⟩ := h
    refine g_callI (N := mX18_init) (st := [.ref q]) (As := [.int sx0, .ref a1, .ref ra]) (a := q) dX13_one_165 wsX18_init q1275 q136 q1273 q1274 rfl mokX18_init rfl hr9 (by decide) (Nat.zero_le _) (by simp [Value.category]) h (fun E q s hx => AtX.out0 rfl hx) (fun _ s1_2 hq => ?_)
    obtain ⟨rfl, h⟩ := hq
    refine At.stk (st' := [.ref q]) rfl ?_
    exact g_aret (x := (some q)) rfl dX13_one_168 h
  · replace h := h.2 c
    refine g_aload_n dX13_one_146 rfl 1 rfl ?_
    obtain ⟨a_in, hf, h⟩ := h
    refine g_get 2 dX13_one_147 in_X13 cl13 (by decide) q1156 hf ?_
    refine g_bipush (v := 61) dX13_one_150 (by decide) ?_
    obtain ⟨hr9, h⟩ := h
    obtain ⟨bc, hb9, h⟩ := h
    obtain ⟨⟨_, hO⟩, h⟩ := h
    refine g_callV (N := mX11_sign) (st := []) (As := [.int 61]) (a := a_in) dX13_one_152 wsX11_sign (lw_V q1234 q1092 q1093 q122 q1094) rfl mokX11_sign rfl cl11 hr9 (by decide) hb9 (Nat.zero_le _) hO h (fun E q s hx => AtX.out0 rfl hx) (fun _ s1 hq => ?_)
    obtain ⟨rfl, h⟩ := hq
    refine At.stk (st' := []) rfl ?_
    obtain ⟨hb, h⟩ := h
    refine g_new (ci := 18) (fs := [.int 0, .null, .null]) 1 dX13_one_155 in_X18 tyX18 tyX18_ok cl18 q1271 q1272 q136 new18 (by decide) (by decide) hb (fun q hq => ?_)
    replace h := h q hq
    refine g_tops (fun s1_3 es1_3 => ?_)
    replace h := h s1_3 es1_3
    refine g_dup dX13_one_158 rfl ?_
    refine g_iload_n dX13_one_159 rfl 0 rfl ?_
    refine g_aload_n dX13_one_160 rfl 2 rfl ?_
    refine g_aload_n dX13_one_161 rfl 1 rfl ?_
    obtain ⟨rc, hr9, h⟩ := h
    obtain ⟨bc_4, hb9, h⟩ := h
    obtain ⟨⟨_, hO⟩, h⟩ := h
    refine g_callV (N := mX13_sum) (st := [.ref a1, .int sx0, .ref q, .ref q]) (As := []) (a := h0) dX13_one_162 wsX13_sum (lw_V q1235 q1237 qs22 q131 q1238) rfl mokX13_sum rfl cl13 hr9 (by decide) hb9 (by simp [Value.category]) hO h (fun E q s hx => AtX.out0 rfl hx) (fun _ s1_5 hq => ?_)
    obtain ⟨ra, rfl, h⟩ := hq
    refine At.stk (st' := [.ref ra, .ref a1, .int sx0, .ref q, .ref q]) rfl ?_
    obtain ⟨hr9, h⟩ := h
    refine g_callI (N := mX18_init) (st := [.ref q]) (As := [.int sx0, .ref a1, .ref ra]) (a := q) dX13_one_165 wsX18_init q1275 q136 q1273 q1274 rfl mokX18_init rfl hr9 (by decide) (Nat.zero_le _) (by simp [Value.category]) h (fun E q s hx => AtX.out0 rfl hx) (fun _ s1_6 hq => ?_)
    obtain ⟨rfl, h⟩ := hq
    refine At.stk (st' := [.ref q]) rfl ?_
    exact g_aret (x := (some q)) rfl dX13_one_168 h
theorem eX13_one {G : GC} {r : Nat} {Q : Option Value → PS → Prop} {X : String → Nat → PS → Prop} {b : Nat} {h0 : Nat} {σ : PS} (h : At G mX13_one r Q X b 0 [(0, .ref h0)] [] σ) : Call G mX13_one r b [.ref h0] σ Q X :=
  Call.of (by decide +kernel) wsX13_one rfl (Nat.le_of_ble_eq_true rfl) (At.sub (ls := [(0, .ref h0)]) [0] rfl h)
set_option maxHeartbeats 4000000 in
theorem bX13_sum_0 {G : GC} {r : Nat} {Q : Option Value → PS → Prop} {X : String → Nat → PS → Prop} {b : Nat} {h0 : Nat} {σ : PS} (h : ∃ rc : Nat, rc + 1 ≤ r ∧ ∃ bc : Nat, bc ≤ b ∧ (∃ fs : List Value, Ob (σ) 13 h0 fs) ∧ Call G mX13_product rc bc [.ref h0] (σ) (qR (fun ra s1 => At G mX13_sum r Q X (b - bc) 5 [(0, .ref h0), (1, .ref ra)] [] s1)) X) : At G mX13_sum r Q X b 0 [(0, .ref h0)] [] (σ) := by
  refine g_aload_n dX13_sum_0 rfl 0 rfl ?_
  obtain ⟨rc, hr9, h⟩ := h
  obtain ⟨bc, hb9, h⟩ := h
  obtain ⟨⟨_, hO⟩, h⟩ := h
  refine g_callV (N := mX13_product) (st := []) (As := []) (a := h0) dX13_sum_1 wsX13_product (lw_V q1239 q1241 qs23 q131 q1242) rfl mokX13_product rfl cl13 hr9 (by decide) hb9 (Nat.zero_le _) hO h (fun E q s hx => AtX.out0 rfl hx) (fun _ s1 hq => ?_)
  obtain ⟨ra, rfl, h⟩ := hq
  refine At.stk (st' := [.ref ra]) rfl ?_
  refine g_astore_n (ls1 := [(1, .ref ra), (0, .ref h0)]) dX13_sum_4 rfl (by decide) rfl ?_
  exact At.sub (ls := [(1, .ref ra), (0, .ref h0)]) [1, 0] rfl h
set_option maxHeartbeats 4000000 in
theorem bX13_sum_5 {G : GC} {r : Nat} {Q : Option Value → PS → Prop} {X : String → Nat → PS → Prop} {b : Nat} {h0 : Nat} {a1 : Nat} {σ : PS} (h : ∃ a_in : Nat, Fg (σ) 13 h0 2 (.ref a_in) ∧ (5 + 1 ≤ r ∧ (∃ fs_11 : List Value, Ob (σ) 11 a_in fs_11) ∧ Call G mX11_takesSign 5 0 [.ref a_in, .int 43] (σ) (qI (fun rx s1 => ((rx = 0) → ∃ a_in_1 : Nat, Fg s1 13 h0 2 (.ref a_in_1) ∧ (5 + 1 ≤ r ∧ (∃ fs_7 : List Value, Ob s1 11 a_in_1 fs_7) ∧ Call G mX11_takesSign 5 0 [.ref a_in_1, .int 45] s1 (qI (fun rx_3 s1_2 => ((rx_3 = 0) → Q (some (.ref a1)) s1_2) ∧ ((¬ rx_3 = 0) → 1 ≤ b ∧ (∀ q : Nat, (∀ κ, s1_2 κ q = none) → (∀ s1_4 : PS, s1_4 = up s1_2 18 q (.inl [.int 0, .null, .null]) → ∃ rc : Nat, rc + 1 ≤ r ∧ ∃ bc : Nat, bc ≤ b - 1 ∧ (∃ fs : List Value, Ob s1_4 13 h0 fs) ∧ Call G mX13_product rc bc [.ref h0] s1_4 (qR (fun ra s1_5 => 4 + 1 ≤ r ∧ Call G mX18_init 4 0 [.ref q, .int 45, .ref a1, .ref ra] s1_5 (qV (fun s1_6 => At G mX13_sum r Q X (b - 1 - bc) 5 [(0, .ref h0), (1, .ref q)] [] s1_6)) X)) X))))) X)) ∧ ((¬ rx = 0) → 1 ≤ b ∧ (∀ q : Nat, (∀ κ, s1 κ q = none) → (∀ s1_8 : PS, s1_8 = up s1 18 q (.inl [.int 0, .null, .null]) → ∃ rc : Nat, rc + 1 ≤ r ∧ ∃ bc : Nat, bc ≤ b - 1 ∧ (∃ fs : List Value, Ob s1_8 13 h0 fs) ∧ Call G mX13_product rc bc [.ref h0] s1_8 (qR (fun ra s1_9 => 4 + 1 ≤ r ∧ Call G mX18_init 4 0 [.ref q, .int 43, .ref a1, .ref ra] s1_9 (qV (fun s1_10 => At G mX13_sum r Q X (b - 1 - bc) 5 [(0, .ref h0), (1, .ref q)] [] s1_10)) X)) X))))) X)) : At G mX13_sum r Q X b 5 [(0, .ref h0), (1, .ref a1)] [] (σ) := by
  refine g_aload_n dX13_sum_5 rfl 0 rfl ?_
  obtain ⟨a_in, hf, h⟩ := h
  refine g_get 2 dX13_sum_6 in_X13 cl13 (by decide) q1156 hf ?_
  refine g_bipush (v := 43) dX13_sum_9 (by decide) ?_
  obtain ⟨hr9, h⟩ := h
  obtain ⟨⟨_, hO⟩, h⟩ := h
  refine g_callV (N := mX11_takesSign) (st := []) (As := [.int 43]) (a := a_in) dX13_sum_11 wsX11_takesSign (lw_V q1267 q1268 q1269 q122 q1270) rfl mokX11_takesSign rfl cl11 hr9 (by decide) (Nat.zero_le _) (Nat.zero_le _) hO h (fun E q s hx => AtX.out0 rfl hx) (fun _ s1 hq => ?_)
  obtain ⟨rx, rfl, h⟩ := hq
  refine At.stk (st' := [.int rx]) rfl ?_
  refine g_if_eq (tgt := 35) dX13_sum_14 (by decide) (fun c => ?_) (fun c => ?_)
  · replace h := h.1 c
    refine g_aload_n dX13_sum_35 rfl 0 rfl ?_
    obtain ⟨a_in_1, hf, h⟩ := h
    refine g_get 2 dX13_sum_36 in_X13 cl13 (by decide) q1156 hf ?_
    refine g_bipush (v := 45) dX13_sum_39 (by decide) ?_
    obtain ⟨hr9, h⟩ := h
    obtain ⟨⟨_, hO⟩, h⟩ := h
    refine g_callV (N := mX11_takesSign) (st := []) (As := [.int 45]) (a := a_in_1) dX13_sum_41 wsX11_takesSign (lw_V q1267 q1268 q1269 q122 q1270) rfl mokX11_takesSign rfl cl11 hr9 (by decide) (Nat.zero_le _) (Nat.zero_le _) hO h (fun E q s hx => AtX.out0 rfl hx) (fun _ s1_2 hq => ?_)
    obtain ⟨rx_3, rfl, h⟩ := hq
    refine At.stk (st' := [.int rx_3]) rfl ?_
    refine g_if_eq (tgt := 65) dX13_sum_44 (by decide) (fun c => ?_) (fun c => ?_)
    · replace h := h.1 c
      refine g_aload_n dX13_sum_65 rfl 1 rfl ?_
      exact g_aret (x := (some a1)) rfl dX13_sum_66 h
    · replace h := h.2 c
      obtain ⟨hb, h⟩ := h
      refine g_new (ci := 18) (fs := [.int 0, .null, .null]) 1 dX13_sum_47 in_X18 tyX18 tyX18_ok cl18 q1271 q1272 q136 new18 (by decide) (by decide) hb (fun q hq => ?_)
      replace h := h q hq
      refine g_tops (fun s1_4 es1_4 => ?_)
      replace h := h s1_4 es1_4
      refine g_dup dX13_sum_50 rfl ?_
      refine g_bipush (v := 45) dX13_sum_51 (by decide) ?_
      refine g_aload_n dX13_sum_53 rfl 1 rfl ?_
      refine g_aload_n dX13_sum_54 rfl 0 rfl ?_
      obtain ⟨rc, hr9, h⟩ := h
      obtain ⟨bc, hb9, h⟩ := h
      obtain ⟨⟨_, hO⟩, h⟩ := h
      refine g_callV (N := mX13_product) (st := [.ref a1, .int 45, .ref q, .ref q]) (As := []) (a := h0) dX13_sum_55 wsX13_product (lw_V q1239 q1241 qs23 q131 q1242) rfl mokX13_product rfl cl13 hr9 (by decide) hb9 (by simp [Value.category]) hO h (fun E q s hx => AtX.out0 rfl hx) (fun _ s1_5 hq => ?_)
      obtain ⟨ra, rfl, h⟩ := hq
      refine At.stk (st' := [.ref ra, .ref a1, .int 45, .ref q, .ref q]) rfl ?_
      obtain ⟨hr9, h⟩ := h
      refine g_callI (N := mX18_init) (st := [.ref q]) (As := [.int 45, .ref a1, .ref ra]) (a := q) dX13_sum_58 wsX18_init q1275 q136 q1273 q1274 rfl mokX18_init rfl hr9 (by decide) (Nat.zero_le _) (by simp [Value.category]) h (fun E q s hx => AtX.out0 rfl hx) (fun _ s1_6 hq => ?_)
      obtain ⟨rfl, h⟩ := hq
      refine At.stk (st' := [.ref q]) rfl ?_
      refine g_astore_n (ls1 := [(1, .ref q), (0, .ref h0)]) dX13_sum_61 rfl (by decide) rfl ?_
      refine g_goto (tgt := 5) dX13_sum_62 (by decide) ?_
      exact At.sub (ls := [(1, .ref q), (0, .ref h0)]) [1, 0] rfl h
  · replace h := h.2 c
    obtain ⟨hb, h⟩ := h
    refine g_new (ci := 18) (fs := [.int 0, .null, .null]) 1 dX13_sum_17 in_X18 tyX18 tyX18_ok cl18 q1271 q1272 q136 new18 (by decide) (by decide) hb (fun q hq => ?_)
    replace h := h q hq
    refine g_tops (fun s1_8 es1_8 => ?_)
    replace h := h s1_8 es1_8
    refine g_dup dX13_sum_20 rfl ?_
    refine g_bipush (v := 43) dX13_sum_21 (by decide) ?_
    refine g_aload_n dX13_sum_23 rfl 1 rfl ?_
    refine g_aload_n dX13_sum_24 rfl 0 rfl ?_
    obtain ⟨rc, hr9, h⟩ := h
    obtain ⟨bc, hb9, h⟩ := h
    obtain ⟨⟨_, hO⟩, h⟩ := h
    refine g_callV (N := mX13_product) (st := [.ref a1, .int 43, .ref q, .ref q]) (As := []) (a := h0) dX13_sum_25 wsX13_product (lw_V q1239 q1241 qs23 q131 q1242) rfl mokX13_product rfl cl13 hr9 (by decide) hb9 (by simp [Value.category]) hO h (fun E q s hx => AtX.out0 rfl hx) (fun _ s1_9 hq => ?_)
    obtain ⟨ra, rfl, h⟩ := hq
    refine At.stk (st' := [.ref ra, .ref a1, .int 43, .ref q, .ref q]) rfl ?_
    obtain ⟨hr9, h⟩ := h
    refine g_callI (N := mX18_init) (st := [.ref q]) (As := [.int 43, .ref a1, .ref ra]) (a := q) dX13_sum_28 wsX18_init q1275 q136 q1273 q1274 rfl mokX18_init rfl hr9 (by decide) (Nat.zero_le _) (by simp [Value.category]) h (fun E q s hx => AtX.out0 rfl hx) (fun _ s1_10 hq => ?_)
    obtain ⟨rfl, h⟩ := hq
    refine At.stk (st' := [.ref q]) rfl ?_
    refine g_astore_n (ls1 := [(1, .ref q), (0, .ref h0)]) dX13_sum_31 rfl (by decide) rfl ?_
    refine g_goto (tgt := 5) dX13_sum_32 (by decide) ?_
    exact At.sub (ls := [(1, .ref q), (0, .ref h0)]) [1, 0] rfl h
theorem eX13_sum {G : GC} {r : Nat} {Q : Option Value → PS → Prop} {X : String → Nat → PS → Prop} {b : Nat} {h0 : Nat} {σ : PS} (h : At G mX13_sum r Q X b 0 [(0, .ref h0)] [] σ) : Call G mX13_sum r b [.ref h0] σ Q X :=
  Call.of (by decide +kernel) wsX13_sum rfl (Nat.le_of_ble_eq_true rfl) (At.sub (ls := [(0, .ref h0)]) [0] rfl h)
set_option maxHeartbeats 4000000 in
theorem bX13_product_0 {G : GC} {r : Nat} {Q : Option Value → PS → Prop} {X : String → Nat → PS → Prop} {b : Nat} {h0 : Nat} {σ : PS} (h : ∃ rc : Nat, rc + 1 ≤ r ∧ ∃ bc : Nat, bc ≤ b ∧ (∃ fs : List Value, Ob (σ) 13 h0 fs) ∧ Call G mX13_value rc bc [.ref h0] (σ) (qR (fun ra s1 => At G mX13_product r Q X (b - bc) 5 [(0, .ref h0), (1, .ref ra)] [] s1)) X) : At G mX13_product r Q X b 0 [(0, .ref h0)] [] (σ) := by
  refine g_aload_n dX13_product_0 rfl 0 rfl ?_
  obtain ⟨rc, hr9, h⟩ := h
  obtain ⟨bc, hb9, h⟩ := h
  obtain ⟨⟨_, hO⟩, h⟩ := h
  refine g_callV (N := mX13_value) (st := []) (As := []) (a := h0) dX13_product_1 wsX13_value (lw_V q1243 q1245 qs24 q131 q1246) rfl mokX13_value rfl cl13 hr9 (by decide) hb9 (Nat.zero_le _) hO h (fun E q s hx => AtX.out0 rfl hx) (fun _ s1 hq => ?_)
  obtain ⟨ra, rfl, h⟩ := hq
  refine At.stk (st' := [.ref ra]) rfl ?_
  refine g_astore_n (ls1 := [(1, .ref ra), (0, .ref h0)]) dX13_product_4 rfl (by decide) rfl ?_
  exact At.sub (ls := [(1, .ref ra), (0, .ref h0)]) [1, 0] rfl h
set_option maxHeartbeats 4000000 in
theorem bX13_product_5 {G : GC} {r : Nat} {Q : Option Value → PS → Prop} {X : String → Nat → PS → Prop} {b : Nat} {h0 : Nat} {a1 : Nat} {σ : PS} (h : ∃ a_in : Nat, Fg (σ) 13 h0 2 (.ref a_in) ∧ (5 + 1 ≤ r ∧ (∃ fs_4 : List Value, Ob (σ) 11 a_in fs_4) ∧ Call G mX11_takesSign 5 0 [.ref a_in, .int 42] (σ) (qI (fun rx s1 => ((rx = 0) → Q (some (.ref a1)) s1) ∧ ((¬ rx = 0) → 1 ≤ b ∧ (∀ q : Nat, (∀ κ, s1 κ q = none) → (∀ s1_1 : PS, s1_1 = up s1 18 q (.inl [.int 0, .null, .null]) → ∃ rc : Nat, rc + 1 ≤ r ∧ ∃ bc : Nat, bc ≤ b - 1 ∧ (∃ fs : List Value, Ob s1_1 13 h0 fs) ∧ Call G mX13_value rc bc [.ref h0] s1_1 (qR (fun ra s1_2 => 4 + 1 ≤ r ∧ Call G mX18_init 4 0 [.ref q, .int 42, .ref a1, .ref ra] s1_2 (qV (fun s1_3 => At G mX13_product r Q X (b - 1 - bc) 5 [(0, .ref h0), (1, .ref q)] [] s1_3)) X)) X))))) X)) : At G mX13_product r Q X b 5 [(0, .ref h0), (1, .ref a1)] [] (σ) := by
  refine g_aload_n dX13_product_5 rfl 0 rfl ?_
  obtain ⟨a_in, hf, h⟩ := h
  refine g_get 2 dX13_product_6 in_X13 cl13 (by decide) q1156 hf ?_
  refine g_bipush (v := 42) dX13_product_9 (by decide) ?_
  obtain ⟨hr9, h⟩ := h
  obtain ⟨⟨_, hO⟩, h⟩ := h
  refine g_callV (N := mX11_takesSign) (st := []) (As := [.int 42]) (a := a_in) dX13_product_11 wsX11_takesSign (lw_V q1267 q1268 q1269 q122 q1270) rfl mokX11_takesSign rfl cl11 hr9 (by decide) (Nat.zero_le _) (Nat.zero_le _) hO h (fun E q s hx => AtX.out0 rfl hx) (fun _ s1 hq => ?_)
  obtain ⟨rx, rfl, h⟩ := hq
  refine At.stk (st' := [.int rx]) rfl ?_
  refine g_if_eq (tgt := 35) dX13_product_14 (by decide) (fun c => ?_) (fun c => ?_)
  · replace h := h.1 c
    refine g_aload_n dX13_product_35 rfl 1 rfl ?_
    exact g_aret (x := (some a1)) rfl dX13_product_36 h
  · replace h := h.2 c
    obtain ⟨hb, h⟩ := h
    refine g_new (ci := 18) (fs := [.int 0, .null, .null]) 1 dX13_product_17 in_X18 tyX18 tyX18_ok cl18 q1271 q1272 q136 new18 (by decide) (by decide) hb (fun q hq => ?_)
    replace h := h q hq
    refine g_tops (fun s1_1 es1_1 => ?_)
    replace h := h s1_1 es1_1
    refine g_dup dX13_product_20 rfl ?_
    refine g_bipush (v := 42) dX13_product_21 (by decide) ?_
    refine g_aload_n dX13_product_23 rfl 1 rfl ?_
    refine g_aload_n dX13_product_24 rfl 0 rfl ?_
    obtain ⟨rc, hr9, h⟩ := h
    obtain ⟨bc, hb9, h⟩ := h
    obtain ⟨⟨_, hO⟩, h⟩ := h
    refine g_callV (N := mX13_value) (st := [.ref a1, .int 42, .ref q, .ref q]) (As := []) (a := h0) dX13_product_25 wsX13_value (lw_V q1243 q1245 qs24 q131 q1246) rfl mokX13_value rfl cl13 hr9 (by decide) hb9 (by simp [Value.category]) hO h (fun E q s hx => AtX.out0 rfl hx) (fun _ s1_2 hq => ?_)
    obtain ⟨ra, rfl, h⟩ := hq
    refine At.stk (st' := [.ref ra, .ref a1, .int 42, .ref q, .ref q]) rfl ?_
    obtain ⟨hr9, h⟩ := h
    refine g_callI (N := mX18_init) (st := [.ref q]) (As := [.int 42, .ref a1, .ref ra]) (a := q) dX13_product_28 wsX18_init q1275 q136 q1273 q1274 rfl mokX18_init rfl hr9 (by decide) (Nat.zero_le _) (by simp [Value.category]) h (fun E q s hx => AtX.out0 rfl hx) (fun _ s1_3 hq => ?_)
    obtain ⟨rfl, h⟩ := hq
    refine At.stk (st' := [.ref q]) rfl ?_
    refine g_astore_n (ls1 := [(1, .ref q), (0, .ref h0)]) dX13_product_31 rfl (by decide) rfl ?_
    refine g_goto (tgt := 5) dX13_product_32 (by decide) ?_
    exact At.sub (ls := [(1, .ref q), (0, .ref h0)]) [1, 0] rfl h
theorem eX13_product {G : GC} {r : Nat} {Q : Option Value → PS → Prop} {X : String → Nat → PS → Prop} {b : Nat} {h0 : Nat} {σ : PS} (h : At G mX13_product r Q X b 0 [(0, .ref h0)] [] σ) : Call G mX13_product r b [.ref h0] σ Q X :=
  Call.of (by decide +kernel) wsX13_product rfl (Nat.le_of_ble_eq_true rfl) (At.sub (ls := [(0, .ref h0)]) [0] rfl h)
set_option maxHeartbeats 4000000 in
theorem bX13_value_0 {G : GC} {r : Nat} {Q : Option Value → PS → Prop} {X : String → Nat → PS → Prop} {b : Nat} {h0 : Nat} {σ : PS} (h : ∃ a_in : Nat, Fg (σ) 13 h0 2 (.ref a_in) ∧ (4 + 1 ≤ r ∧ (∃ fs_30 : List Value, Ob (σ) 11 a_in fs_30) ∧ Call G mX11_now 4 0 [.ref a_in] (σ) (qI (fun rx s1 => ((¬ rx = 40) → ∃ a_in_1 : Nat, Fg s1 13 h0 2 (.ref a_in_1) ∧ (∃ a_known : Nat, Fg s1 13 h0 1 (.ref a_known) ∧ (8 + 1 ≤ r ∧ (∃ fs_13 : List Value, Ob s1 11 a_in_1 fs_13) ∧ Call G mX11_which 8 0 [.ref a_in_1, .ref a_known] s1 (qI (fun rx_3 s1_2 => ((¬ rx_3 = (-1)) → ∃ a_in_4 : Nat, Fg s1_2 13 h0 2 (.ref a_in_4) ∧ (4 + 1 ≤ r ∧ (∃ fs : List Value, Ob s1_2 11 a_in_4 fs) ∧ Call G mX11_skipsWord 4 0 [.ref a_in_4] s1_2 (qV (fun s1_5 => 1 ≤ b ∧ (∀ q : Nat, (∀ κ, s1_5 κ q = none) → (∀ s1_6 : PS, s1_6 = up s1_5 17 q (.inl [.int 0]) → 4 + 1 ≤ r ∧ Call G mX17_init 4 0 [.ref q, .int rx_3] s1_6 (qV (fun s1_7 => Q (some (.ref q)) s1_7)) X)))) X)) ∧ ((rx_3 = (-1)) → 1 ≤ b ∧ (∀ q : Nat, (∀ κ, s1_2 κ q = none) → (∀ s1_8 : PS, s1_8 = up s1_2 16 q (.inl [.int 0]) → ∃ a_in_9 : Nat, Fg s1_8 13 h0 2 (.ref a_in_9) ∧ (10 + 1 ≤ r ∧ ∃ bc : Nat, bc ≤ b - 1 ∧ (∃ fs : List Value, Ob s1_8 11 a_in_9 fs) ∧ Call G mX11_number 10 bc [.ref a_in_9, .int 0, .int 999] s1_8 (qI (fun rx_11 s1_10 => 4 + 1 ≤ r ∧ Call G mX16_init 4 0 [.ref q, .int rx_11] s1_10 (qV (fun s1_12 => Q (some (.ref q)) s1_12)) X)) X)))))) X))) ∧ ((rx = 40) → ∃ a_in_14 : Nat, Fg s1 13 h0 2 (.ref a_in_14) ∧ (10 + 1 ≤ r ∧ ∃ bc : Nat, bc ≤ b ∧ (∃ fs_29 : List Value, Ob s1 11 a_in_14 fs_29) ∧ Call G mX11_opens 10 bc [.ref a_in_14] s1 (qV (fun s1_15 => ∃ a_in_16 : Nat, Fg s1_15 13 h0 2 (.ref a_in_16) ∧ (10 + 1 ≤ r ∧ ∃ bc_17 : Nat, bc_17 ≤ b - bc ∧ (∃ fs_28 : List Value, Ob s1_15 11 a_in_16 fs_28) ∧ Call G mX11_sign 10 bc_17 [.ref a_in_16, .int 40] s1_15 (qV (fun s1_18 => ∃ rc : Nat, rc + 1 ≤ r ∧ ∃ bc_19 : Nat, bc_19 ≤ b - bc - bc_17 ∧ (∃ fs_27 : List Value, Ob s1_18 13 h0 fs_27) ∧ Call G mX13_sum rc bc_19 [.ref h0] s1_18 (qR (fun ra s1_20 => ∃ a_in_21 : Nat, Fg s1_20 13 h0 2 (.ref a_in_21) ∧ (10 + 1 ≤ r ∧ ∃ bc_22 : Nat, bc_22 ≤ b - bc - bc_17 - bc_19 ∧ (∃ fs_26 : List Value, Ob s1_20 11 a_in_21 fs_26) ∧ Call G mX11_sign 10 bc_22 [.ref a_in_21, .int 41] s1_20 (qV (fun s1_23 => ∃ a_in_24 : Nat, Fg s1_23 13 h0 2 (.ref a_in_24) ∧ (3 + 1 ≤ r ∧ (∃ fs : List Value, Ob s1_23 11 a_in_24 fs) ∧ Call G mX11_closes 3 0 [.ref a_in_24] s1_23 (qV (fun s1_25 => Q (some (.ref ra)) s1_25)) X))) X))) X)) X))) X)))) X)) : At G mX13_value r Q X b 0 [(0, .ref h0)] [] (σ) := by
  refine g_aload_n dX13_value_0 rfl 0 rfl ?_
  obtain ⟨a_in, hf, h⟩ := h
  refine g_get 2 dX13_value_1 in_X13 cl13 (by decide) q1156 hf ?_
  obtain ⟨hr9, h⟩ := h
  obtain ⟨⟨_, hO⟩, h⟩ := h
  refine g_callV (N := mX11_now) (st := []) (As := []) (a := a_in) dX13_value_4 wsX11_now (lw_V q1189 q968 q969 q122 q970) rfl mokX11_now rfl cl11 hr9 (by decide) (Nat.zero_le _) (Nat.zero_le _) hO h (fun E q s hx => AtX.out0 rfl hx) (fun _ s1 hq => ?_)
  obtain ⟨rx, rfl, h⟩ := hq
  refine At.stk (st' := [.int rx]) rfl ?_
  refine g_bipush (v := 40) dX13_value_7 (by decide) ?_
  refine g_icmp_ne (tgt := 51) dX13_value_9 (by decide) (fun c => ?_) (fun c => ?_)
  · replace h := h.1 c
    refine g_aload_n dX13_value_51 rfl 0 rfl ?_
    obtain ⟨a_in_1, hf, h⟩ := h
    refine g_get 2 dX13_value_52 in_X13 cl13 (by decide) q1156 hf ?_
    refine g_aload_n dX13_value_55 rfl 0 rfl ?_
    obtain ⟨a_known, hf, h⟩ := h
    refine g_get 1 dX13_value_56 in_X13 cl13 (by decide) q1155 hf ?_
    obtain ⟨hr9, h⟩ := h
    obtain ⟨⟨_, hO⟩, h⟩ := h
    refine g_callV (N := mX11_which) (st := []) (As := [.ref a_known]) (a := a_in_1) dX13_value_59 wsX11_which (lw_V q1191 q985 q986 q122 q987) rfl mokX11_which rfl cl11 hr9 (by decide) (Nat.zero_le _) (Nat.zero_le _) hO h (fun E q s hx => AtX.out0 rfl hx) (fun _ s1_2 hq => ?_)
    obtain ⟨rx_3, rfl, h⟩ := hq
    refine At.stk (st' := [.int rx_3]) rfl ?_
    refine g_istore_n (ls1 := [(1, .int rx_3), (0, .ref h0)]) dX13_value_62 rfl (by decide) rfl ?_
    refine g_iload_n dX13_value_63 rfl 0 rfl ?_
    refine g_iconst (v := (-1)) dX13_value_64 (by decide) ?_
    refine g_icmp_ne (tgt := 87) dX13_value_65 (by decide) (fun c => ?_) (fun c => ?_)
    · replace h := h.1 c
      refine g_aload_n dX13_value_87 rfl 1 rfl ?_
      obtain ⟨a_in_4, hf, h⟩ := h
      refine g_get 2 dX13_value_88 in_X13 cl13 (by decide) q1156 hf ?_
      obtain ⟨hr9, h⟩ := h
      obtain ⟨⟨_, hO⟩, h⟩ := h
      refine g_callV (N := mX11_skipsWord) (st := []) (As := []) (a := a_in_4) dX13_value_91 wsX11_skipsWord (lw_V q1194 q1073 q1074 q122 q1075) rfl mokX11_skipsWord rfl cl11 hr9 (by decide) (Nat.zero_le _) (Nat.zero_le _) hO h (fun E q s hx => AtX.out0 rfl hx) (fun _ s1_5 hq => ?_)
      obtain ⟨rfl, h⟩ := hq
      refine At.stk (st' := []) rfl ?_
      obtain ⟨hb, h⟩ := h
      refine g_new (ci := 17) (fs := [.int 0]) 1 dX13_value_94 in_X17 tyX17 tyX17_ok cl17 q1257 q1258 q135 new17 (by decide) (by decide) hb (fun q hq => ?_)
      replace h := h q hq
      refine g_tops (fun s1_6 es1_6 => ?_)
      replace h := h s1_6 es1_6
      refine g_dup dX13_value_97 rfl ?_
      refine g_iload_n dX13_value_98 rfl 0 rfl ?_
      obtain ⟨hr9, h⟩ := h
      refine g_callI (N := mX17_init) (st := [.ref q]) (As := [.int rx_3]) (a := q) dX13_value_99 wsX17_init q1261 q135 q1259 q1260 rfl mokX17_init rfl hr9 (by decide) (Nat.zero_le _) (by simp [Value.category]) h (fun E q s hx => AtX.out0 rfl hx) (fun _ s1_7 hq => ?_)
      obtain ⟨rfl, h⟩ := hq
      refine At.stk (st' := [.ref q]) rfl ?_
      exact g_aret (x := (some q)) rfl dX13_value_102 h
    · replace h := h.2 c
      obtain ⟨hb, h⟩ := h
      refine g_new (ci := 16) (fs := [.int 0]) 1 dX13_value_68 in_X16 tyX16 tyX16_ok cl16 q1247 q1248 q134 new16 (by decide) (by decide) hb (fun q hq => ?_)
      replace h := h q hq
      refine g_tops (fun s1_8 es1_8 => ?_)
      replace h := h s1_8 es1_8
      refine g_dup dX13_value_71 rfl ?_
      refine g_aload_n dX13_value_72 rfl 1 rfl ?_
      obtain ⟨a_in_9, hf, h⟩ := h
      refine g_get 2 dX13_value_73 in_X13 cl13 (by decide) q1156 hf ?_
      refine g_iconst (v := 0) dX13_value_76 (by decide) ?_
      refine g_sipush (v := 999) dX13_value_77 (by decide) ?_
      obtain ⟨hr9, h⟩ := h
      obtain ⟨bc, hb9, h⟩ := h
      obtain ⟨⟨_, hO⟩, h⟩ := h
      refine g_callV (N := mX11_number) (st := [.ref q, .ref q]) (As := [.int 0, .int 999]) (a := a_in_9) dX13_value_80 wsX11_number (lw_V q1200 q1077 q1078 q122 q1079) rfl mokX11_number rfl cl11 hr9 (by decide) hb9 (by simp [Value.category]) hO h (fun E q s hx => AtX.out0 rfl hx) (fun _ s1_10 hq => ?_)
      obtain ⟨rx_11, rfl, h⟩ := hq
      refine At.stk (st' := [.int rx_11, .ref q, .ref q]) rfl ?_
      obtain ⟨hr9, h⟩ := h
      refine g_callI (N := mX16_init) (st := [.ref q]) (As := [.int rx_11]) (a := q) dX13_value_83 wsX16_init q1251 q134 q1249 q1250 rfl mokX16_init rfl hr9 (by decide) (Nat.zero_le _) (by simp [Value.category]) h (fun E q s hx => AtX.out0 rfl hx) (fun _ s1_12 hq => ?_)
      obtain ⟨rfl, h⟩ := hq
      refine At.stk (st' := [.ref q]) rfl ?_
      exact g_aret (x := (some q)) rfl dX13_value_86 h
  · replace h := h.2 c
    refine g_aload_n dX13_value_12 rfl 0 rfl ?_
    obtain ⟨a_in_14, hf, h⟩ := h
    refine g_get 2 dX13_value_13 in_X13 cl13 (by decide) q1156 hf ?_
    obtain ⟨hr9, h⟩ := h
    obtain ⟨bc, hb9, h⟩ := h
    obtain ⟨⟨_, hO⟩, h⟩ := h
    refine g_callV (N := mX11_opens) (st := []) (As := []) (a := a_in_14) dX13_value_16 wsX11_opens (lw_V q1216 q1217 q1218 q122 q1219) rfl mokX11_opens rfl cl11 hr9 (by decide) hb9 (Nat.zero_le _) hO h (fun E q s hx => AtX.out0 rfl hx) (fun _ s1_15 hq => ?_)
    obtain ⟨rfl, h⟩ := hq
    refine At.stk (st' := []) rfl ?_
    refine g_aload_n dX13_value_19 rfl 0 rfl ?_
    obtain ⟨a_in_16, hf, h⟩ := h
    refine g_get 2 dX13_value_20 in_X13 cl13 (by decide) q1156 hf ?_
    refine g_bipush (v := 40) dX13_value_23 (by decide) ?_
    obtain ⟨hr9, h⟩ := h
    obtain ⟨bc_17, hb9, h⟩ := h
    obtain ⟨⟨_, hO⟩, h⟩ := h
    refine g_callV (N := mX11_sign) (st := []) (As := [.int 40]) (a := a_in_16) dX13_value_25 wsX11_sign (lw_V q1234 q1092 q1093 q122 q1094) rfl mokX11_sign rfl cl11 hr9 (by decide) hb9 (Nat.zero_le _) hO h (fun E q s hx => AtX.out0 rfl hx) (fun _ s1_18 hq => ?_)
    obtain ⟨rfl, h⟩ := hq
    refine At.stk (st' := []) rfl ?_
    refine g_aload_n dX13_value_28 rfl 0 rfl ?_
    obtain ⟨rc, hr9, h⟩ := h
    obtain ⟨bc_19, hb9, h⟩ := h
    obtain ⟨⟨_, hO⟩, h⟩ := h
    refine g_callV (N := mX13_sum) (st := []) (As := []) (a := h0) dX13_value_29 wsX13_sum (lw_V q1235 q1237 qs22 q131 q1238) rfl mokX13_sum rfl cl13 hr9 (by decide) hb9 (Nat.zero_le _) hO h (fun E q s hx => AtX.out0 rfl hx) (fun _ s1_20 hq => ?_)
    obtain ⟨ra, rfl, h⟩ := hq
    refine At.stk (st' := [.ref ra]) rfl ?_
    refine g_astore_n (ls1 := [(1, .ref ra), (0, .ref h0)]) dX13_value_32 rfl (by decide) rfl ?_
    refine g_aload_n dX13_value_33 rfl 1 rfl ?_
    obtain ⟨a_in_21, hf, h⟩ := h
    refine g_get 2 dX13_value_34 in_X13 cl13 (by decide) q1156 hf ?_
    refine g_bipush (v := 41) dX13_value_37 (by decide) ?_
    obtain ⟨hr9, h⟩ := h
    obtain ⟨bc_22, hb9, h⟩ := h
    obtain ⟨⟨_, hO⟩, h⟩ := h
    refine g_callV (N := mX11_sign) (st := []) (As := [.int 41]) (a := a_in_21) dX13_value_39 wsX11_sign (lw_V q1234 q1092 q1093 q122 q1094) rfl mokX11_sign rfl cl11 hr9 (by decide) hb9 (Nat.zero_le _) hO h (fun E q s hx => AtX.out0 rfl hx) (fun _ s1_23 hq => ?_)
    obtain ⟨rfl, h⟩ := hq
    refine At.stk (st' := []) rfl ?_
    refine g_aload_n dX13_value_42 rfl 1 rfl ?_
    obtain ⟨a_in_24, hf, h⟩ := h
    refine g_get 2 dX13_value_43 in_X13 cl13 (by decide) q1156 hf ?_
    obtain ⟨hr9, h⟩ := h
    obtain ⟨⟨_, hO⟩, h⟩ := h
    refine g_callV (N := mX11_closes) (st := []) (As := []) (a := a_in_24) dX13_value_46 wsX11_closes (lw_V q1230 q1231 q1232 q122 q1233) rfl mokX11_closes rfl cl11 hr9 (by decide) (Nat.zero_le _) (Nat.zero_le _) hO h (fun E q s hx => AtX.out0 rfl hx) (fun _ s1_25 hq => ?_)
    obtain ⟨rfl, h⟩ := hq
    refine At.stk (st' := []) rfl ?_
    refine g_aload_n dX13_value_49 rfl 0 rfl ?_
    exact g_aret (x := (some ra)) rfl dX13_value_50 h
theorem eX13_value {G : GC} {r : Nat} {Q : Option Value → PS → Prop} {X : String → Nat → PS → Prop} {b : Nat} {h0 : Nat} {σ : PS} (h : At G mX13_value r Q X b 0 [(0, .ref h0)] [] σ) : Call G mX13_value r b [.ref h0] σ Q X :=
  Call.of (by decide +kernel) wsX13_value rfl (Nat.le_of_ble_eq_true rfl) (At.sub (ls := [(0, .ref h0)]) [0] rfl h)
set_option maxHeartbeats 4000000 in
theorem bX13_step_0 {G : GC} {Q : Option Value → PS → Prop} {X : String → Nat → PS → Prop} {b : Nat} {x0 : Int32} {x1 : Int32} {u2 : Option Nat} {σ : PS} (h : (x0.toInt < 0 ∨ 6 < x0.toInt → 1 ≤ b ∧ (∀ q : Nat, (∀ κ, σ κ q = none) → (∀ s1 : PS, s1 = up (σ) 25 q (.inl [.int 0, .null, .int 0]) → Call G mX25_init 5 0 [.ref q, .int x1, va_rf u2, .int 2] s1 (qV (fun s1_1 => Q (some (.ref q)) s1_1)) X))) ∧ (x0 = 0 → 1 ≤ b ∧ (∀ q : Nat, (∀ κ, σ κ q = none) → (∀ s1 : PS, s1 = up (σ) 20 q (.inl [.int 0, .null]) → Call G mX20_init 5 0 [.ref q, .int x1, va_rf u2] s1 (qV (fun s1_2 => Q (some (.ref q)) s1_2)) X))) ∧ (x0 = 1 → 1 ≤ b ∧ (∀ q : Nat, (∀ κ, σ κ q = none) → (∀ s1 : PS, s1 = up (σ) 21 q (.inl [.int 0, .null]) → Call G mX21_init 5 0 [.ref q, .int x1, va_rf u2] s1 (qV (fun s1_3 => Q (some (.ref q)) s1_3)) X))) ∧ (x0 = 2 → 1 ≤ b ∧ (∀ q : Nat, (∀ κ, σ κ q = none) → (∀ s1 : PS, s1 = up (σ) 22 q (.inl [.int 0, .null]) → Call G mX22_init 5 0 [.ref q, .int x1, va_rf u2] s1 (qV (fun s1_4 => Q (some (.ref q)) s1_4)) X))) ∧ (x0 = 3 → 1 ≤ b ∧ (∀ q : Nat, (∀ κ, σ κ q = none) → (∀ s1 : PS, s1 = up (σ) 23 q (.inl [.int 0, .null]) → Call G mX23_init 5 0 [.ref q, .int x1, va_rf u2] s1 (qV (fun s1_5 => Q (some (.ref q)) s1_5)) X))) ∧ (x0 = 4 → 1 ≤ b ∧ (∀ q : Nat, (∀ κ, σ κ q = none) → (∀ s1 : PS, s1 = up (σ) 24 q (.inl [.int 0, .null]) → Call G mX24_init 5 0 [.ref q, .int x1, va_rf u2] s1 (qV (fun s1_6 => Q (some (.ref q)) s1_6)) X))) ∧ (x0 = 5 → 1 ≤ b ∧ (∀ q : Nat, (∀ κ, σ κ q = none) → (∀ s1 : PS, s1 = up (σ) 25 q (.inl [.int 0, .null, .int 0]) → Call G mX25_init 5 0 [.ref q, .int x1, va_rf u2, .int 1] s1 (qV (fun s1_7 => Q (some (.ref q)) s1_7)) X))) ∧ (x0 = 6 → 1 ≤ b ∧ (∀ q : Nat, (∀ κ, σ κ q = none) → (∀ s1 : PS, s1 = up (σ) 25 q (.inl [.int 0, .null, .int 0]) → Call G mX25_init 5 0 [.ref q, .int x1, va_rf u2, .int 0] s1 (qV (fun s1_8 => Q (some (.ref q)) s1_8)) X)))) : At G mX13_step 6 Q X b 0 [(0, .int x0), (1, .int x1), (2, va_rf u2)] [] (σ) := by
  refine g_iload_n dX13_step_0 rfl 0 rfl ?_
  rcases tb_split x0 0 7 with ho | ⟨i9, hi9, ex9⟩
  · refine g_tableOut (tgt := 116) dX13_step_1 (by omega) (by decide) ?_
    replace h := h.1 ho
    obtain ⟨hb, h⟩ := h
    refine g_new (ci := 25) (fs := [.int 0, .null, .int 0]) 1 dX13_step_116 in_X25 tyX25 tyX25_ok cl25 q1344 q740 q143 new25 (by decide) (by decide) hb (fun q hq => ?_)
    replace h := h q hq
    refine g_tops (fun s1 es1 => ?_)
    replace h := h s1 es1
    refine g_dup dX13_step_119 rfl ?_
    refine g_iload_n dX13_step_120 rfl 1 rfl ?_
    refine g_aloadq_n dX13_step_121 rfl 2 rfl ?_
    refine g_iconst (v := 2) dX13_step_122 (by decide) ?_
    refine g_callI (N := mX25_init) (st := [.ref q]) (As := [.int x1, va_rf u2, .int 2]) (a := q) dX13_step_123 wsX25_init q1347 q143 q1345 q1346 rfl mokX25_init rfl (by decide) (by decide) (Nat.zero_le _) (by simp [Value.category]) h (fun E q s hx => AtX.out0 rfl hx) (fun _ s1_1 hq => ?_)
    obtain ⟨rfl, h⟩ := hq
    refine At.stk (st' := [.ref q]) rfl ?_
    exact g_aret (x := (some q)) rfl dX13_step_126 h
  · replace h := h.2
    match i9, hi9, ex9 with
    | 0, _, ex9 =>
      have ex9 : x0 = 0 := ex9.trans (by decide)
      replace h := h.1 ex9
      refine g_tableIn (tgt := 44) dX13_step_1 (by rw [ex9]; decide) (by rw [ex9]; decide) (off := 43) (by rw [ex9]; decide) (by decide) ?_
      obtain ⟨hb, h⟩ := h
      refine g_new (ci := 20) (fs := [.int 0, .null]) 1 dX13_step_44 in_X20 tyX20 tyX20_ok cl20 q1292 q1293 q138 new20 (by decide) (by decide) hb (fun q hq => ?_)
      replace h := h q hq
      refine g_tops (fun s1 es1 => ?_)
      replace h := h s1 es1
      refine g_dup dX13_step_47 rfl ?_
      refine g_iload_n dX13_step_48 rfl 1 rfl ?_
      refine g_aloadq_n dX13_step_49 rfl 2 rfl ?_
      refine g_callI (N := mX20_init) (st := [.ref q]) (As := [.int x1, va_rf u2]) (a := q) dX13_step_50 wsX20_init q1296 q138 q1294 q1295 rfl mokX20_init rfl (by decide) (by decide) (Nat.zero_le _) (by simp [Value.category]) h (fun E q s hx => AtX.out0 rfl hx) (fun _ s1_2 hq => ?_)
      obtain ⟨rfl, h⟩ := hq
      refine At.stk (st' := [.ref q]) rfl ?_
      exact g_aret (x := (some q)) rfl dX13_step_53 h
    | 1, _, ex9 =>
      have ex9 : x0 = 1 := ex9.trans (by decide)
      replace h := h.2.1 ex9
      refine g_tableIn (tgt := 54) dX13_step_1 (by rw [ex9]; decide) (by rw [ex9]; decide) (off := 53) (by rw [ex9]; decide) (by decide) ?_
      obtain ⟨hb, h⟩ := h
      refine g_new (ci := 21) (fs := [.int 0, .null]) 1 dX13_step_54 in_X21 tyX21 tyX21_ok cl21 q1308 q1309 q139 new21 (by decide) (by decide) hb (fun q hq => ?_)
      replace h := h q hq
      refine g_tops (fun s1 es1 => ?_)
      replace h := h s1 es1
      refine g_dup dX13_step_57 rfl ?_
      refine g_iload_n dX13_step_58 rfl 1 rfl ?_
      refine g_aloadq_n dX13_step_59 rfl 2 rfl ?_
      refine g_callI (N := mX21_init) (st := [.ref q]) (As := [.int x1, va_rf u2]) (a := q) dX13_step_60 wsX21_init q1312 q139 q1310 q1311 rfl mokX21_init rfl (by decide) (by decide) (Nat.zero_le _) (by simp [Value.category]) h (fun E q s hx => AtX.out0 rfl hx) (fun _ s1_3 hq => ?_)
      obtain ⟨rfl, h⟩ := hq
      refine At.stk (st' := [.ref q]) rfl ?_
      exact g_aret (x := (some q)) rfl dX13_step_63 h
    | 2, _, ex9 =>
      have ex9 : x0 = 2 := ex9.trans (by decide)
      replace h := h.2.2.1 ex9
      refine g_tableIn (tgt := 64) dX13_step_1 (by rw [ex9]; decide) (by rw [ex9]; decide) (off := 63) (by rw [ex9]; decide) (by decide) ?_
      obtain ⟨hb, h⟩ := h
      refine g_new (ci := 22) (fs := [.int 0, .null]) 1 dX13_step_64 in_X22 tyX22 tyX22_ok cl22 q1317 q1318 q140 new22 (by decide) (by decide) hb (fun q hq => ?_)
      replace h := h q hq
      refine g_tops (fun s1 es1 => ?_)
      replace h := h s1 es1
      refine g_dup dX13_step_67 rfl ?_
      refine g_iload_n dX13_step_68 rfl 1 rfl ?_
      refine g_aloadq_n dX13_step_69 rfl 2 rfl ?_
      refine g_callI (N := mX22_init) (st := [.ref q]) (As := [.int x1, va_rf u2]) (a := q) dX13_step_70 wsX22_init q1321 q140 q1319 q1320 rfl mokX22_init rfl (by decide) (by decide) (Nat.zero_le _) (by simp [Value.category]) h (fun E q s hx => AtX.out0 rfl hx) (fun _ s1_4 hq => ?_)
      obtain ⟨rfl, h⟩ := hq
      refine At.stk (st' := [.ref q]) rfl ?_
      exact g_aret (x := (some q)) rfl dX13_step_73 h
    | 3, _, ex9 =>
      have ex9 : x0 = 3 := ex9.trans (by decide)
      replace h := h.2.2.2.1 ex9
      refine g_tableIn (tgt := 74) dX13_step_1 (by rw [ex9]; decide) (by rw [ex9]; decide) (off := 73) (by rw [ex9]; decide) (by decide) ?_
      obtain ⟨hb, h⟩ := h
      refine g_new (ci := 23) (fs := [.int 0, .null]) 1 dX13_step_74 in_X23 tyX23 tyX23_ok cl23 q1326 q1327 q141 new23 (by decide) (by decide) hb (fun q hq => ?_)
      replace h := h q hq
      refine g_tops (fun s1 es1 => ?_)
      replace h := h s1 es1
      refine g_dup dX13_step_77 rfl ?_
      refine g_iload_n dX13_step_78 rfl 1 rfl ?_
      refine g_aloadq_n dX13_step_79 rfl 2 rfl ?_
      refine g_callI (N := mX23_init) (st := [.ref q]) (As := [.int x1, va_rf u2]) (a := q) dX13_step_80 wsX23_init q1330 q141 q1328 q1329 rfl mokX23_init rfl (by decide) (by decide) (Nat.zero_le _) (by simp [Value.category]) h (fun E q s hx => AtX.out0 rfl hx) (fun _ s1_5 hq => ?_)
      obtain ⟨rfl, h⟩ := hq
      refine At.stk (st' := [.ref q]) rfl ?_
      exact g_aret (x := (some q)) rfl dX13_step_83 h
    | 4, _, ex9 =>
      have ex9 : x0 = 4 := ex9.trans (by decide)
      replace h := h.2.2.2.2.1 ex9
      refine g_tableIn (tgt := 84) dX13_step_1 (by rw [ex9]; decide) (by rw [ex9]; decide) (off := 83) (by rw [ex9]; decide) (by decide) ?_
      obtain ⟨hb, h⟩ := h
      refine g_new (ci := 24) (fs := [.int 0, .null]) 1 dX13_step_84 in_X24 tyX24 tyX24_ok cl24 q1335 q1336 q142 new24 (by decide) (by decide) hb (fun q hq => ?_)
      replace h := h q hq
      refine g_tops (fun s1 es1 => ?_)
      replace h := h s1 es1
      refine g_dup dX13_step_87 rfl ?_
      refine g_iload_n dX13_step_88 rfl 1 rfl ?_
      refine g_aloadq_n dX13_step_89 rfl 2 rfl ?_
      refine g_callI (N := mX24_init) (st := [.ref q]) (As := [.int x1, va_rf u2]) (a := q) dX13_step_90 wsX24_init q1339 q142 q1337 q1338 rfl mokX24_init rfl (by decide) (by decide) (Nat.zero_le _) (by simp [Value.category]) h (fun E q s hx => AtX.out0 rfl hx) (fun _ s1_6 hq => ?_)
      obtain ⟨rfl, h⟩ := hq
      refine At.stk (st' := [.ref q]) rfl ?_
      exact g_aret (x := (some q)) rfl dX13_step_93 h
    | 5, _, ex9 =>
      have ex9 : x0 = 5 := ex9.trans (by decide)
      replace h := h.2.2.2.2.2.1 ex9
      refine g_tableIn (tgt := 94) dX13_step_1 (by rw [ex9]; decide) (by rw [ex9]; decide) (off := 93) (by rw [ex9]; decide) (by decide) ?_
      obtain ⟨hb, h⟩ := h
      refine g_new (ci := 25) (fs := [.int 0, .null, .int 0]) 1 dX13_step_94 in_X25 tyX25 tyX25_ok cl25 q1344 q740 q143 new25 (by decide) (by decide) hb (fun q hq => ?_)
      replace h := h q hq
      refine g_tops (fun s1 es1 => ?_)
      replace h := h s1 es1
      refine g_dup dX13_step_97 rfl ?_
      refine g_iload_n dX13_step_98 rfl 1 rfl ?_
      refine g_aloadq_n dX13_step_99 rfl 2 rfl ?_
      refine g_iconst (v := 1) dX13_step_100 (by decide) ?_
      refine g_callI (N := mX25_init) (st := [.ref q]) (As := [.int x1, va_rf u2, .int 1]) (a := q) dX13_step_101 wsX25_init q1347 q143 q1345 q1346 rfl mokX25_init rfl (by decide) (by decide) (Nat.zero_le _) (by simp [Value.category]) h (fun E q s hx => AtX.out0 rfl hx) (fun _ s1_7 hq => ?_)
      obtain ⟨rfl, h⟩ := hq
      refine At.stk (st' := [.ref q]) rfl ?_
      exact g_aret (x := (some q)) rfl dX13_step_104 h
    | 6, _, ex9 =>
      have ex9 : x0 = 6 := ex9.trans (by decide)
      replace h := h.2.2.2.2.2.2 ex9
      refine g_tableIn (tgt := 105) dX13_step_1 (by rw [ex9]; decide) (by rw [ex9]; decide) (off := 104) (by rw [ex9]; decide) (by decide) ?_
      obtain ⟨hb, h⟩ := h
      refine g_new (ci := 25) (fs := [.int 0, .null, .int 0]) 1 dX13_step_105 in_X25 tyX25 tyX25_ok cl25 q1344 q740 q143 new25 (by decide) (by decide) hb (fun q hq => ?_)
      replace h := h q hq
      refine g_tops (fun s1 es1 => ?_)
      replace h := h s1 es1
      refine g_dup dX13_step_108 rfl ?_
      refine g_iload_n dX13_step_109 rfl 1 rfl ?_
      refine g_aloadq_n dX13_step_110 rfl 2 rfl ?_
      refine g_iconst (v := 0) dX13_step_111 (by decide) ?_
      refine g_callI (N := mX25_init) (st := [.ref q]) (As := [.int x1, va_rf u2, .int 0]) (a := q) dX13_step_112 wsX25_init q1347 q143 q1345 q1346 rfl mokX25_init rfl (by decide) (by decide) (Nat.zero_le _) (by simp [Value.category]) h (fun E q s hx => AtX.out0 rfl hx) (fun _ s1_8 hq => ?_)
      obtain ⟨rfl, h⟩ := hq
      refine At.stk (st' := [.ref q]) rfl ?_
      exact g_aret (x := (some q)) rfl dX13_step_115 h
    | i9 + 7, hi9, _ => exact absurd hi9 (by omega)
theorem eX13_step {G : GC} {Q : Option Value → PS → Prop} {X : String → Nat → PS → Prop} {b : Nat} {p0 : Int32} {p1 : Int32} {p2 : Option Nat} {σ : PS} (h : At G mX13_step 6 Q X b 0 [(0, .int p0), (1, .int p1), (2, va_rf p2)] [] σ) : Call G mX13_step 6 b [.int p0, .int p1, va_rf p2] σ Q X :=
  by cases p2 <;> exact Call.of (by decide +kernel) wsX13_step rfl (Nat.le_of_ble_eq_true rfl) (At.sub [0, 1, 2] rfl h)
set_option maxHeartbeats 4000000 in
theorem bX14_init_0 {G : GC} {Q : Option Value → PS → Prop} {X : String → Nat → PS → Prop} {b : Nat} {h0 : Nat} {σ : PS} (h : 1 ≤ b ∧ (∀ q : Nat, (∀ κ, σ κ q = none) → (∀ s1 : PS, s1 = up (σ) 106 q (.inr (8, .inr (.inr (fun _ => none)))) → ∃ fs : List Value, Ob s1 14 h0 fs ∧ 0 < fs.length ∧ (∀ s1_1 : PS, s1_1 = up s1 14 h0 (.inl (fs.set 0 (.ref q))) → Q none s1_1)))) : At G mX14_init 4 Q X b 0 [(0, .ref h0)] [] (σ) := by
  refine g_aload_n dX14_init_0 rfl 0 rfl ?_
  refine g_objInit dX14_init_1 q1173 q151 q152 (by decide) (Nat.zero_le _) ?_
  refine g_aload_n dX14_init_4 rfl 0 rfl ?_
  refine g_bipush (v := 8) dX14_init_5 (by decide) ?_
  obtain ⟨hb, h⟩ := h
  refine g_newq (κ := 106) (t0 := 6) (N := 8) 1 dX14_init_7 q1174 (fun U h => h.2.2.2.1.2.2.1) rfl (by decide) (by decide) (Nat.le_of_ble_eq_true rfl) (by decide) (by decide) hb (fun q hq => ?_)
  replace h := h q hq
  refine g_tops (fun s1 es1 => ?_)
  replace h := h s1 es1
  obtain ⟨fs, hO, hl, h⟩ := h
  refine g_putF 0 dX14_init_10 in_X14 tyX14 tyX14_ok nmX14 cl14 (by decide) q1176 rfl rfl rfl rfl rfl hO hl ?_
  refine g_tops (fun s1_1 es1_1 => ?_)
  replace h := h s1_1 es1_1
  exact g_vret rfl dX14_init_13 h
theorem eX14_init {G : GC} {Q : Option Value → PS → Prop} {X : String → Nat → PS → Prop} {b : Nat} {h0 : Nat} {σ : PS} (h : At G mX14_init 4 Q X b 0 [(0, .ref h0)] [] σ) : Call G mX14_init 4 b [.ref h0] σ Q X :=
  Call.of (by decide +kernel) wsX14_init rfl (Nat.le_of_ble_eq_true rfl) (At.sub (ls := [(0, .ref h0)]) [0] rfl h)
set_option maxHeartbeats 4000000 in
theorem bX15_on_0 {G : GC} {r : Nat} {Q : Option Value → PS → Prop} {X : String → Nat → PS → Prop} {b : Nat} {h0 : Nat} {a1 : Nat} {σ : PS} (h : ∃ a_term : Nat, Fg (σ) 15 h0 0 (.ref a_term) ∧ (∃ rc : Nat, rc + 1 ≤ r ∧ CallT G rc a_term [.ref a1] (σ) (pI (fun rx => Q (some (.int (1 - rx))) (σ))))) : At G mX15_on r Q X b 0 [(0, .ref h0), (1, .ref a1)] [] (σ) := by
  refine g_iconst (v := 1) dX15_on_0 (by decide) ?_
  refine g_aload_n dX15_on_1 rfl 0 rfl ?_
  obtain ⟨a_term, hf, h⟩ := h
  refine g_get 0 dX15_on_2 in_X15 cl15 (by decide) q1226 hf ?_
  refine g_aload_n dX15_on_5 rfl 1 rfl ?_
  obtain ⟨rc, hr9, h⟩ := h
  refine g_callT (st := [.int 1]) (As := [.ref a1]) (a := a_term) dX15_on_6 q654 rfl hr9 (by simp [Value.category]) h (fun _ hq => ?_)
  obtain ⟨rx, rfl, h⟩ := hq
  refine At.stk (st' := [.int rx, .int 1]) rfl ?_
  refine g_isub dX15_on_11 ?_
  exact g_iret rfl dX15_on_12 h
theorem eX15_on {G : GC} {r : Nat} {Q : Option Value → PS → Prop} {X : String → Nat → PS → Prop} {b : Nat} {h0 : Nat} {p1 : Nat} {σ : PS} (h : At G mX15_on r Q X b 0 [(0, .ref h0), (1, .ref p1)] [] σ) : Call G mX15_on r b [.ref h0, .ref p1] σ Q X :=
  Call.of (by decide +kernel) wsX15_on rfl (Nat.le_of_ble_eq_true rfl) (At.sub (ls := [(0, .ref h0), (1, .ref p1)]) [0, 1] rfl h)
set_option maxHeartbeats 4000000 in
theorem bX15_init_0 {G : GC} {Q : Option Value → PS → Prop} {X : String → Nat → PS → Prop} {b : Nat} {h0 : Nat} {a1 : Nat} {σ : PS} (h : ∃ fs : List Value, Ob (σ) 15 h0 fs ∧ 0 < fs.length ∧ (∀ s1 : PS, s1 = up (σ) 15 h0 (.inl (fs.set 0 (.ref a1))) → Q none s1)) : At G mX15_init 4 Q X b 0 [(0, .ref h0), (1, .ref a1)] [] (σ) := by
  refine g_aload_n dX15_init_0 rfl 0 rfl ?_
  refine g_objInit dX15_init_1 q1225 q151 q152 (by decide) (Nat.zero_le _) ?_
  refine g_aload_n dX15_init_4 rfl 0 rfl ?_
  refine g_aload_n dX15_init_5 rfl 1 rfl ?_
  obtain ⟨fs, hO, hl, h⟩ := h
  refine g_putF 0 dX15_init_6 in_X15 tyX15 tyX15_ok nmX15 cl15 (by decide) q1226 rfl rfl rfl rfl rfl hO hl ?_
  refine g_tops (fun s1 es1 => ?_)
  replace h := h s1 es1
  exact g_vret rfl dX15_init_9 h
theorem eX15_init {G : GC} {Q : Option Value → PS → Prop} {X : String → Nat → PS → Prop} {b : Nat} {h0 : Nat} {p1 : Nat} {σ : PS} (h : At G mX15_init 4 Q X b 0 [(0, .ref h0), (1, .ref p1)] [] σ) : Call G mX15_init 4 b [.ref h0, .ref p1] σ Q X :=
  Call.of (by decide +kernel) wsX15_init rfl (Nat.le_of_ble_eq_true rfl) (At.sub (ls := [(0, .ref h0), (1, .ref p1)]) [0, 1] rfl h)
set_option maxHeartbeats 4000000 in
theorem bX16_on_0 {G : GC} {r : Nat} {Q : Option Value → PS → Prop} {X : String → Nat → PS → Prop} {b : Nat} {h0 : Nat} {σ : PS} (h : ∃ x_number : Int32, Fg (σ) 16 h0 0 (.int x_number) ∧ (Q (some (.int x_number)) (σ))) : At G mX16_on r Q X b 0 [(0, .ref h0)] [] (σ) := by
  refine g_aload_n dX16_on_0 rfl 0 rfl ?_
  obtain ⟨x_number, hf, h⟩ := h
  refine g_get 0 dX16_on_1 in_X16 cl16 (by decide) q1253 hf ?_
  exact g_iret rfl dX16_on_4 h
theorem eX16_on {G : GC} {r : Nat} {Q : Option Value → PS → Prop} {X : String → Nat → PS → Prop} {b : Nat} {h0 : Nat} {p1 : Nat} {σ : PS} (h : At G mX16_on r Q X b 0 [(0, .ref h0)] [] σ) : Call G mX16_on r b [.ref h0, .ref p1] σ Q X :=
  Call.of (by decide +kernel) wsX16_on rfl (Nat.le_of_ble_eq_true rfl) (At.sub (ls := [(0, .ref h0), (1, .ref p1)]) [0] rfl h)
set_option maxHeartbeats 4000000 in
theorem bX16_init_0 {G : GC} {Q : Option Value → PS → Prop} {X : String → Nat → PS → Prop} {b : Nat} {h0 : Nat} {x1 : Int32} {σ : PS} (h : ∃ fs : List Value, Ob (σ) 16 h0 fs ∧ 0 < fs.length ∧ (∀ s1 : PS, s1 = up (σ) 16 h0 (.inl (fs.set 0 (.int x1))) → Q none s1)) : At G mX16_init 4 Q X b 0 [(0, .ref h0), (1, .int x1)] [] (σ) := by
  refine g_aload_n dX16_init_0 rfl 0 rfl ?_
  refine g_objInit dX16_init_1 q1252 q151 q152 (by decide) (Nat.zero_le _) ?_
  refine g_aload_n dX16_init_4 rfl 0 rfl ?_
  refine g_iload_n dX16_init_5 rfl 1 rfl ?_
  obtain ⟨fs, hO, hl, h⟩ := h
  refine g_putF 0 dX16_init_6 in_X16 tyX16 tyX16_ok nmX16 cl16 (by decide) q1253 rfl rfl rfl rfl rfl hO hl ?_
  refine g_tops (fun s1 es1 => ?_)
  replace h := h s1 es1
  exact g_vret rfl dX16_init_9 h
theorem eX16_init {G : GC} {Q : Option Value → PS → Prop} {X : String → Nat → PS → Prop} {b : Nat} {h0 : Nat} {p1 : Int32} {σ : PS} (h : At G mX16_init 4 Q X b 0 [(0, .ref h0), (1, .int p1)] [] σ) : Call G mX16_init 4 b [.ref h0, .int p1] σ Q X :=
  Call.of (by decide +kernel) wsX16_init rfl (Nat.le_of_ble_eq_true rfl) (At.sub (ls := [(0, .ref h0), (1, .int p1)]) [0, 1] rfl h)
set_option maxHeartbeats 4000000 in
theorem bX17_on_0 {G : GC} {r : Nat} {Q : Option Value → PS → Prop} {X : String → Nat → PS → Prop} {b : Nat} {h0 : Nat} {a1 : Nat} {σ : PS} (h : ∃ x_which : Int32, Fg (σ) 17 h0 0 (.int x_which) ∧ (4 + 1 ≤ r ∧ (∃ fs : List Value, Ob (σ) 26 a1 fs) ∧ CallO G mX26_known 4 [.ref a1, .int x_which] (σ) (pI (fun rx => Q (some (.int rx)) (σ))))) : At G mX17_on r Q X b 0 [(0, .ref h0), (1, .ref a1)] [] (σ) := by
  refine g_aload_n dX17_on_0 rfl 1 rfl ?_
  refine g_aload_n dX17_on_1 rfl 0 rfl ?_
  obtain ⟨x_which, hf, h⟩ := h
  refine g_get 0 dX17_on_2 in_X17 cl17 (by decide) q1263 hf ?_
  obtain ⟨hr9, h⟩ := h
  obtain ⟨⟨_, hO⟩, h⟩ := h
  refine g_callV (N := mX26_known) (st := []) (As := [.int x_which]) (a := a1) dX17_on_5 wsX26_known (lw_V q646 q611 q612 q144 q613) rfl mokX26_known rfl cl26 hr9 (by decide) (Nat.zero_le _) (Nat.zero_le _) hO h (fun E q s hx => AtX.never hx) (fun _ s1 hq => ?_)
  obtain ⟨es, hq⟩ := hq
  refine g_tops2 es ?_
  obtain ⟨rx, rfl, h⟩ := hq
  refine At.stk (st' := [.int rx]) rfl ?_
  exact g_iret rfl dX17_on_8 h
theorem eX17_on {G : GC} {r : Nat} {Q : Option Value → PS → Prop} {X : String → Nat → PS → Prop} {b : Nat} {h0 : Nat} {p1 : Nat} {σ : PS} (h : At G mX17_on r Q X b 0 [(0, .ref h0), (1, .ref p1)] [] σ) : Call G mX17_on r b [.ref h0, .ref p1] σ Q X :=
  Call.of (by decide +kernel) wsX17_on rfl (Nat.le_of_ble_eq_true rfl) (At.sub (ls := [(0, .ref h0), (1, .ref p1)]) [0, 1] rfl h)
set_option maxHeartbeats 4000000 in
theorem bX17_init_0 {G : GC} {Q : Option Value → PS → Prop} {X : String → Nat → PS → Prop} {b : Nat} {h0 : Nat} {x1 : Int32} {σ : PS} (h : ∃ fs : List Value, Ob (σ) 17 h0 fs ∧ 0 < fs.length ∧ (∀ s1 : PS, s1 = up (σ) 17 h0 (.inl (fs.set 0 (.int x1))) → Q none s1)) : At G mX17_init 4 Q X b 0 [(0, .ref h0), (1, .int x1)] [] (σ) := by
  refine g_aload_n dX17_init_0 rfl 0 rfl ?_
  refine g_objInit dX17_init_1 q1262 q151 q152 (by decide) (Nat.zero_le _) ?_
  refine g_aload_n dX17_init_4 rfl 0 rfl ?_
  refine g_iload_n dX17_init_5 rfl 1 rfl ?_
  obtain ⟨fs, hO, hl, h⟩ := h
  refine g_putF 0 dX17_init_6 in_X17 tyX17 tyX17_ok nmX17 cl17 (by decide) q1263 rfl rfl rfl rfl rfl hO hl ?_
  refine g_tops (fun s1 es1 => ?_)
  replace h := h s1 es1
  exact g_vret rfl dX17_init_9 h
theorem eX17_init {G : GC} {Q : Option Value → PS → Prop} {X : String → Nat → PS → Prop} {b : Nat} {h0 : Nat} {p1 : Int32} {σ : PS} (h : At G mX17_init 4 Q X b 0 [(0, .ref h0), (1, .int p1)] [] σ) : Call G mX17_init 4 b [.ref h0, .int p1] σ Q X :=
  Call.of (by decide +kernel) wsX17_init rfl (Nat.le_of_ble_eq_true rfl) (At.sub (ls := [(0, .ref h0), (1, .int p1)]) [0, 1] rfl h)
set_option maxHeartbeats 4000000 in
theorem bX18_on_0 {G : GC} {r : Nat} {Q : Option Value → PS → Prop} {X : String → Nat → PS → Prop} {b : Nat} {h0 : Nat} {a1 : Nat} {σ : PS} (h : ∃ a_one : Nat, Fg (σ) 18 h0 1 (.ref a_one) ∧ (∃ rc : Nat, rc + 1 ≤ r ∧ CallT G rc a_one [.ref a1] (σ) (pI (fun rx => ∃ a_other : Nat, Fg (σ) 18 h0 2 (.ref a_other) ∧ (∃ rc_2 : Nat, rc_2 + 1 ≤ r ∧ CallT G rc_2 a_other [.ref a1] (σ) (pI (fun rx_1 => ∃ x_sign : Int32, Fg (σ) 18 h0 0 (.int x_sign) ∧ (((¬ x_sign = 38 ∧ ¬ x_sign = 42 ∧ ¬ x_sign = 43 ∧ ¬ x_sign = 45 ∧ ¬ x_sign = 60 ∧ ¬ x_sign = 61 ∧ ¬ x_sign = 62) → At G mX18_on r Q X b 189 [(2, .int rx), (3, .int rx_1)] [] (σ)) ∧ (x_sign = 38 → Q (some (.int (rx &&& rx_1))) (σ)) ∧ (x_sign = 42 → Q (some (.int (rx * rx_1))) (σ)) ∧ (x_sign = 43 → Q (some (.int (rx + rx_1))) (σ)) ∧ (x_sign = 45 → Q (some (.int (rx - rx_1))) (σ)) ∧ (x_sign = 60 → ((rx_1 ≤ rx) → Q (some (.int 0)) (σ)) ∧ ((¬ rx_1 ≤ rx) → Q (some (.int 1)) (σ))) ∧ (x_sign = 61 → ((¬ rx = rx_1) → Q (some (.int 0)) (σ)) ∧ ((rx = rx_1) → Q (some (.int 1)) (σ))) ∧ (x_sign = 62 → ((rx ≤ rx_1) → Q (some (.int 0)) (σ)) ∧ ((¬ rx ≤ rx_1) → Q (some (.int 1)) (σ))))))))))) : At G mX18_on r Q X b 0 [(0, .ref h0), (1, .ref a1)] [] (σ) := by
  refine g_aload_n dX18_on_0 rfl 0 rfl ?_
  obtain ⟨a_one, hf, h⟩ := h
  refine g_get 1 dX18_on_1 in_X18 cl18 (by decide) q1278 hf ?_
  refine g_aload_n dX18_on_4 rfl 1 rfl ?_
  obtain ⟨rc, hr9, h⟩ := h
  refine g_callT (st := []) (As := [.ref a1]) (a := a_one) dX18_on_5 q668 rfl hr9 (Nat.zero_le _) h (fun _ hq => ?_)
  obtain ⟨rx, rfl, h⟩ := hq
  refine At.stk (st' := [.int rx]) rfl ?_
  refine g_istore_n (ls1 := [(2, .int rx), (0, .ref h0), (1, .ref a1)]) dX18_on_10 rfl (by decide) rfl ?_
  refine g_aload_n dX18_on_11 rfl 1 rfl ?_
  obtain ⟨a_other, hf, h⟩ := h
  refine g_get 2 dX18_on_12 in_X18 cl18 (by decide) q1279 hf ?_
  refine g_aload_n dX18_on_15 rfl 2 rfl ?_
  obtain ⟨rc_2, hr9, h⟩ := h
  refine g_callT (st := []) (As := [.ref a1]) (a := a_other) dX18_on_16 q668 rfl hr9 (Nat.zero_le _) h (fun _ hq => ?_)
  obtain ⟨rx_1, rfl, h⟩ := hq
  refine At.stk (st' := [.int rx_1]) rfl ?_
  refine g_istore_n (ls1 := [(3, .int rx_1), (2, .int rx), (0, .ref h0), (1, .ref a1)]) dX18_on_21 rfl (by decide) rfl ?_
  refine g_aload_n dX18_on_22 rfl 2 rfl ?_
  obtain ⟨x_sign, hf, h⟩ := h
  refine g_get 0 dX18_on_23 in_X18 cl18 (by decide) q1277 hf ?_
  rcases tb_split x_sign 38 25 with ho | ⟨i9, hi9, ex9⟩
  · refine g_tableOut (tgt := 189) dX18_on_26 (by omega) (by decide) ?_
    replace h := h.1 ⟨(fun e9 => by rw [e9] at ho; revert ho; decide), (fun e9 => by rw [e9] at ho; revert ho; decide), (fun e9 => by rw [e9] at ho; revert ho; decide), (fun e9 => by rw [e9] at ho; revert ho; decide), (fun e9 => by rw [e9] at ho; revert ho; decide), (fun e9 => by rw [e9] at ho; revert ho; decide), (fun e9 => by rw [e9] at ho; revert ho; decide)⟩
    exact At.sub (ls := [(3, .int rx_1), (2, .int rx), (0, .ref h0), (1, .ref a1)]) [1, 0] rfl h
  · match i9, hi9, ex9 with
    | 0, _, ex9 =>
      have ex9 : x_sign = 38 := ex9.trans (by decide)
      replace h := h.2.1 ex9
      refine g_tableIn (tgt := 185) dX18_on_26 (by rw [ex9]; decide) (by rw [ex9]; decide) (off := 159) (by rw [ex9]; decide) (by decide) ?_
      refine g_iload_n dX18_on_185 rfl 1 rfl ?_
      refine g_iload_n dX18_on_186 rfl 0 rfl ?_
      refine g_iand dX18_on_187 ?_
      exact g_iret rfl dX18_on_188 h
    | 1, _, ex9 =>
      have ex9 : x_sign = 39 := ex9.trans (by decide)
      replace h := h.1 ⟨(fun e9 => by rw [e9] at ex9; revert ex9; decide), (fun e9 => by rw [e9] at ex9; revert ex9; decide), (fun e9 => by rw [e9] at ex9; revert ex9; decide), (fun e9 => by rw [e9] at ex9; revert ex9; decide), (fun e9 => by rw [e9] at ex9; revert ex9; decide), (fun e9 => by rw [e9] at ex9; revert ex9; decide), (fun e9 => by rw [e9] at ex9; revert ex9; decide)⟩
      refine g_tableIn (tgt := 189) dX18_on_26 (by rw [ex9]; decide) (by rw [ex9]; decide) (off := 163) (by rw [ex9]; decide) (by decide) ?_
      exact At.sub (ls := [(3, .int rx_1), (2, .int rx), (0, .ref h0), (1, .ref a1)]) [1, 0] rfl h
    | 2, _, ex9 =>
      have ex9 : x_sign = 40 := ex9.trans (by decide)
      replace h := h.1 ⟨(fun e9 => by rw [e9] at ex9; revert ex9; decide), (fun e9 => by rw [e9] at ex9; revert ex9; decide), (fun e9 => by rw [e9] at ex9; revert ex9; decide), (fun e9 => by rw [e9] at ex9; revert ex9; decide), (fun e9 => by rw [e9] at ex9; revert ex9; decide), (fun e9 => by rw [e9] at ex9; revert ex9; decide), (fun e9 => by rw [e9] at ex9; revert ex9; decide)⟩
      refine g_tableIn (tgt := 189) dX18_on_26 (by rw [ex9]; decide) (by rw [ex9]; decide) (off := 163) (by rw [ex9]; decide) (by decide) ?_
      exact At.sub (ls := [(3, .int rx_1), (2, .int rx), (0, .ref h0), (1, .ref a1)]) [1, 0] rfl h
    | 3, _, ex9 =>
      have ex9 : x_sign = 41 := ex9.trans (by decide)
      replace h := h.1 ⟨(fun e9 => by rw [e9] at ex9; revert ex9; decide), (fun e9 => by rw [e9] at ex9; revert ex9; decide), (fun e9 => by rw [e9] at ex9; revert ex9; decide), (fun e9 => by rw [e9] at ex9; revert ex9; decide), (fun e9 => by rw [e9] at ex9; revert ex9; decide), (fun e9 => by rw [e9] at ex9; revert ex9; decide), (fun e9 => by rw [e9] at ex9; revert ex9; decide)⟩
      refine g_tableIn (tgt := 189) dX18_on_26 (by rw [ex9]; decide) (by rw [ex9]; decide) (off := 163) (by rw [ex9]; decide) (by decide) ?_
      exact At.sub (ls := [(3, .int rx_1), (2, .int rx), (0, .ref h0), (1, .ref a1)]) [1, 0] rfl h
    | 4, _, ex9 =>
      have ex9 : x_sign = 42 := ex9.trans (by decide)
      replace h := h.2.2.1 ex9
      refine g_tableIn (tgt := 148) dX18_on_26 (by rw [ex9]; decide) (by rw [ex9]; decide) (off := 122) (by rw [ex9]; decide) (by decide) ?_
      refine g_iload_n dX18_on_148 rfl 1 rfl ?_
      refine g_iload_n dX18_on_149 rfl 0 rfl ?_
      refine g_imul dX18_on_150 ?_
      exact g_iret rfl dX18_on_151 h
    | 5, _, ex9 =>
      have ex9 : x_sign = 43 := ex9.trans (by decide)
      replace h := h.2.2.2.1 ex9
      refine g_tableIn (tgt := 140) dX18_on_26 (by rw [ex9]; decide) (by rw [ex9]; decide) (off := 114) (by rw [ex9]; decide) (by decide) ?_
      refine g_iload_n dX18_on_140 rfl 1 rfl ?_
      refine g_iload_n dX18_on_141 rfl 0 rfl ?_
      refine g_iadd dX18_on_142 ?_
      exact g_iret rfl dX18_on_143 h
    | 6, _, ex9 =>
      have ex9 : x_sign = 44 := ex9.trans (by decide)
      replace h := h.1 ⟨(fun e9 => by rw [e9] at ex9; revert ex9; decide), (fun e9 => by rw [e9] at ex9; revert ex9; decide), (fun e9 => by rw [e9] at ex9; revert ex9; decide), (fun e9 => by rw [e9] at ex9; revert ex9; decide), (fun e9 => by rw [e9] at ex9; revert ex9; decide), (fun e9 => by rw [e9] at ex9; revert ex9; decide), (fun e9 => by rw [e9] at ex9; revert ex9; decide)⟩
      refine g_tableIn (tgt := 189) dX18_on_26 (by rw [ex9]; decide) (by rw [ex9]; decide) (off := 163) (by rw [ex9]; decide) (by decide) ?_
      exact At.sub (ls := [(3, .int rx_1), (2, .int rx), (0, .ref h0), (1, .ref a1)]) [1, 0] rfl h
    | 7, _, ex9 =>
      have ex9 : x_sign = 45 := ex9.trans (by decide)
      replace h := h.2.2.2.2.1 ex9
      refine g_tableIn (tgt := 144) dX18_on_26 (by rw [ex9]; decide) (by rw [ex9]; decide) (off := 118) (by rw [ex9]; decide) (by decide) ?_
      refine g_iload_n dX18_on_144 rfl 1 rfl ?_
      refine g_iload_n dX18_on_145 rfl 0 rfl ?_
      refine g_isub dX18_on_146 ?_
      exact g_iret rfl dX18_on_147 h
    | 8, _, ex9 =>
      have ex9 : x_sign = 46 := ex9.trans (by decide)
      replace h := h.1 ⟨(fun e9 => by rw [e9] at ex9; revert ex9; decide), (fun e9 => by rw [e9] at ex9; revert ex9; decide), (fun e9 => by rw [e9] at ex9; revert ex9; decide), (fun e9 => by rw [e9] at ex9; revert ex9; decide), (fun e9 => by rw [e9] at ex9; revert ex9; decide), (fun e9 => by rw [e9] at ex9; revert ex9; decide), (fun e9 => by rw [e9] at ex9; revert ex9; decide)⟩
      refine g_tableIn (tgt := 189) dX18_on_26 (by rw [ex9]; decide) (by rw [ex9]; decide) (off := 163) (by rw [ex9]; decide) (by decide) ?_
      exact At.sub (ls := [(3, .int rx_1), (2, .int rx), (0, .ref h0), (1, .ref a1)]) [1, 0] rfl h
    | 9, _, ex9 =>
      have ex9 : x_sign = 47 := ex9.trans (by decide)
      replace h := h.1 ⟨(fun e9 => by rw [e9] at ex9; revert ex9; decide), (fun e9 => by rw [e9] at ex9; revert ex9; decide), (fun e9 => by rw [e9] at ex9; revert ex9; decide), (fun e9 => by rw [e9] at ex9; revert ex9; decide), (fun e9 => by rw [e9] at ex9; revert ex9; decide), (fun e9 => by rw [e9] at ex9; revert ex9; decide), (fun e9 => by rw [e9] at ex9; revert ex9; decide)⟩
      refine g_tableIn (tgt := 189) dX18_on_26 (by rw [ex9]; decide) (by rw [ex9]; decide) (off := 163) (by rw [ex9]; decide) (by decide) ?_
      exact At.sub (ls := [(3, .int rx_1), (2, .int rx), (0, .ref h0), (1, .ref a1)]) [1, 0] rfl h
    | 10, _, ex9 =>
      have ex9 : x_sign = 48 := ex9.trans (by decide)
      replace h := h.1 ⟨(fun e9 => by rw [e9] at ex9; revert ex9; decide), (fun e9 => by rw [e9] at ex9; revert ex9; decide), (fun e9 => by rw [e9] at ex9; revert ex9; decide), (fun e9 => by rw [e9] at ex9; revert ex9; decide), (fun e9 => by rw [e9] at ex9; revert ex9; decide), (fun e9 => by rw [e9] at ex9; revert ex9; decide), (fun e9 => by rw [e9] at ex9; revert ex9; decide)⟩
      refine g_tableIn (tgt := 189) dX18_on_26 (by rw [ex9]; decide) (by rw [ex9]; decide) (off := 163) (by rw [ex9]; decide) (by decide) ?_
      exact At.sub (ls := [(3, .int rx_1), (2, .int rx), (0, .ref h0), (1, .ref a1)]) [1, 0] rfl h
    | 11, _, ex9 =>
      have ex9 : x_sign = 49 := ex9.trans (by decide)
      replace h := h.1 ⟨(fun e9 => by rw [e9] at ex9; revert ex9; decide), (fun e9 => by rw [e9] at ex9; revert ex9; decide), (fun e9 => by rw [e9] at ex9; revert ex9; decide), (fun e9 => by rw [e9] at ex9; revert ex9; decide), (fun e9 => by rw [e9] at ex9; revert ex9; decide), (fun e9 => by rw [e9] at ex9; revert ex9; decide), (fun e9 => by rw [e9] at ex9; revert ex9; decide)⟩
      refine g_tableIn (tgt := 189) dX18_on_26 (by rw [ex9]; decide) (by rw [ex9]; decide) (off := 163) (by rw [ex9]; decide) (by decide) ?_
      exact At.sub (ls := [(3, .int rx_1), (2, .int rx), (0, .ref h0), (1, .ref a1)]) [1, 0] rfl h
    | 12, _, ex9 =>
      have ex9 : x_sign = 50 := ex9.trans (by decide)
      replace h := h.1 ⟨(fun e9 => by rw [e9] at ex9; revert ex9; decide), (fun e9 => by rw [e9] at ex9; revert ex9; decide), (fun e9 => by rw [e9] at ex9; revert ex9; decide), (fun e9 => by rw [e9] at ex9; revert ex9; decide), (fun e9 => by rw [e9] at ex9; revert ex9; decide), (fun e9 => by rw [e9] at ex9; revert ex9; decide), (fun e9 => by rw [e9] at ex9; revert ex9; decide)⟩
      refine g_tableIn (tgt := 189) dX18_on_26 (by rw [ex9]; decide) (by rw [ex9]; decide) (off := 163) (by rw [ex9]; decide) (by decide) ?_
      exact At.sub (ls := [(3, .int rx_1), (2, .int rx), (0, .ref h0), (1, .ref a1)]) [1, 0] rfl h
    | 13, _, ex9 =>
      have ex9 : x_sign = 51 := ex9.trans (by decide)
      replace h := h.1 ⟨(fun e9 => by rw [e9] at ex9; revert ex9; decide), (fun e9 => by rw [e9] at ex9; revert ex9; decide), (fun e9 => by rw [e9] at ex9; revert ex9; decide), (fun e9 => by rw [e9] at ex9; revert ex9; decide), (fun e9 => by rw [e9] at ex9; revert ex9; decide), (fun e9 => by rw [e9] at ex9; revert ex9; decide), (fun e9 => by rw [e9] at ex9; revert ex9; decide)⟩
      refine g_tableIn (tgt := 189) dX18_on_26 (by rw [ex9]; decide) (by rw [ex9]; decide) (off := 163) (by rw [ex9]; decide) (by decide) ?_
      exact At.sub (ls := [(3, .int rx_1), (2, .int rx), (0, .ref h0), (1, .ref a1)]) [1, 0] rfl h
    | 14, _, ex9 =>
      have ex9 : x_sign = 52 := ex9.trans (by decide)
      replace h := h.1 ⟨(fun e9 => by rw [e9] at ex9; revert ex9; decide), (fun e9 => by rw [e9] at ex9; revert ex9; decide), (fun e9 => by rw [e9] at ex9; revert ex9; decide), (fun e9 => by rw [e9] at ex9; revert ex9; decide), (fun e9 => by rw [e9] at ex9; revert ex9; decide), (fun e9 => by rw [e9] at ex9; revert ex9; decide), (fun e9 => by rw [e9] at ex9; revert ex9; decide)⟩
      refine g_tableIn (tgt := 189) dX18_on_26 (by rw [ex9]; decide) (by rw [ex9]; decide) (off := 163) (by rw [ex9]; decide) (by decide) ?_
      exact At.sub (ls := [(3, .int rx_1), (2, .int rx), (0, .ref h0), (1, .ref a1)]) [1, 0] rfl h
    | 15, _, ex9 =>
      have ex9 : x_sign = 53 := ex9.trans (by decide)
      replace h := h.1 ⟨(fun e9 => by rw [e9] at ex9; revert ex9; decide), (fun e9 => by rw [e9] at ex9; revert ex9; decide), (fun e9 => by rw [e9] at ex9; revert ex9; decide), (fun e9 => by rw [e9] at ex9; revert ex9; decide), (fun e9 => by rw [e9] at ex9; revert ex9; decide), (fun e9 => by rw [e9] at ex9; revert ex9; decide), (fun e9 => by rw [e9] at ex9; revert ex9; decide)⟩
      refine g_tableIn (tgt := 189) dX18_on_26 (by rw [ex9]; decide) (by rw [ex9]; decide) (off := 163) (by rw [ex9]; decide) (by decide) ?_
      exact At.sub (ls := [(3, .int rx_1), (2, .int rx), (0, .ref h0), (1, .ref a1)]) [1, 0] rfl h
    | 16, _, ex9 =>
      have ex9 : x_sign = 54 := ex9.trans (by decide)
      replace h := h.1 ⟨(fun e9 => by rw [e9] at ex9; revert ex9; decide), (fun e9 => by rw [e9] at ex9; revert ex9; decide), (fun e9 => by rw [e9] at ex9; revert ex9; decide), (fun e9 => by rw [e9] at ex9; revert ex9; decide), (fun e9 => by rw [e9] at ex9; revert ex9; decide), (fun e9 => by rw [e9] at ex9; revert ex9; decide), (fun e9 => by rw [e9] at ex9; revert ex9; decide)⟩
      refine g_tableIn (tgt := 189) dX18_on_26 (by rw [ex9]; decide) (by rw [ex9]; decide) (off := 163) (by rw [ex9]; decide) (by decide) ?_
      exact At.sub (ls := [(3, .int rx_1), (2, .int rx), (0, .ref h0), (1, .ref a1)]) [1, 0] rfl h
    | 17, _, ex9 =>
      have ex9 : x_sign = 55 := ex9.trans (by decide)
      replace h := h.1 ⟨(fun e9 => by rw [e9] at ex9; revert ex9; decide), (fun e9 => by rw [e9] at ex9; revert ex9; decide), (fun e9 => by rw [e9] at ex9; revert ex9; decide), (fun e9 => by rw [e9] at ex9; revert ex9; decide), (fun e9 => by rw [e9] at ex9; revert ex9; decide), (fun e9 => by rw [e9] at ex9; revert ex9; decide), (fun e9 => by rw [e9] at ex9; revert ex9; decide)⟩
      refine g_tableIn (tgt := 189) dX18_on_26 (by rw [ex9]; decide) (by rw [ex9]; decide) (off := 163) (by rw [ex9]; decide) (by decide) ?_
      exact At.sub (ls := [(3, .int rx_1), (2, .int rx), (0, .ref h0), (1, .ref a1)]) [1, 0] rfl h
    | 18, _, ex9 =>
      have ex9 : x_sign = 56 := ex9.trans (by decide)
      replace h := h.1 ⟨(fun e9 => by rw [e9] at ex9; revert ex9; decide), (fun e9 => by rw [e9] at ex9; revert ex9; decide), (fun e9 => by rw [e9] at ex9; revert ex9; decide), (fun e9 => by rw [e9] at ex9; revert ex9; decide), (fun e9 => by rw [e9] at ex9; revert ex9; decide), (fun e9 => by rw [e9] at ex9; revert ex9; decide), (fun e9 => by rw [e9] at ex9; revert ex9; decide)⟩
      refine g_tableIn (tgt := 189) dX18_on_26 (by rw [ex9]; decide) (by rw [ex9]; decide) (off := 163) (by rw [ex9]; decide) (by decide) ?_
      exact At.sub (ls := [(3, .int rx_1), (2, .int rx), (0, .ref h0), (1, .ref a1)]) [1, 0] rfl h
    | 19, _, ex9 =>
      have ex9 : x_sign = 57 := ex9.trans (by decide)
      replace h := h.1 ⟨(fun e9 => by rw [e9] at ex9; revert ex9; decide), (fun e9 => by rw [e9] at ex9; revert ex9; decide), (fun e9 => by rw [e9] at ex9; revert ex9; decide), (fun e9 => by rw [e9] at ex9; revert ex9; decide), (fun e9 => by rw [e9] at ex9; revert ex9; decide), (fun e9 => by rw [e9] at ex9; revert ex9; decide), (fun e9 => by rw [e9] at ex9; revert ex9; decide)⟩
      refine g_tableIn (tgt := 189) dX18_on_26 (by rw [ex9]; decide) (by rw [ex9]; decide) (off := 163) (by rw [ex9]; decide) (by decide) ?_
      exact At.sub (ls := [(3, .int rx_1), (2, .int rx), (0, .ref h0), (1, .ref a1)]) [1, 0] rfl h
    | 20, _, ex9 =>
      have ex9 : x_sign = 58 := ex9.trans (by decide)
      replace h := h.1 ⟨(fun e9 => by rw [e9] at ex9; revert ex9; decide), (fun e9 => by rw [e9] at ex9; revert ex9; decide), (fun e9 => by rw [e9] at ex9; revert ex9; decide), (fun e9 => by rw [e9] at ex9; revert ex9; decide), (fun e9 => by rw [e9] at ex9; revert ex9; decide), (fun e9 => by rw [e9] at ex9; revert ex9; decide), (fun e9 => by rw [e9] at ex9; revert ex9; decide)⟩
      refine g_tableIn (tgt := 189) dX18_on_26 (by rw [ex9]; decide) (by rw [ex9]; decide) (off := 163) (by rw [ex9]; decide) (by decide) ?_
      exact At.sub (ls := [(3, .int rx_1), (2, .int rx), (0, .ref h0), (1, .ref a1)]) [1, 0] rfl h
    | 21, _, ex9 =>
      have ex9 : x_sign = 59 := ex9.trans (by decide)
      replace h := h.1 ⟨(fun e9 => by rw [e9] at ex9; revert ex9; decide), (fun e9 => by rw [e9] at ex9; revert ex9; decide), (fun e9 => by rw [e9] at ex9; revert ex9; decide), (fun e9 => by rw [e9] at ex9; revert ex9; decide), (fun e9 => by rw [e9] at ex9; revert ex9; decide), (fun e9 => by rw [e9] at ex9; revert ex9; decide), (fun e9 => by rw [e9] at ex9; revert ex9; decide)⟩
      refine g_tableIn (tgt := 189) dX18_on_26 (by rw [ex9]; decide) (by rw [ex9]; decide) (off := 163) (by rw [ex9]; decide) (by decide) ?_
      exact At.sub (ls := [(3, .int rx_1), (2, .int rx), (0, .ref h0), (1, .ref a1)]) [1, 0] rfl h
    | 22, _, ex9 =>
      have ex9 : x_sign = 60 := ex9.trans (by decide)
      replace h := h.2.2.2.2.2.1 ex9
      refine g_tableIn (tgt := 152) dX18_on_26 (by rw [ex9]; decide) (by rw [ex9]; decide) (off := 126) (by rw [ex9]; decide) (by decide) ?_
      refine g_iload_n dX18_on_152 rfl 1 rfl ?_
      refine g_iload_n dX18_on_153 rfl 0 rfl ?_
      refine g_icmp_ge (tgt := 161) dX18_on_154 (by decide) (fun c => ?_) (fun c => ?_)
      · replace h := h.1 c
        refine g_iconst (v := 0) dX18_on_161 (by decide) ?_
        exact g_iret rfl dX18_on_162 h
      · replace h := h.2 c
        refine g_iconst (v := 1) dX18_on_157 (by decide) ?_
        refine g_goto (tgt := 162) dX18_on_158 (by decide) ?_
        exact g_iret rfl dX18_on_162 h
    | 23, _, ex9 =>
      have ex9 : x_sign = 61 := ex9.trans (by decide)
      replace h := h.2.2.2.2.2.2.1 ex9
      refine g_tableIn (tgt := 174) dX18_on_26 (by rw [ex9]; decide) (by rw [ex9]; decide) (off := 148) (by rw [ex9]; decide) (by decide) ?_
      refine g_iload_n dX18_on_174 rfl 1 rfl ?_
      refine g_iload_n dX18_on_175 rfl 0 rfl ?_
      refine g_icmp_ne (tgt := 183) dX18_on_176 (by decide) (fun c => ?_) (fun c => ?_)
      · replace h := h.1 c
        refine g_iconst (v := 0) dX18_on_183 (by decide) ?_
        exact g_iret rfl dX18_on_184 h
      · replace h := h.2 c
        refine g_iconst (v := 1) dX18_on_179 (by decide) ?_
        refine g_goto (tgt := 184) dX18_on_180 (by decide) ?_
        exact g_iret rfl dX18_on_184 h
    | 24, _, ex9 =>
      have ex9 : x_sign = 62 := ex9.trans (by decide)
      replace h := h.2.2.2.2.2.2.2 ex9
      refine g_tableIn (tgt := 163) dX18_on_26 (by rw [ex9]; decide) (by rw [ex9]; decide) (off := 137) (by rw [ex9]; decide) (by decide) ?_
      refine g_iload_n dX18_on_163 rfl 1 rfl ?_
      refine g_iload_n dX18_on_164 rfl 0 rfl ?_
      refine g_icmp_le (tgt := 172) dX18_on_165 (by decide) (fun c => ?_) (fun c => ?_)
      · replace h := h.1 c
        refine g_iconst (v := 0) dX18_on_172 (by decide) ?_
        exact g_iret rfl dX18_on_173 h
      · replace h := h.2 c
        refine g_iconst (v := 1) dX18_on_168 (by decide) ?_
        refine g_goto (tgt := 173) dX18_on_169 (by decide) ?_
        exact g_iret rfl dX18_on_173 h
    | i9 + 25, hi9, _ => exact absurd hi9 (by omega)
set_option maxHeartbeats 4000000 in
theorem bX18_on_189 {G : GC} {r : Nat} {Q : Option Value → PS → Prop} {X : String → Nat → PS → Prop} {b : Nat} {x2 : Int32} {x3 : Int32} {σ : PS} (h : Q (some (.int (x2 ||| x3))) (σ)) : At G mX18_on r Q X b 189 [(2, .int x2), (3, .int x3)] [] (σ) := by
  refine g_iload_n dX18_on_189 rfl 0 rfl ?_
  refine g_iload_n dX18_on_190 rfl 1 rfl ?_
  refine g_ior dX18_on_191 ?_
  exact g_iret rfl dX18_on_192 h
theorem eX18_on {G : GC} {r : Nat} {Q : Option Value → PS → Prop} {X : String → Nat → PS → Prop} {b : Nat} {h0 : Nat} {p1 : Nat} {σ : PS} (h : At G mX18_on r Q X b 0 [(0, .ref h0), (1, .ref p1)] [] σ) : Call G mX18_on r b [.ref h0, .ref p1] σ Q X :=
  Call.of (by decide +kernel) wsX18_on rfl (Nat.le_of_ble_eq_true rfl) (At.sub (ls := [(0, .ref h0), (1, .ref p1)]) [0, 1] rfl h)
set_option maxHeartbeats 4000000 in
theorem bX18_init_0 {G : GC} {Q : Option Value → PS → Prop} {X : String → Nat → PS → Prop} {b : Nat} {h0 : Nat} {x1 : Int32} {a2 : Nat} {a3 : Nat} {σ : PS} (h : (narrow .char (.int x1) = .int x1 ∧ fits .char (.int x1) = true) ∧ ∃ fs : List Value, Ob (σ) 18 h0 fs ∧ 0 < fs.length ∧ (∀ s1 : PS, s1 = up (σ) 18 h0 (.inl (fs.set 0 (.int x1))) → ∃ fs_1 : List Value, Ob s1 18 h0 fs_1 ∧ 1 < fs_1.length ∧ (∀ s1_2 : PS, s1_2 = up s1 18 h0 (.inl (fs_1.set 1 (.ref a2))) → ∃ fs_3 : List Value, Ob s1_2 18 h0 fs_3 ∧ 2 < fs_3.length ∧ (∀ s1_4 : PS, s1_4 = up s1_2 18 h0 (.inl (fs_3.set 2 (.ref a3))) → Q none s1_4)))) : At G mX18_init 4 Q X b 0 [(0, .ref h0), (1, .int x1), (2, .ref a2), (3, .ref a3)] [] (σ) := by
  refine g_aload_n dX18_init_0 rfl 0 rfl ?_
  refine g_objInit dX18_init_1 q1276 q151 q152 (by decide) (Nat.zero_le _) ?_
  refine g_aload_n dX18_init_4 rfl 0 rfl ?_
  refine g_iload_n dX18_init_5 rfl 1 rfl ?_
  obtain ⟨hz, fs, hO, hl, h⟩ := h
  refine g_putF 0 dX18_init_6 in_X18 tyX18 tyX18_ok nmX18 cl18 (by decide) q1277 rfl rfl rfl hz.1 hz.2 hO hl ?_
  refine g_tops (fun s1 es1 => ?_)
  replace h := h s1 es1
  refine g_aload_n dX18_init_9 rfl 0 rfl ?_
  refine g_aload_n dX18_init_10 rfl 2 rfl ?_
  obtain ⟨fs_1, hO, hl, h⟩ := h
  refine g_putF 1 dX18_init_11 in_X18 tyX18 tyX18_ok nmX18 cl18 (by decide) q1278 rfl rfl rfl rfl rfl hO hl ?_
  refine g_tops (fun s1_2 es1_2 => ?_)
  replace h := h s1_2 es1_2
  refine g_aload_n dX18_init_14 rfl 0 rfl ?_
  refine g_aload_n dX18_init_15 rfl 3 rfl ?_
  obtain ⟨fs_3, hO, hl, h⟩ := h
  refine g_putF 2 dX18_init_16 in_X18 tyX18 tyX18_ok nmX18 cl18 (by decide) q1279 rfl rfl rfl rfl rfl hO hl ?_
  refine g_tops (fun s1_4 es1_4 => ?_)
  replace h := h s1_4 es1_4
  exact g_vret rfl dX18_init_19 h
theorem eX18_init {G : GC} {Q : Option Value → PS → Prop} {X : String → Nat → PS → Prop} {b : Nat} {h0 : Nat} {p1 : Int32} {p2 : Nat} {p3 : Nat} {σ : PS} (h : At G mX18_init 4 Q X b 0 [(0, .ref h0), (1, .int p1), (2, .ref p2), (3, .ref p3)] [] σ) : Call G mX18_init 4 b [.ref h0, .int p1, .ref p2, .ref p3] σ Q X :=
  Call.of (by decide +kernel) wsX18_init rfl (Nat.le_of_ble_eq_true rfl) (At.sub (ls := [(0, .ref h0), (1, .int p1), (2, .ref p2), (3, .ref p3)]) [0, 1, 2, 3] rfl h)
