set_option maxRecDepth 100000
set_option maxHeartbeats 4000000 in
theorem bX1_feed_0 {G : GC} {Q : Option Value → PS → Prop} {X : String → Nat → PS → Prop} {b : Nat} {h0 : Nat} {x1 : Int32} {x2 : Int32} {x3 : Int32} {x4 : Int32} {x5 : Int32} {σ : PS} (h : ∃ x_fed : Int32, Fg (σ) 1 h0 13 (.int x_fed) ∧ ((((x_fed + 20) ≤ 600) → 1 ≤ b ∧ (∀ q : Nat, (∀ κ, σ κ q = none) → (∀ s1 : PS, s1 = up (σ) 100 q (.inr (5, .inl (fun _ => 0))) → ∃ (n : Nat) (f : Nat → Int32), Ia s1 100 q n f ∧ 0 < n ∧ (∀ s1_1 : PS, s1_1 = up s1 100 q (.inr (n, .inl (upd f 0 x1))) → ∃ (n_2 : Nat) (f_3 : Nat → Int32), Ia s1_1 100 q n_2 f_3 ∧ 1 < n_2 ∧ (∀ s1_4 : PS, s1_4 = up s1_1 100 q (.inr (n_2, .inl (upd f_3 1 x2))) → ∃ (n_5 : Nat) (f_6 : Nat → Int32), Ia s1_4 100 q n_5 f_6 ∧ 2 < n_5 ∧ (∀ s1_7 : PS, s1_7 = up s1_4 100 q (.inr (n_5, .inl (upd f_6 2 x3))) → ∃ (n_8 : Nat) (f_9 : Nat → Int32), Ia s1_7 100 q n_8 f_9 ∧ 3 < n_8 ∧ (∀ s1_10 : PS, s1_10 = up s1_7 100 q (.inr (n_8, .inl (upd f_9 3 x4))) → ∃ (n_11 : Nat) (f_12 : Nat → Int32), Ia s1_10 100 q n_11 f_12 ∧ 4 < n_11 ∧ (∀ s1_13 : PS, s1_13 = up s1_10 100 q (.inr (n_11, .inl (upd f_12 4 x5))) → At G mX1_feed 3 Q X (b - 1) 45 [(0, .ref h0), (6, .ref q), (7, .int 0)] [] s1_13)))))))) ∧ ((¬ (x_fed + 20) ≤ 600) → Q (some (.int (-1))) (σ)))) : At G mX1_feed 3 Q X b 0 [(0, .ref h0), (1, .int x1), (2, .int x2), (3, .int x3), (4, .int x4), (5, .int x5)] [] (σ) := by
  refine g_aload_n dX1_feed_0 rfl 0 rfl ?_
  obtain ⟨x_fed, hf, h⟩ := h
  refine g_get 13 dX1_feed_1 in_X1 cl1 (by decide) q466 hf ?_
  refine g_bipush (v := 20) dX1_feed_4 (by decide) ?_
  refine g_iadd dX1_feed_6 ?_
  refine g_sipush (v := 600) dX1_feed_7 (by decide) ?_
  refine g_icmp_le (tgt := 15) dX1_feed_10 (by decide) (fun c => ?_) (fun c => ?_)
  · replace h := h.1 c
    refine g_iconst (v := 5) dX1_feed_15 (by decide) ?_
    obtain ⟨hb, h⟩ := h
    refine g_newa (κ := 100) (t0 := 0) (N := 5) (ty := .int) (atype := .int) (x := .inl (fun _ => 0)) 1 dX1_feed_16 q177 rfl rfl (Or.inl ⟨rfl, rfl⟩) (by decide) (by decide) (Nat.le_of_ble_eq_true rfl) (by decide) (by decide) hb (fun q hq => ?_)
    replace h := h q hq
    refine g_tops (fun s1 es1 => ?_)
    replace h := h s1 es1
    refine g_dup dX1_feed_18 rfl ?_
    refine g_iconst (v := 0) dX1_feed_19 (by decide) ?_
    refine g_iload_n dX1_feed_20 rfl 1 rfl ?_
    obtain ⟨n, f, h1, h2, h⟩ := h
    refine g_iast0 (j := 0) dX1_feed_21 h1 (by decide) rfl h2 ?_
    refine g_tops (fun s1_1 es1_1 => ?_)
    replace h := h s1_1 es1_1
    refine g_dup dX1_feed_22 rfl ?_
    refine g_iconst (v := 1) dX1_feed_23 (by decide) ?_
    refine g_iload_n dX1_feed_24 rfl 2 rfl ?_
    obtain ⟨n_2, f_3, h1, h2, h⟩ := h
    refine g_iast0 (j := 1) dX1_feed_25 h1 (by decide) rfl h2 ?_
    refine g_tops (fun s1_4 es1_4 => ?_)
    replace h := h s1_4 es1_4
    refine g_dup dX1_feed_26 rfl ?_
    refine g_iconst (v := 2) dX1_feed_27 (by decide) ?_
    refine g_iload_n dX1_feed_28 rfl 3 rfl ?_
    obtain ⟨n_5, f_6, h1, h2, h⟩ := h
    refine g_iast0 (j := 2) dX1_feed_29 h1 (by decide) rfl h2 ?_
    refine g_tops (fun s1_7 es1_7 => ?_)
    replace h := h s1_7 es1_7
    refine g_dup dX1_feed_30 rfl ?_
    refine g_iconst (v := 3) dX1_feed_31 (by decide) ?_
    refine g_iload dX1_feed_32 4 rfl ?_
    obtain ⟨n_8, f_9, h1, h2, h⟩ := h
    refine g_iast0 (j := 3) dX1_feed_34 h1 (by decide) rfl h2 ?_
    refine g_tops (fun s1_10 es1_10 => ?_)
    replace h := h s1_10 es1_10
    refine g_dup dX1_feed_35 rfl ?_
    refine g_iconst (v := 4) dX1_feed_36 (by decide) ?_
    refine g_iload dX1_feed_37 5 rfl ?_
    obtain ⟨n_11, f_12, h1, h2, h⟩ := h
    refine g_iast0 (j := 4) dX1_feed_39 h1 (by decide) rfl h2 ?_
    refine g_tops (fun s1_13 es1_13 => ?_)
    replace h := h s1_13 es1_13
    refine g_astore (ls1 := [(6, .ref q), (0, .ref h0), (1, .int x1), (2, .int x2), (3, .int x3), (4, .int x4), (5, .int x5)]) dX1_feed_40 (by decide) rfl ?_
    refine g_iconst (v := 0) dX1_feed_42 (by decide) ?_
    refine g_istore (ls1 := [(7, .int 0), (6, .ref q), (0, .ref h0), (1, .int x1), (2, .int x2), (3, .int x3), (4, .int x4), (5, .int x5)]) dX1_feed_43 (by decide) rfl ?_
    exact At.sub (ls := [(7, .int 0), (6, .ref q), (0, .ref h0), (1, .int x1), (2, .int x2), (3, .int x3), (4, .int x4), (5, .int x5)]) [2, 1, 0] rfl h
  · replace h := h.2 c
    refine g_iconst (v := (-1)) dX1_feed_13 (by decide) ?_
    exact g_iret rfl dX1_feed_14 h
set_option maxHeartbeats 4000000 in
theorem bX1_feed_45 {G : GC} {Q : Option Value → PS → Prop} {X : String → Nat → PS → Prop} {b : Nat} {h0 : Nat} {a6 : Nat} {x7 : Int32} {σ : PS} (h : ((20 ≤ x7) → ∃ x_fed : Int32, Fg (σ) 1 h0 13 (.int x_fed) ∧ (Q (some (.int x_fed)) (σ))) ∧ ((¬ 20 ≤ x7) → ∃ a_tape : Nat, Fg (σ) 1 h0 0 (.ref a_tape) ∧ (∃ x_fed : Int32, Fg (σ) 1 h0 13 (.int x_fed) ∧ (∃ fs : List Value, Ob (σ) 1 h0 fs ∧ 13 < fs.length ∧ (∀ s1 : PS, s1 = up (σ) 1 h0 (.inl (fs.set 13 (.int (x_fed + 1)))) → ∃ (n : Nat) (f : Nat → Int32), Ia s1 100 a6 n f ∧ vp_in ((x7 / 4)) n ∧ (∀ w : Int32, w = (24 - (8 * (x7 - x7 / 4 * 4))) → ∀ w_1 : Int32, w_1 = ((f ((x7 / 4)).toNatClampNeg) >>> (w &&& 31)) → ∃ (n_2 : Nat) (f_3 : Nat → Int32), Ia s1 102 a_tape n_2 f_3 ∧ vp_in x_fed n_2 ∧ (∀ s1_4 : PS, s1_4 = up s1 102 a_tape (.inr (n_2, .inl (upd f_3 x_fed.toNatClampNeg (vp_nar .byte ((w_1).toInt8.toInt32))))) → ∀ v7 : Int32, v7 = x7 + 1 → At G mX1_feed 3 Q X b 45 [(0, .ref h0), (6, .ref a6), (7, .int v7)] [] s1_4))))))) : At G mX1_feed 3 Q X b 45 [(0, .ref h0), (6, .ref a6), (7, .int x7)] [] (σ) := by
  refine g_iload dX1_feed_45 2 rfl ?_
  refine g_bipush (v := 20) dX1_feed_47 (by decide) ?_
  refine g_icmp_ge (tgt := 93) dX1_feed_49 (by decide) (fun c => ?_) (fun c => ?_)
  · replace h := h.1 c
    refine g_aload_n dX1_feed_93 rfl 0 rfl ?_
    obtain ⟨x_fed, hf, h⟩ := h
    refine g_get 13 dX1_feed_94 in_X1 cl1 (by decide) q466 hf ?_
    exact g_iret rfl dX1_feed_97 h
  · replace h := h.2 c
    refine g_aload_n dX1_feed_52 rfl 0 rfl ?_
    obtain ⟨a_tape, hf, h⟩ := h
    refine g_get 0 dX1_feed_53 in_X1 cl1 (by decide) q453 hf ?_
    refine g_aload_n dX1_feed_56 rfl 0 rfl ?_
    refine g_dup dX1_feed_57 rfl ?_
    obtain ⟨x_fed, hf, h⟩ := h
    refine g_get 13 dX1_feed_58 in_X1 cl1 (by decide) q466 hf ?_
    refine g_dup_x1 dX1_feed_61 rfl rfl ?_
    refine g_iconst (v := 1) dX1_feed_62 (by decide) ?_
    refine g_iadd dX1_feed_63 ?_
    obtain ⟨fs, hO, hl, h⟩ := h
    refine g_put 13 dX1_feed_64 in_X1 tyX1 tyX1_ok nmX1 cl1 (by decide) q466 rfl rfl rfl hO hl ?_
    refine g_tops (fun s1 es1 => ?_)
    replace h := h s1 es1
    refine g_aload dX1_feed_67 1 rfl ?_
    refine g_iload dX1_feed_69 2 rfl ?_
    refine g_iconst (v := 4) dX1_feed_71 (by decide) ?_
    refine g_idiv dX1_feed_72 (by decide) ?_
    obtain ⟨n, f, h1, h2, h⟩ := h
    refine g_iald dX1_feed_73 h1 h2 ?_
    refine g_bipush (v := 24) dX1_feed_74 (by decide) ?_
    refine g_bipush (v := 8) dX1_feed_76 (by decide) ?_
    refine g_iload dX1_feed_78 2 rfl ?_
    refine g_iconst (v := 4) dX1_feed_80 (by decide) ?_
    refine g_irem dX1_feed_81 (by decide) ?_
    refine g_imul dX1_feed_82 ?_
    refine g_isub dX1_feed_83 ?_
    refine g_topi (fun w ew => ?_)
    replace h := h w ew
    refine g_ishr dX1_feed_84 ?_
    refine g_topi (fun w_1 ew_1 => ?_)
    replace h := h w_1 ew_1
    refine g_i2b dX1_feed_85 ?_
    obtain ⟨n_2, f_3, h1, h2, h⟩ := h
    refine g_bast dX1_feed_86 h1 h2 ?_
    refine g_tops (fun s1_4 es1_4 => ?_)
    replace h := h s1_4 es1_4
    obtain ⟨v7, ev7⟩ : ∃ z : Int32, z = x7 + 1 := ⟨_, rfl⟩
    refine g_iinc (v := v7) (ls1 := [(7, .int v7), (0, .ref h0), (6, .ref a6)]) dX1_feed_87 2 rfl (by rw [ev7]; rfl) (by decide) rfl ?_
    replace h := h v7 ev7
    refine g_goto (tgt := 45) dX1_feed_90 (by decide) ?_
    exact At.sub (ls := [(7, .int v7), (0, .ref h0), (6, .ref a6)]) [1, 2, 0] rfl h
theorem eX1_feed {G : GC} {Q : Option Value → PS → Prop} {X : String → Nat → PS → Prop} {b : Nat} {h0 : Nat} {p1 : Int32} {p2 : Int32} {p3 : Int32} {p4 : Int32} {p5 : Int32} {σ : PS} (h : At G mX1_feed 3 Q X b 0 [(0, .ref h0), (1, .int p1), (2, .int p2), (3, .int p3), (4, .int p4), (5, .int p5)] [] σ) : Call G mX1_feed 3 b [.ref h0, .int p1, .int p2, .int p3, .int p4, .int p5] σ Q X :=
  Call.of (by decide +kernel) wsX1_feed rfl (Nat.le_of_ble_eq_true rfl) (At.sub (ls := [(0, .ref h0), (1, .int p1), (2, .int p2), (3, .int p3), (4, .int p4), (5, .int p5)]) [0, 1, 2, 3, 4, 5] rfl h)
set_option maxHeartbeats 4000000 in
theorem bX1_fault_0 {G : GC} {Q : Option Value → PS → Prop} {X : String → Nat → PS → Prop} {b : Nat} {h0 : Nat} {σ : PS} (h : ∃ x_place : Int32, Fg (σ) 1 h0 14 (.int x_place) ∧ (Q (some (.int x_place)) (σ))) : At G mX1_fault 3 Q X b 0 [(0, .ref h0)] [] (σ) := by
  refine g_aload_n dX1_fault_0 rfl 0 rfl ?_
  obtain ⟨x_place, hf, h⟩ := h
  refine g_get 14 dX1_fault_1 in_X1 cl1 (by decide) q467 hf ?_
  exact g_iret rfl dX1_fault_4 h
theorem eX1_fault {G : GC} {Q : Option Value → PS → Prop} {X : String → Nat → PS → Prop} {b : Nat} {h0 : Nat} {σ : PS} (h : At G mX1_fault 3 Q X b 0 [(0, .ref h0)] [] σ) : Call G mX1_fault 3 b [.ref h0] σ Q X :=
  Call.of (by decide +kernel) wsX1_fault rfl (Nat.le_of_ble_eq_true rfl) (At.sub (ls := [(0, .ref h0)]) [0] rfl h)
set_option maxHeartbeats 4000000 in
theorem bX1_since_0 {G : GC} {Q : Option Value → PS → Prop} {X : String → Nat → PS → Prop} {b : Nat} {h0 : Nat} {σ : PS} (h : At G mX1_since 205 Q X b 2 [(0, .ref h0), (1, .int 0)] [] (σ)) : At G mX1_since 205 Q X b 0 [(0, .ref h0)] [] (σ) := by
  refine g_iconst (v := 0) dX1_since_0 (by decide) ?_
  refine g_istore_n (ls1 := [(1, .int 0), (0, .ref h0)]) dX1_since_1 rfl (by decide) rfl ?_
  exact At.sub (ls := [(1, .int 0), (0, .ref h0)]) [1, 0] rfl h
set_option maxHeartbeats 4000000 in
theorem bX1_since_2 {G : GC} {Q : Option Value → PS → Prop} {X : String → Nat → PS → Prop} {b : Nat} {h0 : Nat} {x1 : Int32} {σ : PS} (h : ∃ a_calendar : Nat, Fg (σ) 1 h0 1 (.ref a_calendar) ∧ (∃ x_many : Int32, Fg (σ) 2 a_calendar 2 (.int x_many) ∧ (((x_many ≤ x1) → Q (some (.int (-1))) (σ)) ∧ ((¬ x_many ≤ x1) → (∃ fs_9 : List Value, Ob (σ) 1 h0 fs_9) ∧ Call G mX1_asTold 4 0 [.ref h0] (σ) (qR (fun ra s1 => (∃ fs_8 : List Value, Ob s1 6 ra fs_8) ∧ Call G mX6_to 3 0 [.ref ra, .int x1] s1 (qR (fun ra_2 s1_1 => ∃ bc : Nat, bc ≤ b ∧ (∃ fs_7 : List Value, Ob s1_1 1 h0 fs_7) ∧ Call G mX1_run 204 bc [.ref h0, .ref ra_2] s1_1 (qR (fun ra_4 s1_3 => ∃ bc_5 : Nat, bc_5 ≤ b - bc ∧ (∃ fs : List Value, Ob s1_3 3 ra_4 fs) ∧ Call G mX3_truly 6 bc_5 [.ref ra_4] s1_3 (qJ (fun ry s1_6 => ((549755813888 ≤ ry) → ∀ v1 : Int32, v1 = x1 + 1 → At G mX1_since 205 Q X (b - bc - bc_5) 2 [(0, .ref h0), (1, .int v1)] [] s1_6) ∧ ((¬ 549755813888 ≤ ry) → Q (some (.int x1)) s1_6))) X)) X)) X)) X)))) : At G mX1_since 205 Q X b 2 [(0, .ref h0), (1, .int x1)] [] (σ) := by
  refine g_iload_n dX1_since_2 rfl 1 rfl ?_
  refine g_aload_n dX1_since_3 rfl 0 rfl ?_
  obtain ⟨a_calendar, hf, h⟩ := h
  refine g_get 1 dX1_since_4 in_X1 cl1 (by decide) q454 hf ?_
  obtain ⟨x_many, hf, h⟩ := h
  refine g_getN 2 dX1_since_7 in_X2 cl2 (by decide) q168 hf ?_
  refine g_icmp_ge (tgt := 43) dX1_since_10 (by decide) (fun c => ?_) (fun c => ?_)
  · replace h := h.1 c
    refine g_iconst (v := (-1)) dX1_since_43 (by decide) ?_
    exact g_iret rfl dX1_since_44 h
  · replace h := h.2 c
    refine g_aload_n dX1_since_13 rfl 0 rfl ?_
    refine g_aload_n dX1_since_14 rfl 0 rfl ?_
    obtain ⟨⟨_, hO⟩, h⟩ := h
    refine g_callV (N := mX1_asTold) (st := [.ref h0]) (As := []) (a := h0) dX1_since_15 wsX1_asTold (lw_V q517 q519 qs0 q108 q520) rfl mokX1_asTold rfl cl1 (by decide) (by decide) (Nat.zero_le _) (by simp [Value.category]) hO h (fun E q s hx => AtX.out0 rfl hx) (fun _ s1 hq => ?_)
    obtain ⟨ra, rfl, h⟩ := hq
    refine At.stk (st' := [.ref ra, .ref h0]) rfl ?_
    refine g_iload_n dX1_since_18 rfl 1 rfl ?_
    obtain ⟨⟨_, hO⟩, h⟩ := h
    refine g_callV (N := mX6_to) (st := [.ref h0]) (As := [.int x1]) (a := ra) dX1_since_19 wsX6_to (lw_V q528 q529 q530 q113 q531) rfl mokX6_to rfl cl6 (by decide) (by decide) (Nat.zero_le _) (by simp [Value.category]) hO h (fun E q s hx => AtX.out0 rfl hx) (fun _ s1_1 hq => ?_)
    obtain ⟨ra_2, rfl, h⟩ := hq
    refine At.stk (st' := [.ref ra_2, .ref h0]) rfl ?_
    obtain ⟨bc, hb9, h⟩ := h
    obtain ⟨⟨_, hO⟩, h⟩ := h
    refine g_callV (N := mX1_run) (st := []) (As := [.ref ra_2]) (a := h0) dX1_since_22 wsX1_run (lw_V q532 q534 qs1 q108 q535) rfl mokX1_run rfl cl1 (by decide) (by decide) hb9 (Nat.zero_le _) hO h (fun E q s hx => AtX.out0 rfl hx) (fun _ s1_3 hq => ?_)
    obtain ⟨ra_4, rfl, h⟩ := hq
    refine At.stk (st' := [.ref ra_4]) rfl ?_
    obtain ⟨bc_5, hb9, h⟩ := h
    obtain ⟨⟨_, hO⟩, h⟩ := h
    refine g_callV (N := mX3_truly) (st := []) (As := []) (a := ra_4) dX1_since_25 wsX3_truly (lw_V q749 q750 q751 q110 q752) rfl mokX3_truly rfl cl3 (by decide) (by decide) hb9 (Nat.zero_le _) hO h (fun E q s hx => AtX.out0 rfl hx) (fun _ s1_6 hq => ?_)
    obtain ⟨ry, rfl, h⟩ := hq
    refine At.stk (st' := [.long ry]) rfl ?_
    refine g_ldc2 dX1_since_28 q766 ?_
    refine g_lcmp_ge (tgt := 37) dX1_since_31 dX1_since_32 (by decide) (fun c => ?_) (fun c => ?_)
    · replace h := h.1 c
      obtain ⟨v1, ev1⟩ : ∃ z : Int32, z = x1 + 1 := ⟨_, rfl⟩
      refine g_iinc (v := v1) (ls1 := [(1, .int v1), (0, .ref h0)]) dX1_since_37 1 rfl (by rw [ev1]; rfl) (by decide) rfl ?_
      replace h := h v1 ev1
      refine g_goto (tgt := 2) dX1_since_40 (by decide) ?_
      exact At.sub (ls := [(1, .int v1), (0, .ref h0)]) [1, 0] rfl h
    · replace h := h.2 c
      refine g_iload_n dX1_since_35 rfl 1 rfl ?_
      exact g_iret rfl dX1_since_36 h
theorem eX1_since {G : GC} {Q : Option Value → PS → Prop} {X : String → Nat → PS → Prop} {b : Nat} {h0 : Nat} {σ : PS} (h : At G mX1_since 205 Q X b 0 [(0, .ref h0)] [] σ) : Call G mX1_since 205 b [.ref h0] σ Q X :=
  Call.of (by decide +kernel) wsX1_since rfl (Nat.le_of_ble_eq_true rfl) (At.sub (ls := [(0, .ref h0)]) [0] rfl h)
set_option maxHeartbeats 4000000 in
theorem bX1_asTold_0 {G : GC} {Q : Option Value → PS → Prop} {X : String → Nat → PS → Prop} {b : Nat} {h0 : Nat} {σ : PS} (h : ∃ a_how : Nat, Fg (σ) 1 h0 9 (.ref a_how) ∧ (∃ a_habits : Nat, Fg (σ) 1 h0 6 (.ref a_habits) ∧ (∃ a_office : Nat, Fg (σ) 1 h0 10 (.ref a_office) ∧ (∃ a_calendar : Nat, Fg (σ) 1 h0 1 (.ref a_calendar) ∧ (∃ x_many : Int32, Fg (σ) 2 a_calendar 2 (.int x_many) ∧ ((∃ fs : List Value, Ob (σ) 6 a_how fs) ∧ Call G mX6_asTold 3 0 [.ref a_how, .ref a_habits, .ref a_office, .int x_many] (σ) (qR (fun ra s1 => Q (some (.ref ra)) s1)) X)))))) : At G mX1_asTold 4 Q X b 0 [(0, .ref h0)] [] (σ) := by
  refine g_aload_n dX1_asTold_0 rfl 0 rfl ?_
  obtain ⟨a_how, hf, h⟩ := h
  refine g_get 9 dX1_asTold_1 in_X1 cl1 (by decide) q462 hf ?_
  refine g_aload_n dX1_asTold_4 rfl 0 rfl ?_
  obtain ⟨a_habits, hf, h⟩ := h
  refine g_get 6 dX1_asTold_5 in_X1 cl1 (by decide) q459 hf ?_
  refine g_aload_n dX1_asTold_8 rfl 0 rfl ?_
  obtain ⟨a_office, hf, h⟩ := h
  refine g_get 10 dX1_asTold_9 in_X1 cl1 (by decide) q463 hf ?_
  refine g_aload_n dX1_asTold_12 rfl 0 rfl ?_
  obtain ⟨a_calendar, hf, h⟩ := h
  refine g_get 1 dX1_asTold_13 in_X1 cl1 (by decide) q454 hf ?_
  obtain ⟨x_many, hf, h⟩ := h
  refine g_getN 2 dX1_asTold_16 in_X2 cl2 (by decide) q168 hf ?_
  obtain ⟨⟨_, hO⟩, h⟩ := h
  refine g_callV (N := mX6_asTold) (st := []) (As := [.ref a_habits, .ref a_office, .int x_many]) (a := a_how) dX1_asTold_19 wsX6_asTold (lw_V q521 q522 q523 q113 q524) rfl mokX6_asTold rfl cl6 (by decide) (by decide) (Nat.zero_le _) (Nat.zero_le _) hO h (fun E q s hx => AtX.out0 rfl hx) (fun _ s1 hq => ?_)
  obtain ⟨ra, rfl, h⟩ := hq
  refine At.stk (st' := [.ref ra]) rfl ?_
  exact g_aret (x := (some ra)) rfl dX1_asTold_22 h
theorem eX1_asTold {G : GC} {Q : Option Value → PS → Prop} {X : String → Nat → PS → Prop} {b : Nat} {h0 : Nat} {σ : PS} (h : At G mX1_asTold 4 Q X b 0 [(0, .ref h0)] [] σ) : Call G mX1_asTold 4 b [.ref h0] σ Q X :=
  Call.of (by decide +kernel) wsX1_asTold rfl (Nat.le_of_ble_eq_true rfl) (At.sub (ls := [(0, .ref h0)]) [0] rfl h)
set_option maxHeartbeats 4000000 in
theorem bX1_run_0 {G : GC} {Q : Option Value → PS → Prop} {X : String → Nat → PS → Prop} {b : Nat} {h0 : Nat} {a1 : Nat} {σ : PS} (h : ∃ a_flow : Nat, Fg (σ) 1 h0 7 (.ref a_flow) ∧ (∃ a_office : Nat, Fg (σ) 1 h0 10 (.ref a_office) ∧ (∃ a_calendar : Nat, Fg (σ) 1 h0 1 (.ref a_calendar) ∧ (∃ bc : Nat, bc ≤ b ∧ (∃ fs : List Value, Ob (σ) 3 a_flow fs) ∧ Call G mX3_runs 203 bc [.ref a_flow, .ref a_office, .ref a_calendar, .ref a1] (σ) (qV (fun s1 => ∃ a_flow_1 : Nat, Fg s1 1 h0 7 (.ref a_flow_1) ∧ (Q (some (.ref a_flow_1)) s1))) X)))) : At G mX1_run 204 Q X b 0 [(0, .ref h0), (1, .ref a1)] [] (σ) := by
  refine g_aload_n dX1_run_0 rfl 0 rfl ?_
  obtain ⟨a_flow, hf, h⟩ := h
  refine g_get 7 dX1_run_1 in_X1 cl1 (by decide) q460 hf ?_
  refine g_aload_n dX1_run_4 rfl 0 rfl ?_
  obtain ⟨a_office, hf, h⟩ := h
  refine g_get 10 dX1_run_5 in_X1 cl1 (by decide) q463 hf ?_
  refine g_aload_n dX1_run_8 rfl 0 rfl ?_
  obtain ⟨a_calendar, hf, h⟩ := h
  refine g_get 1 dX1_run_9 in_X1 cl1 (by decide) q454 hf ?_
  refine g_aload_n dX1_run_12 rfl 1 rfl ?_
  obtain ⟨bc, hb9, h⟩ := h
  obtain ⟨⟨_, hO⟩, h⟩ := h
  refine g_callV (N := mX3_runs) (st := []) (As := [.ref a_office, .ref a_calendar, .ref a1]) (a := a_flow) dX1_run_13 wsX3_runs (lw_V q536 q537 q538 q110 q539) rfl mokX3_runs rfl cl3 (by decide) (by decide) hb9 (Nat.zero_le _) hO h (fun E q s hx => AtX.out0 rfl hx) (fun _ s1 hq => ?_)
  obtain ⟨rfl, h⟩ := hq
  refine At.stk (st' := []) rfl ?_
  refine g_aload_n dX1_run_16 rfl 0 rfl ?_
  obtain ⟨a_flow_1, hf, h⟩ := h
  refine g_get 7 dX1_run_17 in_X1 cl1 (by decide) q460 hf ?_
  exact g_aret (x := (some a_flow_1)) rfl dX1_run_20 h
theorem eX1_run {G : GC} {Q : Option Value → PS → Prop} {X : String → Nat → PS → Prop} {b : Nat} {h0 : Nat} {p1 : Nat} {σ : PS} (h : At G mX1_run 204 Q X b 0 [(0, .ref h0), (1, .ref p1)] [] σ) : Call G mX1_run 204 b [.ref h0, .ref p1] σ Q X :=
  Call.of (by decide +kernel) wsX1_run rfl (Nat.le_of_ble_eq_true rfl) (At.sub (ls := [(0, .ref h0), (1, .ref p1)]) [0, 1] rfl h)
set_option maxHeartbeats 4000000 in
theorem bX1_keeper_0 {G : GC} {Q : Option Value → PS → Prop} {X : String → Nat → PS → Prop} {b : Nat} {h0 : Nat} {σ : PS} (h : At G mX1_keeper 205 Q X b 7 [(0, .ref h0), (1, .int (-1)), (2, .long 0), (4, .int 0)] [] (σ)) : At G mX1_keeper 205 Q X b 0 [(0, .ref h0)] [] (σ) := by
  refine g_iconst (v := (-1)) dX1_keeper_0 (by decide) ?_
  refine g_istore_n (ls1 := [(1, .int (-1)), (0, .ref h0)]) dX1_keeper_1 rfl (by decide) rfl ?_
  refine g_lconst (v := 0) dX1_keeper_2 (by decide) ?_
  refine g_lstore_n (ls1 := [(2, .long 0), (1, .int (-1)), (0, .ref h0)]) dX1_keeper_3 rfl (by decide) rfl ?_
  refine g_iconst (v := 0) dX1_keeper_4 (by decide) ?_
  refine g_istore (ls1 := [(4, .int 0), (2, .long 0), (1, .int (-1)), (0, .ref h0)]) dX1_keeper_5 (by decide) rfl ?_
  exact At.sub (ls := [(4, .int 0), (2, .long 0), (1, .int (-1)), (0, .ref h0)]) [3, 2, 1, 0] rfl h
set_option maxHeartbeats 4000000 in
theorem bX1_keeper_7 {G : GC} {Q : Option Value → PS → Prop} {X : String → Nat → PS → Prop} {b : Nat} {h0 : Nat} {x1 : Int32} {y2 : Int64} {x4 : Int32} {σ : PS} (h : ∃ a_office : Nat, Fg (σ) 1 h0 10 (.ref a_office) ∧ (∃ x_people : Int32, Fg (σ) 7 a_office 8 (.int x_people) ∧ (((x_people ≤ x4) → Q (some (.int x1)) (σ)) ∧ ((¬ x_people ≤ x4) → (∃ fs_9 : List Value, Ob (σ) 1 h0 fs_9) ∧ Call G mX1_asTold 4 0 [.ref h0] (σ) (qR (fun ra s1 => (∃ fs_8 : List Value, Ob s1 6 ra fs_8) ∧ Call G mX6_without 3 0 [.ref ra, .int x4] s1 (qR (fun ra_2 s1_1 => ∃ bc : Nat, bc ≤ b ∧ (∃ fs_7 : List Value, Ob s1_1 1 h0 fs_7) ∧ Call G mX1_run 204 bc [.ref h0, .ref ra_2] s1_1 (qR (fun ra_4 s1_3 => ∃ bc_5 : Nat, bc_5 ≤ b - bc ∧ (∃ fs : List Value, Ob s1_3 3 ra_4 fs) ∧ Call G mX3_truly 6 bc_5 [.ref ra_4] s1_3 (qJ (fun ry s1_6 => ((x1 = (-1)) → ∀ v4 : Int32, v4 = x4 + 1 → At G mX1_keeper 205 Q X (b - bc - bc_5) 7 [(0, .ref h0), (1, .int x4), (2, .long ry), (4, .int v4)] [] s1_6) ∧ ((¬ x1 = (-1)) → ((ry < y2) → ∀ v4 : Int32, v4 = x4 + 1 → At G mX1_keeper 205 Q X (b - bc - bc_5) 7 [(0, .ref h0), (1, .int x4), (2, .long ry), (4, .int v4)] [] s1_6) ∧ ((¬ ry < y2) → ∀ v4 : Int32, v4 = x4 + 1 → At G mX1_keeper 205 Q X (b - bc - bc_5) 7 [(0, .ref h0), (1, .int x1), (2, .long y2), (4, .int v4)] [] s1_6)))) X)) X)) X)) X)))) : At G mX1_keeper 205 Q X b 7 [(0, .ref h0), (1, .int x1), (2, .long y2), (4, .int x4)] [] (σ) := by
  refine g_iload dX1_keeper_7 3 rfl ?_
  refine g_aload_n dX1_keeper_9 rfl 0 rfl ?_
  obtain ⟨a_office, hf, h⟩ := h
  refine g_get 10 dX1_keeper_10 in_X1 cl1 (by decide) q463 hf ?_
  obtain ⟨x_people, hf, h⟩ := h
  refine g_getN 8 dX1_keeper_13 in_X7 cl7 (by decide) q409 hf ?_
  refine g_icmp_ge (tgt := 64) dX1_keeper_16 (by decide) (fun c => ?_) (fun c => ?_)
  · replace h := h.1 c
    refine g_iload_n dX1_keeper_64 rfl 1 rfl ?_
    exact g_iret rfl dX1_keeper_65 h
  · replace h := h.2 c
    refine g_aload_n dX1_keeper_19 rfl 0 rfl ?_
    refine g_aload_n dX1_keeper_20 rfl 0 rfl ?_
    obtain ⟨⟨_, hO⟩, h⟩ := h
    refine g_callV (N := mX1_asTold) (st := [.ref h0]) (As := []) (a := h0) dX1_keeper_21 wsX1_asTold (lw_V q517 q519 qs0 q108 q520) rfl mokX1_asTold rfl cl1 (by decide) (by decide) (Nat.zero_le _) (by simp [Value.category]) hO h (fun E q s hx => AtX.out0 rfl hx) (fun _ s1 hq => ?_)
    obtain ⟨ra, rfl, h⟩ := hq
    refine At.stk (st' := [.ref ra, .ref h0]) rfl ?_
    refine g_iload dX1_keeper_24 3 rfl ?_
    obtain ⟨⟨_, hO⟩, h⟩ := h
    refine g_callV (N := mX6_without) (st := [.ref h0]) (As := [.int x4]) (a := ra) dX1_keeper_26 wsX6_without (lw_V q771 q772 q773 q113 q774) rfl mokX6_without rfl cl6 (by decide) (by decide) (Nat.zero_le _) (by simp [Value.category]) hO h (fun E q s hx => AtX.out0 rfl hx) (fun _ s1_1 hq => ?_)
    obtain ⟨ra_2, rfl, h⟩ := hq
    refine At.stk (st' := [.ref ra_2, .ref h0]) rfl ?_
    obtain ⟨bc, hb9, h⟩ := h
    obtain ⟨⟨_, hO⟩, h⟩ := h
    refine g_callV (N := mX1_run) (st := []) (As := [.ref ra_2]) (a := h0) dX1_keeper_29 wsX1_run (lw_V q532 q534 qs1 q108 q535) rfl mokX1_run rfl cl1 (by decide) (by decide) hb9 (Nat.zero_le _) hO h (fun E q s hx => AtX.out0 rfl hx) (fun _ s1_3 hq => ?_)
    obtain ⟨ra_4, rfl, h⟩ := hq
    refine At.stk (st' := [.ref ra_4]) rfl ?_
    obtain ⟨bc_5, hb9, h⟩ := h
    obtain ⟨⟨_, hO⟩, h⟩ := h
    refine g_callV (N := mX3_truly) (st := []) (As := []) (a := ra_4) dX1_keeper_32 wsX3_truly (lw_V q749 q750 q751 q110 q752) rfl mokX3_truly rfl cl3 (by decide) (by decide) hb9 (Nat.zero_le _) hO h (fun E q s hx => AtX.out0 rfl hx) (fun _ s1_6 hq => ?_)
    obtain ⟨ry, rfl, h⟩ := hq
    refine At.stk (st' := [.long ry]) rfl ?_
    refine g_lstore (ls1 := [(5, .long ry), (0, .ref h0), (1, .int x1), (2, .long y2), (4, .int x4)]) dX1_keeper_35 (by decide) rfl ?_
    refine g_iload_n dX1_keeper_37 rfl 2 rfl ?_
    refine g_iconst (v := (-1)) dX1_keeper_38 (by decide) ?_
    refine g_icmp_eq (tgt := 52) dX1_keeper_39 (by decide) (fun c => ?_) (fun c => ?_)
    · replace h := h.1 c
      refine g_iload dX1_keeper_52 4 rfl ?_
      refine g_istore_n (ls1 := [(1, .int x4), (5, .long ry), (0, .ref h0), (2, .long y2), (4, .int x4)]) dX1_keeper_54 rfl (by decide) rfl ?_
      refine g_lload dX1_keeper_55 1 rfl ?_
      refine g_lstore_n (ls1 := [(2, .long ry), (1, .int x4), (5, .long ry), (0, .ref h0), (4, .int x4)]) dX1_keeper_57 rfl (by decide) rfl ?_
      obtain ⟨v4, ev4⟩ : ∃ z : Int32, z = x4 + 1 := ⟨_, rfl⟩
      refine g_iinc (v := v4) (ls1 := [(4, .int v4), (2, .long ry), (1, .int x4), (5, .long ry), (0, .ref h0)]) dX1_keeper_58 4 rfl (by rw [ev4]; rfl) (by decide) rfl ?_
      replace h := h v4 ev4
      refine g_goto (tgt := 7) dX1_keeper_61 (by decide) ?_
      exact At.sub (ls := [(4, .int v4), (2, .long ry), (1, .int x4), (5, .long ry), (0, .ref h0)]) [4, 2, 1, 0] rfl h
    · replace h := h.2 c
      refine g_lload dX1_keeper_42 0 rfl ?_
      refine g_lload_n dX1_keeper_44 rfl 3 rfl ?_
      refine g_lcmp_lt (tgt := 52) dX1_keeper_45 dX1_keeper_46 (by decide) (fun c => ?_) (fun c => ?_)
      · replace h := h.1 c
        refine g_iload dX1_keeper_52 4 rfl ?_
        refine g_istore_n (ls1 := [(1, .int x4), (5, .long ry), (0, .ref h0), (2, .long y2), (4, .int x4)]) dX1_keeper_54 rfl (by decide) rfl ?_
        refine g_lload dX1_keeper_55 1 rfl ?_
        refine g_lstore_n (ls1 := [(2, .long ry), (1, .int x4), (5, .long ry), (0, .ref h0), (4, .int x4)]) dX1_keeper_57 rfl (by decide) rfl ?_
        obtain ⟨v4, ev4⟩ : ∃ z : Int32, z = x4 + 1 := ⟨_, rfl⟩
        refine g_iinc (v := v4) (ls1 := [(4, .int v4), (2, .long ry), (1, .int x4), (5, .long ry), (0, .ref h0)]) dX1_keeper_58 4 rfl (by rw [ev4]; rfl) (by decide) rfl ?_
        replace h := h v4 ev4
        refine g_goto (tgt := 7) dX1_keeper_61 (by decide) ?_
        exact At.sub (ls := [(4, .int v4), (2, .long ry), (1, .int x4), (5, .long ry), (0, .ref h0)]) [4, 2, 1, 0] rfl h
      · replace h := h.2 c
        refine g_goto (tgt := 58) dX1_keeper_49 (by decide) ?_
        obtain ⟨v4, ev4⟩ : ∃ z : Int32, z = x4 + 1 := ⟨_, rfl⟩
        refine g_iinc (v := v4) (ls1 := [(4, .int v4), (5, .long ry), (0, .ref h0), (1, .int x1), (2, .long y2)]) dX1_keeper_58 4 rfl (by rw [ev4]; rfl) (by decide) rfl ?_
        replace h := h v4 ev4
        refine g_goto (tgt := 7) dX1_keeper_61 (by decide) ?_
        exact At.sub (ls := [(4, .int v4), (5, .long ry), (0, .ref h0), (1, .int x1), (2, .long y2)]) [2, 3, 4, 0] rfl h
theorem eX1_keeper {G : GC} {Q : Option Value → PS → Prop} {X : String → Nat → PS → Prop} {b : Nat} {h0 : Nat} {σ : PS} (h : At G mX1_keeper 205 Q X b 0 [(0, .ref h0)] [] σ) : Call G mX1_keeper 205 b [.ref h0] σ Q X :=
  Call.of (by decide +kernel) wsX1_keeper rfl (Nat.le_of_ble_eq_true rfl) (At.sub (ls := [(0, .ref h0)]) [0] rfl h)
set_option maxHeartbeats 4000000 in
theorem bX1_spoiler_0 {G : GC} {Q : Option Value → PS → Prop} {X : String → Nat → PS → Prop} {b : Nat} {h0 : Nat} {σ : PS} (h : At G mX1_spoiler 205 Q X b 7 [(0, .ref h0), (1, .int (-1)), (2, .long 0), (4, .int 0)] [] (σ)) : At G mX1_spoiler 205 Q X b 0 [(0, .ref h0)] [] (σ) := by
  refine g_iconst (v := (-1)) dX1_spoiler_0 (by decide) ?_
  refine g_istore_n (ls1 := [(1, .int (-1)), (0, .ref h0)]) dX1_spoiler_1 rfl (by decide) rfl ?_
  refine g_lconst (v := 0) dX1_spoiler_2 (by decide) ?_
  refine g_lstore_n (ls1 := [(2, .long 0), (1, .int (-1)), (0, .ref h0)]) dX1_spoiler_3 rfl (by decide) rfl ?_
  refine g_iconst (v := 0) dX1_spoiler_4 (by decide) ?_
  refine g_istore (ls1 := [(4, .int 0), (2, .long 0), (1, .int (-1)), (0, .ref h0)]) dX1_spoiler_5 (by decide) rfl ?_
  exact At.sub (ls := [(4, .int 0), (2, .long 0), (1, .int (-1)), (0, .ref h0)]) [3, 2, 1, 0] rfl h
set_option maxHeartbeats 4000000 in
theorem bX1_spoiler_7 {G : GC} {Q : Option Value → PS → Prop} {X : String → Nat → PS → Prop} {b : Nat} {h0 : Nat} {x1 : Int32} {y2 : Int64} {x4 : Int32} {σ : PS} (h : ∃ a_office : Nat, Fg (σ) 1 h0 10 (.ref a_office) ∧ (∃ x_people : Int32, Fg (σ) 7 a_office 8 (.int x_people) ∧ (((x_people ≤ x4) → Q (some (.int x1)) (σ)) ∧ ((¬ x_people ≤ x4) → (∃ fs_8 : List Value, Ob (σ) 1 h0 fs_8) ∧ Call G mX1_asTold 4 0 [.ref h0] (σ) (qR (fun ra s1 => (∃ fs_7 : List Value, Ob s1 6 ra fs_7) ∧ Call G mX6_without 3 0 [.ref ra, .int x4] s1 (qR (fun ra_2 s1_1 => ∃ bc : Nat, bc ≤ b ∧ (∃ fs_6 : List Value, Ob s1_1 1 h0 fs_6) ∧ Call G mX1_run 204 bc [.ref h0, .ref ra_2] s1_1 (qR (fun ra_4 s1_3 => (∃ fs : List Value, Ob s1_3 3 ra_4 fs) ∧ CallO G mX3_cost 3 [.ref ra_4] s1_3 (pJ (fun ry => ((x1 = (-1)) → ∀ v4 : Int32, v4 = x4 + 1 → At G mX1_spoiler 205 Q X (b - bc) 7 [(0, .ref h0), (1, .int x4), (2, .long ry), (4, .int v4)] [] s1_3) ∧ ((¬ x1 = (-1)) → ((ry < y2) → ∀ v4 : Int32, v4 = x4 + 1 → At G mX1_spoiler 205 Q X (b - bc) 7 [(0, .ref h0), (1, .int x4), (2, .long ry), (4, .int v4)] [] s1_3) ∧ ((¬ ry < y2) → ∀ v4 : Int32, v4 = x4 + 1 → At G mX1_spoiler 205 Q X (b - bc) 7 [(0, .ref h0), (1, .int x1), (2, .long y2), (4, .int v4)] [] s1_3)))))) X)) X)) X)))) : At G mX1_spoiler 205 Q X b 7 [(0, .ref h0), (1, .int x1), (2, .long y2), (4, .int x4)] [] (σ) := by
  refine g_iload dX1_spoiler_7 3 rfl ?_
  refine g_aload_n dX1_spoiler_9 rfl 0 rfl ?_
  obtain ⟨a_office, hf, h⟩ := h
  refine g_get 10 dX1_spoiler_10 in_X1 cl1 (by decide) q463 hf ?_
  obtain ⟨x_people, hf, h⟩ := h
  refine g_getN 8 dX1_spoiler_13 in_X7 cl7 (by decide) q409 hf ?_
  refine g_icmp_ge (tgt := 64) dX1_spoiler_16 (by decide) (fun c => ?_) (fun c => ?_)
  · replace h := h.1 c
    refine g_iload_n dX1_spoiler_64 rfl 1 rfl ?_
    exact g_iret rfl dX1_spoiler_65 h
  · replace h := h.2 c
    refine g_aload_n dX1_spoiler_19 rfl 0 rfl ?_
    refine g_aload_n dX1_spoiler_20 rfl 0 rfl ?_
    obtain ⟨⟨_, hO⟩, h⟩ := h
    refine g_callV (N := mX1_asTold) (st := [.ref h0]) (As := []) (a := h0) dX1_spoiler_21 wsX1_asTold (lw_V q517 q519 qs0 q108 q520) rfl mokX1_asTold rfl cl1 (by decide) (by decide) (Nat.zero_le _) (by simp [Value.category]) hO h (fun E q s hx => AtX.out0 rfl hx) (fun _ s1 hq => ?_)
    obtain ⟨ra, rfl, h⟩ := hq
    refine At.stk (st' := [.ref ra, .ref h0]) rfl ?_
    refine g_iload dX1_spoiler_24 3 rfl ?_
    obtain ⟨⟨_, hO⟩, h⟩ := h
    refine g_callV (N := mX6_without) (st := [.ref h0]) (As := [.int x4]) (a := ra) dX1_spoiler_26 wsX6_without (lw_V q771 q772 q773 q113 q774) rfl mokX6_without rfl cl6 (by decide) (by decide) (Nat.zero_le _) (by simp [Value.category]) hO h (fun E q s hx => AtX.out0 rfl hx) (fun _ s1_1 hq => ?_)
    obtain ⟨ra_2, rfl, h⟩ := hq
    refine At.stk (st' := [.ref ra_2, .ref h0]) rfl ?_
    obtain ⟨bc, hb9, h⟩ := h
    obtain ⟨⟨_, hO⟩, h⟩ := h
    refine g_callV (N := mX1_run) (st := []) (As := [.ref ra_2]) (a := h0) dX1_spoiler_29 wsX1_run (lw_V q532 q534 qs1 q108 q535) rfl mokX1_run rfl cl1 (by decide) (by decide) hb9 (Nat.zero_le _) hO h (fun E q s hx => AtX.out0 rfl hx) (fun _ s1_3 hq => ?_)
    obtain ⟨ra_4, rfl, h⟩ := hq
    refine At.stk (st' := [.ref ra_4]) rfl ?_
    obtain ⟨⟨_, hO⟩, h⟩ := h
    refine g_callV (N := mX3_cost) (st := []) (As := []) (a := ra_4) dX1_spoiler_32 wsX3_cost (lw_V q779 q780 q781 q110 q782) rfl mokX3_cost rfl cl3 (by decide) (by decide) (Nat.zero_le _) (Nat.zero_le _) hO h (fun E q s hx => AtX.never hx) (fun _ s1_5 hq => ?_)
    obtain ⟨es, hq⟩ := hq
    refine g_tops2 es ?_
    obtain ⟨ry, rfl, h⟩ := hq
    refine At.stk (st' := [.long ry]) rfl ?_
    refine g_lstore (ls1 := [(5, .long ry), (0, .ref h0), (1, .int x1), (2, .long y2), (4, .int x4)]) dX1_spoiler_35 (by decide) rfl ?_
    refine g_iload_n dX1_spoiler_37 rfl 2 rfl ?_
    refine g_iconst (v := (-1)) dX1_spoiler_38 (by decide) ?_
    refine g_icmp_eq (tgt := 52) dX1_spoiler_39 (by decide) (fun c => ?_) (fun c => ?_)
    · replace h := h.1 c
      refine g_iload dX1_spoiler_52 4 rfl ?_
      refine g_istore_n (ls1 := [(1, .int x4), (5, .long ry), (0, .ref h0), (2, .long y2), (4, .int x4)]) dX1_spoiler_54 rfl (by decide) rfl ?_
      refine g_lload dX1_spoiler_55 1 rfl ?_
      refine g_lstore_n (ls1 := [(2, .long ry), (1, .int x4), (5, .long ry), (0, .ref h0), (4, .int x4)]) dX1_spoiler_57 rfl (by decide) rfl ?_
      obtain ⟨v4, ev4⟩ : ∃ z : Int32, z = x4 + 1 := ⟨_, rfl⟩
      refine g_iinc (v := v4) (ls1 := [(4, .int v4), (2, .long ry), (1, .int x4), (5, .long ry), (0, .ref h0)]) dX1_spoiler_58 4 rfl (by rw [ev4]; rfl) (by decide) rfl ?_
      replace h := h v4 ev4
      refine g_goto (tgt := 7) dX1_spoiler_61 (by decide) ?_
      exact At.sub (ls := [(4, .int v4), (2, .long ry), (1, .int x4), (5, .long ry), (0, .ref h0)]) [4, 2, 1, 0] rfl h
    · replace h := h.2 c
      refine g_lload dX1_spoiler_42 0 rfl ?_
      refine g_lload_n dX1_spoiler_44 rfl 3 rfl ?_
      refine g_lcmp_lt (tgt := 52) dX1_spoiler_45 dX1_spoiler_46 (by decide) (fun c => ?_) (fun c => ?_)
      · replace h := h.1 c
        refine g_iload dX1_spoiler_52 4 rfl ?_
        refine g_istore_n (ls1 := [(1, .int x4), (5, .long ry), (0, .ref h0), (2, .long y2), (4, .int x4)]) dX1_spoiler_54 rfl (by decide) rfl ?_
        refine g_lload dX1_spoiler_55 1 rfl ?_
        refine g_lstore_n (ls1 := [(2, .long ry), (1, .int x4), (5, .long ry), (0, .ref h0), (4, .int x4)]) dX1_spoiler_57 rfl (by decide) rfl ?_
        obtain ⟨v4, ev4⟩ : ∃ z : Int32, z = x4 + 1 := ⟨_, rfl⟩
        refine g_iinc (v := v4) (ls1 := [(4, .int v4), (2, .long ry), (1, .int x4), (5, .long ry), (0, .ref h0)]) dX1_spoiler_58 4 rfl (by rw [ev4]; rfl) (by decide) rfl ?_
        replace h := h v4 ev4
        refine g_goto (tgt := 7) dX1_spoiler_61 (by decide) ?_
        exact At.sub (ls := [(4, .int v4), (2, .long ry), (1, .int x4), (5, .long ry), (0, .ref h0)]) [4, 2, 1, 0] rfl h
      · replace h := h.2 c
        refine g_goto (tgt := 58) dX1_spoiler_49 (by decide) ?_
        obtain ⟨v4, ev4⟩ : ∃ z : Int32, z = x4 + 1 := ⟨_, rfl⟩
        refine g_iinc (v := v4) (ls1 := [(4, .int v4), (5, .long ry), (0, .ref h0), (1, .int x1), (2, .long y2)]) dX1_spoiler_58 4 rfl (by rw [ev4]; rfl) (by decide) rfl ?_
        replace h := h v4 ev4
        refine g_goto (tgt := 7) dX1_spoiler_61 (by decide) ?_
        exact At.sub (ls := [(4, .int v4), (5, .long ry), (0, .ref h0), (1, .int x1), (2, .long y2)]) [2, 3, 4, 0] rfl h
theorem eX1_spoiler {G : GC} {Q : Option Value → PS → Prop} {X : String → Nat → PS → Prop} {b : Nat} {h0 : Nat} {σ : PS} (h : At G mX1_spoiler 205 Q X b 0 [(0, .ref h0)] [] σ) : Call G mX1_spoiler 205 b [.ref h0] σ Q X :=
  Call.of (by decide +kernel) wsX1_spoiler rfl (Nat.le_of_ble_eq_true rfl) (At.sub (ls := [(0, .ref h0)]) [0] rfl h)
set_option maxHeartbeats 4000000 in
theorem bX1_fill_0 {G : GC} {Q : Option Value → PS → Prop} {X : String → Nat → PS → Prop} {b : Nat} {h0 : Nat} {σ : PS} (h : ∃ bc : Nat, bc ≤ b ∧ (∃ fs : List Value, Ob (σ) 1 h0 fs) ∧ Call G mX1_starting 205 bc [.ref h0, .int 1] (σ) (qJ (fun ry s1 => At G mX1_fill 206 Q X (b - bc) 11 [(0, .ref h0), (1, .int 1), (2, .long ry), (4, .int 2)] [] s1)) X) : At G mX1_fill 206 Q X b 0 [(0, .ref h0)] [] (σ) := by
  refine g_iconst (v := 1) dX1_fill_0 (by decide) ?_
  refine g_istore_n (ls1 := [(1, .int 1), (0, .ref h0)]) dX1_fill_1 rfl (by decide) rfl ?_
  refine g_aload_n dX1_fill_2 rfl 1 rfl ?_
  refine g_iconst (v := 1) dX1_fill_3 (by decide) ?_
  obtain ⟨bc, hb9, h⟩ := h
  obtain ⟨⟨_, hO⟩, h⟩ := h
  refine g_callV (N := mX1_starting) (st := []) (As := [.int 1]) (a := h0) dX1_fill_4 wsX1_starting (lw_V q787 q789 qs10 q108 q790) rfl mokX1_starting rfl cl1 (by decide) (by decide) hb9 (Nat.zero_le _) hO h (fun E q s hx => AtX.out0 rfl hx) (fun _ s1 hq => ?_)
  obtain ⟨ry, rfl, h⟩ := hq
  refine At.stk (st' := [.long ry]) rfl ?_
  refine g_lstore_n (ls1 := [(2, .long ry), (1, .int 1), (0, .ref h0)]) dX1_fill_7 rfl (by decide) rfl ?_
  refine g_iconst (v := 2) dX1_fill_8 (by decide) ?_
  refine g_istore (ls1 := [(4, .int 2), (2, .long ry), (1, .int 1), (0, .ref h0)]) dX1_fill_9 (by decide) rfl ?_
  exact At.sub (ls := [(4, .int 2), (2, .long ry), (1, .int 1), (0, .ref h0)]) [3, 2, 1, 0] rfl h
set_option maxHeartbeats 4000000 in
theorem bX1_fill_11 {G : GC} {Q : Option Value → PS → Prop} {X : String → Nat → PS → Prop} {b : Nat} {h0 : Nat} {x1 : Int32} {y2 : Int64} {x4 : Int32} {σ : PS} (h : ∃ a_office : Nat, Fg (σ) 1 h0 10 (.ref a_office) ∧ (∃ x_cups : Int32, Fg (σ) 7 a_office 1 (.int x_cups) ∧ (((x_cups < x4) → Q (some (.int x1)) (σ)) ∧ ((¬ x_cups < x4) → ∃ bc : Nat, bc ≤ b ∧ (∃ fs : List Value, Ob (σ) 1 h0 fs) ∧ Call G mX1_starting 205 bc [.ref h0, .int x4] (σ) (qJ (fun ry s1 => ((ry < y2) → ∀ v4 : Int32, v4 = x4 + 1 → At G mX1_fill 206 Q X (b - bc) 11 [(0, .ref h0), (1, .int x4), (2, .long ry), (4, .int v4)] [] s1) ∧ ((¬ ry < y2) → ∀ v4 : Int32, v4 = x4 + 1 → At G mX1_fill 206 Q X (b - bc) 11 [(0, .ref h0), (1, .int x1), (2, .long y2), (4, .int v4)] [] s1))) X)))) : At G mX1_fill 206 Q X b 11 [(0, .ref h0), (1, .int x1), (2, .long y2), (4, .int x4)] [] (σ) := by
  refine g_iload dX1_fill_11 3 rfl ?_
  refine g_aload_n dX1_fill_13 rfl 0 rfl ?_
  obtain ⟨a_office, hf, h⟩ := h
  refine g_get 10 dX1_fill_14 in_X1 cl1 (by decide) q463 hf ?_
  obtain ⟨x_cups, hf, h⟩ := h
  refine g_getN 1 dX1_fill_17 in_X7 cl7 (by decide) q382 hf ?_
  refine g_icmp_gt (tgt := 53) dX1_fill_20 (by decide) (fun c => ?_) (fun c => ?_)
  · replace h := h.1 c
    refine g_iload_n dX1_fill_53 rfl 1 rfl ?_
    exact g_iret rfl dX1_fill_54 h
  · replace h := h.2 c
    refine g_aload_n dX1_fill_23 rfl 0 rfl ?_
    refine g_iload dX1_fill_24 3 rfl ?_
    obtain ⟨bc, hb9, h⟩ := h
    obtain ⟨⟨_, hO⟩, h⟩ := h
    refine g_callV (N := mX1_starting) (st := []) (As := [.int x4]) (a := h0) dX1_fill_26 wsX1_starting (lw_V q787 q789 qs10 q108 q790) rfl mokX1_starting rfl cl1 (by decide) (by decide) hb9 (Nat.zero_le _) hO h (fun E q s hx => AtX.out0 rfl hx) (fun _ s1 hq => ?_)
    obtain ⟨ry, rfl, h⟩ := hq
    refine At.stk (st' := [.long ry]) rfl ?_
    refine g_lstore (ls1 := [(5, .long ry), (0, .ref h0), (1, .int x1), (2, .long y2), (4, .int x4)]) dX1_fill_29 (by decide) rfl ?_
    refine g_lload dX1_fill_31 0 rfl ?_
    refine g_lload_n dX1_fill_33 rfl 3 rfl ?_
    refine g_lcmp_lt (tgt := 41) dX1_fill_34 dX1_fill_35 (by decide) (fun c => ?_) (fun c => ?_)
    · replace h := h.1 c
      refine g_iload dX1_fill_41 4 rfl ?_
      refine g_istore_n (ls1 := [(1, .int x4), (5, .long ry), (0, .ref h0), (2, .long y2), (4, .int x4)]) dX1_fill_43 rfl (by decide) rfl ?_
      refine g_lload dX1_fill_44 1 rfl ?_
      refine g_lstore_n (ls1 := [(2, .long ry), (1, .int x4), (5, .long ry), (0, .ref h0), (4, .int x4)]) dX1_fill_46 rfl (by decide) rfl ?_
      obtain ⟨v4, ev4⟩ : ∃ z : Int32, z = x4 + 1 := ⟨_, rfl⟩
      refine g_iinc (v := v4) (ls1 := [(4, .int v4), (2, .long ry), (1, .int x4), (5, .long ry), (0, .ref h0)]) dX1_fill_47 4 rfl (by rw [ev4]; rfl) (by decide) rfl ?_
      replace h := h v4 ev4
      refine g_goto (tgt := 11) dX1_fill_50 (by decide) ?_
      exact At.sub (ls := [(4, .int v4), (2, .long ry), (1, .int x4), (5, .long ry), (0, .ref h0)]) [4, 2, 1, 0] rfl h
    · replace h := h.2 c
      refine g_goto (tgt := 47) dX1_fill_38 (by decide) ?_
      obtain ⟨v4, ev4⟩ : ∃ z : Int32, z = x4 + 1 := ⟨_, rfl⟩
      refine g_iinc (v := v4) (ls1 := [(4, .int v4), (5, .long ry), (0, .ref h0), (1, .int x1), (2, .long y2)]) dX1_fill_47 4 rfl (by rw [ev4]; rfl) (by decide) rfl ?_
      replace h := h v4 ev4
      refine g_goto (tgt := 11) dX1_fill_50 (by decide) ?_
      exact At.sub (ls := [(4, .int v4), (5, .long ry), (0, .ref h0), (1, .int x1), (2, .long y2)]) [2, 3, 4, 0] rfl h
theorem eX1_fill {G : GC} {Q : Option Value → PS → Prop} {X : String → Nat → PS → Prop} {b : Nat} {h0 : Nat} {σ : PS} (h : At G mX1_fill 206 Q X b 0 [(0, .ref h0)] [] σ) : Call G mX1_fill 206 b [.ref h0] σ Q X :=
  Call.of (by decide +kernel) wsX1_fill rfl (Nat.le_of_ble_eq_true rfl) (At.sub (ls := [(0, .ref h0)]) [0] rfl h)
set_option maxHeartbeats 4000000 in
theorem bX1_starting_0 {G : GC} {Q : Option Value → PS → Prop} {X : String → Nat → PS → Prop} {b : Nat} {h0 : Nat} {x1 : Int32} {σ : PS} (h : (∃ fs_7 : List Value, Ob (σ) 1 h0 fs_7) ∧ Call G mX1_asTold 4 0 [.ref h0] (σ) (qR (fun ra s1 => ∃ fs : List Value, Ob s1 6 ra fs ∧ 6 < fs.length ∧ (∀ s1_1 : PS, s1_1 = up s1 6 ra (.inl (fs.set 6 (.int x1))) → ∃ a_how : Nat, Fg s1_1 1 h0 9 (.ref a_how) ∧ (∃ bc : Nat, bc ≤ b ∧ (∃ fs_6 : List Value, Ob s1_1 1 h0 fs_6) ∧ Call G mX1_run 204 bc [.ref h0, .ref a_how] s1_1 (qR (fun ra_3 s1_2 => (∃ fs_5 : List Value, Ob s1_2 3 ra_3 fs_5) ∧ CallO G mX3_cost 3 [.ref ra_3] s1_2 (pJ (fun ry => Q (some (.long ry)) s1_2)))) X)))) X) : At G mX1_starting 205 Q X b 0 [(0, .ref h0), (1, .int x1)] [] (σ) := by
  refine g_aload_n dX1_starting_0 rfl 0 rfl ?_
  obtain ⟨⟨_, hO⟩, h⟩ := h
  refine g_callV (N := mX1_asTold) (st := []) (As := []) (a := h0) dX1_starting_1 wsX1_asTold (lw_V q517 q519 qs0 q108 q520) rfl mokX1_asTold rfl cl1 (by decide) (by decide) (Nat.zero_le _) (Nat.zero_le _) hO h (fun E q s hx => AtX.out0 rfl hx) (fun _ s1 hq => ?_)
  obtain ⟨ra, rfl, h⟩ := hq
  refine At.stk (st' := [.ref ra]) rfl ?_
  refine g_iload_n dX1_starting_4 rfl 1 rfl ?_
  obtain ⟨fs, hO, hl, h⟩ := h
  refine g_putN 6 dX1_starting_5 in_X6 tyX6 tyX6_ok nmX6 cl6 (by decide) q348 rfl rfl rfl hO hl ?_
  refine g_tops (fun s1_1 es1_1 => ?_)
  replace h := h s1_1 es1_1
  refine g_aload_n dX1_starting_8 rfl 0 rfl ?_
  refine g_aload_n dX1_starting_9 rfl 0 rfl ?_
  obtain ⟨a_how, hf, h⟩ := h
  refine g_get 9 dX1_starting_10 in_X1 cl1 (by decide) q462 hf ?_
  obtain ⟨bc, hb9, h⟩ := h
  obtain ⟨⟨_, hO⟩, h⟩ := h
  refine g_callV (N := mX1_run) (st := []) (As := [.ref a_how]) (a := h0) dX1_starting_13 wsX1_run (lw_V q532 q534 qs1 q108 q535) rfl mokX1_run rfl cl1 (by decide) (by decide) hb9 (Nat.zero_le _) hO h (fun E q s hx => AtX.out0 rfl hx) (fun _ s1_2 hq => ?_)
  obtain ⟨ra_3, rfl, h⟩ := hq
  refine At.stk (st' := [.ref ra_3]) rfl ?_
  obtain ⟨⟨_, hO⟩, h⟩ := h
  refine g_callV (N := mX3_cost) (st := []) (As := []) (a := ra_3) dX1_starting_16 wsX3_cost (lw_V q779 q780 q781 q110 q782) rfl mokX3_cost rfl cl3 (by decide) (by decide) (Nat.zero_le _) (Nat.zero_le _) hO h (fun E q s hx => AtX.never hx) (fun _ s1_4 hq => ?_)
  obtain ⟨es, hq⟩ := hq
  refine g_tops2 es ?_
  obtain ⟨ry, rfl, h⟩ := hq
  refine At.stk (st' := [.long ry]) rfl ?_
  exact g_lret rfl dX1_starting_19 h
theorem eX1_starting {G : GC} {Q : Option Value → PS → Prop} {X : String → Nat → PS → Prop} {b : Nat} {h0 : Nat} {p1 : Int32} {σ : PS} (h : At G mX1_starting 205 Q X b 0 [(0, .ref h0), (1, .int p1)] [] σ) : Call G mX1_starting 205 b [.ref h0, .int p1] σ Q X :=
  Call.of (by decide +kernel) wsX1_starting rfl (Nat.le_of_ble_eq_true rfl) (At.sub (ls := [(0, .ref h0), (1, .int p1)]) [0, 1] rfl h)
set_option maxHeartbeats 4000000 in
theorem bX1_swap_0 {G : GC} {Q : Option Value → PS → Prop} {X : String → Nat → PS → Prop} {b : Nat} {h0 : Nat} {σ : PS} (h : (∃ fs_5 : List Value, Ob (σ) 1 h0 fs_5) ∧ Call G mX1_asTold 4 0 [.ref h0] (σ) (qR (fun ra s1 => ∃ bc : Nat, bc ≤ b ∧ (∃ fs_4 : List Value, Ob s1 1 h0 fs_4) ∧ Call G mX1_run 204 bc [.ref h0, .ref ra] s1 (qR (fun ra_2 s1_1 => (∃ fs : List Value, Ob s1_1 3 ra_2 fs) ∧ CallO G mX3_cost 3 [.ref ra_2] s1_1 (pJ (fun ry => At G mX1_swap 205 Q X (b - bc) 17 [(0, .ref h0), (1, .int (-1)), (2, .long ry), (4, .int 0)] [] s1_1)))) X)) X) : At G mX1_swap 205 Q X b 0 [(0, .ref h0)] [] (σ) := by
  refine g_iconst (v := (-1)) dX1_swap_0 (by decide) ?_
  refine g_istore_n (ls1 := [(1, .int (-1)), (0, .ref h0)]) dX1_swap_1 rfl (by decide) rfl ?_
  refine g_aload_n dX1_swap_2 rfl 1 rfl ?_
  refine g_aload_n dX1_swap_3 rfl 1 rfl ?_
  obtain ⟨⟨_, hO⟩, h⟩ := h
  refine g_callV (N := mX1_asTold) (st := [.ref h0]) (As := []) (a := h0) dX1_swap_4 wsX1_asTold (lw_V q517 q519 qs0 q108 q520) rfl mokX1_asTold rfl cl1 (by decide) (by decide) (Nat.zero_le _) (by simp [Value.category]) hO h (fun E q s hx => AtX.out0 rfl hx) (fun _ s1 hq => ?_)
  obtain ⟨ra, rfl, h⟩ := hq
  refine At.stk (st' := [.ref ra, .ref h0]) rfl ?_
  obtain ⟨bc, hb9, h⟩ := h
  obtain ⟨⟨_, hO⟩, h⟩ := h
  refine g_callV (N := mX1_run) (st := []) (As := [.ref ra]) (a := h0) dX1_swap_7 wsX1_run (lw_V q532 q534 qs1 q108 q535) rfl mokX1_run rfl cl1 (by decide) (by decide) hb9 (Nat.zero_le _) hO h (fun E q s hx => AtX.out0 rfl hx) (fun _ s1_1 hq => ?_)
  obtain ⟨ra_2, rfl, h⟩ := hq
  refine At.stk (st' := [.ref ra_2]) rfl ?_
  obtain ⟨⟨_, hO⟩, h⟩ := h
  refine g_callV (N := mX3_cost) (st := []) (As := []) (a := ra_2) dX1_swap_10 wsX3_cost (lw_V q779 q780 q781 q110 q782) rfl mokX3_cost rfl cl3 (by decide) (by decide) (Nat.zero_le _) (Nat.zero_le _) hO h (fun E q s hx => AtX.never hx) (fun _ s1_3 hq => ?_)
  obtain ⟨es, hq⟩ := hq
  refine g_tops2 es ?_
  obtain ⟨ry, rfl, h⟩ := hq
  refine At.stk (st' := [.long ry]) rfl ?_
  refine g_lstore_n (ls1 := [(2, .long ry), (1, .int (-1)), (0, .ref h0)]) dX1_swap_13 rfl (by decide) rfl ?_
  refine g_iconst (v := 0) dX1_swap_14 (by decide) ?_
  refine g_istore (ls1 := [(4, .int 0), (2, .long ry), (1, .int (-1)), (0, .ref h0)]) dX1_swap_15 (by decide) rfl ?_
  exact At.sub (ls := [(4, .int 0), (2, .long ry), (1, .int (-1)), (0, .ref h0)]) [3, 2, 1, 0] rfl h
set_option maxHeartbeats 4000000 in
theorem bX1_swap_17 {G : GC} {Q : Option Value → PS → Prop} {X : String → Nat → PS → Prop} {b : Nat} {h0 : Nat} {x1 : Int32} {y2 : Int64} {x4 : Int32} {σ : PS} (h : ∃ a_office : Nat, Fg (σ) 1 h0 10 (.ref a_office) ∧ (∃ x_people : Int32, Fg (σ) 7 a_office 8 (.int x_people) ∧ (((x_people ≤ x4) → Q (some (.int x1)) (σ)) ∧ ((¬ x_people ≤ x4) → ∀ v5 : Int32, v5 = (x4 + 1) → At G mX1_swap 205 Q X b 35 [(0, .ref h0), (1, .int x1), (2, .long y2), (4, .int x4), (5, .int v5)] [] (σ))))) : At G mX1_swap 205 Q X b 17 [(0, .ref h0), (1, .int x1), (2, .long y2), (4, .int x4)] [] (σ) := by
  refine g_iload dX1_swap_17 3 rfl ?_
  refine g_aload_n dX1_swap_19 rfl 0 rfl ?_
  obtain ⟨a_office, hf, h⟩ := h
  refine g_get 10 dX1_swap_20 in_X1 cl1 (by decide) q463 hf ?_
  obtain ⟨x_people, hf, h⟩ := h
  refine g_getN 8 dX1_swap_23 in_X7 cl7 (by decide) q409 hf ?_
  refine g_icmp_ge (tgt := 101) dX1_swap_26 (by decide) (fun c => ?_) (fun c => ?_)
  · replace h := h.1 c
    refine g_iload_n dX1_swap_101 rfl 1 rfl ?_
    exact g_iret rfl dX1_swap_102 h
  · replace h := h.2 c
    refine g_iload dX1_swap_29 3 rfl ?_
    refine g_iconst (v := 1) dX1_swap_31 (by decide) ?_
    refine g_iadd dX1_swap_32 ?_
    refine g_topi (fun v5 ev5 => ?_)
    replace h := h v5 ev5
    refine g_istore (ls1 := [(5, .int v5), (0, .ref h0), (1, .int x1), (2, .long y2), (4, .int x4)]) dX1_swap_33 (by decide) rfl ?_
    exact At.sub (ls := [(5, .int v5), (0, .ref h0), (1, .int x1), (2, .long y2), (4, .int x4)]) [1, 2, 3, 4, 0] rfl h
set_option maxHeartbeats 4000000 in
theorem bX1_swap_35 {G : GC} {Q : Option Value → PS → Prop} {X : String → Nat → PS → Prop} {b : Nat} {h0 : Nat} {x1 : Int32} {y2 : Int64} {x4 : Int32} {x5 : Int32} {σ : PS} (h : ∃ a_office : Nat, Fg (σ) 1 h0 10 (.ref a_office) ∧ (∃ x_people : Int32, Fg (σ) 7 a_office 8 (.int x_people) ∧ (((x_people ≤ x5) → ∀ v4 : Int32, v4 = x4 + 1 → At G mX1_swap 205 Q X b 17 [(0, .ref h0), (1, .int x1), (2, .long y2), (4, .int v4)] [] (σ)) ∧ ((¬ x_people ≤ x5) → (∃ fs_8 : List Value, Ob (σ) 1 h0 fs_8) ∧ Call G mX1_asTold 4 0 [.ref h0] (σ) (qR (fun ra s1 => (∃ fs_7 : List Value, Ob s1 6 ra fs_7) ∧ Call G mX6_swapped 3 0 [.ref ra, .int x4, .int x5] s1 (qR (fun ra_2 s1_1 => ∃ bc : Nat, bc ≤ b ∧ (∃ fs_6 : List Value, Ob s1_1 1 h0 fs_6) ∧ Call G mX1_run 204 bc [.ref h0, .ref ra_2] s1_1 (qR (fun ra_4 s1_3 => (∃ fs : List Value, Ob s1_3 3 ra_4 fs) ∧ CallO G mX3_cost 3 [.ref ra_4] s1_3 (pJ (fun ry => ((ry < y2) → ∀ v1 : Int32, v1 = ((10 * x4) + x5) → ∀ v5 : Int32, v5 = x5 + 1 → At G mX1_swap 205 Q X (b - bc) 35 [(0, .ref h0), (1, .int v1), (2, .long ry), (4, .int x4), (5, .int v5)] [] s1_3) ∧ ((¬ ry < y2) → ∀ v5 : Int32, v5 = x5 + 1 → At G mX1_swap 205 Q X (b - bc) 35 [(0, .ref h0), (1, .int x1), (2, .long y2), (4, .int x4), (5, .int v5)] [] s1_3))))) X)) X)) X)))) : At G mX1_swap 205 Q X b 35 [(0, .ref h0), (1, .int x1), (2, .long y2), (4, .int x4), (5, .int x5)] [] (σ) := by
  refine g_iload dX1_swap_35 4 rfl ?_
  refine g_aload_n dX1_swap_37 rfl 0 rfl ?_
  obtain ⟨a_office, hf, h⟩ := h
  refine g_get 10 dX1_swap_38 in_X1 cl1 (by decide) q463 hf ?_
  obtain ⟨x_people, hf, h⟩ := h
  refine g_getN 8 dX1_swap_41 in_X7 cl7 (by decide) q409 hf ?_
  refine g_icmp_ge (tgt := 95) dX1_swap_44 (by decide) (fun c => ?_) (fun c => ?_)
  · replace h := h.1 c
    obtain ⟨v4, ev4⟩ : ∃ z : Int32, z = x4 + 1 := ⟨_, rfl⟩
    refine g_iinc (v := v4) (ls1 := [(4, .int v4), (0, .ref h0), (1, .int x1), (2, .long y2), (5, .int x5)]) dX1_swap_95 3 rfl (by rw [ev4]; rfl) (by decide) rfl ?_
    replace h := h v4 ev4
    refine g_goto (tgt := 17) dX1_swap_98 (by decide) ?_
    exact At.sub (ls := [(4, .int v4), (0, .ref h0), (1, .int x1), (2, .long y2), (5, .int x5)]) [1, 2, 3, 0] rfl h
  · replace h := h.2 c
    refine g_aload_n dX1_swap_47 rfl 0 rfl ?_
    refine g_aload_n dX1_swap_48 rfl 0 rfl ?_
    obtain ⟨⟨_, hO⟩, h⟩ := h
    refine g_callV (N := mX1_asTold) (st := [.ref h0]) (As := []) (a := h0) dX1_swap_49 wsX1_asTold (lw_V q517 q519 qs0 q108 q520) rfl mokX1_asTold rfl cl1 (by decide) (by decide) (Nat.zero_le _) (by simp [Value.category]) hO h (fun E q s hx => AtX.out0 rfl hx) (fun _ s1 hq => ?_)
    obtain ⟨ra, rfl, h⟩ := hq
    refine At.stk (st' := [.ref ra, .ref h0]) rfl ?_
    refine g_iload dX1_swap_52 3 rfl ?_
    refine g_iload dX1_swap_54 4 rfl ?_
    obtain ⟨⟨_, hO⟩, h⟩ := h
    refine g_callV (N := mX6_swapped) (st := [.ref h0]) (As := [.int x4, .int x5]) (a := ra) dX1_swap_56 wsX6_swapped (lw_V q795 q796 q797 q113 q798) rfl mokX6_swapped rfl cl6 (by decide) (by decide) (Nat.zero_le _) (by simp [Value.category]) hO h (fun E q s hx => AtX.out0 rfl hx) (fun _ s1_1 hq => ?_)
    obtain ⟨ra_2, rfl, h⟩ := hq
    refine At.stk (st' := [.ref ra_2, .ref h0]) rfl ?_
    obtain ⟨bc, hb9, h⟩ := h
    obtain ⟨⟨_, hO⟩, h⟩ := h
    refine g_callV (N := mX1_run) (st := []) (As := [.ref ra_2]) (a := h0) dX1_swap_59 wsX1_run (lw_V q532 q534 qs1 q108 q535) rfl mokX1_run rfl cl1 (by decide) (by decide) hb9 (Nat.zero_le _) hO h (fun E q s hx => AtX.out0 rfl hx) (fun _ s1_3 hq => ?_)
    obtain ⟨ra_4, rfl, h⟩ := hq
    refine At.stk (st' := [.ref ra_4]) rfl ?_
    obtain ⟨⟨_, hO⟩, h⟩ := h
    refine g_callV (N := mX3_cost) (st := []) (As := []) (a := ra_4) dX1_swap_62 wsX3_cost (lw_V q779 q780 q781 q110 q782) rfl mokX3_cost rfl cl3 (by decide) (by decide) (Nat.zero_le _) (Nat.zero_le _) hO h (fun E q s hx => AtX.never hx) (fun _ s1_5 hq => ?_)
    obtain ⟨es, hq⟩ := hq
    refine g_tops2 es ?_
    obtain ⟨ry, rfl, h⟩ := hq
    refine At.stk (st' := [.long ry]) rfl ?_
    refine g_lstore (ls1 := [(6, .long ry), (0, .ref h0), (1, .int x1), (2, .long y2), (4, .int x4), (5, .int x5)]) dX1_swap_65 (by decide) rfl ?_
    refine g_lload dX1_swap_67 0 rfl ?_
    refine g_lload_n dX1_swap_69 rfl 3 rfl ?_
    refine g_lcmp_lt (tgt := 77) dX1_swap_70 dX1_swap_71 (by decide) (fun c => ?_) (fun c => ?_)
    · replace h := h.1 c
      refine g_bipush (v := 10) dX1_swap_77 (by decide) ?_
      refine g_iload dX1_swap_79 4 rfl ?_
      refine g_imul dX1_swap_81 ?_
      refine g_iload dX1_swap_82 5 rfl ?_
      refine g_iadd dX1_swap_84 ?_
      refine g_topi (fun v1 ev1 => ?_)
      replace h := h v1 ev1
      refine g_istore_n (ls1 := [(1, .int v1), (6, .long ry), (0, .ref h0), (2, .long y2), (4, .int x4), (5, .int x5)]) dX1_swap_85 rfl (by decide) rfl ?_
      refine g_lload dX1_swap_86 1 rfl ?_
      refine g_lstore_n (ls1 := [(2, .long ry), (1, .int v1), (6, .long ry), (0, .ref h0), (4, .int x4), (5, .int x5)]) dX1_swap_88 rfl (by decide) rfl ?_
      obtain ⟨v5, ev5⟩ : ∃ z : Int32, z = x5 + 1 := ⟨_, rfl⟩
      refine g_iinc (v := v5) (ls1 := [(5, .int v5), (2, .long ry), (1, .int v1), (6, .long ry), (0, .ref h0), (4, .int x4)]) dX1_swap_89 5 rfl (by rw [ev5]; rfl) (by decide) rfl ?_
      replace h := h v5 ev5
      refine g_goto (tgt := 35) dX1_swap_92 (by decide) ?_
      exact At.sub (ls := [(5, .int v5), (2, .long ry), (1, .int v1), (6, .long ry), (0, .ref h0), (4, .int x4)]) [4, 2, 1, 5, 0] rfl h
    · replace h := h.2 c
      refine g_goto (tgt := 89) dX1_swap_74 (by decide) ?_
      obtain ⟨v5, ev5⟩ : ∃ z : Int32, z = x5 + 1 := ⟨_, rfl⟩
      refine g_iinc (v := v5) (ls1 := [(5, .int v5), (6, .long ry), (0, .ref h0), (1, .int x1), (2, .long y2), (4, .int x4)]) dX1_swap_89 5 rfl (by rw [ev5]; rfl) (by decide) rfl ?_
      replace h := h v5 ev5
      refine g_goto (tgt := 35) dX1_swap_92 (by decide) ?_
      exact At.sub (ls := [(5, .int v5), (6, .long ry), (0, .ref h0), (1, .int x1), (2, .long y2), (4, .int x4)]) [2, 3, 4, 5, 0] rfl h
theorem eX1_swap {G : GC} {Q : Option Value → PS → Prop} {X : String → Nat → PS → Prop} {b : Nat} {h0 : Nat} {σ : PS} (h : At G mX1_swap 205 Q X b 0 [(0, .ref h0)] [] σ) : Call G mX1_swap 205 b [.ref h0] σ Q X :=
  Call.of (by decide +kernel) wsX1_swap rfl (Nat.le_of_ble_eq_true rfl) (At.sub (ls := [(0, .ref h0)]) [0] rfl h)
set_option maxHeartbeats 4000000 in
theorem bX1_undo_0 {G : GC} {Q : Option Value → PS → Prop} {X : String → Nat → PS → Prop} {b : Nat} {h0 : Nat} {σ : PS} (h : ∃ x_changes : Int32, Fg (σ) 1 h0 15 (.int x_changes) ∧ (((¬ x_changes = 0) → ∃ a_calendar : Nat, Fg (σ) 1 h0 1 (.ref a_calendar) ∧ (∃ a_changed : Nat, Fg (σ) 1 h0 2 (.ref a_changed) ∧ (∃ x_changes_1 : Int32, Fg (σ) 1 h0 15 (.int x_changes_1) ∧ (∃ fs : List Value, Ob (σ) 1 h0 fs ∧ 15 < fs.length ∧ (∀ s1 : PS, s1 = up (σ) 1 h0 (.inl (fs.set 15 (.int (x_changes_1 - 1)))) → ∃ (n : Nat) (f : Nat → Option Nat) (y : Nat), Qa s1 103 a_changed n f ∧ vp_in ((x_changes_1 - 1)) n ∧ (f ((x_changes_1 - 1)).toNatClampNeg) = some y ∧ ((∃ fs_4 : List Value, Ob s1 2 a_calendar fs_4) ∧ Call G mX2_as 3 0 [.ref a_calendar, .ref y] s1 (qR (fun ra s1_2 => ∃ x_changes_3 : Int32, Fg s1_2 1 h0 15 (.int x_changes_3) ∧ (Q (some (.int x_changes_3)) s1_2))) X)))))) ∧ ((x_changes = 0) → Q (some (.int (-1))) (σ)))) : At G mX1_undo 4 Q X b 0 [(0, .ref h0)] [] (σ) := by
  refine g_aload_n dX1_undo_0 rfl 0 rfl ?_
  obtain ⟨x_changes, hf, h⟩ := h
  refine g_get 15 dX1_undo_1 in_X1 cl1 (by decide) q468 hf ?_
  refine g_if_ne (tgt := 9) dX1_undo_4 (by decide) (fun c => ?_) (fun c => ?_)
  · replace h := h.1 c
    refine g_aload_n dX1_undo_9 rfl 0 rfl ?_
    obtain ⟨a_calendar, hf, h⟩ := h
    refine g_get 1 dX1_undo_10 in_X1 cl1 (by decide) q454 hf ?_
    refine g_aload_n dX1_undo_13 rfl 0 rfl ?_
    obtain ⟨a_changed, hf, h⟩ := h
    refine g_get 2 dX1_undo_14 in_X1 cl1 (by decide) q455 hf ?_
    refine g_aload_n dX1_undo_17 rfl 0 rfl ?_
    refine g_dup dX1_undo_18 rfl ?_
    obtain ⟨x_changes_1, hf, h⟩ := h
    refine g_get 15 dX1_undo_19 in_X1 cl1 (by decide) q468 hf ?_
    refine g_iconst (v := 1) dX1_undo_22 (by decide) ?_
    refine g_isub dX1_undo_23 ?_
    refine g_dup_x1 dX1_undo_24 rfl rfl ?_
    obtain ⟨fs, hO, hl, h⟩ := h
    refine g_put 15 dX1_undo_25 in_X1 tyX1 tyX1_ok nmX1 cl1 (by decide) q468 rfl rfl rfl hO hl ?_
    refine g_tops (fun s1 es1 => ?_)
    replace h := h s1 es1
    obtain ⟨n, f, y, h1, h2, h3, h⟩ := h
    refine g_aald (t0 := 3) dX1_undo_28 rfl rfl h1 h2 ?_
    rw [h3]
    refine At.stk (st' := [.ref y, .ref a_calendar]) rfl ?_
    obtain ⟨⟨_, hO⟩, h⟩ := h
    refine g_callV (N := mX2_as) (st := []) (As := [.ref y]) (a := a_calendar) dX1_undo_29 wsX2_as (lw_V q803 q804 q805 q109 q806) rfl mokX2_as rfl cl2 (by decide) (by decide) (Nat.zero_le _) (Nat.zero_le _) hO h (fun E q s hx => AtX.out0 rfl hx) (fun _ s1_2 hq => ?_)
    obtain ⟨ra, rfl, h⟩ := hq
    refine At.stk (st' := [.ref ra]) rfl ?_
    refine g_pop dX1_undo_32 rfl ?_
    refine g_aload_n dX1_undo_33 rfl 0 rfl ?_
    obtain ⟨x_changes_3, hf, h⟩ := h
    refine g_get 15 dX1_undo_34 in_X1 cl1 (by decide) q468 hf ?_
    exact g_iret rfl dX1_undo_37 h
  · replace h := h.2 c
    refine g_iconst (v := (-1)) dX1_undo_7 (by decide) ?_
    exact g_iret rfl dX1_undo_8 h
theorem eX1_undo {G : GC} {Q : Option Value → PS → Prop} {X : String → Nat → PS → Prop} {b : Nat} {h0 : Nat} {σ : PS} (h : At G mX1_undo 4 Q X b 0 [(0, .ref h0)] [] σ) : Call G mX1_undo 4 b [.ref h0] σ Q X :=
  Call.of (by decide +kernel) wsX1_undo rfl (Nat.le_of_ble_eq_true rfl) (At.sub (ls := [(0, .ref h0)]) [0] rfl h)
set_option maxHeartbeats 4000000 in
theorem bX1_image_0 {G : GC} {Q : Option Value → PS → Prop} {X : String → Nat → PS → Prop} {b : Nat} {h0 : Nat} {σ : PS} (h : ∃ x_images : Int32, Fg (σ) 1 h0 16 (.int x_images) ∧ (((¬ x_images = 3) → At G mX1_image 4 Q X b 12 [(0, .ref h0), (1, .int 0)] [] (σ)) ∧ ((x_images = 3) → Q (some (.int (-1))) (σ)))) : At G mX1_image 4 Q X b 0 [(0, .ref h0)] [] (σ) := by
  refine g_aload_n dX1_image_0 rfl 0 rfl ?_
  obtain ⟨x_images, hf, h⟩ := h
  refine g_get 16 dX1_image_1 in_X1 cl1 (by decide) q469 hf ?_
  refine g_iconst (v := 3) dX1_image_4 (by decide) ?_
  refine g_icmp_ne (tgt := 10) dX1_image_5 (by decide) (fun c => ?_) (fun c => ?_)
  · replace h := h.1 c
    refine g_iconst (v := 0) dX1_image_10 (by decide) ?_
    refine g_istore_n (ls1 := [(1, .int 0), (0, .ref h0)]) dX1_image_11 rfl (by decide) rfl ?_
    exact At.sub (ls := [(1, .int 0), (0, .ref h0)]) [1, 0] rfl h
  · replace h := h.2 c
    refine g_iconst (v := (-1)) dX1_image_8 (by decide) ?_
    exact g_iret rfl dX1_image_9 h
set_option maxHeartbeats 4000000 in
theorem bX1_image_12 {G : GC} {Q : Option Value → PS → Prop} {X : String → Nat → PS → Prop} {b : Nat} {h0 : Nat} {x1 : Int32} {σ : PS} (h : ∃ x_changes : Int32, Fg (σ) 1 h0 15 (.int x_changes) ∧ (((x_changes ≤ x1) → ∃ a_kept : Nat, Fg (σ) 1 h0 3 (.ref a_kept) ∧ (∃ x_images : Int32, Fg (σ) 1 h0 16 (.int x_images) ∧ (∃ (n : Nat) (f : Nat → Option Nat) (y : Nat), Qa (σ) 104 a_kept n f ∧ vp_in x_images n ∧ (f x_images.toNatClampNeg) = some y ∧ (∃ (n_1 : Nat) (f_2 : Nat → Option Nat) (y_3 : Nat), Qa (σ) 103 y n_1 f_2 ∧ vp_in 20 n_1 ∧ (f_2 (20 : Int32).toNatClampNeg) = some y_3 ∧ (∃ a_calendar : Nat, Fg (σ) 1 h0 1 (.ref a_calendar) ∧ ((∃ fs_11 : List Value, Ob (σ) 2 y_3 fs_11) ∧ Call G mX2_as 3 0 [.ref y_3, .ref a_calendar] (σ) (qR (fun ra s1 => ∃ a_keptChanges : Nat, Fg s1 1 h0 4 (.ref a_keptChanges) ∧ (∃ x_images_4 : Int32, Fg s1 1 h0 16 (.int x_images_4) ∧ (∃ x_changes_5 : Int32, Fg s1 1 h0 15 (.int x_changes_5) ∧ (∃ (n_6 : Nat) (f_7 : Nat → Int32), Ia s1 100 a_keptChanges n_6 f_7 ∧ vp_in x_images_4 n_6 ∧ (∀ s1_8 : PS, s1_8 = up s1 100 a_keptChanges (.inr (n_6, .inl (upd f_7 x_images_4.toNatClampNeg x_changes_5))) → ∃ x_images_9 : Int32, Fg s1_8 1 h0 16 (.int x_images_9) ∧ (∃ fs : List Value, Ob s1_8 1 h0 fs ∧ 16 < fs.length ∧ (∀ s1_10 : PS, s1_10 = up s1_8 1 h0 (.inl (fs.set 16 (.int (x_images_9 + 1)))) → Q (some (.int (x_images_9 + 1))) s1_10)))))))) X)))))) ∧ ((¬ x_changes ≤ x1) → ∃ a_kept : Nat, Fg (σ) 1 h0 3 (.ref a_kept) ∧ (∃ x_images : Int32, Fg (σ) 1 h0 16 (.int x_images) ∧ (∃ (n : Nat) (f : Nat → Option Nat) (y : Nat), Qa (σ) 104 a_kept n f ∧ vp_in x_images n ∧ (f x_images.toNatClampNeg) = some y ∧ (∃ (n_12 : Nat) (f_13 : Nat → Option Nat) (y_14 : Nat), Qa (σ) 103 y n_12 f_13 ∧ vp_in x1 n_12 ∧ (f_13 x1.toNatClampNeg) = some y_14 ∧ (∃ a_changed : Nat, Fg (σ) 1 h0 2 (.ref a_changed) ∧ (∃ (n_15 : Nat) (f_16 : Nat → Option Nat) (y_17 : Nat), Qa (σ) 103 a_changed n_15 f_16 ∧ vp_in x1 n_15 ∧ (f_16 x1.toNatClampNeg) = some y_17 ∧ ((∃ fs : List Value, Ob (σ) 2 y_14 fs) ∧ Call G mX2_as 3 0 [.ref y_14, .ref y_17] (σ) (qR (fun ra s1 => ∀ v1 : Int32, v1 = x1 + 1 → At G mX1_image 4 Q X b 12 [(0, .ref h0), (1, .int v1)] [] s1)) X))))))))) : At G mX1_image 4 Q X b 12 [(0, .ref h0), (1, .int x1)] [] (σ) := by
  refine g_iload_n dX1_image_12 rfl 1 rfl ?_
  refine g_aload_n dX1_image_13 rfl 0 rfl ?_
  obtain ⟨x_changes, hf, h⟩ := h
  refine g_get 15 dX1_image_14 in_X1 cl1 (by decide) q468 hf ?_
  refine g_icmp_ge (tgt := 47) dX1_image_17 (by decide) (fun c => ?_) (fun c => ?_)
  · replace h := h.1 c
    refine g_aload_n dX1_image_47 rfl 0 rfl ?_
    obtain ⟨a_kept, hf, h⟩ := h
    refine g_get 3 dX1_image_48 in_X1 cl1 (by decide) q456 hf ?_
    refine g_aload_n dX1_image_51 rfl 0 rfl ?_
    obtain ⟨x_images, hf, h⟩ := h
    refine g_get 16 dX1_image_52 in_X1 cl1 (by decide) q469 hf ?_
    obtain ⟨n, f, y, h1, h2, h3, h⟩ := h
    refine g_aald (t0 := 4) dX1_image_55 rfl rfl h1 h2 ?_
    rw [h3]
    refine At.stk (st' := [.ref y]) rfl ?_
    refine g_bipush (v := 20) dX1_image_56 (by decide) ?_
    obtain ⟨n_1, f_2, y_3, h1, h2, h3, h⟩ := h
    refine g_aald (t0 := 3) dX1_image_58 rfl rfl h1 h2 ?_
    rw [h3]
    refine At.stk (st' := [.ref y_3]) rfl ?_
    refine g_aload_n dX1_image_59 rfl 0 rfl ?_
    obtain ⟨a_calendar, hf, h⟩ := h
    refine g_get 1 dX1_image_60 in_X1 cl1 (by decide) q454 hf ?_
    obtain ⟨⟨_, hO⟩, h⟩ := h
    refine g_callV (N := mX2_as) (st := []) (As := [.ref a_calendar]) (a := y_3) dX1_image_63 wsX2_as (lw_V q803 q804 q805 q109 q806) rfl mokX2_as rfl cl2 (by decide) (by decide) (Nat.zero_le _) (Nat.zero_le _) hO h (fun E q s hx => AtX.out0 rfl hx) (fun _ s1 hq => ?_)
    obtain ⟨ra, rfl, h⟩ := hq
    refine At.stk (st' := [.ref ra]) rfl ?_
    refine g_pop dX1_image_66 rfl ?_
    refine g_aload_n dX1_image_67 rfl 0 rfl ?_
    obtain ⟨a_keptChanges, hf, h⟩ := h
    refine g_get 4 dX1_image_68 in_X1 cl1 (by decide) q457 hf ?_
    refine g_aload_n dX1_image_71 rfl 0 rfl ?_
    obtain ⟨x_images_4, hf, h⟩ := h
    refine g_get 16 dX1_image_72 in_X1 cl1 (by decide) q469 hf ?_
    refine g_aload_n dX1_image_75 rfl 0 rfl ?_
    obtain ⟨x_changes_5, hf, h⟩ := h
    refine g_get 15 dX1_image_76 in_X1 cl1 (by decide) q468 hf ?_
    obtain ⟨n_6, f_7, h1, h2, h⟩ := h
    refine g_iast dX1_image_79 h1 h2 ?_
    refine g_tops (fun s1_8 es1_8 => ?_)
    replace h := h s1_8 es1_8
    refine g_aload_n dX1_image_80 rfl 0 rfl ?_
    refine g_dup dX1_image_81 rfl ?_
    obtain ⟨x_images_9, hf, h⟩ := h
    refine g_get 16 dX1_image_82 in_X1 cl1 (by decide) q469 hf ?_
    refine g_iconst (v := 1) dX1_image_85 (by decide) ?_
    refine g_iadd dX1_image_86 ?_
    refine g_dup_x1 dX1_image_87 rfl rfl ?_
    obtain ⟨fs, hO, hl, h⟩ := h
    refine g_put 16 dX1_image_88 in_X1 tyX1 tyX1_ok nmX1 cl1 (by decide) q469 rfl rfl rfl hO hl ?_
    refine g_tops (fun s1_10 es1_10 => ?_)
    replace h := h s1_10 es1_10
    exact g_iret rfl dX1_image_91 h
  · replace h := h.2 c
    refine g_aload_n dX1_image_20 rfl 0 rfl ?_
    obtain ⟨a_kept, hf, h⟩ := h
    refine g_get 3 dX1_image_21 in_X1 cl1 (by decide) q456 hf ?_
    refine g_aload_n dX1_image_24 rfl 0 rfl ?_
    obtain ⟨x_images, hf, h⟩ := h
    refine g_get 16 dX1_image_25 in_X1 cl1 (by decide) q469 hf ?_
    obtain ⟨n, f, y, h1, h2, h3, h⟩ := h
    refine g_aald (t0 := 4) dX1_image_28 rfl rfl h1 h2 ?_
    rw [h3]
    refine At.stk (st' := [.ref y]) rfl ?_
    refine g_iload_n dX1_image_29 rfl 1 rfl ?_
    obtain ⟨n_12, f_13, y_14, h1, h2, h3, h⟩ := h
    refine g_aald (t0 := 3) dX1_image_30 rfl rfl h1 h2 ?_
    rw [h3]
    refine At.stk (st' := [.ref y_14]) rfl ?_
    refine g_aload_n dX1_image_31 rfl 0 rfl ?_
    obtain ⟨a_changed, hf, h⟩ := h
    refine g_get 2 dX1_image_32 in_X1 cl1 (by decide) q455 hf ?_
    refine g_iload_n dX1_image_35 rfl 1 rfl ?_
    obtain ⟨n_15, f_16, y_17, h1, h2, h3, h⟩ := h
    refine g_aald (t0 := 3) dX1_image_36 rfl rfl h1 h2 ?_
    rw [h3]
    refine At.stk (st' := [.ref y_17, .ref y_14]) rfl ?_
    obtain ⟨⟨_, hO⟩, h⟩ := h
    refine g_callV (N := mX2_as) (st := []) (As := [.ref y_17]) (a := y_14) dX1_image_37 wsX2_as (lw_V q803 q804 q805 q109 q806) rfl mokX2_as rfl cl2 (by decide) (by decide) (Nat.zero_le _) (Nat.zero_le _) hO h (fun E q s hx => AtX.out0 rfl hx) (fun _ s1 hq => ?_)
    obtain ⟨ra, rfl, h⟩ := hq
    refine At.stk (st' := [.ref ra]) rfl ?_
    refine g_pop dX1_image_40 rfl ?_
    obtain ⟨v1, ev1⟩ : ∃ z : Int32, z = x1 + 1 := ⟨_, rfl⟩
    refine g_iinc (v := v1) (ls1 := [(1, .int v1), (0, .ref h0)]) dX1_image_41 1 rfl (by rw [ev1]; rfl) (by decide) rfl ?_
    replace h := h v1 ev1
    refine g_goto (tgt := 12) dX1_image_44 (by decide) ?_
    exact At.sub (ls := [(1, .int v1), (0, .ref h0)]) [1, 0] rfl h
theorem eX1_image {G : GC} {Q : Option Value → PS → Prop} {X : String → Nat → PS → Prop} {b : Nat} {h0 : Nat} {σ : PS} (h : At G mX1_image 4 Q X b 0 [(0, .ref h0)] [] σ) : Call G mX1_image 4 b [.ref h0] σ Q X :=
  Call.of (by decide +kernel) wsX1_image rfl (Nat.le_of_ble_eq_true rfl) (At.sub (ls := [(0, .ref h0)]) [0] rfl h)
set_option maxHeartbeats 4000000 in
theorem bX1_restore_0 {G : GC} {Q : Option Value → PS → Prop} {X : String → Nat → PS → Prop} {b : Nat} {h0 : Nat} {σ : PS} (h : ∃ x_images : Int32, Fg (σ) 1 h0 16 (.int x_images) ∧ (((¬ x_images = 0) → ∃ x_images_1 : Int32, Fg (σ) 1 h0 16 (.int x_images_1) ∧ (∃ fs : List Value, Ob (σ) 1 h0 fs ∧ 16 < fs.length ∧ (∀ s1 : PS, s1 = up (σ) 1 h0 (.inl (fs.set 16 (.int (x_images_1 - 1)))) → ∃ a_keptChanges : Nat, Fg s1 1 h0 4 (.ref a_keptChanges) ∧ (∃ x_images_2 : Int32, Fg s1 1 h0 16 (.int x_images_2) ∧ (∃ (n : Nat) (f : Nat → Int32), Ia s1 100 a_keptChanges n f ∧ vp_in x_images_2 n ∧ (∃ fs_3 : List Value, Ob s1 1 h0 fs_3 ∧ 15 < fs_3.length ∧ (∀ s1_4 : PS, s1_4 = up s1 1 h0 (.inl (fs_3.set 15 (.int (f x_images_2.toNatClampNeg)))) → At G mX1_restore 4 Q X b 34 [(0, .ref h0), (1, .int 0)] [] s1_4))))))) ∧ ((x_images = 0) → Q (some (.int (-1))) (σ)))) : At G mX1_restore 4 Q X b 0 [(0, .ref h0)] [] (σ) := by
  refine g_aload_n dX1_restore_0 rfl 0 rfl ?_
  obtain ⟨x_images, hf, h⟩ := h
  refine g_get 16 dX1_restore_1 in_X1 cl1 (by decide) q469 hf ?_
  refine g_if_ne (tgt := 9) dX1_restore_4 (by decide) (fun c => ?_) (fun c => ?_)
  · replace h := h.1 c
    refine g_aload_n dX1_restore_9 rfl 0 rfl ?_
    refine g_dup dX1_restore_10 rfl ?_
    obtain ⟨x_images_1, hf, h⟩ := h
    refine g_get 16 dX1_restore_11 in_X1 cl1 (by decide) q469 hf ?_
    refine g_iconst (v := 1) dX1_restore_14 (by decide) ?_
    refine g_isub dX1_restore_15 ?_
    obtain ⟨fs, hO, hl, h⟩ := h
    refine g_put 16 dX1_restore_16 in_X1 tyX1 tyX1_ok nmX1 cl1 (by decide) q469 rfl rfl rfl hO hl ?_
    refine g_tops (fun s1 es1 => ?_)
    replace h := h s1 es1
    refine g_aload_n dX1_restore_19 rfl 0 rfl ?_
    refine g_aload_n dX1_restore_20 rfl 0 rfl ?_
    obtain ⟨a_keptChanges, hf, h⟩ := h
    refine g_get 4 dX1_restore_21 in_X1 cl1 (by decide) q457 hf ?_
    refine g_aload_n dX1_restore_24 rfl 0 rfl ?_
    obtain ⟨x_images_2, hf, h⟩ := h
    refine g_get 16 dX1_restore_25 in_X1 cl1 (by decide) q469 hf ?_
    obtain ⟨n, f, h1, h2, h⟩ := h
    refine g_iald dX1_restore_28 h1 h2 ?_
    obtain ⟨fs_3, hO, hl, h⟩ := h
    refine g_put 15 dX1_restore_29 in_X1 tyX1 tyX1_ok nmX1 cl1 (by decide) q468 rfl rfl rfl hO hl ?_
    refine g_tops (fun s1_4 es1_4 => ?_)
    replace h := h s1_4 es1_4
    refine g_iconst (v := 0) dX1_restore_32 (by decide) ?_
    refine g_istore_n (ls1 := [(1, .int 0), (0, .ref h0)]) dX1_restore_33 rfl (by decide) rfl ?_
    exact At.sub (ls := [(1, .int 0), (0, .ref h0)]) [1, 0] rfl h
  · replace h := h.2 c
    refine g_iconst (v := (-1)) dX1_restore_7 (by decide) ?_
    exact g_iret rfl dX1_restore_8 h
set_option maxHeartbeats 4000000 in
theorem bX1_restore_34 {G : GC} {Q : Option Value → PS → Prop} {X : String → Nat → PS → Prop} {b : Nat} {h0 : Nat} {x1 : Int32} {σ : PS} (h : ∃ x_changes : Int32, Fg (σ) 1 h0 15 (.int x_changes) ∧ (((x_changes ≤ x1) → ∃ a_calendar : Nat, Fg (σ) 1 h0 1 (.ref a_calendar) ∧ (∃ a_kept : Nat, Fg (σ) 1 h0 3 (.ref a_kept) ∧ (∃ x_images : Int32, Fg (σ) 1 h0 16 (.int x_images) ∧ (∃ (n : Nat) (f : Nat → Option Nat) (y : Nat), Qa (σ) 104 a_kept n f ∧ vp_in x_images n ∧ (f x_images.toNatClampNeg) = some y ∧ (∃ (n_1 : Nat) (f_2 : Nat → Option Nat) (y_3 : Nat), Qa (σ) 103 y n_1 f_2 ∧ vp_in 20 n_1 ∧ (f_2 (20 : Int32).toNatClampNeg) = some y_3 ∧ ((∃ fs : List Value, Ob (σ) 2 a_calendar fs) ∧ Call G mX2_as 3 0 [.ref a_calendar, .ref y_3] (σ) (qR (fun ra s1 => ∃ x_images_4 : Int32, Fg s1 1 h0 16 (.int x_images_4) ∧ (Q (some (.int x_images_4)) s1))) X)))))) ∧ ((¬ x_changes ≤ x1) → ∃ a_changed : Nat, Fg (σ) 1 h0 2 (.ref a_changed) ∧ (∃ (n : Nat) (f : Nat → Option Nat) (y : Nat), Qa (σ) 103 a_changed n f ∧ vp_in x1 n ∧ (f x1.toNatClampNeg) = some y ∧ (∃ a_kept : Nat, Fg (σ) 1 h0 3 (.ref a_kept) ∧ (∃ x_images : Int32, Fg (σ) 1 h0 16 (.int x_images) ∧ (∃ (n_5 : Nat) (f_6 : Nat → Option Nat) (y_7 : Nat), Qa (σ) 104 a_kept n_5 f_6 ∧ vp_in x_images n_5 ∧ (f_6 x_images.toNatClampNeg) = some y_7 ∧ (∃ (n_8 : Nat) (f_9 : Nat → Option Nat) (y_10 : Nat), Qa (σ) 103 y_7 n_8 f_9 ∧ vp_in x1 n_8 ∧ (f_9 x1.toNatClampNeg) = some y_10 ∧ ((∃ fs : List Value, Ob (σ) 2 y fs) ∧ Call G mX2_as 3 0 [.ref y, .ref y_10] (σ) (qR (fun ra s1 => ∀ v1 : Int32, v1 = x1 + 1 → At G mX1_restore 4 Q X b 34 [(0, .ref h0), (1, .int v1)] [] s1)) X))))))))) : At G mX1_restore 4 Q X b 34 [(0, .ref h0), (1, .int x1)] [] (σ) := by
  refine g_iload_n dX1_restore_34 rfl 1 rfl ?_
  refine g_aload_n dX1_restore_35 rfl 0 rfl ?_
  obtain ⟨x_changes, hf, h⟩ := h
  refine g_get 15 dX1_restore_36 in_X1 cl1 (by decide) q468 hf ?_
  refine g_icmp_ge (tgt := 69) dX1_restore_39 (by decide) (fun c => ?_) (fun c => ?_)
  · replace h := h.1 c
    refine g_aload_n dX1_restore_69 rfl 0 rfl ?_
    obtain ⟨a_calendar, hf, h⟩ := h
    refine g_get 1 dX1_restore_70 in_X1 cl1 (by decide) q454 hf ?_
    refine g_aload_n dX1_restore_73 rfl 0 rfl ?_
    obtain ⟨a_kept, hf, h⟩ := h
    refine g_get 3 dX1_restore_74 in_X1 cl1 (by decide) q456 hf ?_
    refine g_aload_n dX1_restore_77 rfl 0 rfl ?_
    obtain ⟨x_images, hf, h⟩ := h
    refine g_get 16 dX1_restore_78 in_X1 cl1 (by decide) q469 hf ?_
    obtain ⟨n, f, y, h1, h2, h3, h⟩ := h
    refine g_aald (t0 := 4) dX1_restore_81 rfl rfl h1 h2 ?_
    rw [h3]
    refine At.stk (st' := [.ref y, .ref a_calendar]) rfl ?_
    refine g_bipush (v := 20) dX1_restore_82 (by decide) ?_
    obtain ⟨n_1, f_2, y_3, h1, h2, h3, h⟩ := h
    refine g_aald (t0 := 3) dX1_restore_84 rfl rfl h1 h2 ?_
    rw [h3]
    refine At.stk (st' := [.ref y_3, .ref a_calendar]) rfl ?_
    obtain ⟨⟨_, hO⟩, h⟩ := h
    refine g_callV (N := mX2_as) (st := []) (As := [.ref y_3]) (a := a_calendar) dX1_restore_85 wsX2_as (lw_V q803 q804 q805 q109 q806) rfl mokX2_as rfl cl2 (by decide) (by decide) (Nat.zero_le _) (Nat.zero_le _) hO h (fun E q s hx => AtX.out0 rfl hx) (fun _ s1 hq => ?_)
    obtain ⟨ra, rfl, h⟩ := hq
    refine At.stk (st' := [.ref ra]) rfl ?_
    refine g_pop dX1_restore_88 rfl ?_
    refine g_aload_n dX1_restore_89 rfl 0 rfl ?_
    obtain ⟨x_images_4, hf, h⟩ := h
    refine g_get 16 dX1_restore_90 in_X1 cl1 (by decide) q469 hf ?_
    exact g_iret rfl dX1_restore_93 h
  · replace h := h.2 c
    refine g_aload_n dX1_restore_42 rfl 0 rfl ?_
    obtain ⟨a_changed, hf, h⟩ := h
    refine g_get 2 dX1_restore_43 in_X1 cl1 (by decide) q455 hf ?_
    refine g_iload_n dX1_restore_46 rfl 1 rfl ?_
    obtain ⟨n, f, y, h1, h2, h3, h⟩ := h
    refine g_aald (t0 := 3) dX1_restore_47 rfl rfl h1 h2 ?_
    rw [h3]
    refine At.stk (st' := [.ref y]) rfl ?_
    refine g_aload_n dX1_restore_48 rfl 0 rfl ?_
    obtain ⟨a_kept, hf, h⟩ := h
    refine g_get 3 dX1_restore_49 in_X1 cl1 (by decide) q456 hf ?_
    refine g_aload_n dX1_restore_52 rfl 0 rfl ?_
    obtain ⟨x_images, hf, h⟩ := h
    refine g_get 16 dX1_restore_53 in_X1 cl1 (by decide) q469 hf ?_
    obtain ⟨n_5, f_6, y_7, h1, h2, h3, h⟩ := h
    refine g_aald (t0 := 4) dX1_restore_56 rfl rfl h1 h2 ?_
    rw [h3]
    refine At.stk (st' := [.ref y_7, .ref y]) rfl ?_
    refine g_iload_n dX1_restore_57 rfl 1 rfl ?_
    obtain ⟨n_8, f_9, y_10, h1, h2, h3, h⟩ := h
    refine g_aald (t0 := 3) dX1_restore_58 rfl rfl h1 h2 ?_
    rw [h3]
    refine At.stk (st' := [.ref y_10, .ref y]) rfl ?_
    obtain ⟨⟨_, hO⟩, h⟩ := h
    refine g_callV (N := mX2_as) (st := []) (As := [.ref y_10]) (a := y) dX1_restore_59 wsX2_as (lw_V q803 q804 q805 q109 q806) rfl mokX2_as rfl cl2 (by decide) (by decide) (Nat.zero_le _) (Nat.zero_le _) hO h (fun E q s hx => AtX.out0 rfl hx) (fun _ s1 hq => ?_)
    obtain ⟨ra, rfl, h⟩ := hq
    refine At.stk (st' := [.ref ra]) rfl ?_
    refine g_pop dX1_restore_62 rfl ?_
    obtain ⟨v1, ev1⟩ : ∃ z : Int32, z = x1 + 1 := ⟨_, rfl⟩
    refine g_iinc (v := v1) (ls1 := [(1, .int v1), (0, .ref h0)]) dX1_restore_63 1 rfl (by rw [ev1]; rfl) (by decide) rfl ?_
    replace h := h v1 ev1
    refine g_goto (tgt := 34) dX1_restore_66 (by decide) ?_
    exact At.sub (ls := [(1, .int v1), (0, .ref h0)]) [1, 0] rfl h
theorem eX1_restore {G : GC} {Q : Option Value → PS → Prop} {X : String → Nat → PS → Prop} {b : Nat} {h0 : Nat} {σ : PS} (h : At G mX1_restore 4 Q X b 0 [(0, .ref h0)] [] σ) : Call G mX1_restore 4 b [.ref h0] σ Q X :=
  Call.of (by decide +kernel) wsX1_restore rfl (Nat.le_of_ble_eq_true rfl) (At.sub (ls := [(0, .ref h0)]) [0] rfl h)
set_option maxHeartbeats 4000000 in
theorem bX1_status_0 {G : GC} {Q : Option Value → PS → Prop} {X : String → Nat → PS → Prop} {b : Nat} {h0 : Nat} {x1 : Int32} {σ : PS} (h : ((x1 < 0) → Q (some (.int (-1))) (σ)) ∧ ((¬ x1 < 0) → ((x1 ≤ 1) → ∃ a_refused : Nat, Fg (σ) 1 h0 5 (.ref a_refused) ∧ (∃ (n : Nat) (f : Nat → Int32), Ia (σ) 100 a_refused n f ∧ vp_in x1 n ∧ (Q (some (.int (f x1.toNatClampNeg))) (σ)))) ∧ ((¬ x1 ≤ 1) → Q (some (.int (-1))) (σ)))) : At G mX1_status 3 Q X b 0 [(0, .ref h0), (1, .int x1)] [] (σ) := by
  refine g_iload_n dX1_status_0 rfl 1 rfl ?_
  refine g_if_lt (tgt := 9) dX1_status_1 (by decide) (fun c => ?_) (fun c => ?_)
  · replace h := h.1 c
    refine g_iconst (v := (-1)) dX1_status_9 (by decide) ?_
    refine g_goto (tgt := 19) dX1_status_10 (by decide) ?_
    exact g_iret rfl dX1_status_19 h
  · replace h := h.2 c
    refine g_iload_n dX1_status_4 rfl 1 rfl ?_
    refine g_iconst (v := 1) dX1_status_5 (by decide) ?_
    refine g_icmp_le (tgt := 13) dX1_status_6 (by decide) (fun c => ?_) (fun c => ?_)
    · replace h := h.1 c
      refine g_aload_n dX1_status_13 rfl 0 rfl ?_
      obtain ⟨a_refused, hf, h⟩ := h
      refine g_get 5 dX1_status_14 in_X1 cl1 (by decide) q458 hf ?_
      refine g_iload_n dX1_status_17 rfl 1 rfl ?_
      obtain ⟨n, f, h1, h2, h⟩ := h
      refine g_iald dX1_status_18 h1 h2 ?_
      exact g_iret rfl dX1_status_19 h
    · replace h := h.2 c
      refine g_iconst (v := (-1)) dX1_status_9 (by decide) ?_
      refine g_goto (tgt := 19) dX1_status_10 (by decide) ?_
      exact g_iret rfl dX1_status_19 h
theorem eX1_status {G : GC} {Q : Option Value → PS → Prop} {X : String → Nat → PS → Prop} {b : Nat} {h0 : Nat} {p1 : Int32} {σ : PS} (h : At G mX1_status 3 Q X b 0 [(0, .ref h0), (1, .int p1)] [] σ) : Call G mX1_status 3 b [.ref h0, .int p1] σ Q X :=
  Call.of (by decide +kernel) wsX1_status rfl (Nat.le_of_ble_eq_true rfl) (At.sub (ls := [(0, .ref h0), (1, .int p1)]) [0, 1] rfl h)
set_option maxHeartbeats 4000000 in
theorem bX1_count_0 {G : GC} {Q : Option Value → PS → Prop} {X : String → Nat → PS → Prop} {b : Nat} {h0 : Nat} {x1 : Int32} {σ : PS} (h : ((¬ x1 = 0) → ((¬ x1 = 1) → ((¬ x1 = 2) → Q (some (.int (-1))) (σ)) ∧ ((x1 = 2) → ∃ x_changes : Int32, Fg (σ) 1 h0 15 (.int x_changes) ∧ (Q (some (.int x_changes)) (σ)))) ∧ ((x1 = 1) → ∃ x_fed : Int32, Fg (σ) 1 h0 13 (.int x_fed) ∧ (Q (some (.int x_fed)) (σ)))) ∧ ((x1 = 0) → ∃ x_images : Int32, Fg (σ) 1 h0 16 (.int x_images) ∧ (Q (some (.int x_images)) (σ)))) : At G mX1_count 3 Q X b 0 [(0, .ref h0), (1, .int x1)] [] (σ) := by
  refine g_iload_n dX1_count_0 rfl 1 rfl ?_
  refine g_if_ne (tgt := 11) dX1_count_1 (by decide) (fun c => ?_) (fun c => ?_)
  · replace h := h.1 c
    refine g_iload_n dX1_count_11 rfl 1 rfl ?_
    refine g_iconst (v := 1) dX1_count_12 (by decide) ?_
    refine g_icmp_ne (tgt := 23) dX1_count_13 (by decide) (fun c => ?_) (fun c => ?_)
    · replace h := h.1 c
      refine g_iload_n dX1_count_23 rfl 1 rfl ?_
      refine g_iconst (v := 2) dX1_count_24 (by decide) ?_
      refine g_icmp_ne (tgt := 35) dX1_count_25 (by decide) (fun c => ?_) (fun c => ?_)
      · replace h := h.1 c
        refine g_iconst (v := (-1)) dX1_count_35 (by decide) ?_
        exact g_iret rfl dX1_count_36 h
      · replace h := h.2 c
        refine g_aload_n dX1_count_28 rfl 0 rfl ?_
        obtain ⟨x_changes, hf, h⟩ := h
        refine g_get 15 dX1_count_29 in_X1 cl1 (by decide) q468 hf ?_
        refine g_goto (tgt := 36) dX1_count_32 (by decide) ?_
        exact g_iret rfl dX1_count_36 h
    · replace h := h.2 c
      refine g_aload_n dX1_count_16 rfl 0 rfl ?_
      obtain ⟨x_fed, hf, h⟩ := h
      refine g_get 13 dX1_count_17 in_X1 cl1 (by decide) q466 hf ?_
      refine g_goto (tgt := 36) dX1_count_20 (by decide) ?_
      exact g_iret rfl dX1_count_36 h
  · replace h := h.2 c
    refine g_aload_n dX1_count_4 rfl 0 rfl ?_
    obtain ⟨x_images, hf, h⟩ := h
    refine g_get 16 dX1_count_5 in_X1 cl1 (by decide) q469 hf ?_
    refine g_goto (tgt := 36) dX1_count_8 (by decide) ?_
    exact g_iret rfl dX1_count_36 h
theorem eX1_count {G : GC} {Q : Option Value → PS → Prop} {X : String → Nat → PS → Prop} {b : Nat} {h0 : Nat} {p1 : Int32} {σ : PS} (h : At G mX1_count 3 Q X b 0 [(0, .ref h0), (1, .int p1)] [] σ) : Call G mX1_count 3 b [.ref h0, .int p1] σ Q X :=
  Call.of (by decide +kernel) wsX1_count rfl (Nat.le_of_ble_eq_true rfl) (At.sub (ls := [(0, .ref h0), (1, .int p1)]) [0, 1] rfl h)
set_option maxHeartbeats 4000000 in
theorem bX1_office_0 {G : GC} {Q : Option Value → PS → Prop} {X : String → Nat → PS → Prop} {b : Nat} {h0 : Nat} {x1 : Int32} {σ : PS} (h : ∃ x_fed : Int32, Fg (σ) 1 h0 13 (.int x_fed) ∧ (∃ bc : Nat, bc ≤ b ∧ (∃ fs_15 : List Value, Ob (σ) 1 h0 fs_15) ∧ Call G mX1_within 10 bc [.ref h0, .int x1, .int 0, .int x_fed] (σ) (qV (fun s1 => 1 ≤ b - bc ∧ (∀ q : Nat, (∀ κ, s1 κ q = none) → (∀ s1_1 : PS, s1_1 = up s1 10 q (.inl [.null, .null, .null, .null, .int 0]) → ∃ bc_2 : Nat, bc_2 ≤ b - bc - 1 ∧ (∃ fs_14 : List Value, Ob s1_1 1 h0 fs_14) ∧ Call G mX1_reader 5 bc_2 [.ref h0, .int x1] s1_1 (qR (fun ra s1_3 => ∃ bc_4 : Nat, bc_4 ≤ b - bc - 1 - bc_2 ∧ Call G mX10_init 5 bc_4 [.ref q, .ref ra] s1_3 (qV (fun s1_5 => ∃ bc_6 : Nat, bc_6 ≤ b - bc - 1 - bc_2 - bc_4 ∧ (∃ fs_13 : List Value, Ob s1_5 10 q fs_13) ∧ Call G mX10_reads 12 bc_6 [.ref q] s1_5 (qV (fun s1_7 => ∃ a_office : Nat, Fg s1_7 10 q 2 (.ref a_office) ∧ (∃ fs : List Value, Ob s1_7 1 h0 fs ∧ 10 < fs.length ∧ (∀ s1_8 : PS, s1_8 = up s1_7 1 h0 (.inl (fs.set 10 (.ref a_office))) → ∃ a_calendar : Nat, Fg s1_8 1 h0 1 (.ref a_calendar) ∧ (∃ a_calendar_9 : Nat, Fg s1_8 10 q 3 (.ref a_calendar_9) ∧ ((∃ fs_12 : List Value, Ob s1_8 2 a_calendar fs_12) ∧ Call G mX2_as 3 0 [.ref a_calendar, .ref a_calendar_9] s1_8 (qR (fun ra_11 s1_10 => At G mX1_office 13 Q X (b - bc - 1 - bc_2 - bc_4 - bc_6) 59 [(0, .ref h0), (3, .int 0)] [] s1_10)) X)))))) (fun E q9 s9 => AtX G mX1_office 13 Q X (b - bc - 1 - bc_2 - bc_4 - bc_6) 24 [(2, .ref q), (0, .ref h0), (1, .int x1)] E q9 s9))) X)) X)))) X)) : At G mX1_office 13 Q X b 0 [(0, .ref h0), (1, .int x1)] [] (σ) := by
  refine g_aload_n dX1_office_0 rfl 0 rfl ?_
  refine g_iload_n dX1_office_1 rfl 1 rfl ?_
  refine g_iconst (v := 0) dX1_office_2 (by decide) ?_
  refine g_aload_n dX1_office_3 rfl 0 rfl ?_
  obtain ⟨x_fed, hf, h⟩ := h
  refine g_get 13 dX1_office_4 in_X1 cl1 (by decide) q466 hf ?_
  obtain ⟨bc, hb9, h⟩ := h
  obtain ⟨⟨_, hO⟩, h⟩ := h
  refine g_callV (N := mX1_within) (st := []) (As := [.int x1, .int 0, .int x_fed]) (a := h0) dX1_office_7 wsX1_within (lw_V q833 q835 qs11 q108 q836) rfl mokX1_within rfl cl1 (by decide) (by decide) hb9 (Nat.zero_le _) hO h (fun E q s hx => AtX.out (by decide) hx) (fun _ s1 hq => ?_)
  obtain ⟨rfl, h⟩ := hq
  refine At.stk (st' := []) rfl ?_
  obtain ⟨hb, h⟩ := h
  refine g_new (ci := 10) (fs := [.null, .null, .null, .null, .int 0]) 1 dX1_office_10 in_X10 tyX10 tyX10_ok cl10 q901 q902 q121 new10 (by decide) (by decide) hb (fun q hq => ?_)
  replace h := h q hq
  refine g_tops (fun s1_1 es1_1 => ?_)
  replace h := h s1_1 es1_1
  refine g_dup dX1_office_13 rfl ?_
  refine g_aload_n dX1_office_14 rfl 0 rfl ?_
  refine g_iload_n dX1_office_15 rfl 1 rfl ?_
  obtain ⟨bc_2, hb9, h⟩ := h
  obtain ⟨⟨_, hO⟩, h⟩ := h
  refine g_callV (N := mX1_reader) (st := [.ref q, .ref q]) (As := [.int x1]) (a := h0) dX1_office_16 wsX1_reader (lw_V q903 q905 qs13 q108 q906) rfl mokX1_reader rfl cl1 (by decide) (by decide) hb9 (by simp [Value.category]) hO h (fun E q s hx => AtX.out (by decide) hx) (fun _ s1_3 hq => ?_)
  obtain ⟨ra, rfl, h⟩ := hq
  refine At.stk (st' := [.ref ra, .ref q, .ref q]) rfl ?_
  obtain ⟨bc_4, hb9, h⟩ := h
  refine g_callI (N := mX10_init) (st := [.ref q]) (As := [.ref ra]) (a := q) dX1_office_19 wsX10_init q928 q121 q926 q927 rfl mokX10_init rfl (by decide) (by decide) hb9 (by simp [Value.category]) h (fun E q s hx => AtX.out (by decide) hx) (fun _ s1_5 hq => ?_)
  obtain ⟨rfl, h⟩ := hq
  refine At.stk (st' := [.ref q]) rfl ?_
  refine g_astore_n (ls1 := [(2, .ref q), (0, .ref h0), (1, .int x1)]) dX1_office_22 rfl (by decide) rfl ?_
  refine g_aload_n dX1_office_23 rfl 0 rfl ?_
  obtain ⟨bc_6, hb9, h⟩ := h
  obtain ⟨⟨_, hO⟩, h⟩ := h
  refine g_callV (N := mX10_reads) (st := []) (As := []) (a := q) dX1_office_24 wsX10_reads (lw_V q963 q964 q965 q121 q966) rfl mokX10_reads rfl cl10 (by decide) (by decide) hb9 (Nat.zero_le _) hO h (fun E q s hx => hx) (fun _ s1_7 hq => ?_)
  obtain ⟨rfl, h⟩ := hq
  refine At.stk (st' := []) rfl ?_
  refine g_goto (tgt := 37) dX1_office_27 (by decide) ?_
  refine g_aload_n dX1_office_37 rfl 1 rfl ?_
  refine g_aload_n dX1_office_38 rfl 0 rfl ?_
  obtain ⟨a_office, hf, h⟩ := h
  refine g_getN 2 dX1_office_39 in_X10 cl10 (by decide) q948 hf ?_
  obtain ⟨fs, hO, hl, h⟩ := h
  refine g_put 10 dX1_office_42 in_X1 tyX1 tyX1_ok nmX1 cl1 (by decide) q463 rfl rfl rfl hO hl ?_
  refine g_tops (fun s1_8 es1_8 => ?_)
  replace h := h s1_8 es1_8
  refine g_aload_n dX1_office_45 rfl 1 rfl ?_
  obtain ⟨a_calendar, hf, h⟩ := h
  refine g_get 1 dX1_office_46 in_X1 cl1 (by decide) q454 hf ?_
  refine g_aload_n dX1_office_49 rfl 0 rfl ?_
  obtain ⟨a_calendar_9, hf, h⟩ := h
  refine g_getN 3 dX1_office_50 in_X10 cl10 (by decide) q950 hf ?_
  obtain ⟨⟨_, hO⟩, h⟩ := h
  refine g_callV (N := mX2_as) (st := []) (As := [.ref a_calendar_9]) (a := a_calendar) dX1_office_53 wsX2_as (lw_V q803 q804 q805 q109 q806) rfl mokX2_as rfl cl2 (by decide) (by decide) (Nat.zero_le _) (Nat.zero_le _) hO h (fun E q s hx => AtX.out (by decide) hx) (fun _ s1_10 hq => ?_)
  obtain ⟨ra_11, rfl, h⟩ := hq
  refine At.stk (st' := [.ref ra_11]) rfl ?_
  refine g_pop dX1_office_56 rfl ?_
  refine g_iconst (v := 0) dX1_office_57 (by decide) ?_
  refine g_istore_n (ls1 := [(3, .int 0), (2, .ref q), (0, .ref h0), (1, .int x1)]) dX1_office_58 rfl (by decide) rfl ?_
  exact At.sub (ls := [(3, .int 0), (2, .ref q), (0, .ref h0), (1, .int x1)]) [2, 0] rfl h
set_option maxHeartbeats 4000000 in
theorem bX1_office_30 {G : GC} {Q : Option Value → PS → Prop} {X : String → Nat → PS → Prop} {b : Nat} {h0 : Nat} {sa0 : Nat} {σ : PS} (h : (∃ fs : List Value, Ob (σ) 1 h0 fs) ∧ Call G mX1_faulty 3 0 [.ref h0, .ref sa0] (σ) (qI (fun rx s1 => Q (some (.int rx)) s1)) X) : At G mX1_office 13 Q X b 30 [(0, .ref h0)] [.ref sa0] (σ) := by
  refine g_astore_n (ls1 := [(3, .ref sa0), (0, .ref h0)]) dX1_office_30 rfl (by decide) rfl ?_
  refine g_aload_n dX1_office_31 rfl 1 rfl ?_
  refine g_aload_n dX1_office_32 rfl 0 rfl ?_
  obtain ⟨⟨_, hO⟩, h⟩ := h
  refine g_callV (N := mX1_faulty) (st := []) (As := [.ref sa0]) (a := h0) dX1_office_33 wsX1_faulty (lw_V q1095 q1097 qs16 q108 q1098) rfl mokX1_faulty rfl cl1 (by decide) (by decide) (Nat.zero_le _) (Nat.zero_le _) hO h (fun E q s hx => AtX.out (by decide) hx) (fun _ s1 hq => ?_)
  obtain ⟨rx, rfl, h⟩ := hq
  refine At.stk (st' := [.int rx]) rfl ?_
  exact g_iret rfl dX1_office_36 h
set_option maxHeartbeats 4000000 in
theorem bX1_office_59 {G : GC} {Q : Option Value → PS → Prop} {X : String → Nat → PS → Prop} {b : Nat} {h0 : Nat} {x3 : Int32} {σ : PS} (h : ((6 ≤ x3) → ∃ fs : List Value, Ob (σ) 1 h0 fs ∧ 11 < fs.length ∧ (∀ s1 : PS, s1 = up (σ) 1 h0 (.inl (fs.set 11 (.null))) → 1 ≤ b ∧ (∀ q : Nat, (∀ κ, s1 κ q = none) → (∀ s1_1 : PS, s1_1 = up s1 8 q (.inl [.null, .null, .null, .int 0]) → ∃ bc : Nat, bc ≤ b - 1 ∧ Call G mX8_init 4 bc [.ref q] s1_1 (qV (fun s1_2 => ∃ fs_3 : List Value, Ob s1_2 1 h0 fs_3 ∧ 12 < fs_3.length ∧ (∀ s1_4 : PS, s1_4 = up s1_2 1 h0 (.inl (fs_3.set 12 (.ref q))) → ∃ fs_5 : List Value, Ob s1_4 1 h0 fs_5 ∧ 15 < fs_5.length ∧ (∀ s1_6 : PS, s1_6 = up s1_4 1 h0 (.inl (fs_5.set 15 (.int 0))) → ∃ fs_7 : List Value, Ob s1_6 1 h0 fs_7 ∧ 16 < fs_7.length ∧ (∀ s1_8 : PS, s1_8 = up s1_6 1 h0 (.inl (fs_7.set 16 (.int 0))) → ∃ a_calendar : Nat, Fg s1_8 1 h0 1 (.ref a_calendar) ∧ (∃ x_many : Int32, Fg s1_8 2 a_calendar 2 (.int x_many) ∧ (Q (some (.int x_many)) s1_8))))))) X)))) ∧ ((¬ 6 ≤ x3) → ∃ a_habits : Nat, Fg (σ) 1 h0 6 (.ref a_habits) ∧ (∃ (n : Nat) (f : Nat → Option Nat), Qa (σ) 105 a_habits n f ∧ vp_in x3 n ∧ (∀ s1 : PS, s1 = up (σ) 105 a_habits (.inr (n, .inr (.inr (va_up f x3.toNatClampNeg none)))) → ∀ v3 : Int32, v3 = x3 + 1 → At G mX1_office 13 Q X b 59 [(0, .ref h0), (3, .int v3)] [] s1)))) : At G mX1_office 13 Q X b 59 [(0, .ref h0), (3, .int x3)] [] (σ) := by
  refine g_iload_n dX1_office_59 rfl 1 rfl ?_
  refine g_bipush (v := 6) dX1_office_60 (by decide) ?_
  refine g_icmp_ge (tgt := 78) dX1_office_62 (by decide) (fun c => ?_) (fun c => ?_)
  · replace h := h.1 c
    refine g_aload_n dX1_office_78 rfl 0 rfl ?_
    refine g_null dX1_office_79 ?_
    obtain ⟨fs, hO, hl, h⟩ := h
    refine g_put 11 dX1_office_80 in_X1 tyX1 tyX1_ok nmX1 cl1 (by decide) q464 rfl rfl rfl hO hl ?_
    refine g_tops (fun s1 es1 => ?_)
    replace h := h s1 es1
    refine g_aload_n dX1_office_83 rfl 0 rfl ?_
    obtain ⟨hb, h⟩ := h
    refine g_new (ci := 8) (fs := [.null, .null, .null, .int 0]) 1 dX1_office_84 in_X8 tyX8 tyX8_ok cl8 q430 q431 q115 new8 (by decide) (by decide) hb (fun q hq => ?_)
    replace h := h q hq
    refine g_tops (fun s1_1 es1_1 => ?_)
    replace h := h s1_1 es1_1
    refine g_dup dX1_office_87 rfl ?_
    obtain ⟨bc, hb9, h⟩ := h
    refine g_callIN (N := mX8_init) (st := [.ref q, .ref h0]) (As := []) (a := q) dX1_office_88 wsX8_init q434 q115 q432 q433 rfl mokX8_init rfl (by decide) (by decide) hb9 (by simp [Value.category]) h (fun E q s hx => AtX.out (by decide) hx) (fun _ s1_2 hq => ?_)
    obtain ⟨rfl, h⟩ := hq
    refine At.stk (st' := [.ref q, .ref h0]) rfl ?_
    obtain ⟨fs_3, hO, hl, h⟩ := h
    refine g_put 12 dX1_office_91 in_X1 tyX1 tyX1_ok nmX1 cl1 (by decide) q465 rfl rfl rfl hO hl ?_
    refine g_tops (fun s1_4 es1_4 => ?_)
    replace h := h s1_4 es1_4
    refine g_aload_n dX1_office_94 rfl 0 rfl ?_
    refine g_iconst (v := 0) dX1_office_95 (by decide) ?_
    obtain ⟨fs_5, hO, hl, h⟩ := h
    refine g_put 15 dX1_office_96 in_X1 tyX1 tyX1_ok nmX1 cl1 (by decide) q468 rfl rfl rfl hO hl ?_
    refine g_tops (fun s1_6 es1_6 => ?_)
    replace h := h s1_6 es1_6
    refine g_aload_n dX1_office_99 rfl 0 rfl ?_
    refine g_iconst (v := 0) dX1_office_100 (by decide) ?_
    obtain ⟨fs_7, hO, hl, h⟩ := h
    refine g_put 16 dX1_office_101 in_X1 tyX1 tyX1_ok nmX1 cl1 (by decide) q469 rfl rfl rfl hO hl ?_
    refine g_tops (fun s1_8 es1_8 => ?_)
    replace h := h s1_8 es1_8
    refine g_aload_n dX1_office_104 rfl 0 rfl ?_
    obtain ⟨a_calendar, hf, h⟩ := h
    refine g_get 1 dX1_office_105 in_X1 cl1 (by decide) q454 hf ?_
    obtain ⟨x_many, hf, h⟩ := h
    refine g_getN 2 dX1_office_108 in_X2 cl2 (by decide) q168 hf ?_
    exact g_iret rfl dX1_office_111 h
  · replace h := h.2 c
    refine g_aload_n dX1_office_65 rfl 0 rfl ?_
    obtain ⟨a_habits, hf, h⟩ := h
    refine g_get 6 dX1_office_66 in_X1 cl1 (by decide) q459 hf ?_
    refine g_iload_n dX1_office_69 rfl 1 rfl ?_
    refine g_null dX1_office_70 ?_
    obtain ⟨n, f, h1, h2, h⟩ := h
    refine g_aastN (t0 := 5) dX1_office_71 rfl h1 h2 ?_
    refine g_tops (fun s1 es1 => ?_)
    replace h := h s1 es1
    obtain ⟨v3, ev3⟩ : ∃ z : Int32, z = x3 + 1 := ⟨_, rfl⟩
    refine g_iinc (v := v3) (ls1 := [(3, .int v3), (0, .ref h0)]) dX1_office_72 1 rfl (by rw [ev3]; rfl) (by decide) rfl ?_
    replace h := h v3 ev3
    refine g_goto (tgt := 59) dX1_office_75 (by decide) ?_
    exact At.sub (ls := [(3, .int v3), (0, .ref h0)]) [1, 0] rfl h
theorem eX1_office {G : GC} {Q : Option Value → PS → Prop} {X : String → Nat → PS → Prop} {b : Nat} {h0 : Nat} {p1 : Int32} {σ : PS} (h : At G mX1_office 13 Q X b 0 [(0, .ref h0), (1, .int p1)] [] σ) : Call G mX1_office 13 b [.ref h0, .int p1] σ Q X :=
  Call.ofH (by decide +kernel) wsX1_office (Nat.le_of_ble_eq_true rfl) (At.sub (ls := [(0, .ref h0), (1, .int p1)]) [0, 1] rfl h)
set_option maxHeartbeats 4000000 in
theorem bX1_within_0 {G : GC} {Q : Option Value → PS → Prop} {X : String → Nat → PS → Prop} {b : Nat} {h0 : Nat} {x1 : Int32} {x2 : Int32} {x3 : Int32} {σ : PS} (h : ((x1 < x2) → ∃ a_refused : Nat, Fg (σ) 1 h0 5 (.ref a_refused) ∧ (∃ (n : Nat) (f : Nat → Int32), Ia (σ) 100 a_refused n f ∧ 1 < n ∧ (∃ (n_1 : Nat) (f_2 : Nat → Int32), Ia (σ) 100 a_refused n_1 f_2 ∧ 1 < n_1 ∧ (∀ s1 : PS, s1 = up (σ) 100 a_refused (.inr (n_1, .inl (upd f_2 1 (((f 1) + 1))))) → 1 ≤ b ∧ (∀ q : Nat, X "java/lang/IllegalArgumentException" q s1))))) ∧ ((¬ x1 < x2) → ((x3 < x1) → ∃ a_refused : Nat, Fg (σ) 1 h0 5 (.ref a_refused) ∧ (∃ (n : Nat) (f : Nat → Int32), Ia (σ) 100 a_refused n f ∧ 1 < n ∧ (∃ (n_3 : Nat) (f_4 : Nat → Int32), Ia (σ) 100 a_refused n_3 f_4 ∧ 1 < n_3 ∧ (∀ s1 : PS, s1 = up (σ) 100 a_refused (.inr (n_3, .inl (upd f_4 1 (((f 1) + 1))))) → 1 ≤ b ∧ (∀ q : Nat, X "java/lang/IllegalArgumentException" q s1))))) ∧ ((¬ x3 < x1) → Q none (σ)))) : At G mX1_within 10 Q X b 0 [(0, .ref h0), (1, .int x1), (2, .int x2), (3, .int x3)] [] (σ) := by
  refine g_iload_n dX1_within_0 rfl 1 rfl ?_
  refine g_iload_n dX1_within_1 rfl 2 rfl ?_
  refine g_icmp_lt (tgt := 11) dX1_within_2 (by decide) (fun c => ?_) (fun c => ?_)
  · replace h := h.1 c
    refine g_aload_n dX1_within_11 rfl 0 rfl ?_
    obtain ⟨a_refused, hf, h⟩ := h
    refine g_get 5 dX1_within_12 in_X1 cl1 (by decide) q458 hf ?_
    refine g_iconst (v := 1) dX1_within_15 (by decide) ?_
    refine g_dup2 dX1_within_16 rfl rfl ?_
    obtain ⟨n, f, h1, h2, h⟩ := h
    refine g_iald0 (j := 1) dX1_within_17 h1 (by decide) rfl h2 ?_
    refine g_iconst (v := 1) dX1_within_18 (by decide) ?_
    refine g_iadd dX1_within_19 ?_
    obtain ⟨n_1, f_2, h1, h2, h⟩ := h
    refine g_iast0 (j := 1) dX1_within_20 h1 (by decide) rfl h2 ?_
    refine g_tops (fun s1 es1 => ?_)
    replace h := h s1 es1
    exact g_throw0 (names := thn_IllegalArgumentException) rfl (by decide +kernel) (by decide +kernel) q837 q120 (at_X1_IllegalArgumentException) (go_X1_IllegalArgumentException) dX1_within_21 dX1_within_24 dX1_within_25 dX1_within_28 (by decide) (by decide) h.1 h.2
  · replace h := h.2 c
    refine g_iload_n dX1_within_5 rfl 1 rfl ?_
    refine g_iload_n dX1_within_6 rfl 3 rfl ?_
    refine g_icmp_gt (tgt := 11) dX1_within_7 (by decide) (fun c => ?_) (fun c => ?_)
    · replace h := h.1 c
      refine g_aload_n dX1_within_11 rfl 0 rfl ?_
      obtain ⟨a_refused, hf, h⟩ := h
      refine g_get 5 dX1_within_12 in_X1 cl1 (by decide) q458 hf ?_
      refine g_iconst (v := 1) dX1_within_15 (by decide) ?_
      refine g_dup2 dX1_within_16 rfl rfl ?_
      obtain ⟨n, f, h1, h2, h⟩ := h
      refine g_iald0 (j := 1) dX1_within_17 h1 (by decide) rfl h2 ?_
      refine g_iconst (v := 1) dX1_within_18 (by decide) ?_
      refine g_iadd dX1_within_19 ?_
      obtain ⟨n_3, f_4, h1, h2, h⟩ := h
      refine g_iast0 (j := 1) dX1_within_20 h1 (by decide) rfl h2 ?_
      refine g_tops (fun s1 es1 => ?_)
      replace h := h s1 es1
      exact g_throw0 (names := thn_IllegalArgumentException) rfl (by decide +kernel) (by decide +kernel) q837 q120 (at_X1_IllegalArgumentException) (go_X1_IllegalArgumentException) dX1_within_21 dX1_within_24 dX1_within_25 dX1_within_28 (by decide) (by decide) h.1 h.2
    · replace h := h.2 c
      exact g_vret rfl dX1_within_10 h
theorem eX1_within {G : GC} {Q : Option Value → PS → Prop} {X : String → Nat → PS → Prop} {b : Nat} {h0 : Nat} {p1 : Int32} {p2 : Int32} {p3 : Int32} {σ : PS} (h : At G mX1_within 10 Q X b 0 [(0, .ref h0), (1, .int p1), (2, .int p2), (3, .int p3)] [] σ) : Call G mX1_within 10 b [.ref h0, .int p1, .int p2, .int p3] σ Q X :=
  Call.of (by decide +kernel) wsX1_within rfl (Nat.le_of_ble_eq_true rfl) (At.sub (ls := [(0, .ref h0), (1, .int p1), (2, .int p2), (3, .int p3)]) [0, 1, 2, 3] rfl h)
set_option maxHeartbeats 4000000 in
theorem bX1_reader_0 {G : GC} {Q : Option Value → PS → Prop} {X : String → Nat → PS → Prop} {b : Nat} {h0 : Nat} {x1 : Int32} {σ : PS} (h : ∃ fs : List Value, Ob (σ) 1 h0 fs ∧ 13 < fs.length ∧ (∀ s1 : PS, s1 = up (σ) 1 h0 (.inl (fs.set 13 (.int 0))) → ∃ fs_1 : List Value, Ob s1 1 h0 fs_1 ∧ 14 < fs_1.length ∧ (∀ s1_2 : PS, s1_2 = up s1 1 h0 (.inl (fs_1.set 14 (.int (-1)))) → 1 ≤ b ∧ (∀ q : Nat, (∀ κ, s1_2 κ q = none) → (∀ s1_3 : PS, s1_3 = up s1_2 11 q (.inl [.null, .int 0, .int 0, .int 0]) → ∃ a_tape : Nat, Fg s1_3 1 h0 0 (.ref a_tape) ∧ (Call G mX11_init 4 0 [.ref q, .ref a_tape, .int x1] s1_3 (qV (fun s1_4 => Q (some (.ref q)) s1_4)) X)))))) : At G mX1_reader 5 Q X b 0 [(0, .ref h0), (1, .int x1)] [] (σ) := by
  refine g_aload_n dX1_reader_0 rfl 0 rfl ?_
  refine g_iconst (v := 0) dX1_reader_1 (by decide) ?_
  obtain ⟨fs, hO, hl, h⟩ := h
  refine g_put 13 dX1_reader_2 in_X1 tyX1 tyX1_ok nmX1 cl1 (by decide) q466 rfl rfl rfl hO hl ?_
  refine g_tops (fun s1 es1 => ?_)
  replace h := h s1 es1
  refine g_aload_n dX1_reader_5 rfl 0 rfl ?_
  refine g_iconst (v := (-1)) dX1_reader_6 (by decide) ?_
  obtain ⟨fs_1, hO, hl, h⟩ := h
  refine g_put 14 dX1_reader_7 in_X1 tyX1 tyX1_ok nmX1 cl1 (by decide) q467 rfl rfl rfl hO hl ?_
  refine g_tops (fun s1_2 es1_2 => ?_)
  replace h := h s1_2 es1_2
  obtain ⟨hb, h⟩ := h
  refine g_new (ci := 11) (fs := [.null, .int 0, .int 0, .int 0]) 1 dX1_reader_10 in_X11 tyX11 tyX11_ok cl11 q907 q908 q122 new11 (by decide) (by decide) hb (fun q hq => ?_)
  replace h := h q hq
  refine g_tops (fun s1_3 es1_3 => ?_)
  replace h := h s1_3 es1_3
  refine g_dup dX1_reader_13 rfl ?_
  refine g_aload_n dX1_reader_14 rfl 0 rfl ?_
  obtain ⟨a_tape, hf, h⟩ := h
  refine g_get 0 dX1_reader_15 in_X1 cl1 (by decide) q453 hf ?_
  refine g_iload_n dX1_reader_18 rfl 1 rfl ?_
  refine g_callI (N := mX11_init) (st := [.ref q]) (As := [.ref a_tape, .int x1]) (a := q) dX1_reader_19 wsX11_init q911 q122 q909 q910 rfl mokX11_init rfl (by decide) (by decide) (Nat.zero_le _) (by simp [Value.category]) h (fun E q s hx => AtX.out0 rfl hx) (fun _ s1_4 hq => ?_)
  obtain ⟨rfl, h⟩ := hq
  refine At.stk (st' := [.ref q]) rfl ?_
  exact g_aret (x := (some q)) rfl dX1_reader_22 h
theorem eX1_reader {G : GC} {Q : Option Value → PS → Prop} {X : String → Nat → PS → Prop} {b : Nat} {h0 : Nat} {p1 : Int32} {σ : PS} (h : At G mX1_reader 5 Q X b 0 [(0, .ref h0), (1, .int p1)] [] σ) : Call G mX1_reader 5 b [.ref h0, .int p1] σ Q X :=
  Call.of (by decide +kernel) wsX1_reader rfl (Nat.le_of_ble_eq_true rfl) (At.sub (ls := [(0, .ref h0), (1, .int p1)]) [0, 1] rfl h)
set_option maxHeartbeats 4000000 in
theorem bX1_faulty_0 {G : GC} {Q : Option Value → PS → Prop} {X : String → Nat → PS → Prop} {b : Nat} {h0 : Nat} {a1 : Nat} {σ : PS} (h : ∃ x_where : Int32, Fg (σ) 12 a1 7 (.int x_where) ∧ (∃ fs : List Value, Ob (σ) 1 h0 fs ∧ 14 < fs.length ∧ (∀ s1 : PS, s1 = up (σ) 1 h0 (.inl (fs.set 14 (.int x_where))) → ∃ x_why : Int32, Fg s1 12 a1 6 (.int x_why) ∧ (Q (some (.int (x_why - 10))) s1)))) : At G mX1_faulty 3 Q X b 0 [(0, .ref h0), (1, .ref a1)] [] (σ) := by
  refine g_aload_n dX1_faulty_0 rfl 0 rfl ?_
  refine g_aload_n dX1_faulty_1 rfl 1 rfl ?_
  obtain ⟨x_where, hf, h⟩ := h
  refine g_getN 7 dX1_faulty_2 in_X12 cl12 (by decide) q1065 hf ?_
  obtain ⟨fs, hO, hl, h⟩ := h
  refine g_put 14 dX1_faulty_5 in_X1 tyX1 tyX1_ok nmX1 cl1 (by decide) q467 rfl rfl rfl hO hl ?_
  refine g_tops (fun s1 es1 => ?_)
  replace h := h s1 es1
  refine g_aload_n dX1_faulty_8 rfl 1 rfl ?_
  obtain ⟨x_why, hf, h⟩ := h
  refine g_getN 6 dX1_faulty_9 in_X12 cl12 (by decide) q1063 hf ?_
  refine g_bipush (v := 10) dX1_faulty_12 (by decide) ?_
  refine g_isub dX1_faulty_14 ?_
  exact g_iret rfl dX1_faulty_15 h
theorem eX1_faulty {G : GC} {Q : Option Value → PS → Prop} {X : String → Nat → PS → Prop} {b : Nat} {h0 : Nat} {p1 : Nat} {σ : PS} (h : At G mX1_faulty 3 Q X b 0 [(0, .ref h0), (1, .ref p1)] [] σ) : Call G mX1_faulty 3 b [.ref h0, .ref p1] σ Q X :=
  Call.of (by decide +kernel) wsX1_faulty rfl (Nat.le_of_ble_eq_true rfl) (At.sub (ls := [(0, .ref h0), (1, .ref p1)]) [0, 1] rfl h)
set_option maxHeartbeats 4000000 in
theorem bX1_habit_0 {G : GC} {Q : Option Value → PS → Prop} {X : String → Nat → PS → Prop} {b : Nat} {h0 : Nat} {x1 : Int32} {x2 : Int32} {σ : PS} (h : ∃ bc : Nat, bc ≤ b ∧ (∃ fs_17 : List Value, Ob (σ) 1 h0 fs_17) ∧ Call G mX1_personOf 11 bc [.ref h0, .int x1] (σ) (qV (fun s1 => ∃ x_fed : Int32, Fg s1 1 h0 13 (.int x_fed) ∧ (∀ w : Int32, w = (if 150 < x_fed then 150 else x_fed) → ∃ bc_1 : Nat, bc_1 ≤ b - bc ∧ (∃ fs_16 : List Value, Ob s1 1 h0 fs_16) ∧ Call G mX1_within 10 bc_1 [.ref h0, .int x2, .int 0, .int w] s1 (qV (fun s1_2 => ∃ a_habits : Nat, Fg s1_2 1 h0 6 (.ref a_habits) ∧ (1 ≤ b - bc - bc_1 ∧ (∀ q : Nat, (∀ κ, s1_2 κ q = none) → (∀ s1_3 : PS, s1_3 = up s1_2 13 q (.inl [.null, .null, .null]) → ∃ bc_4 : Nat, bc_4 ≤ b - bc - bc_1 - 1 ∧ (∃ fs_15 : List Value, Ob s1_3 1 h0 fs_15) ∧ Call G mX1_reader 5 bc_4 [.ref h0, .int x2] s1_3 (qR (fun ra s1_5 => ∃ bc_6 : Nat, bc_6 ≤ b - bc - bc_1 - 1 - bc_4 ∧ Call G mX13_init 4 bc_6 [.ref q, .ref ra] s1_5 (qV (fun s1_7 => ∃ bc_8 : Nat, bc_8 ≤ b - bc - bc_1 - 1 - bc_4 - bc_6 ∧ (∃ fs : List Value, Ob s1_7 13 q fs) ∧ Call G mX13_reads 151 bc_8 [.ref q] s1_7 (qR (fun ra_10 s1_9 => ∃ (n : Nat) (f : Nat → Option Nat) (vs : List Value), Qa s1_9 105 a_habits n f ∧ Ob s1_9 14 ra_10 vs ∧ vp_in x1 n ∧ (∀ s1_11 : PS, s1_11 = up s1_9 105 a_habits (.inr (n, .inr (.inr (va_up f x1.toNatClampNeg (some ra_10))))) → ∃ a_habits_12 : Nat, Fg s1_11 1 h0 6 (.ref a_habits_12) ∧ (∃ (n_13 : Nat) (f_14 : Nat → Option Nat), Qa s1_11 105 a_habits_12 n_13 f_14 ∧ vp_in x1 n_13 ∧ (∃ z : Nat, (f_14 x1.toNatClampNeg) = some z ∧ (∃ x_many : Int32, Fg s1_11 14 z 1 (.int x_many) ∧ (Q (some (.int x_many)) s1_11))))))) (fun E q9 s9 => AtX G mX1_habit 152 Q X (b - bc - bc_1 - 1 - bc_4 - bc_6 - bc_8) 38 [(0, .ref h0), (1, .int x1), (2, .int x2)] E q9 s9))) (fun E q9 s9 => AtX G mX1_habit 152 Q X (b - bc - bc_1 - 1 - bc_4 - bc_6) 35 [(0, .ref h0), (1, .int x1), (2, .int x2)] E q9 s9))) (fun E q9 s9 => AtX G mX1_habit 152 Q X (b - bc - bc_1 - 1 - bc_4) 32 [(0, .ref h0), (1, .int x1), (2, .int x2)] E q9 s9)))))) X))) X) : At G mX1_habit 152 Q X b 0 [(0, .ref h0), (1, .int x1), (2, .int x2)] [] (σ) := by
  refine g_aload_n dX1_habit_0 rfl 0 rfl ?_
  refine g_iload_n dX1_habit_1 rfl 1 rfl ?_
  obtain ⟨bc, hb9, h⟩ := h
  obtain ⟨⟨_, hO⟩, h⟩ := h
  refine g_callV (N := mX1_personOf) (st := []) (As := [.int x1]) (a := h0) dX1_habit_2 wsX1_personOf (lw_V q1107 q1109 qs17 q108 q1110) rfl mokX1_personOf rfl cl1 (by decide) (by decide) hb9 (Nat.zero_le _) hO h (fun E q s hx => AtX.out (by decide) hx) (fun _ s1 hq => ?_)
  obtain ⟨rfl, h⟩ := hq
  refine At.stk (st' := []) rfl ?_
  refine g_aload_n dX1_habit_5 rfl 0 rfl ?_
  refine g_iload_n dX1_habit_6 rfl 2 rfl ?_
  refine g_iconst (v := 0) dX1_habit_7 (by decide) ?_
  refine g_aload_n dX1_habit_8 rfl 0 rfl ?_
  obtain ⟨x_fed, hf, h⟩ := h
  refine g_get 13 dX1_habit_9 in_X1 cl1 (by decide) q466 hf ?_
  refine g_sipush (v := 150) dX1_habit_12 (by decide) ?_
  refine g_imin dX1_habit_15 q1130 (by decide) (by simp [Value.category]) ?_
  refine g_topi (fun w ew => ?_)
  replace h := h w ew
  obtain ⟨bc_1, hb9, h⟩ := h
  obtain ⟨⟨_, hO⟩, h⟩ := h
  refine g_callV (N := mX1_within) (st := []) (As := [.int x2, .int 0, .int w]) (a := h0) dX1_habit_18 wsX1_within (lw_V q833 q835 qs11 q108 q836) rfl mokX1_within rfl cl1 (by decide) (by decide) hb9 (Nat.zero_le _) hO h (fun E q s hx => AtX.out (by decide) hx) (fun _ s1_2 hq => ?_)
  obtain ⟨rfl, h⟩ := hq
  refine At.stk (st' := []) rfl ?_
  refine g_aload_n dX1_habit_21 rfl 0 rfl ?_
  obtain ⟨a_habits, hf, h⟩ := h
  refine g_get 6 dX1_habit_22 in_X1 cl1 (by decide) q459 hf ?_
  refine g_iload_n dX1_habit_25 rfl 1 rfl ?_
  obtain ⟨hb, h⟩ := h
  refine g_new (ci := 13) (fs := [.null, .null, .null]) 1 dX1_habit_26 in_X13 tyX13 tyX13_ok cl13 q1131 q1132 q131 new13 (by decide) (by decide) hb (fun q hq => ?_)
  replace h := h q hq
  refine g_tops (fun s1_3 es1_3 => ?_)
  replace h := h s1_3 es1_3
  refine g_dup dX1_habit_29 rfl ?_
  refine g_aload_n dX1_habit_30 rfl 0 rfl ?_
  refine g_iload_n dX1_habit_31 rfl 2 rfl ?_
  obtain ⟨bc_4, hb9, h⟩ := h
  obtain ⟨⟨_, hO⟩, h⟩ := h
  refine g_callV (N := mX1_reader) (st := [.ref q, .ref q, .int x1, .ref a_habits]) (As := [.int x2]) (a := h0) dX1_habit_32 wsX1_reader (lw_V q903 q905 qs13 q108 q906) rfl mokX1_reader rfl cl1 (by decide) (by decide) hb9 (by simp [Value.category]) hO h (fun E q s hx => hx) (fun _ s1_5 hq => ?_)
  obtain ⟨ra, rfl, h⟩ := hq
  refine At.stk (st' := [.ref ra, .ref q, .ref q, .int x1, .ref a_habits]) rfl ?_
  obtain ⟨bc_6, hb9, h⟩ := h
  refine g_callI (N := mX13_init) (st := [.ref q, .int x1, .ref a_habits]) (As := [.ref ra]) (a := q) dX1_habit_35 wsX13_init q1135 q131 q1133 q1134 rfl mokX13_init rfl (by decide) (by decide) hb9 (by simp [Value.category]) h (fun E q s hx => hx) (fun _ s1_7 hq => ?_)
  obtain ⟨rfl, h⟩ := hq
  refine At.stk (st' := [.ref q, .int x1, .ref a_habits]) rfl ?_
  obtain ⟨bc_8, hb9, h⟩ := h
  obtain ⟨⟨_, hO⟩, h⟩ := h
  refine g_callV (N := mX13_reads) (st := [.int x1, .ref a_habits]) (As := []) (a := q) dX1_habit_38 wsX13_reads (lw_V q1164 q1165 q1166 q131 q1167) rfl mokX13_reads rfl cl13 (by decide) (by decide) hb9 (by simp [Value.category]) hO h (fun E q s hx => hx) (fun _ s1_9 hq => ?_)
  obtain ⟨ra_10, rfl, h⟩ := hq
  refine At.stk (st' := [.ref ra_10, .int x1, .ref a_habits]) rfl ?_
  obtain ⟨n, f, vs, h1, h3, h2, h⟩ := h
  refine g_aast (t0 := 5) dX1_habit_41 rfl cl14 h1 h3 h2 ?_
  refine g_tops (fun s1_11 es1_11 => ?_)
  replace h := h s1_11 es1_11
  refine g_goto (tgt := 52) dX1_habit_42 (by decide) ?_
  refine g_aload_n dX1_habit_52 rfl 0 rfl ?_
  obtain ⟨a_habits_12, hf, h⟩ := h
  refine g_get 6 dX1_habit_53 in_X1 cl1 (by decide) q459 hf ?_
  refine g_iload_n dX1_habit_56 rfl 1 rfl ?_
  obtain ⟨n_13, f_14, h1, h2, h⟩ := h
  refine g_aald (t0 := 5) dX1_habit_57 rfl rfl h1 h2 ?_
  obtain ⟨z, hz9, h⟩ := h
  refine At.stk (st' := [.ref z]) (by rw [hz9]; rfl) ?_
  obtain ⟨x_many, hf, h⟩ := h
  refine g_getN 1 dX1_habit_58 in_X14 cl14 (by decide) q1183 hf ?_
  exact g_iret rfl dX1_habit_61 h
set_option maxHeartbeats 4000000 in
theorem bX1_habit_45 {G : GC} {Q : Option Value → PS → Prop} {X : String → Nat → PS → Prop} {b : Nat} {h0 : Nat} {sa0 : Nat} {σ : PS} (h : (∃ fs : List Value, Ob (σ) 1 h0 fs) ∧ Call G mX1_faulty 3 0 [.ref h0, .ref sa0] (σ) (qI (fun rx s1 => Q (some (.int rx)) s1)) X) : At G mX1_habit 152 Q X b 45 [(0, .ref h0)] [.ref sa0] (σ) := by
  refine g_astore_n (ls1 := [(3, .ref sa0), (0, .ref h0)]) dX1_habit_45 rfl (by decide) rfl ?_
  refine g_aload_n dX1_habit_46 rfl 1 rfl ?_
  refine g_aload_n dX1_habit_47 rfl 0 rfl ?_
  obtain ⟨⟨_, hO⟩, h⟩ := h
  refine g_callV (N := mX1_faulty) (st := []) (As := [.ref sa0]) (a := h0) dX1_habit_48 wsX1_faulty (lw_V q1095 q1097 qs16 q108 q1098) rfl mokX1_faulty rfl cl1 (by decide) (by decide) (Nat.zero_le _) (Nat.zero_le _) hO h (fun E q s hx => AtX.out (by decide) hx) (fun _ s1 hq => ?_)
  obtain ⟨rx, rfl, h⟩ := hq
  refine At.stk (st' := [.int rx]) rfl ?_
  exact g_iret rfl dX1_habit_51 h
theorem eX1_habit {G : GC} {Q : Option Value → PS → Prop} {X : String → Nat → PS → Prop} {b : Nat} {h0 : Nat} {p1 : Int32} {p2 : Int32} {σ : PS} (h : At G mX1_habit 152 Q X b 0 [(0, .ref h0), (1, .int p1), (2, .int p2)] [] σ) : Call G mX1_habit 152 b [.ref h0, .int p1, .int p2] σ Q X :=
  Call.ofH (by decide +kernel) wsX1_habit (Nat.le_of_ble_eq_true rfl) (At.sub (ls := [(0, .ref h0), (1, .int p1), (2, .int p2)]) [0, 1, 2] rfl h)
set_option maxHeartbeats 4000000 in
theorem bX1_personOf_0 {G : GC} {Q : Option Value → PS → Prop} {X : String → Nat → PS → Prop} {b : Nat} {h0 : Nat} {x1 : Int32} {σ : PS} (h : ∃ a_office : Nat, Fg (σ) 1 h0 10 (.ref a_office) ∧ (∃ x_people : Int32, Fg (σ) 7 a_office 8 (.int x_people) ∧ (∃ bc : Nat, bc ≤ b ∧ (∃ fs : List Value, Ob (σ) 1 h0 fs) ∧ Call G mX1_isThere 10 bc [.ref h0, .int x1, .int x_people] (σ) (qV (fun s1 => Q none s1)) X))) : At G mX1_personOf 11 Q X b 0 [(0, .ref h0), (1, .int x1)] [] (σ) := by
  refine g_aload_n dX1_personOf_0 rfl 0 rfl ?_
  refine g_iload_n dX1_personOf_1 rfl 1 rfl ?_
  refine g_aload_n dX1_personOf_2 rfl 0 rfl ?_
  obtain ⟨a_office, hf, h⟩ := h
  refine g_get 10 dX1_personOf_3 in_X1 cl1 (by decide) q463 hf ?_
  obtain ⟨x_people, hf, h⟩ := h
  refine g_getN 8 dX1_personOf_6 in_X7 cl7 (by decide) q409 hf ?_
  obtain ⟨bc, hb9, h⟩ := h
  obtain ⟨⟨_, hO⟩, h⟩ := h
  refine g_callV (N := mX1_isThere) (st := []) (As := [.int x1, .int x_people]) (a := h0) dX1_personOf_9 wsX1_isThere (lw_V q1111 q1113 qs18 q108 q1114) rfl mokX1_isThere rfl cl1 (by decide) (by decide) hb9 (Nat.zero_le _) hO h (fun E q s hx => AtX.out0 rfl hx) (fun _ s1 hq => ?_)
  obtain ⟨rfl, h⟩ := hq
  refine At.stk (st' := []) rfl ?_
  exact g_vret rfl dX1_personOf_12 h
theorem eX1_personOf {G : GC} {Q : Option Value → PS → Prop} {X : String → Nat → PS → Prop} {b : Nat} {h0 : Nat} {p1 : Int32} {σ : PS} (h : At G mX1_personOf 11 Q X b 0 [(0, .ref h0), (1, .int p1)] [] σ) : Call G mX1_personOf 11 b [.ref h0, .int p1] σ Q X :=
  Call.of (by decide +kernel) wsX1_personOf rfl (Nat.le_of_ble_eq_true rfl) (At.sub (ls := [(0, .ref h0), (1, .int p1)]) [0, 1] rfl h)
set_option maxHeartbeats 4000000 in
theorem bX1_isThere_0 {G : GC} {Q : Option Value → PS → Prop} {X : String → Nat → PS → Prop} {b : Nat} {h0 : Nat} {x1 : Int32} {x2 : Int32} {σ : PS} (h : ((x1 < 0) → ∃ a_refused : Nat, Fg (σ) 1 h0 5 (.ref a_refused) ∧ (∃ (n : Nat) (f : Nat → Int32), Ia (σ) 100 a_refused n f ∧ 0 < n ∧ (∃ (n_1 : Nat) (f_2 : Nat → Int32), Ia (σ) 100 a_refused n_1 f_2 ∧ 0 < n_1 ∧ (∀ s1 : PS, s1 = up (σ) 100 a_refused (.inr (n_1, .inl (upd f_2 0 (((f 0) + 1))))) → 1 ≤ b ∧ (∀ q : Nat, X "java/util/NoSuchElementException" q s1))))) ∧ ((¬ x1 < 0) → ((x2 ≤ x1) → ∃ a_refused : Nat, Fg (σ) 1 h0 5 (.ref a_refused) ∧ (∃ (n : Nat) (f : Nat → Int32), Ia (σ) 100 a_refused n f ∧ 0 < n ∧ (∃ (n_3 : Nat) (f_4 : Nat → Int32), Ia (σ) 100 a_refused n_3 f_4 ∧ 0 < n_3 ∧ (∀ s1 : PS, s1 = up (σ) 100 a_refused (.inr (n_3, .inl (upd f_4 0 (((f 0) + 1))))) → 1 ≤ b ∧ (∀ q : Nat, X "java/util/NoSuchElementException" q s1))))) ∧ ((¬ x2 ≤ x1) → Q none (σ)))) : At G mX1_isThere 10 Q X b 0 [(0, .ref h0), (1, .int x1), (2, .int x2)] [] (σ) := by
  refine g_iload_n dX1_isThere_0 rfl 1 rfl ?_
  refine g_if_lt (tgt := 10) dX1_isThere_1 (by decide) (fun c => ?_) (fun c => ?_)
  · replace h := h.1 c
    refine g_aload_n dX1_isThere_10 rfl 0 rfl ?_
    obtain ⟨a_refused, hf, h⟩ := h
    refine g_get 5 dX1_isThere_11 in_X1 cl1 (by decide) q458 hf ?_
    refine g_iconst (v := 0) dX1_isThere_14 (by decide) ?_
    refine g_dup2 dX1_isThere_15 rfl rfl ?_
    obtain ⟨n, f, h1, h2, h⟩ := h
    refine g_iald0 (j := 0) dX1_isThere_16 h1 (by decide) rfl h2 ?_
    refine g_iconst (v := 1) dX1_isThere_17 (by decide) ?_
    refine g_iadd dX1_isThere_18 ?_
    obtain ⟨n_1, f_2, h1, h2, h⟩ := h
    refine g_iast0 (j := 0) dX1_isThere_19 h1 (by decide) rfl h2 ?_
    refine g_tops (fun s1 es1 => ?_)
    replace h := h s1 es1
    exact g_throw0 (names := thn_NoSuchElementException) rfl (by decide +kernel) (by decide +kernel) q1115 q130 (at_X1_NoSuchElementException) (go_X1_NoSuchElementException) dX1_isThere_20 dX1_isThere_23 dX1_isThere_24 dX1_isThere_27 (by decide) (by decide) h.1 h.2
  · replace h := h.2 c
    refine g_iload_n dX1_isThere_4 rfl 1 rfl ?_
    refine g_iload_n dX1_isThere_5 rfl 2 rfl ?_
    refine g_icmp_ge (tgt := 10) dX1_isThere_6 (by decide) (fun c => ?_) (fun c => ?_)
    · replace h := h.1 c
      refine g_aload_n dX1_isThere_10 rfl 0 rfl ?_
      obtain ⟨a_refused, hf, h⟩ := h
      refine g_get 5 dX1_isThere_11 in_X1 cl1 (by decide) q458 hf ?_
      refine g_iconst (v := 0) dX1_isThere_14 (by decide) ?_
      refine g_dup2 dX1_isThere_15 rfl rfl ?_
      obtain ⟨n, f, h1, h2, h⟩ := h
      refine g_iald0 (j := 0) dX1_isThere_16 h1 (by decide) rfl h2 ?_
      refine g_iconst (v := 1) dX1_isThere_17 (by decide) ?_
      refine g_iadd dX1_isThere_18 ?_
      obtain ⟨n_3, f_4, h1, h2, h⟩ := h
      refine g_iast0 (j := 0) dX1_isThere_19 h1 (by decide) rfl h2 ?_
      refine g_tops (fun s1 es1 => ?_)
      replace h := h s1 es1
      exact g_throw0 (names := thn_NoSuchElementException) rfl (by decide +kernel) (by decide +kernel) q1115 q130 (at_X1_NoSuchElementException) (go_X1_NoSuchElementException) dX1_isThere_20 dX1_isThere_23 dX1_isThere_24 dX1_isThere_27 (by decide) (by decide) h.1 h.2
    · replace h := h.2 c
      exact g_vret rfl dX1_isThere_9 h
theorem eX1_isThere {G : GC} {Q : Option Value → PS → Prop} {X : String → Nat → PS → Prop} {b : Nat} {h0 : Nat} {p1 : Int32} {p2 : Int32} {σ : PS} (h : At G mX1_isThere 10 Q X b 0 [(0, .ref h0), (1, .int p1), (2, .int p2)] [] σ) : Call G mX1_isThere 10 b [.ref h0, .int p1, .int p2] σ Q X :=
  Call.of (by decide +kernel) wsX1_isThere rfl (Nat.le_of_ble_eq_true rfl) (At.sub (ls := [(0, .ref h0), (1, .int p1), (2, .int p2)]) [0, 1, 2] rfl h)
set_option maxHeartbeats 4000000 in
theorem bX1_rule_0 {G : GC} {Q : Option Value → PS → Prop} {X : String → Nat → PS → Prop} {b : Nat} {h0 : Nat} {x1 : Int32} {σ : PS} (h : ∃ x_fed : Int32, Fg (σ) 1 h0 13 (.int x_fed) ∧ (∀ w : Int32, w = (if 150 < x_fed then 150 else x_fed) → ∃ bc : Nat, bc ≤ b ∧ (∃ fs_12 : List Value, Ob (σ) 1 h0 fs_12) ∧ Call G mX1_within 10 bc [.ref h0, .int x1, .int 0, .int w] (σ) (qV (fun s1 => 1 ≤ b - bc ∧ (∀ q : Nat, (∀ κ, s1 κ q = none) → (∀ s1_1 : PS, s1_1 = up s1 13 q (.inl [.null, .null, .null]) → ∃ bc_2 : Nat, bc_2 ≤ b - bc - 1 ∧ (∃ fs_11 : List Value, Ob s1_1 1 h0 fs_11) ∧ Call G mX1_reader 5 bc_2 [.ref h0, .int x1] s1_1 (qR (fun ra s1_3 => ∃ bc_4 : Nat, bc_4 ≤ b - bc - 1 - bc_2 ∧ Call G mX13_init 4 bc_4 [.ref q, .ref ra] s1_3 (qV (fun s1_5 => ∃ bc_6 : Nat, bc_6 ≤ b - bc - 1 - bc_2 - bc_4 ∧ (∃ fs_10 : List Value, Ob s1_5 13 q fs_10) ∧ Call G mX13_reads 151 bc_6 [.ref q] s1_5 (qR (fun ra_8 s1_7 => ∃ fs : List Value, Ob s1_7 1 h0 fs ∧ 11 < fs.length ∧ (∀ s1_9 : PS, s1_9 = up s1_7 1 h0 (.inl (fs.set 11 (.ref ra_8))) → ∃ u_rule : Option Nat, Fg s1_9 1 h0 11 (va_rf u_rule) ∧ (∃ z : Nat, u_rule = some z ∧ (∃ x_many : Int32, Fg s1_9 14 z 1 (.int x_many) ∧ (Q (some (.int x_many)) s1_9)))))) (fun E q9 s9 => AtX G mX1_rule 152 Q X (b - bc - 1 - bc_2 - bc_4 - bc_6) 29 [(0, .ref h0), (1, .int x1)] E q9 s9))) (fun E q9 s9 => AtX G mX1_rule 152 Q X (b - bc - 1 - bc_2 - bc_4) 26 [(0, .ref h0), (1, .int x1)] E q9 s9))) (fun E q9 s9 => AtX G mX1_rule 152 Q X (b - bc - 1 - bc_2) 23 [(0, .ref h0), (1, .int x1)] E q9 s9))))) X)) : At G mX1_rule 152 Q X b 0 [(0, .ref h0), (1, .int x1)] [] (σ) := by
  refine g_aload_n dX1_rule_0 rfl 0 rfl ?_
  refine g_iload_n dX1_rule_1 rfl 1 rfl ?_
  refine g_iconst (v := 0) dX1_rule_2 (by decide) ?_
  refine g_aload_n dX1_rule_3 rfl 0 rfl ?_
  obtain ⟨x_fed, hf, h⟩ := h
  refine g_get 13 dX1_rule_4 in_X1 cl1 (by decide) q466 hf ?_
  refine g_sipush (v := 150) dX1_rule_7 (by decide) ?_
  refine g_imin dX1_rule_10 q1130 (by decide) (by simp [Value.category]) ?_
  refine g_topi (fun w ew => ?_)
  replace h := h w ew
  obtain ⟨bc, hb9, h⟩ := h
  obtain ⟨⟨_, hO⟩, h⟩ := h
  refine g_callV (N := mX1_within) (st := []) (As := [.int x1, .int 0, .int w]) (a := h0) dX1_rule_13 wsX1_within (lw_V q833 q835 qs11 q108 q836) rfl mokX1_within rfl cl1 (by decide) (by decide) hb9 (Nat.zero_le _) hO h (fun E q s hx => AtX.out (by decide) hx) (fun _ s1 hq => ?_)
  obtain ⟨rfl, h⟩ := hq
  refine At.stk (st' := []) rfl ?_
  refine g_aload_n dX1_rule_16 rfl 0 rfl ?_
  obtain ⟨hb, h⟩ := h
  refine g_new (ci := 13) (fs := [.null, .null, .null]) 1 dX1_rule_17 in_X13 tyX13 tyX13_ok cl13 q1131 q1132 q131 new13 (by decide) (by decide) hb (fun q hq => ?_)
  replace h := h q hq
  refine g_tops (fun s1_1 es1_1 => ?_)
  replace h := h s1_1 es1_1
  refine g_dup dX1_rule_20 rfl ?_
  refine g_aload_n dX1_rule_21 rfl 0 rfl ?_
  refine g_iload_n dX1_rule_22 rfl 1 rfl ?_
  obtain ⟨bc_2, hb9, h⟩ := h
  obtain ⟨⟨_, hO⟩, h⟩ := h
  refine g_callV (N := mX1_reader) (st := [.ref q, .ref q, .ref h0]) (As := [.int x1]) (a := h0) dX1_rule_23 wsX1_reader (lw_V q903 q905 qs13 q108 q906) rfl mokX1_reader rfl cl1 (by decide) (by decide) hb9 (by simp [Value.category]) hO h (fun E q s hx => hx) (fun _ s1_3 hq => ?_)
  obtain ⟨ra, rfl, h⟩ := hq
  refine At.stk (st' := [.ref ra, .ref q, .ref q, .ref h0]) rfl ?_
  obtain ⟨bc_4, hb9, h⟩ := h
  refine g_callI (N := mX13_init) (st := [.ref q, .ref h0]) (As := [.ref ra]) (a := q) dX1_rule_26 wsX13_init q1135 q131 q1133 q1134 rfl mokX13_init rfl (by decide) (by decide) hb9 (by simp [Value.category]) h (fun E q s hx => hx) (fun _ s1_5 hq => ?_)
  obtain ⟨rfl, h⟩ := hq
  refine At.stk (st' := [.ref q, .ref h0]) rfl ?_
  obtain ⟨bc_6, hb9, h⟩ := h
  obtain ⟨⟨_, hO⟩, h⟩ := h
  refine g_callV (N := mX13_reads) (st := [.ref h0]) (As := []) (a := q) dX1_rule_29 wsX13_reads (lw_V q1164 q1165 q1166 q131 q1167) rfl mokX13_reads rfl cl13 (by decide) (by decide) hb9 (by simp [Value.category]) hO h (fun E q s hx => hx) (fun _ s1_7 hq => ?_)
  obtain ⟨ra_8, rfl, h⟩ := hq
  refine At.stk (st' := [.ref ra_8, .ref h0]) rfl ?_
  obtain ⟨fs, hO, hl, h⟩ := h
  refine g_put 11 dX1_rule_32 in_X1 tyX1 tyX1_ok nmX1 cl1 (by decide) q464 rfl rfl rfl hO hl ?_
  refine g_tops (fun s1_9 es1_9 => ?_)
  replace h := h s1_9 es1_9
  refine g_goto (tgt := 45) dX1_rule_35 (by decide) ?_
  refine g_aload_n dX1_rule_45 rfl 0 rfl ?_
  obtain ⟨u_rule, hf, h⟩ := h
  refine g_get 11 dX1_rule_46 in_X1 cl1 (by decide) q464 hf ?_
  obtain ⟨z, hz9, h⟩ := h
  refine At.stk (st' := [.ref z]) (by rw [hz9]; rfl) ?_
  obtain ⟨x_many, hf, h⟩ := h
  refine g_getN 1 dX1_rule_49 in_X14 cl14 (by decide) q1183 hf ?_
  exact g_iret rfl dX1_rule_52 h
set_option maxHeartbeats 4000000 in
theorem bX1_rule_38 {G : GC} {Q : Option Value → PS → Prop} {X : String → Nat → PS → Prop} {b : Nat} {h0 : Nat} {sa0 : Nat} {σ : PS} (h : (∃ fs : List Value, Ob (σ) 1 h0 fs) ∧ Call G mX1_faulty 3 0 [.ref h0, .ref sa0] (σ) (qI (fun rx s1 => Q (some (.int rx)) s1)) X) : At G mX1_rule 152 Q X b 38 [(0, .ref h0)] [.ref sa0] (σ) := by
  refine g_astore_n (ls1 := [(2, .ref sa0), (0, .ref h0)]) dX1_rule_38 rfl (by decide) rfl ?_
  refine g_aload_n dX1_rule_39 rfl 1 rfl ?_
  refine g_aload_n dX1_rule_40 rfl 0 rfl ?_
  obtain ⟨⟨_, hO⟩, h⟩ := h
  refine g_callV (N := mX1_faulty) (st := []) (As := [.ref sa0]) (a := h0) dX1_rule_41 wsX1_faulty (lw_V q1095 q1097 qs16 q108 q1098) rfl mokX1_faulty rfl cl1 (by decide) (by decide) (Nat.zero_le _) (Nat.zero_le _) hO h (fun E q s hx => AtX.out (by decide) hx) (fun _ s1 hq => ?_)
  obtain ⟨rx, rfl, h⟩ := hq
  refine At.stk (st' := [.int rx]) rfl ?_
  exact g_iret rfl dX1_rule_44 h
theorem eX1_rule {G : GC} {Q : Option Value → PS → Prop} {X : String → Nat → PS → Prop} {b : Nat} {h0 : Nat} {p1 : Int32} {σ : PS} (h : At G mX1_rule 152 Q X b 0 [(0, .ref h0), (1, .int p1)] [] σ) : Call G mX1_rule 152 b [.ref h0, .int p1] σ Q X :=
  Call.ofH (by decide +kernel) wsX1_rule (Nat.le_of_ble_eq_true rfl) (At.sub (ls := [(0, .ref h0), (1, .int p1)]) [0, 1] rfl h)
set_option maxHeartbeats 4000000 in
theorem bX1_book_0 {G : GC} {Q : Option Value → PS → Prop} {X : String → Nat → PS → Prop} {b : Nat} {h0 : Nat} {x1 : Int32} {σ : PS} (h : ∃ x_fed : Int32, Fg (σ) 1 h0 13 (.int x_fed) ∧ (∀ w : Int32, w = (if 150 < x_fed then 150 else x_fed) → ∃ bc : Nat, bc ≤ b ∧ (∃ fs_6 : List Value, Ob (σ) 1 h0 fs_6) ∧ Call G mX1_within 10 bc [.ref h0, .int x1, .int 0, .int w] (σ) (qV (fun s1 => 1 ≤ b - bc ∧ (∀ q : Nat, (∀ κ, s1 κ q = none) → (∀ s1_1 : PS, s1_1 = up s1 8 q (.inl [.null, .null, .null, .int 0]) → ∃ bc_2 : Nat, bc_2 ≤ b - bc - 1 ∧ Call G mX8_init 4 bc_2 [.ref q] s1_1 (qV (fun s1_3 => ∃ bc_4 : Nat, bc_4 ≤ b - bc - 1 - bc_2 ∧ (∃ fs : List Value, Ob s1_3 1 h0 fs) ∧ Call G mX1_reader 5 bc_4 [.ref h0, .int x1] s1_3 (qR (fun ra s1_5 => At G mX1_book 12 Q X (b - bc - 1 - bc_2 - bc_4) 30 [(0, .ref h0), (2, .ref q), (3, .ref ra)] [] s1_5)) (fun E q9 s9 => AtX G mX1_book 12 Q X (b - bc - 1 - bc_2 - bc_4) 26 [(2, .ref q), (0, .ref h0), (1, .int x1)] E q9 s9))) X)))) X)) : At G mX1_book 12 Q X b 0 [(0, .ref h0), (1, .int x1)] [] (σ) := by
  refine g_aload_n dX1_book_0 rfl 0 rfl ?_
  refine g_iload_n dX1_book_1 rfl 1 rfl ?_
  refine g_iconst (v := 0) dX1_book_2 (by decide) ?_
  refine g_aload_n dX1_book_3 rfl 0 rfl ?_
  obtain ⟨x_fed, hf, h⟩ := h
  refine g_get 13 dX1_book_4 in_X1 cl1 (by decide) q466 hf ?_
  refine g_sipush (v := 150) dX1_book_7 (by decide) ?_
  refine g_imin dX1_book_10 q1130 (by decide) (by simp [Value.category]) ?_
  refine g_topi (fun w ew => ?_)
  replace h := h w ew
  obtain ⟨bc, hb9, h⟩ := h
  obtain ⟨⟨_, hO⟩, h⟩ := h
  refine g_callV (N := mX1_within) (st := []) (As := [.int x1, .int 0, .int w]) (a := h0) dX1_book_13 wsX1_within (lw_V q833 q835 qs11 q108 q836) rfl mokX1_within rfl cl1 (by decide) (by decide) hb9 (Nat.zero_le _) hO h (fun E q s hx => AtX.out (by decide) hx) (fun _ s1 hq => ?_)
  obtain ⟨rfl, h⟩ := hq
  refine At.stk (st' := []) rfl ?_
  obtain ⟨hb, h⟩ := h
  refine g_new (ci := 8) (fs := [.null, .null, .null, .int 0]) 1 dX1_book_16 in_X8 tyX8 tyX8_ok cl8 q430 q431 q115 new8 (by decide) (by decide) hb (fun q hq => ?_)
  replace h := h q hq
  refine g_tops (fun s1_1 es1_1 => ?_)
  replace h := h s1_1 es1_1
  refine g_dup dX1_book_19 rfl ?_
  obtain ⟨bc_2, hb9, h⟩ := h
  refine g_callIN (N := mX8_init) (st := [.ref q]) (As := []) (a := q) dX1_book_20 wsX8_init q434 q115 q432 q433 rfl mokX8_init rfl (by decide) (by decide) hb9 (by simp [Value.category]) h (fun E q s hx => AtX.out (by decide) hx) (fun _ s1_3 hq => ?_)
  obtain ⟨rfl, h⟩ := hq
  refine At.stk (st' := [.ref q]) rfl ?_
  refine g_astore_n (ls1 := [(2, .ref q), (0, .ref h0), (1, .int x1)]) dX1_book_23 rfl (by decide) rfl ?_
  refine g_aload_n dX1_book_24 rfl 1 rfl ?_
  refine g_iload_n dX1_book_25 rfl 2 rfl ?_
  obtain ⟨bc_4, hb9, h⟩ := h
  obtain ⟨⟨_, hO⟩, h⟩ := h
  refine g_callV (N := mX1_reader) (st := []) (As := [.int x1]) (a := h0) dX1_book_26 wsX1_reader (lw_V q903 q905 qs13 q108 q906) rfl mokX1_reader rfl cl1 (by decide) (by decide) hb9 (Nat.zero_le _) hO h (fun E q s hx => hx) (fun _ s1_5 hq => ?_)
  obtain ⟨ra, rfl, h⟩ := hq
  refine At.stk (st' := [.ref ra]) rfl ?_
  refine g_astore_n (ls1 := [(3, .ref ra), (2, .ref q), (0, .ref h0), (1, .int x1)]) dX1_book_29 rfl (by decide) rfl ?_
  exact At.sub (ls := [(3, .ref ra), (2, .ref q), (0, .ref h0), (1, .int x1)]) [2, 1, 0] rfl h
set_option maxHeartbeats 4000000 in
theorem bX1_book_30 {G : GC} {Q : Option Value → PS → Prop} {X : String → Nat → PS → Prop} {b : Nat} {h0 : Nat} {a2 : Nat} {a3 : Nat} {σ : PS} (h : (∃ fs_3 : List Value, Ob (σ) 11 a3 fs_3) ∧ Call G mX11_now 4 0 [.ref a3] (σ) (qI (fun rx s1 => ((rx = (-1)) → ∃ fs : List Value, Ob s1 1 h0 fs ∧ 12 < fs.length ∧ (∀ s1_1 : PS, s1_1 = up s1 1 h0 (.inl (fs.set 12 (.ref a2))) → ∃ x_lines : Int32, Fg s1_1 8 a2 3 (.int x_lines) ∧ (Q (some (.int x_lines)) s1_1))) ∧ ((¬ rx = (-1)) → ∃ bc : Nat, bc ≤ b ∧ (∃ fs : List Value, Ob s1 1 h0 fs) ∧ Call G mX1_line 11 bc [.ref h0, .ref a3, .ref a2] s1 (qV (fun s1_2 => At G mX1_book 12 Q X (b - bc) 30 [(0, .ref h0), (2, .ref a2), (3, .ref a3)] [] s1_2)) (fun E q9 s9 => AtX G mX1_book 12 Q X (b - bc) 41 [(0, .ref h0), (2, .ref a2), (3, .ref a3)] E q9 s9)))) (fun E q9 s9 => AtX G mX1_book 12 Q X b 31 [(0, .ref h0), (2, .ref a2), (3, .ref a3)] E q9 s9)) : At G mX1_book 12 Q X b 30 [(0, .ref h0), (2, .ref a2), (3, .ref a3)] [] (σ) := by
  refine g_aload_n dX1_book_30 rfl 2 rfl ?_
  obtain ⟨⟨_, hO⟩, h⟩ := h
  refine g_callV (N := mX11_now) (st := []) (As := []) (a := a3) dX1_book_31 wsX11_now (lw_V q1369 q968 q969 q122 q970) rfl mokX11_now rfl cl11 (by decide) (by decide) (Nat.zero_le _) (Nat.zero_le _) hO h (fun E q s hx => hx) (fun _ s1 hq => ?_)
  obtain ⟨rx, rfl, h⟩ := hq
  refine At.stk (st' := [.int rx]) rfl ?_
  refine g_iconst (v := (-1)) dX1_book_34 (by decide) ?_
  refine g_icmp_eq (tgt := 47) dX1_book_35 (by decide) (fun c => ?_) (fun c => ?_)
  · replace h := h.1 c
    refine g_goto (tgt := 57) dX1_book_47 (by decide) ?_
    refine g_aload_n dX1_book_57 rfl 0 rfl ?_
    refine g_aload_n dX1_book_58 rfl 1 rfl ?_
    obtain ⟨fs, hO, hl, h⟩ := h
    refine g_put 12 dX1_book_59 in_X1 tyX1 tyX1_ok nmX1 cl1 (by decide) q465 rfl rfl rfl hO hl ?_
    refine g_tops (fun s1_1 es1_1 => ?_)
    replace h := h s1_1 es1_1
    refine g_aload_n dX1_book_62 rfl 1 rfl ?_
    obtain ⟨x_lines, hf, h⟩ := h
    refine g_getN 3 dX1_book_63 in_X8 cl8 (by decide) q443 hf ?_
    exact g_iret rfl dX1_book_66 h
  · replace h := h.2 c
    refine g_aload_n dX1_book_38 rfl 0 rfl ?_
    refine g_aload_n dX1_book_39 rfl 2 rfl ?_
    refine g_aload_n dX1_book_40 rfl 1 rfl ?_
    obtain ⟨bc, hb9, h⟩ := h
    obtain ⟨⟨_, hO⟩, h⟩ := h
    refine g_callV (N := mX1_line) (st := []) (As := [.ref a3, .ref a2]) (a := h0) dX1_book_41 wsX1_line (lw_V q1370 q1372 qs25 q108 q1373) rfl mokX1_line rfl cl1 (by decide) (by decide) hb9 (Nat.zero_le _) hO h (fun E q s hx => hx) (fun _ s1_2 hq => ?_)
    obtain ⟨rfl, h⟩ := hq
    refine At.stk (st' := []) rfl ?_
    refine g_goto (tgt := 30) dX1_book_44 (by decide) ?_
    exact At.sub (ls := [(0, .ref h0), (2, .ref a2), (3, .ref a3)]) [0, 1, 2] rfl h
set_option maxHeartbeats 4000000 in
theorem bX1_book_50 {G : GC} {Q : Option Value → PS → Prop} {X : String → Nat → PS → Prop} {b : Nat} {h0 : Nat} {sa0 : Nat} {σ : PS} (h : (∃ fs : List Value, Ob (σ) 1 h0 fs) ∧ Call G mX1_faulty 3 0 [.ref h0, .ref sa0] (σ) (qI (fun rx s1 => Q (some (.int rx)) s1)) X) : At G mX1_book 12 Q X b 50 [(0, .ref h0)] [.ref sa0] (σ) := by
  refine g_astore_n (ls1 := [(3, .ref sa0), (0, .ref h0)]) dX1_book_50 rfl (by decide) rfl ?_
  refine g_aload_n dX1_book_51 rfl 1 rfl ?_
  refine g_aload_n dX1_book_52 rfl 0 rfl ?_
  obtain ⟨⟨_, hO⟩, h⟩ := h
  refine g_callV (N := mX1_faulty) (st := []) (As := [.ref sa0]) (a := h0) dX1_book_53 wsX1_faulty (lw_V q1095 q1097 qs16 q108 q1098) rfl mokX1_faulty rfl cl1 (by decide) (by decide) (Nat.zero_le _) (Nat.zero_le _) hO h (fun E q s hx => AtX.out (by decide) hx) (fun _ s1 hq => ?_)
  obtain ⟨rx, rfl, h⟩ := hq
  refine At.stk (st' := [.int rx]) rfl ?_
  exact g_iret rfl dX1_book_56 h
theorem eX1_book {G : GC} {Q : Option Value → PS → Prop} {X : String → Nat → PS → Prop} {b : Nat} {h0 : Nat} {p1 : Int32} {σ : PS} (h : At G mX1_book 12 Q X b 0 [(0, .ref h0), (1, .int p1)] [] σ) : Call G mX1_book 12 b [.ref h0, .int p1] σ Q X :=
  Call.ofH (by decide +kernel) wsX1_book (Nat.le_of_ble_eq_true rfl) (At.sub (ls := [(0, .ref h0), (1, .int p1)]) [0, 1] rfl h)
set_option maxHeartbeats 4000000 in
theorem bX1_line_0 {G : GC} {Q : Option Value → PS → Prop} {X : String → Nat → PS → Prop} {b : Nat} {a1 : Nat} {a2 : Nat} {σ : PS} (h : (∃ fs_12 : List Value, Ob (σ) 11 a1 fs_12) ∧ Call G mX11_place 5 0 [.ref a1] (σ) (qI (fun rx s1 => ∃ bc : Nat, bc ≤ b ∧ (∃ fs_11 : List Value, Ob s1 11 a1 fs_11) ∧ Call G mX11_number 10 bc [.ref a1, .int 0, .int 23] s1 (qI (fun rx_2 s1_1 => ∃ x_lines : Int32, Fg s1_1 8 a2 3 (.int x_lines) ∧ (((¬ x_lines = 10) → ∃ a_visit : Nat, Fg s1_1 8 a2 0 (.ref a_visit) ∧ (∃ (n : Nat) (f : Nat → Int32), Ia s1_1 100 a_visit n f ∧ vp_in x_lines n ∧ (∀ s1_3 : PS, s1_3 = up s1_1 100 a_visit (.inr (n, .inl (upd f x_lines.toNatClampNeg rx_2))) → ∃ a_what : Nat, Fg s1_3 8 a2 1 (.ref a_what) ∧ ((∃ fs_8 : List Value, Ob s1_3 11 a1 fs_8) ∧ Call G mX11_takes 8 0 [.ref a1, .ref (gk G 30)] s1_3 (qI (fun rx_5 s1_4 => ((rx_5 = 0) → (∃ fs : List Value, Ob s1_4 11 a1 fs) ∧ Call G mX11_takes 8 0 [.ref a1, .ref (gk G 31)] s1_4 (qI (fun rx_7 s1_6 => ((rx_7 = 0) → At G mX1_line 11 Q X (b - bc) 79 [(1, .ref a1), (2, .ref a2), (5, .int x_lines)] [.int 2, .int x_lines, .ref a_what] s1_6) ∧ ((¬ rx_7 = 0) → At G mX1_line 11 Q X (b - bc) 79 [(1, .ref a1), (2, .ref a2), (5, .int x_lines)] [.int 1, .int x_lines, .ref a_what] s1_6))) X) ∧ ((¬ rx_5 = 0) → At G mX1_line 11 Q X (b - bc) 79 [(1, .ref a1), (2, .ref a2), (5, .int x_lines)] [.int 0, .int x_lines, .ref a_what] s1_4))) X)))) ∧ ((x_lines = 10) → 1 ≤ b - bc ∧ (∀ q : Nat, (∀ κ, s1_1 κ q = none) → (∀ s1_9 : PS, s1_9 = up s1_1 12 q (.inl [.null, .null, .null, .null, .null, .int 0, .int 0, .int 0]) → Call G mX12_init 6 0 [.ref q, .int 3, .int rx] s1_9 (qV (fun s1_10 => ∃ fs : List Value, Ob s1_10 12 q fs ∧ X "CardCups$Wrong" q s1_10)) X)))))) X)) X) : At G mX1_line 11 Q X b 0 [(1, .ref a1), (2, .ref a2)] [] (σ) := by
  refine g_aload_n dX1_line_0 rfl 0 rfl ?_
  obtain ⟨⟨_, hO⟩, h⟩ := h
  refine g_callV (N := mX11_place) (st := []) (As := []) (a := a1) dX1_line_1 wsX11_place (lw_V q1374 q980 q981 q122 q982) rfl mokX11_place rfl cl11 (by decide) (by decide) (Nat.zero_le _) (Nat.zero_le _) hO h (fun E q s hx => AtX.out0 rfl hx) (fun _ s1 hq => ?_)
  obtain ⟨rx, rfl, h⟩ := hq
  refine At.stk (st' := [.int rx]) rfl ?_
  refine g_istore_n (ls1 := [(3, .int rx), (1, .ref a1), (2, .ref a2)]) dX1_line_4 rfl (by decide) rfl ?_
  refine g_aload_n dX1_line_5 rfl 1 rfl ?_
  refine g_iconst (v := 0) dX1_line_6 (by decide) ?_
  refine g_bipush (v := 23) dX1_line_7 (by decide) ?_
  obtain ⟨bc, hb9, h⟩ := h
  obtain ⟨⟨_, hO⟩, h⟩ := h
  refine g_callV (N := mX11_number) (st := []) (As := [.int 0, .int 23]) (a := a1) dX1_line_9 wsX11_number (lw_V q1375 q1077 q1078 q122 q1079) rfl mokX11_number rfl cl11 (by decide) (by decide) hb9 (Nat.zero_le _) hO h (fun E q s hx => AtX.out0 rfl hx) (fun _ s1_1 hq => ?_)
  obtain ⟨rx_2, rfl, h⟩ := hq
  refine At.stk (st' := [.int rx_2]) rfl ?_
  refine g_istore (ls1 := [(4, .int rx_2), (3, .int rx), (1, .ref a1), (2, .ref a2)]) dX1_line_12 (by decide) rfl ?_
  refine g_aload_n dX1_line_14 rfl 3 rfl ?_
  obtain ⟨x_lines, hf, h⟩ := h
  refine g_getN 3 dX1_line_15 in_X8 cl8 (by decide) q443 hf ?_
  refine g_istore (ls1 := [(5, .int x_lines), (4, .int rx_2), (3, .int rx), (1, .ref a1), (2, .ref a2)]) dX1_line_18 (by decide) rfl ?_
  refine g_iload dX1_line_20 0 rfl ?_
  refine g_bipush (v := 10) dX1_line_22 (by decide) ?_
  refine g_icmp_ne (tgt := 37) dX1_line_24 (by decide) (fun c => ?_) (fun c => ?_)
  · replace h := h.1 c
    refine g_aload_n dX1_line_37 rfl 4 rfl ?_
    obtain ⟨a_visit, hf, h⟩ := h
    refine g_getN 0 dX1_line_38 in_X8 cl8 (by decide) q437 hf ?_
    refine g_iload dX1_line_41 0 rfl ?_
    refine g_iload dX1_line_43 1 rfl ?_
    obtain ⟨n, f, h1, h2, h⟩ := h
    refine g_iast dX1_line_45 h1 h2 ?_
    refine g_tops (fun s1_3 es1_3 => ?_)
    replace h := h s1_3 es1_3
    refine g_aload_n dX1_line_46 rfl 4 rfl ?_
    obtain ⟨a_what, hf, h⟩ := h
    refine g_getN 1 dX1_line_47 in_X8 cl8 (by decide) q439 hf ?_
    refine g_iload dX1_line_50 0 rfl ?_
    refine g_aload_n dX1_line_52 rfl 3 rfl ?_
    refine g_ldcS 30 dX1_line_53 rfl rfl rfl ?_
    obtain ⟨⟨_, hO⟩, h⟩ := h
    refine g_callV (N := mX11_takes) (st := [.int x_lines, .ref a_what]) (As := [.ref (gk G 30)]) (a := a1) dX1_line_55 wsX11_takes (lw_V q1378 q1197 q1198 q122 q1199) rfl mokX11_takes rfl cl11 (by decide) (by decide) (Nat.zero_le _) (by simp [Value.category]) hO h (fun E q s hx => AtX.out0 rfl hx) (fun _ s1_4 hq => ?_)
    obtain ⟨rx_5, rfl, h⟩ := hq
    refine At.stk (st' := [.int rx_5, .int x_lines, .ref a_what]) rfl ?_
    refine g_if_eq (tgt := 65) dX1_line_58 (by decide) (fun c => ?_) (fun c => ?_)
    · replace h := h.1 c
      refine g_aload_n dX1_line_65 rfl 3 rfl ?_
      refine g_ldcS 31 dX1_line_66 rfl rfl rfl ?_
      obtain ⟨⟨_, hO⟩, h⟩ := h
      refine g_callV (N := mX11_takes) (st := [.int x_lines, .ref a_what]) (As := [.ref (gk G 31)]) (a := a1) dX1_line_68 wsX11_takes (lw_V q1378 q1197 q1198 q122 q1199) rfl mokX11_takes rfl cl11 (by decide) (by decide) (Nat.zero_le _) (by simp [Value.category]) hO h (fun E q s hx => AtX.out0 rfl hx) (fun _ s1_6 hq => ?_)
      obtain ⟨rx_7, rfl, h⟩ := hq
      refine At.stk (st' := [.int rx_7, .int x_lines, .ref a_what]) rfl ?_
      refine g_if_eq (tgt := 78) dX1_line_71 (by decide) (fun c => ?_) (fun c => ?_)
      · replace h := h.1 c
        refine g_iconst (v := 2) dX1_line_78 (by decide) ?_
        exact At.sub (ls := [(5, .int x_lines), (4, .int rx_2), (3, .int rx), (1, .ref a1), (2, .ref a2)]) [3, 4, 0] rfl h
      · replace h := h.2 c
        refine g_iconst (v := 1) dX1_line_74 (by decide) ?_
        refine g_goto (tgt := 79) dX1_line_75 (by decide) ?_
        exact At.sub (ls := [(5, .int x_lines), (4, .int rx_2), (3, .int rx), (1, .ref a1), (2, .ref a2)]) [3, 4, 0] rfl h
    · replace h := h.2 c
      refine g_iconst (v := 0) dX1_line_61 (by decide) ?_
      refine g_goto (tgt := 79) dX1_line_62 (by decide) ?_
      exact At.sub (ls := [(5, .int x_lines), (4, .int rx_2), (3, .int rx), (1, .ref a1), (2, .ref a2)]) [3, 4, 0] rfl h
  · replace h := h.2 c
    obtain ⟨hb, h⟩ := h
    refine g_new (ci := 12) (fs := [.null, .null, .null, .null, .null, .int 0, .int 0, .int 0]) 1 dX1_line_27 in_X12 tyX12 tyX12_ok cl12 q832 q1045 q127 new12 (by decide) (by decide) hb (fun q hq => ?_)
    replace h := h q hq
    refine g_tops (fun s1_9 es1_9 => ?_)
    replace h := h s1_9 es1_9
    refine g_dup dX1_line_30 rfl ?_
    refine g_iconst (v := 3) dX1_line_31 (by decide) ?_
    refine g_iload_n dX1_line_32 rfl 2 rfl ?_
    refine g_callI (N := mX12_init) (st := [.ref q]) (As := [.int 3, .int rx]) (a := q) dX1_line_33 wsX12_init q1055 q127 q1376 q1054 rfl mokX12_init rfl (by decide) (by decide) (Nat.zero_le _) (by simp [Value.category]) h (fun E q s hx => AtX.out0 rfl hx) (fun _ s1_10 hq => ?_)
    obtain ⟨rfl, h⟩ := hq
    refine At.stk (st' := [.ref q]) rfl ?_
    obtain ⟨fs, hO, h⟩ := h
    exact g_athrow dX1_line_36 cl12 rfl hO (AtX.out0 rfl h)
set_option maxHeartbeats 4000000 in
theorem bX1_line_79 {G : GC} {Q : Option Value → PS → Prop} {X : String → Nat → PS → Prop} {b : Nat} {a1 : Nat} {a2 : Nat} {x5 : Int32} {sa0 : Nat} {sx1 : Int32} {sx2 : Int32} {σ : PS} (h : ∃ (n : Nat) (f : Nat → Int32), Ia (σ) 100 sa0 n f ∧ vp_in sx1 n ∧ (∀ s1 : PS, s1 = up (σ) 100 sa0 (.inr (n, .inl (upd f sx1.toNatClampNeg sx2))) → ∃ a_what : Nat, Fg s1 8 a2 1 (.ref a_what) ∧ (∃ (n_1 : Nat) (f_2 : Nat → Int32), Ia s1 100 a_what n_1 f_2 ∧ vp_in x5 n_1 ∧ (((¬ (f_2 x5.toNatClampNeg) = 2) → At G mX1_line 11 Q X b 113 [(1, .ref a1), (2, .ref a2), (5, .int x5)] [] s1) ∧ (((f_2 x5.toNatClampNeg) = 2) → (∃ fs_9 : List Value, Ob s1 11 a1 fs_9) ∧ Call G mX11_takes 8 0 [.ref a1, .ref (gk G 32)] s1 (qI (fun rx s1_3 => ((¬ rx = 0) → At G mX1_line 11 Q X b 113 [(1, .ref a1), (2, .ref a2), (5, .int x5)] [] s1_3) ∧ ((rx = 0) → 1 ≤ b ∧ (∀ q : Nat, (∀ κ, s1_3 κ q = none) → (∀ s1_4 : PS, s1_4 = up s1_3 12 q (.inl [.null, .null, .null, .null, .null, .int 0, .int 0, .int 0]) → (∃ fs_8 : List Value, Ob s1_4 11 a1 fs_8) ∧ Call G mX11_place 5 0 [.ref a1] s1_4 (qI (fun rx_6 s1_5 => Call G mX12_init 6 0 [.ref q, .int 1, .int rx_6] s1_5 (qV (fun s1_7 => ∃ fs : List Value, Ob s1_7 12 q fs ∧ X "CardCups$Wrong" q s1_7)) X)) X))))) X))))) : At G mX1_line 11 Q X b 79 [(1, .ref a1), (2, .ref a2), (5, .int x5)] [.int sx2, .int sx1, .ref sa0] (σ) := by
  obtain ⟨n, f, h1, h2, h⟩ := h
  refine g_iast dX1_line_79 h1 h2 ?_
  refine g_tops (fun s1 es1 => ?_)
  replace h := h s1 es1
  refine g_aload_n dX1_line_80 rfl 1 rfl ?_
  obtain ⟨a_what, hf, h⟩ := h
  refine g_getN 1 dX1_line_81 in_X8 cl8 (by decide) q439 hf ?_
  refine g_iload dX1_line_84 2 rfl ?_
  obtain ⟨n_1, f_2, h1, h2, h⟩ := h
  refine g_iald dX1_line_86 h1 h2 ?_
  refine g_iconst (v := 2) dX1_line_87 (by decide) ?_
  refine g_icmp_ne (tgt := 113) dX1_line_88 (by decide) (fun c => ?_) (fun c => ?_)
  · replace h := h.1 c
    exact At.sub (ls := [(1, .ref a1), (2, .ref a2), (5, .int x5)]) [0, 1, 2] rfl h
  · replace h := h.2 c
    refine g_aload_n dX1_line_91 rfl 0 rfl ?_
    refine g_ldcS 32 dX1_line_92 rfl rfl rfl ?_
    obtain ⟨⟨_, hO⟩, h⟩ := h
    refine g_callV (N := mX11_takes) (st := []) (As := [.ref (gk G 32)]) (a := a1) dX1_line_94 wsX11_takes (lw_V q1378 q1197 q1198 q122 q1199) rfl mokX11_takes rfl cl11 (by decide) (by decide) (Nat.zero_le _) (Nat.zero_le _) hO h (fun E q s hx => AtX.out0 rfl hx) (fun _ s1_3 hq => ?_)
    obtain ⟨rx, rfl, h⟩ := hq
    refine At.stk (st' := [.int rx]) rfl ?_
    refine g_if_ne (tgt := 113) dX1_line_97 (by decide) (fun c => ?_) (fun c => ?_)
    · replace h := h.1 c
      exact At.sub (ls := [(1, .ref a1), (2, .ref a2), (5, .int x5)]) [0, 1, 2] rfl h
    · replace h := h.2 c
      obtain ⟨hb, h⟩ := h
      refine g_new (ci := 12) (fs := [.null, .null, .null, .null, .null, .int 0, .int 0, .int 0]) 1 dX1_line_100 in_X12 tyX12 tyX12_ok cl12 q832 q1045 q127 new12 (by decide) (by decide) hb (fun q hq => ?_)
      replace h := h q hq
      refine g_tops (fun s1_4 es1_4 => ?_)
      replace h := h s1_4 es1_4
      refine g_dup dX1_line_103 rfl ?_
      refine g_iconst (v := 1) dX1_line_104 (by decide) ?_
      refine g_aload_n dX1_line_105 rfl 0 rfl ?_
      obtain ⟨⟨_, hO⟩, h⟩ := h
      refine g_callV (N := mX11_place) (st := [.int 1, .ref q, .ref q]) (As := []) (a := a1) dX1_line_106 wsX11_place (lw_V q1374 q980 q981 q122 q982) rfl mokX11_place rfl cl11 (by decide) (by decide) (Nat.zero_le _) (by simp [Value.category]) hO h (fun E q s hx => AtX.out0 rfl hx) (fun _ s1_5 hq => ?_)
      obtain ⟨rx_6, rfl, h⟩ := hq
      refine At.stk (st' := [.int rx_6, .int 1, .ref q, .ref q]) rfl ?_
      refine g_callI (N := mX12_init) (st := [.ref q]) (As := [.int 1, .int rx_6]) (a := q) dX1_line_109 wsX12_init q1055 q127 q1376 q1054 rfl mokX12_init rfl (by decide) (by decide) (Nat.zero_le _) (by simp [Value.category]) h (fun E q s hx => AtX.out0 rfl hx) (fun _ s1_7 hq => ?_)
      obtain ⟨rfl, h⟩ := hq
      refine At.stk (st' := [.ref q]) rfl ?_
      obtain ⟨fs, hO, h⟩ := h
      exact g_athrow dX1_line_112 cl12 rfl hO (AtX.out0 rfl h)
set_option maxHeartbeats 4000000 in
theorem bX1_line_113 {G : GC} {Q : Option Value → PS → Prop} {X : String → Nat → PS → Prop} {b : Nat} {a1 : Nat} {a2 : Nat} {x5 : Int32} {σ : PS} (h : ∃ a_much : Nat, Fg (σ) 8 a2 2 (.ref a_much) ∧ (∃ a_what : Nat, Fg (σ) 8 a2 1 (.ref a_what) ∧ (∃ (n : Nat) (f : Nat → Int32), Ia (σ) 100 a_what n f ∧ vp_in x5 n ∧ (((¬ (f x5.toNatClampNeg) = 2) → ∃ bc : Nat, bc ≤ b ∧ (∃ fs_8 : List Value, Ob (σ) 11 a1 fs_8) ∧ Call G mX11_number 10 bc [.ref a1, .int 0, .int 1] (σ) (qI (fun rx s1 => ∃ (n_1 : Nat) (f_2 : Nat → Int32), Ia s1 100 a_much n_1 f_2 ∧ vp_in x5 n_1 ∧ (∀ s1_3 : PS, s1_3 = up s1 100 a_much (.inr (n_1, .inl (upd f_2 x5.toNatClampNeg rx))) → ∃ bc_4 : Nat, bc_4 ≤ b - bc ∧ (∃ fs_7 : List Value, Ob s1_3 11 a1 fs_7) ∧ Call G mX11_sign 10 bc_4 [.ref a1, .int 59] s1_3 (qV (fun s1_5 => ∃ x_lines : Int32, Fg s1_5 8 a2 3 (.int x_lines) ∧ (∃ fs : List Value, Ob s1_5 8 a2 fs ∧ 3 < fs.length ∧ (∀ s1_6 : PS, s1_6 = up s1_5 8 a2 (.inl (fs.set 3 (.int (x_lines + 1)))) → Q none s1_6)))) X))) X) ∧ (((f x5.toNatClampNeg) = 2) → ∃ bc : Nat, bc ≤ b ∧ (∃ fs_16 : List Value, Ob (σ) 11 a1 fs_16) ∧ Call G mX11_number 10 bc [.ref a1, .int 0, .int 12] (σ) (qI (fun rx s1 => ∃ (n_9 : Nat) (f_10 : Nat → Int32), Ia s1 100 a_much n_9 f_10 ∧ vp_in x5 n_9 ∧ (∀ s1_11 : PS, s1_11 = up s1 100 a_much (.inr (n_9, .inl (upd f_10 x5.toNatClampNeg rx))) → ∃ bc_12 : Nat, bc_12 ≤ b - bc ∧ (∃ fs_15 : List Value, Ob s1_11 11 a1 fs_15) ∧ Call G mX11_sign 10 bc_12 [.ref a1, .int 59] s1_11 (qV (fun s1_13 => ∃ x_lines : Int32, Fg s1_13 8 a2 3 (.int x_lines) ∧ (∃ fs : List Value, Ob s1_13 8 a2 fs ∧ 3 < fs.length ∧ (∀ s1_14 : PS, s1_14 = up s1_13 8 a2 (.inl (fs.set 3 (.int (x_lines + 1)))) → Q none s1_14)))) X))) X))))) : At G mX1_line 11 Q X b 113 [(1, .ref a1), (2, .ref a2), (5, .int x5)] [] (σ) := by
  refine g_aload_n dX1_line_113 rfl 1 rfl ?_
  obtain ⟨a_much, hf, h⟩ := h
  refine g_getN 2 dX1_line_114 in_X8 cl8 (by decide) q441 hf ?_
  refine g_iload dX1_line_117 2 rfl ?_
  refine g_aload_n dX1_line_119 rfl 0 rfl ?_
  refine g_iconst (v := 0) dX1_line_120 (by decide) ?_
  refine g_aload_n dX1_line_121 rfl 1 rfl ?_
  obtain ⟨a_what, hf, h⟩ := h
  refine g_getN 1 dX1_line_122 in_X8 cl8 (by decide) q439 hf ?_
  refine g_iload dX1_line_125 2 rfl ?_
  obtain ⟨n, f, h1, h2, h⟩ := h
  refine g_iald dX1_line_127 h1 h2 ?_
  refine g_iconst (v := 2) dX1_line_128 (by decide) ?_
  refine g_icmp_ne (tgt := 137) dX1_line_129 (by decide) (fun c => ?_) (fun c => ?_)
  · replace h := h.1 c
    refine g_iconst (v := 1) dX1_line_137 (by decide) ?_
    obtain ⟨bc, hb9, h⟩ := h
    obtain ⟨⟨_, hO⟩, h⟩ := h
    refine g_callV (N := mX11_number) (st := [.int x5, .ref a_much]) (As := [.int 0, .int 1]) (a := a1) dX1_line_138 wsX11_number (lw_V q1375 q1077 q1078 q122 q1079) rfl mokX11_number rfl cl11 (by decide) (by decide) hb9 (by simp [Value.category]) hO h (fun E q s hx => AtX.out0 rfl hx) (fun _ s1 hq => ?_)
    obtain ⟨rx, rfl, h⟩ := hq
    refine At.stk (st' := [.int rx, .int x5, .ref a_much]) rfl ?_
    obtain ⟨n_1, f_2, h1, h2, h⟩ := h
    refine g_iast dX1_line_141 h1 h2 ?_
    refine g_tops (fun s1_3 es1_3 => ?_)
    replace h := h s1_3 es1_3
    refine g_aload_n dX1_line_142 rfl 0 rfl ?_
    refine g_bipush (v := 59) dX1_line_143 (by decide) ?_
    obtain ⟨bc_4, hb9, h⟩ := h
    obtain ⟨⟨_, hO⟩, h⟩ := h
    refine g_callV (N := mX11_sign) (st := []) (As := [.int 59]) (a := a1) dX1_line_145 wsX11_sign (lw_V q1381 q1092 q1093 q122 q1094) rfl mokX11_sign rfl cl11 (by decide) (by decide) hb9 (Nat.zero_le _) hO h (fun E q s hx => AtX.out0 rfl hx) (fun _ s1_5 hq => ?_)
    obtain ⟨rfl, h⟩ := hq
    refine At.stk (st' := []) rfl ?_
    refine g_aload_n dX1_line_148 rfl 1 rfl ?_
    refine g_dup dX1_line_149 rfl ?_
    obtain ⟨x_lines, hf, h⟩ := h
    refine g_getN 3 dX1_line_150 in_X8 cl8 (by decide) q443 hf ?_
    refine g_iconst (v := 1) dX1_line_153 (by decide) ?_
    refine g_iadd dX1_line_154 ?_
    obtain ⟨fs, hO, hl, h⟩ := h
    refine g_putN 3 dX1_line_155 in_X8 tyX8 tyX8_ok nmX8 cl8 (by decide) q443 rfl rfl rfl hO hl ?_
    refine g_tops (fun s1_6 es1_6 => ?_)
    replace h := h s1_6 es1_6
    exact g_vret rfl dX1_line_158 h
  · replace h := h.2 c
    refine g_bipush (v := 12) dX1_line_132 (by decide) ?_
    refine g_goto (tgt := 138) dX1_line_134 (by decide) ?_
    obtain ⟨bc, hb9, h⟩ := h
    obtain ⟨⟨_, hO⟩, h⟩ := h
    refine g_callV (N := mX11_number) (st := [.int x5, .ref a_much]) (As := [.int 0, .int 12]) (a := a1) dX1_line_138 wsX11_number (lw_V q1375 q1077 q1078 q122 q1079) rfl mokX11_number rfl cl11 (by decide) (by decide) hb9 (by simp [Value.category]) hO h (fun E q s hx => AtX.out0 rfl hx) (fun _ s1 hq => ?_)
    obtain ⟨rx, rfl, h⟩ := hq
    refine At.stk (st' := [.int rx, .int x5, .ref a_much]) rfl ?_
    obtain ⟨n_9, f_10, h1, h2, h⟩ := h
    refine g_iast dX1_line_141 h1 h2 ?_
    refine g_tops (fun s1_11 es1_11 => ?_)
    replace h := h s1_11 es1_11
    refine g_aload_n dX1_line_142 rfl 0 rfl ?_
    refine g_bipush (v := 59) dX1_line_143 (by decide) ?_
    obtain ⟨bc_12, hb9, h⟩ := h
    obtain ⟨⟨_, hO⟩, h⟩ := h
    refine g_callV (N := mX11_sign) (st := []) (As := [.int 59]) (a := a1) dX1_line_145 wsX11_sign (lw_V q1381 q1092 q1093 q122 q1094) rfl mokX11_sign rfl cl11 (by decide) (by decide) hb9 (Nat.zero_le _) hO h (fun E q s hx => AtX.out0 rfl hx) (fun _ s1_13 hq => ?_)
    obtain ⟨rfl, h⟩ := hq
    refine At.stk (st' := []) rfl ?_
    refine g_aload_n dX1_line_148 rfl 1 rfl ?_
    refine g_dup dX1_line_149 rfl ?_
    obtain ⟨x_lines, hf, h⟩ := h
    refine g_getN 3 dX1_line_150 in_X8 cl8 (by decide) q443 hf ?_
    refine g_iconst (v := 1) dX1_line_153 (by decide) ?_
    refine g_iadd dX1_line_154 ?_
    obtain ⟨fs, hO, hl, h⟩ := h
    refine g_putN 3 dX1_line_155 in_X8 tyX8 tyX8_ok nmX8 cl8 (by decide) q443 rfl rfl rfl hO hl ?_
    refine g_tops (fun s1_14 es1_14 => ?_)
    replace h := h s1_14 es1_14
    exact g_vret rfl dX1_line_158 h
theorem eX1_line {G : GC} {Q : Option Value → PS → Prop} {X : String → Nat → PS → Prop} {b : Nat} {h0 : Nat} {p1 : Nat} {p2 : Nat} {σ : PS} (h : At G mX1_line 11 Q X b 0 [(1, .ref p1), (2, .ref p2)] [] σ) : Call G mX1_line 11 b [.ref h0, .ref p1, .ref p2] σ Q X :=
  Call.of (by decide +kernel) wsX1_line rfl (Nat.le_of_ble_eq_true rfl) (At.sub (ls := [(0, .ref h0), (1, .ref p1), (2, .ref p2)]) [1, 2] rfl h)
set_option maxHeartbeats 4000000 in
theorem bX1_told_0 {G : GC} {Q : Option Value → PS → Prop} {X : String → Nat → PS → Prop} {b : Nat} {h0 : Nat} {x1 : Int32} {σ : PS} (h : ∃ bc : Nat, bc ≤ b ∧ (∃ fs : List Value, Ob (σ) 1 h0 fs) ∧ Call G mX1_within 10 bc [.ref h0, .int x1, .int 0, .int 9] (σ) (qV (fun s1 => (x1.toInt < 0 ∨ 8 < x1.toInt → ∃ a_book : Nat, Fg s1 1 h0 12 (.ref a_book) ∧ (∃ x_lines : Int32, Fg s1 8 a_book 3 (.int x_lines) ∧ (Q (some (.int x_lines)) s1))) ∧ (x1 = 0 → ∃ a_office : Nat, Fg s1 1 h0 10 (.ref a_office) ∧ (∃ x_cups : Int32, Fg s1 7 a_office 1 (.int x_cups) ∧ (Q (some (.int x_cups)) s1))) ∧ (x1 = 1 → ∃ a_office : Nat, Fg s1 1 h0 10 (.ref a_office) ∧ (∃ x_clean : Int32, Fg s1 7 a_office 2 (.int x_clean) ∧ (Q (some (.int x_clean)) s1))) ∧ (x1 = 2 → ∃ a_office : Nat, Fg s1 1 h0 10 (.ref a_office) ∧ (∃ x_dirty : Int32, Fg s1 7 a_office 3 (.int x_dirty) ∧ (Q (some (.int x_dirty)) s1))) ∧ (x1 = 3 → ∃ a_office : Nat, Fg s1 1 h0 10 (.ref a_office) ∧ (∃ x_card : Int32, Fg s1 7 a_office 4 (.int x_card) ∧ (Q (some (.int x_card)) s1))) ∧ (x1 = 4 → ∃ a_office : Nat, Fg s1 1 h0 10 (.ref a_office) ∧ (∃ x_fall : Int32, Fg s1 7 a_office 5 (.int x_fall) ∧ (Q (some (.int x_fall)) s1))) ∧ (x1 = 5 → ∃ a_office : Nat, Fg s1 1 h0 10 (.ref a_office) ∧ (∃ x_warm : Int32, Fg s1 7 a_office 6 (.int x_warm) ∧ (Q (some (.int x_warm)) s1))) ∧ (x1 = 6 → ∃ a_office : Nat, Fg s1 1 h0 10 (.ref a_office) ∧ (∃ x_see : Int32, Fg s1 7 a_office 7 (.int x_see) ∧ (Q (some (.int x_see)) s1))) ∧ (x1 = 7 → ∃ a_office : Nat, Fg s1 1 h0 10 (.ref a_office) ∧ (∃ x_people : Int32, Fg s1 7 a_office 8 (.int x_people) ∧ (Q (some (.int x_people)) s1))) ∧ (x1 = 8 → ∃ a_calendar : Nat, Fg s1 1 h0 1 (.ref a_calendar) ∧ (∃ x_many : Int32, Fg s1 2 a_calendar 2 (.int x_many) ∧ (Q (some (.int x_many)) s1))))) X) : At G mX1_told 11 Q X b 0 [(0, .ref h0), (1, .int x1)] [] (σ) := by
  refine g_aload_n dX1_told_0 rfl 0 rfl ?_
  refine g_iload_n dX1_told_1 rfl 1 rfl ?_
  refine g_iconst (v := 0) dX1_told_2 (by decide) ?_
  refine g_bipush (v := 9) dX1_told_3 (by decide) ?_
  obtain ⟨bc, hb9, h⟩ := h
  obtain ⟨⟨_, hO⟩, h⟩ := h
  refine g_callV (N := mX1_within) (st := []) (As := [.int x1, .int 0, .int 9]) (a := h0) dX1_told_5 wsX1_within (lw_V q833 q835 qs11 q108 q836) rfl mokX1_within rfl cl1 (by decide) (by decide) hb9 (Nat.zero_le _) hO h (fun E q s hx => AtX.out0 rfl hx) (fun _ s1 hq => ?_)
  obtain ⟨rfl, h⟩ := hq
  refine At.stk (st' := []) rfl ?_
  refine g_iload_n dX1_told_8 rfl 1 rfl ?_
  rcases tb_split x1 0 9 with ho | ⟨i9, hi9, ex9⟩
  · refine g_tableOut (tgt := 132) dX1_told_9 (by omega) (by decide) ?_
    replace h := h.1 ho
    refine g_aload_n dX1_told_132 rfl 0 rfl ?_
    obtain ⟨a_book, hf, h⟩ := h
    refine g_get 12 dX1_told_133 in_X1 cl1 (by decide) q465 hf ?_
    obtain ⟨x_lines, hf, h⟩ := h
    refine g_getN 3 dX1_told_136 in_X8 cl8 (by decide) q443 hf ?_
    exact g_iret rfl dX1_told_139 h
  · replace h := h.2
    match i9, hi9, ex9 with
    | 0, _, ex9 =>
      have ex9 : x1 = 0 := ex9.trans (by decide)
      replace h := h.1 ex9
      refine g_tableIn (tgt := 60) dX1_told_9 (by rw [ex9]; decide) (by rw [ex9]; decide) (off := 51) (by rw [ex9]; decide) (by decide) ?_
      refine g_aload_n dX1_told_60 rfl 0 rfl ?_
      obtain ⟨a_office, hf, h⟩ := h
      refine g_get 10 dX1_told_61 in_X1 cl1 (by decide) q463 hf ?_
      obtain ⟨x_cups, hf, h⟩ := h
      refine g_getN 1 dX1_told_64 in_X7 cl7 (by decide) q382 hf ?_
      exact g_iret rfl dX1_told_67 h
    | 1, _, ex9 =>
      have ex9 : x1 = 1 := ex9.trans (by decide)
      replace h := h.2.1 ex9
      refine g_tableIn (tgt := 68) dX1_told_9 (by rw [ex9]; decide) (by rw [ex9]; decide) (off := 59) (by rw [ex9]; decide) (by decide) ?_
      refine g_aload_n dX1_told_68 rfl 0 rfl ?_
      obtain ⟨a_office, hf, h⟩ := h
      refine g_get 10 dX1_told_69 in_X1 cl1 (by decide) q463 hf ?_
      obtain ⟨x_clean, hf, h⟩ := h
      refine g_getN 2 dX1_told_72 in_X7 cl7 (by decide) q387 hf ?_
      exact g_iret rfl dX1_told_75 h
    | 2, _, ex9 =>
      have ex9 : x1 = 2 := ex9.trans (by decide)
      replace h := h.2.2.1 ex9
      refine g_tableIn (tgt := 76) dX1_told_9 (by rw [ex9]; decide) (by rw [ex9]; decide) (off := 67) (by rw [ex9]; decide) (by decide) ?_
      refine g_aload_n dX1_told_76 rfl 0 rfl ?_
      obtain ⟨a_office, hf, h⟩ := h
      refine g_get 10 dX1_told_77 in_X1 cl1 (by decide) q463 hf ?_
      obtain ⟨x_dirty, hf, h⟩ := h
      refine g_getN 3 dX1_told_80 in_X7 cl7 (by decide) q391 hf ?_
      exact g_iret rfl dX1_told_83 h
    | 3, _, ex9 =>
      have ex9 : x1 = 3 := ex9.trans (by decide)
      replace h := h.2.2.2.1 ex9
      refine g_tableIn (tgt := 84) dX1_told_9 (by rw [ex9]; decide) (by rw [ex9]; decide) (off := 75) (by rw [ex9]; decide) (by decide) ?_
      refine g_aload_n dX1_told_84 rfl 0 rfl ?_
      obtain ⟨a_office, hf, h⟩ := h
      refine g_get 10 dX1_told_85 in_X1 cl1 (by decide) q463 hf ?_
      obtain ⟨x_card, hf, h⟩ := h
      refine g_getN 4 dX1_told_88 in_X7 cl7 (by decide) q395 hf ?_
      exact g_iret rfl dX1_told_91 h
    | 4, _, ex9 =>
      have ex9 : x1 = 4 := ex9.trans (by decide)
      replace h := h.2.2.2.2.1 ex9
      refine g_tableIn (tgt := 92) dX1_told_9 (by rw [ex9]; decide) (by rw [ex9]; decide) (off := 83) (by rw [ex9]; decide) (by decide) ?_
      refine g_aload_n dX1_told_92 rfl 0 rfl ?_
      obtain ⟨a_office, hf, h⟩ := h
      refine g_get 10 dX1_told_93 in_X1 cl1 (by decide) q463 hf ?_
      obtain ⟨x_fall, hf, h⟩ := h
      refine g_getN 5 dX1_told_96 in_X7 cl7 (by decide) q399 hf ?_
      exact g_iret rfl dX1_told_99 h
    | 5, _, ex9 =>
      have ex9 : x1 = 5 := ex9.trans (by decide)
      replace h := h.2.2.2.2.2.1 ex9
      refine g_tableIn (tgt := 100) dX1_told_9 (by rw [ex9]; decide) (by rw [ex9]; decide) (off := 91) (by rw [ex9]; decide) (by decide) ?_
      refine g_aload_n dX1_told_100 rfl 0 rfl ?_
      obtain ⟨a_office, hf, h⟩ := h
      refine g_get 10 dX1_told_101 in_X1 cl1 (by decide) q463 hf ?_
      obtain ⟨x_warm, hf, h⟩ := h
      refine g_getN 6 dX1_told_104 in_X7 cl7 (by decide) q403 hf ?_
      exact g_iret rfl dX1_told_107 h
    | 6, _, ex9 =>
      have ex9 : x1 = 6 := ex9.trans (by decide)
      replace h := h.2.2.2.2.2.2.1 ex9
      refine g_tableIn (tgt := 108) dX1_told_9 (by rw [ex9]; decide) (by rw [ex9]; decide) (off := 99) (by rw [ex9]; decide) (by decide) ?_
      refine g_aload_n dX1_told_108 rfl 0 rfl ?_
      obtain ⟨a_office, hf, h⟩ := h
      refine g_get 10 dX1_told_109 in_X1 cl1 (by decide) q463 hf ?_
      obtain ⟨x_see, hf, h⟩ := h
      refine g_getN 7 dX1_told_112 in_X7 cl7 (by decide) q408 hf ?_
      exact g_iret rfl dX1_told_115 h
    | 7, _, ex9 =>
      have ex9 : x1 = 7 := ex9.trans (by decide)
      replace h := h.2.2.2.2.2.2.2.1 ex9
      refine g_tableIn (tgt := 116) dX1_told_9 (by rw [ex9]; decide) (by rw [ex9]; decide) (off := 107) (by rw [ex9]; decide) (by decide) ?_
      refine g_aload_n dX1_told_116 rfl 0 rfl ?_
      obtain ⟨a_office, hf, h⟩ := h
      refine g_get 10 dX1_told_117 in_X1 cl1 (by decide) q463 hf ?_
      obtain ⟨x_people, hf, h⟩ := h
      refine g_getN 8 dX1_told_120 in_X7 cl7 (by decide) q409 hf ?_
      exact g_iret rfl dX1_told_123 h
    | 8, _, ex9 =>
      have ex9 : x1 = 8 := ex9.trans (by decide)
      replace h := h.2.2.2.2.2.2.2.2 ex9
      refine g_tableIn (tgt := 124) dX1_told_9 (by rw [ex9]; decide) (by rw [ex9]; decide) (off := 115) (by rw [ex9]; decide) (by decide) ?_
      refine g_aload_n dX1_told_124 rfl 0 rfl ?_
      obtain ⟨a_calendar, hf, h⟩ := h
      refine g_get 1 dX1_told_125 in_X1 cl1 (by decide) q454 hf ?_
      obtain ⟨x_many, hf, h⟩ := h
      refine g_getN 2 dX1_told_128 in_X2 cl2 (by decide) q168 hf ?_
      exact g_iret rfl dX1_told_131 h
    | i9 + 9, hi9, _ => exact absurd hi9 (by omega)
theorem eX1_told {G : GC} {Q : Option Value → PS → Prop} {X : String → Nat → PS → Prop} {b : Nat} {h0 : Nat} {p1 : Int32} {σ : PS} (h : At G mX1_told 11 Q X b 0 [(0, .ref h0), (1, .int p1)] [] σ) : Call G mX1_told 11 b [.ref h0, .int p1] σ Q X :=
  Call.of (by decide +kernel) wsX1_told rfl (Nat.le_of_ble_eq_true rfl) (At.sub (ls := [(0, .ref h0), (1, .int p1)]) [0, 1] rfl h)
set_option maxHeartbeats 4000000 in
theorem bX1_visit_0 {G : GC} {Q : Option Value → PS → Prop} {X : String → Nat → PS → Prop} {b : Nat} {h0 : Nat} {x1 : Int32} {x2 : Int32} {σ : PS} (h : ∃ bc : Nat, bc ≤ b ∧ (∃ fs_6 : List Value, Ob (σ) 1 h0 fs_6) ∧ Call G mX1_visitOf 11 bc [.ref h0, .int x1] (σ) (qV (fun s1 => ∃ bc_1 : Nat, bc_1 ≤ b - bc ∧ (∃ fs_5 : List Value, Ob s1 1 h0 fs_5) ∧ Call G mX1_within 10 bc_1 [.ref h0, .int x2, .int 0, .int 3] s1 (qV (fun s1_2 => (x2.toInt < 0 ∨ 2 < x2.toInt → ∃ a_calendar : Nat, Fg s1_2 1 h0 1 (.ref a_calendar) ∧ ((∃ fs : List Value, Ob s1_2 2 a_calendar fs) ∧ CallO G mX2_last 3 [.ref a_calendar, .int x1] s1_2 (pI (fun rx => Q (some (.int rx)) s1_2)))) ∧ (x2 = 0 → ∃ a_calendar : Nat, Fg s1_2 1 h0 1 (.ref a_calendar) ∧ (∃ a_who : Nat, Fg s1_2 2 a_calendar 0 (.ref a_who) ∧ (∃ (n : Nat) (f : Nat → Int32), Ia s1_2 100 a_who n f ∧ vp_in x1 n ∧ (Q (some (.int (f x1.toNatClampNeg))) s1_2)))) ∧ (x2 = 1 → ∃ a_calendar : Nat, Fg s1_2 1 h0 1 (.ref a_calendar) ∧ (∃ a_minute : Nat, Fg s1_2 2 a_calendar 1 (.ref a_minute) ∧ (∃ (n : Nat) (f : Nat → Int32), Ia s1_2 100 a_minute n f ∧ vp_in x1 n ∧ (Q (some (.int (f x1.toNatClampNeg))) s1_2)))) ∧ (x2 = 2 → ∃ a_calendar : Nat, Fg s1_2 1 h0 1 (.ref a_calendar) ∧ ((∃ fs : List Value, Ob s1_2 2 a_calendar fs) ∧ CallO G mX2_count 3 [.ref a_calendar, .int x1] s1_2 (pI (fun rx => Q (some (.int rx)) s1_2)))))) X)) X) : At G mX1_visit 12 Q X b 0 [(0, .ref h0), (1, .int x1), (2, .int x2)] [] (σ) := by
  refine g_aload_n dX1_visit_0 rfl 0 rfl ?_
  refine g_iload_n dX1_visit_1 rfl 1 rfl ?_
  obtain ⟨bc, hb9, h⟩ := h
  obtain ⟨⟨_, hO⟩, h⟩ := h
  refine g_callV (N := mX1_visitOf) (st := []) (As := [.int x1]) (a := h0) dX1_visit_2 wsX1_visitOf (lw_V q1396 q1398 qs26 q108 q1399) rfl mokX1_visitOf rfl cl1 (by decide) (by decide) hb9 (Nat.zero_le _) hO h (fun E q s hx => AtX.out0 rfl hx) (fun _ s1 hq => ?_)
  obtain ⟨rfl, h⟩ := hq
  refine At.stk (st' := []) rfl ?_
  refine g_aload_n dX1_visit_5 rfl 0 rfl ?_
  refine g_iload_n dX1_visit_6 rfl 2 rfl ?_
  refine g_iconst (v := 0) dX1_visit_7 (by decide) ?_
  refine g_iconst (v := 3) dX1_visit_8 (by decide) ?_
  obtain ⟨bc_1, hb9, h⟩ := h
  obtain ⟨⟨_, hO⟩, h⟩ := h
  refine g_callV (N := mX1_within) (st := []) (As := [.int x2, .int 0, .int 3]) (a := h0) dX1_visit_9 wsX1_within (lw_V q833 q835 qs11 q108 q836) rfl mokX1_within rfl cl1 (by decide) (by decide) hb9 (Nat.zero_le _) hO h (fun E q s hx => AtX.out0 rfl hx) (fun _ s1_2 hq => ?_)
  obtain ⟨rfl, h⟩ := hq
  refine At.stk (st' := []) rfl ?_
  refine g_iload_n dX1_visit_12 rfl 2 rfl ?_
  rcases tb_split x2 0 3 with ho | ⟨i9, hi9, ex9⟩
  · refine g_tableOut (tgt := 69) dX1_visit_13 (by omega) (by decide) ?_
    replace h := h.1 ho
    refine g_aload_n dX1_visit_69 rfl 0 rfl ?_
    obtain ⟨a_calendar, hf, h⟩ := h
    refine g_get 1 dX1_visit_70 in_X1 cl1 (by decide) q454 hf ?_
    refine g_iload_n dX1_visit_73 rfl 1 rfl ?_
    obtain ⟨⟨_, hO⟩, h⟩ := h
    refine g_callV (N := mX2_last) (st := []) (As := [.int x1]) (a := a_calendar) dX1_visit_74 wsX2_last (lw_V q1401 q555 q556 q109 q557) rfl mokX2_last rfl cl2 (by decide) (by decide) (Nat.zero_le _) (Nat.zero_le _) hO h (fun E q s hx => AtX.never hx) (fun _ s1_3 hq => ?_)
    obtain ⟨es, hq⟩ := hq
    refine g_tops2 es ?_
    obtain ⟨rx, rfl, h⟩ := hq
    refine At.stk (st' := [.int rx]) rfl ?_
    exact g_iret rfl dX1_visit_77 h
  · replace h := h.2
    match i9, hi9, ex9 with
    | 0, _, ex9 =>
      have ex9 : x2 = 0 := ex9.trans (by decide)
      replace h := h.1 ex9
      refine g_tableIn (tgt := 40) dX1_visit_13 (by rw [ex9]; decide) (by rw [ex9]; decide) (off := 27) (by rw [ex9]; decide) (by decide) ?_
      refine g_aload_n dX1_visit_40 rfl 0 rfl ?_
      obtain ⟨a_calendar, hf, h⟩ := h
      refine g_get 1 dX1_visit_41 in_X1 cl1 (by decide) q454 hf ?_
      obtain ⟨a_who, hf, h⟩ := h
      refine g_getN 0 dX1_visit_44 in_X2 cl2 (by decide) q162 hf ?_
      refine g_iload_n dX1_visit_47 rfl 1 rfl ?_
      obtain ⟨n, f, h1, h2, h⟩ := h
      refine g_iald dX1_visit_48 h1 h2 ?_
      exact g_iret rfl dX1_visit_49 h
    | 1, _, ex9 =>
      have ex9 : x2 = 1 := ex9.trans (by decide)
      replace h := h.2.1 ex9
      refine g_tableIn (tgt := 50) dX1_visit_13 (by rw [ex9]; decide) (by rw [ex9]; decide) (off := 37) (by rw [ex9]; decide) (by decide) ?_
      refine g_aload_n dX1_visit_50 rfl 0 rfl ?_
      obtain ⟨a_calendar, hf, h⟩ := h
      refine g_get 1 dX1_visit_51 in_X1 cl1 (by decide) q454 hf ?_
      obtain ⟨a_minute, hf, h⟩ := h
      refine g_getN 1 dX1_visit_54 in_X2 cl2 (by decide) q165 hf ?_
      refine g_iload_n dX1_visit_57 rfl 1 rfl ?_
      obtain ⟨n, f, h1, h2, h⟩ := h
      refine g_iald dX1_visit_58 h1 h2 ?_
      exact g_iret rfl dX1_visit_59 h
    | 2, _, ex9 =>
      have ex9 : x2 = 2 := ex9.trans (by decide)
      replace h := h.2.2 ex9
      refine g_tableIn (tgt := 60) dX1_visit_13 (by rw [ex9]; decide) (by rw [ex9]; decide) (off := 47) (by rw [ex9]; decide) (by decide) ?_
      refine g_aload_n dX1_visit_60 rfl 0 rfl ?_
      obtain ⟨a_calendar, hf, h⟩ := h
      refine g_get 1 dX1_visit_61 in_X1 cl1 (by decide) q454 hf ?_
      refine g_iload_n dX1_visit_64 rfl 1 rfl ?_
      obtain ⟨⟨_, hO⟩, h⟩ := h
      refine g_callV (N := mX2_count) (st := []) (As := [.int x1]) (a := a_calendar) dX1_visit_65 wsX2_count (lw_V q1400 q551 q552 q109 q553) rfl mokX2_count rfl cl2 (by decide) (by decide) (Nat.zero_le _) (Nat.zero_le _) hO h (fun E q s hx => AtX.never hx) (fun _ s1_4 hq => ?_)
      obtain ⟨es, hq⟩ := hq
      refine g_tops2 es ?_
      obtain ⟨rx, rfl, h⟩ := hq
      refine At.stk (st' := [.int rx]) rfl ?_
      exact g_iret rfl dX1_visit_68 h
    | i9 + 3, hi9, _ => exact absurd hi9 (by omega)
theorem eX1_visit {G : GC} {Q : Option Value → PS → Prop} {X : String → Nat → PS → Prop} {b : Nat} {h0 : Nat} {p1 : Int32} {p2 : Int32} {σ : PS} (h : At G mX1_visit 12 Q X b 0 [(0, .ref h0), (1, .int p1), (2, .int p2)] [] σ) : Call G mX1_visit 12 b [.ref h0, .int p1, .int p2] σ Q X :=
  Call.of (by decide +kernel) wsX1_visit rfl (Nat.le_of_ble_eq_true rfl) (At.sub (ls := [(0, .ref h0), (1, .int p1), (2, .int p2)]) [0, 1, 2] rfl h)
set_option maxHeartbeats 4000000 in
theorem bX1_visitOf_0 {G : GC} {Q : Option Value → PS → Prop} {X : String → Nat → PS → Prop} {b : Nat} {h0 : Nat} {x1 : Int32} {σ : PS} (h : ∃ a_calendar : Nat, Fg (σ) 1 h0 1 (.ref a_calendar) ∧ (∃ x_many : Int32, Fg (σ) 2 a_calendar 2 (.int x_many) ∧ (∃ bc : Nat, bc ≤ b ∧ (∃ fs : List Value, Ob (σ) 1 h0 fs) ∧ Call G mX1_isThere 10 bc [.ref h0, .int x1, .int x_many] (σ) (qV (fun s1 => Q none s1)) X))) : At G mX1_visitOf 11 Q X b 0 [(0, .ref h0), (1, .int x1)] [] (σ) := by
  refine g_aload_n dX1_visitOf_0 rfl 0 rfl ?_
  refine g_iload_n dX1_visitOf_1 rfl 1 rfl ?_
  refine g_aload_n dX1_visitOf_2 rfl 0 rfl ?_
  obtain ⟨a_calendar, hf, h⟩ := h
  refine g_get 1 dX1_visitOf_3 in_X1 cl1 (by decide) q454 hf ?_
  obtain ⟨x_many, hf, h⟩ := h
  refine g_getN 2 dX1_visitOf_6 in_X2 cl2 (by decide) q168 hf ?_
  obtain ⟨bc, hb9, h⟩ := h
  obtain ⟨⟨_, hO⟩, h⟩ := h
  refine g_callV (N := mX1_isThere) (st := []) (As := [.int x1, .int x_many]) (a := h0) dX1_visitOf_9 wsX1_isThere (lw_V q1111 q1113 qs18 q108 q1114) rfl mokX1_isThere rfl cl1 (by decide) (by decide) hb9 (Nat.zero_le _) hO h (fun E q s hx => AtX.out0 rfl hx) (fun _ s1 hq => ?_)
  obtain ⟨rfl, h⟩ := hq
  refine At.stk (st' := []) rfl ?_
  exact g_vret rfl dX1_visitOf_12 h
theorem eX1_visitOf {G : GC} {Q : Option Value → PS → Prop} {X : String → Nat → PS → Prop} {b : Nat} {h0 : Nat} {p1 : Int32} {σ : PS} (h : At G mX1_visitOf 11 Q X b 0 [(0, .ref h0), (1, .int p1)] [] σ) : Call G mX1_visitOf 11 b [.ref h0, .int p1] σ Q X :=
  Call.of (by decide +kernel) wsX1_visitOf rfl (Nat.le_of_ble_eq_true rfl) (At.sub (ls := [(0, .ref h0), (1, .int p1)]) [0, 1] rfl h)
set_option maxHeartbeats 4000000 in
theorem bX1_person_0 {G : GC} {Q : Option Value → PS → Prop} {X : String → Nat → PS → Prop} {b : Nat} {h0 : Nat} {x1 : Int32} {x2 : Int32} {σ : PS} (h : ∃ bc : Nat, bc ≤ b ∧ (∃ fs_10 : List Value, Ob (σ) 1 h0 fs_10) ∧ Call G mX1_personOf 11 bc [.ref h0, .int x1] (σ) (qV (fun s1 => ∃ bc_1 : Nat, bc_1 ≤ b - bc ∧ (∃ fs_9 : List Value, Ob s1 1 h0 fs_9) ∧ Call G mX1_within 10 bc_1 [.ref h0, .int x2, .int 0, .int 2] s1 (qV (fun s1_2 => ((¬ x2 = 0) → ((¬ x2 = 1) → ∃ a_calendar : Nat, Fg s1_2 1 h0 1 (.ref a_calendar) ∧ ((∃ fs : List Value, Ob s1_2 2 a_calendar fs) ∧ CallO G mX2_first 3 [.ref a_calendar, .int x1] s1_2 (pI (fun rx => Q (some (.int rx)) s1_2)))) ∧ ((x2 = 1) → ∃ a_calendar : Nat, Fg s1_2 1 h0 1 (.ref a_calendar) ∧ ((∃ fs : List Value, Ob s1_2 2 a_calendar fs) ∧ CallO G mX2_of 3 [.ref a_calendar, .int x1] s1_2 (pI (fun rx => Q (some (.int rx)) s1_2))))) ∧ ((x2 = 0) → ∃ a_habits : Nat, Fg s1_2 1 h0 6 (.ref a_habits) ∧ (∃ (n : Nat) (f : Nat → Option Nat), Qa s1_2 105 a_habits n f ∧ vp_in x1 n ∧ (((f x1.toNatClampNeg) = none → Q (some (.int 0)) s1_2) ∧ (∀ z : Nat, (f x1.toNatClampNeg) = some z → ∃ a_habits_5 : Nat, Fg s1_2 1 h0 6 (.ref a_habits_5) ∧ (∃ (n_6 : Nat) (f_7 : Nat → Option Nat), Qa s1_2 105 a_habits_5 n_6 f_7 ∧ vp_in x1 n_6 ∧ (∃ z_8 : Nat, (f_7 x1.toNatClampNeg) = some z_8 ∧ (∃ x_many : Int32, Fg s1_2 14 z_8 1 (.int x_many) ∧ (Q (some (.int x_many)) s1_2)))))))))) X)) X) : At G mX1_person 12 Q X b 0 [(0, .ref h0), (1, .int x1), (2, .int x2)] [] (σ) := by
  refine g_aload_n dX1_person_0 rfl 0 rfl ?_
  refine g_iload_n dX1_person_1 rfl 1 rfl ?_
  obtain ⟨bc, hb9, h⟩ := h
  obtain ⟨⟨_, hO⟩, h⟩ := h
  refine g_callV (N := mX1_personOf) (st := []) (As := [.int x1]) (a := h0) dX1_person_2 wsX1_personOf (lw_V q1107 q1109 qs17 q108 q1110) rfl mokX1_personOf rfl cl1 (by decide) (by decide) hb9 (Nat.zero_le _) hO h (fun E q s hx => AtX.out0 rfl hx) (fun _ s1 hq => ?_)
  obtain ⟨rfl, h⟩ := hq
  refine At.stk (st' := []) rfl ?_
  refine g_aload_n dX1_person_5 rfl 0 rfl ?_
  refine g_iload_n dX1_person_6 rfl 2 rfl ?_
  refine g_iconst (v := 0) dX1_person_7 (by decide) ?_
  refine g_iconst (v := 2) dX1_person_8 (by decide) ?_
  obtain ⟨bc_1, hb9, h⟩ := h
  obtain ⟨⟨_, hO⟩, h⟩ := h
  refine g_callV (N := mX1_within) (st := []) (As := [.int x2, .int 0, .int 2]) (a := h0) dX1_person_9 wsX1_within (lw_V q833 q835 qs11 q108 q836) rfl mokX1_within rfl cl1 (by decide) (by decide) hb9 (Nat.zero_le _) hO h (fun E q s hx => AtX.out0 rfl hx) (fun _ s1_2 hq => ?_)
  obtain ⟨rfl, h⟩ := hq
  refine At.stk (st' := []) rfl ?_
  refine g_iload_n dX1_person_12 rfl 2 rfl ?_
  refine g_if_ne (tgt := 39) dX1_person_13 (by decide) (fun c => ?_) (fun c => ?_)
  · replace h := h.1 c
    refine g_iload_n dX1_person_39 rfl 2 rfl ?_
    refine g_iconst (v := 1) dX1_person_40 (by decide) ?_
    refine g_icmp_ne (tgt := 55) dX1_person_41 (by decide) (fun c => ?_) (fun c => ?_)
    · replace h := h.1 c
      refine g_aload_n dX1_person_55 rfl 0 rfl ?_
      obtain ⟨a_calendar, hf, h⟩ := h
      refine g_get 1 dX1_person_56 in_X1 cl1 (by decide) q454 hf ?_
      refine g_iload_n dX1_person_59 rfl 1 rfl ?_
      obtain ⟨⟨_, hO⟩, h⟩ := h
      refine g_callV (N := mX2_first) (st := []) (As := [.int x1]) (a := a_calendar) dX1_person_60 wsX2_first (lw_V q1413 q1414 q1415 q109 q1416) rfl mokX2_first rfl cl2 (by decide) (by decide) (Nat.zero_le _) (Nat.zero_le _) hO h (fun E q s hx => AtX.never hx) (fun _ s1_3 hq => ?_)
      obtain ⟨es, hq⟩ := hq
      refine g_tops2 es ?_
      obtain ⟨rx, rfl, h⟩ := hq
      refine At.stk (st' := [.int rx]) rfl ?_
      exact g_iret rfl dX1_person_63 h
    · replace h := h.2 c
      refine g_aload_n dX1_person_44 rfl 0 rfl ?_
      obtain ⟨a_calendar, hf, h⟩ := h
      refine g_get 1 dX1_person_45 in_X1 cl1 (by decide) q454 hf ?_
      refine g_iload_n dX1_person_48 rfl 1 rfl ?_
      obtain ⟨⟨_, hO⟩, h⟩ := h
      refine g_callV (N := mX2_of) (st := []) (As := [.int x1]) (a := a_calendar) dX1_person_49 wsX2_of (lw_V q1409 q1410 q1411 q109 q1412) rfl mokX2_of rfl cl2 (by decide) (by decide) (Nat.zero_le _) (Nat.zero_le _) hO h (fun E q s hx => AtX.never hx) (fun _ s1_4 hq => ?_)
      obtain ⟨es, hq⟩ := hq
      refine g_tops2 es ?_
      obtain ⟨rx, rfl, h⟩ := hq
      refine At.stk (st' := [.int rx]) rfl ?_
      refine g_goto (tgt := 63) dX1_person_52 (by decide) ?_
      exact g_iret rfl dX1_person_63 h
  · replace h := h.2 c
    refine g_aload_n dX1_person_16 rfl 0 rfl ?_
    obtain ⟨a_habits, hf, h⟩ := h
    refine g_get 6 dX1_person_17 in_X1 cl1 (by decide) q459 hf ?_
    refine g_iload_n dX1_person_20 rfl 1 rfl ?_
    obtain ⟨n, f, h1, h2, h⟩ := h
    refine g_aald (t0 := 5) dX1_person_21 rfl rfl h1 h2 ?_
    refine g_ifnonnull (tgt := 29) dX1_person_22 (by decide) (fun hn => ?_) (fun z hs => ?_)
    · replace h := h.1 hn
      refine g_iconst (v := 0) dX1_person_25 (by decide) ?_
      refine g_goto (tgt := 38) dX1_person_26 (by decide) ?_
      exact g_iret rfl dX1_person_38 h
    · replace h := h.2 z hs
      refine g_aload_n dX1_person_29 rfl 0 rfl ?_
      obtain ⟨a_habits_5, hf, h⟩ := h
      refine g_get 6 dX1_person_30 in_X1 cl1 (by decide) q459 hf ?_
      refine g_iload_n dX1_person_33 rfl 1 rfl ?_
      obtain ⟨n_6, f_7, h1, h2, h⟩ := h
      refine g_aald (t0 := 5) dX1_person_34 rfl rfl h1 h2 ?_
      obtain ⟨z_8, hz9, h⟩ := h
      refine At.stk (st' := [.ref z_8]) (by rw [hz9]; rfl) ?_
      obtain ⟨x_many, hf, h⟩ := h
      refine g_getN 1 dX1_person_35 in_X14 cl14 (by decide) q1183 hf ?_
      exact g_iret rfl dX1_person_38 h
theorem eX1_person {G : GC} {Q : Option Value → PS → Prop} {X : String → Nat → PS → Prop} {b : Nat} {h0 : Nat} {p1 : Int32} {p2 : Int32} {σ : PS} (h : At G mX1_person 12 Q X b 0 [(0, .ref h0), (1, .int p1), (2, .int p2)] [] σ) : Call G mX1_person 12 b [.ref h0, .int p1, .int p2] σ Q X :=
  Call.of (by decide +kernel) wsX1_person rfl (Nat.le_of_ble_eq_true rfl) (At.sub (ls := [(0, .ref h0), (1, .int p1), (2, .int p2)]) [0, 1, 2] rfl h)
set_option maxHeartbeats 4000000 in
theorem bX1_price_0 {G : GC} {Q : Option Value → PS → Prop} {X : String → Nat → PS → Prop} {b : Nat} {h0 : Nat} {x1 : Int32} {σ : PS} (h : ∃ bc : Nat, bc ≤ b ∧ (∃ fs : List Value, Ob (σ) 1 h0 fs) ∧ Call G mX1_within 10 bc [.ref h0, .int x1, .int 0, .int 4] (σ) (qV (fun s1 => ∃ a_office : Nat, Fg s1 1 h0 10 (.ref a_office) ∧ (∃ a_price : Nat, Fg s1 7 a_office 0 (.ref a_price) ∧ (∃ (n : Nat) (f : Nat → Int32), Ia s1 100 a_price n f ∧ vp_in x1 n ∧ (Q (some (.int (f x1.toNatClampNeg))) s1))))) X) : At G mX1_price 11 Q X b 0 [(0, .ref h0), (1, .int x1)] [] (σ) := by
  refine g_aload_n dX1_price_0 rfl 0 rfl ?_
  refine g_iload_n dX1_price_1 rfl 1 rfl ?_
  refine g_iconst (v := 0) dX1_price_2 (by decide) ?_
  refine g_iconst (v := 4) dX1_price_3 (by decide) ?_
  obtain ⟨bc, hb9, h⟩ := h
  obtain ⟨⟨_, hO⟩, h⟩ := h
  refine g_callV (N := mX1_within) (st := []) (As := [.int x1, .int 0, .int 4]) (a := h0) dX1_price_4 wsX1_within (lw_V q833 q835 qs11 q108 q836) rfl mokX1_within rfl cl1 (by decide) (by decide) hb9 (Nat.zero_le _) hO h (fun E q s hx => AtX.out0 rfl hx) (fun _ s1 hq => ?_)
  obtain ⟨rfl, h⟩ := hq
  refine At.stk (st' := []) rfl ?_
  refine g_aload_n dX1_price_7 rfl 0 rfl ?_
  obtain ⟨a_office, hf, h⟩ := h
  refine g_get 10 dX1_price_8 in_X1 cl1 (by decide) q463 hf ?_
  obtain ⟨a_price, hf, h⟩ := h
  refine g_getN 0 dX1_price_11 in_X7 cl7 (by decide) q377 hf ?_
  refine g_iload_n dX1_price_14 rfl 1 rfl ?_
  obtain ⟨n, f, h1, h2, h⟩ := h
  refine g_iald dX1_price_15 h1 h2 ?_
  exact g_iret rfl dX1_price_16 h
theorem eX1_price {G : GC} {Q : Option Value → PS → Prop} {X : String → Nat → PS → Prop} {b : Nat} {h0 : Nat} {p1 : Int32} {σ : PS} (h : At G mX1_price 11 Q X b 0 [(0, .ref h0), (1, .int p1)] [] σ) : Call G mX1_price 11 b [.ref h0, .int p1] σ Q X :=
  Call.of (by decide +kernel) wsX1_price rfl (Nat.le_of_ble_eq_true rfl) (At.sub (ls := [(0, .ref h0), (1, .int p1)]) [0, 1] rfl h)
set_option maxHeartbeats 4000000 in
theorem bX1_states_0 {G : GC} {Q : Option Value → PS → Prop} {X : String → Nat → PS → Prop} {b : Nat} {h0 : Nat} {x1 : Int32} {σ : PS} (h : ∃ bc : Nat, bc ≤ b ∧ (∃ fs_11 : List Value, Ob (σ) 1 h0 fs_11) ∧ Call G mX1_visitOf 11 bc [.ref h0, .int x1] (σ) (qV (fun s1 => (∃ fs_10 : List Value, Ob s1 1 h0 fs_10) ∧ Call G mX1_asTold 4 0 [.ref h0] s1 (qR (fun ra s1_1 => (∃ fs_9 : List Value, Ob s1_1 6 ra fs_9) ∧ Call G mX6_to 3 0 [.ref ra, .int x1] s1_1 (qR (fun ra_3 s1_2 => ∃ bc_4 : Nat, bc_4 ≤ b - bc ∧ (∃ fs_8 : List Value, Ob s1_2 1 h0 fs_8) ∧ Call G mX1_run 204 bc_4 [.ref h0, .ref ra_3] s1_2 (qR (fun ra_6 s1_5 => (∃ fs : List Value, Ob s1_5 3 ra_6 fs) ∧ CallO G mX3_many 3 [.ref ra_6] s1_5 (pI (fun rx => Q (some (.int rx)) s1_5)))) X)) X)) X)) X) : At G mX1_states 205 Q X b 0 [(0, .ref h0), (1, .int x1)] [] (σ) := by
  refine g_aload_n dX1_states_0 rfl 0 rfl ?_
  refine g_iload_n dX1_states_1 rfl 1 rfl ?_
  obtain ⟨bc, hb9, h⟩ := h
  obtain ⟨⟨_, hO⟩, h⟩ := h
  refine g_callV (N := mX1_visitOf) (st := []) (As := [.int x1]) (a := h0) dX1_states_2 wsX1_visitOf (lw_V q1396 q1398 qs26 q108 q1399) rfl mokX1_visitOf rfl cl1 (by decide) (by decide) hb9 (Nat.zero_le _) hO h (fun E q s hx => AtX.out0 rfl hx) (fun _ s1 hq => ?_)
  obtain ⟨rfl, h⟩ := hq
  refine At.stk (st' := []) rfl ?_
  refine g_aload_n dX1_states_5 rfl 0 rfl ?_
  refine g_aload_n dX1_states_6 rfl 0 rfl ?_
  obtain ⟨⟨_, hO⟩, h⟩ := h
  refine g_callV (N := mX1_asTold) (st := [.ref h0]) (As := []) (a := h0) dX1_states_7 wsX1_asTold (lw_V q517 q519 qs0 q108 q520) rfl mokX1_asTold rfl cl1 (by decide) (by decide) (Nat.zero_le _) (by simp [Value.category]) hO h (fun E q s hx => AtX.out0 rfl hx) (fun _ s1_1 hq => ?_)
  obtain ⟨ra, rfl, h⟩ := hq
  refine At.stk (st' := [.ref ra, .ref h0]) rfl ?_
  refine g_iload_n dX1_states_10 rfl 1 rfl ?_
  obtain ⟨⟨_, hO⟩, h⟩ := h
  refine g_callV (N := mX6_to) (st := [.ref h0]) (As := [.int x1]) (a := ra) dX1_states_11 wsX6_to (lw_V q528 q529 q530 q113 q531) rfl mokX6_to rfl cl6 (by decide) (by decide) (Nat.zero_le _) (by simp [Value.category]) hO h (fun E q s hx => AtX.out0 rfl hx) (fun _ s1_2 hq => ?_)
  obtain ⟨ra_3, rfl, h⟩ := hq
  refine At.stk (st' := [.ref ra_3, .ref h0]) rfl ?_
  obtain ⟨bc_4, hb9, h⟩ := h
  obtain ⟨⟨_, hO⟩, h⟩ := h
  refine g_callV (N := mX1_run) (st := []) (As := [.ref ra_3]) (a := h0) dX1_states_14 wsX1_run (lw_V q532 q534 qs1 q108 q535) rfl mokX1_run rfl cl1 (by decide) (by decide) hb9 (Nat.zero_le _) hO h (fun E q s hx => AtX.out0 rfl hx) (fun _ s1_5 hq => ?_)
  obtain ⟨ra_6, rfl, h⟩ := hq
  refine At.stk (st' := [.ref ra_6]) rfl ?_
  obtain ⟨⟨_, hO⟩, h⟩ := h
  refine g_callV (N := mX3_many) (st := []) (As := []) (a := ra_6) dX1_states_17 wsX3_many (lw_V q1431 q1432 q1433 q110 q1434) rfl mokX3_many rfl cl3 (by decide) (by decide) (Nat.zero_le _) (Nat.zero_le _) hO h (fun E q s hx => AtX.never hx) (fun _ s1_7 hq => ?_)
  obtain ⟨es, hq⟩ := hq
  refine g_tops2 es ?_
  obtain ⟨rx, rfl, h⟩ := hq
  refine At.stk (st' := [.int rx]) rfl ?_
  exact g_iret rfl dX1_states_20 h
theorem eX1_states {G : GC} {Q : Option Value → PS → Prop} {X : String → Nat → PS → Prop} {b : Nat} {h0 : Nat} {p1 : Int32} {σ : PS} (h : At G mX1_states 205 Q X b 0 [(0, .ref h0), (1, .int p1)] [] σ) : Call G mX1_states 205 b [.ref h0, .int p1] σ Q X :=
  Call.of (by decide +kernel) wsX1_states rfl (Nat.le_of_ble_eq_true rfl) (At.sub (ls := [(0, .ref h0), (1, .int p1)]) [0, 1] rfl h)
set_option maxHeartbeats 4000000 in
theorem bX1_likely_0 {G : GC} {Q : Option Value → PS → Prop} {X : String → Nat → PS → Prop} {b : Nat} {h0 : Nat} {x1 : Int32} {x2 : Int32} {σ : PS} (h : ∃ bc : Nat, bc ≤ b ∧ (∃ fs_15 : List Value, Ob (σ) 1 h0 fs_15) ∧ Call G mX1_visitOf 11 bc [.ref h0, .int x1] (σ) (qV (fun s1 => ∃ bc_1 : Nat, bc_1 ≤ b - bc ∧ (∃ fs_14 : List Value, Ob s1 1 h0 fs_14) ∧ Call G mX1_within 10 bc_1 [.ref h0, .int x2, .int 0, .int 5] s1 (qV (fun s1_2 => (∃ fs_13 : List Value, Ob s1_2 1 h0 fs_13) ∧ Call G mX1_asTold 4 0 [.ref h0] s1_2 (qR (fun ra s1_3 => (∃ fs_12 : List Value, Ob s1_3 6 ra fs_12) ∧ Call G mX6_to 3 0 [.ref ra, .int x1] s1_3 (qR (fun ra_5 s1_4 => ∃ bc_6 : Nat, bc_6 ≤ b - bc - bc_1 ∧ (∃ fs_11 : List Value, Ob s1_4 1 h0 fs_11) ∧ Call G mX1_run 204 bc_6 [.ref h0, .ref ra_5] s1_4 (qR (fun ra_8 s1_7 => ∃ bc_9 : Nat, bc_9 ≤ b - bc - bc_1 - bc_6 ∧ (∃ fs : List Value, Ob s1_7 3 ra_8 fs) ∧ Call G mX3_likely 5 bc_9 [.ref ra_8, .int x2, .int x1] s1_7 (qJ (fun ry s1_10 => Q (some (.long ry)) s1_10)) X)) X)) X)) X)) X)) X) : At G mX1_likely 205 Q X b 0 [(0, .ref h0), (1, .int x1), (2, .int x2)] [] (σ) := by
  refine g_aload_n dX1_likely_0 rfl 0 rfl ?_
  refine g_iload_n dX1_likely_1 rfl 1 rfl ?_
  obtain ⟨bc, hb9, h⟩ := h
  obtain ⟨⟨_, hO⟩, h⟩ := h
  refine g_callV (N := mX1_visitOf) (st := []) (As := [.int x1]) (a := h0) dX1_likely_2 wsX1_visitOf (lw_V q1396 q1398 qs26 q108 q1399) rfl mokX1_visitOf rfl cl1 (by decide) (by decide) hb9 (Nat.zero_le _) hO h (fun E q s hx => AtX.out0 rfl hx) (fun _ s1 hq => ?_)
  obtain ⟨rfl, h⟩ := hq
  refine At.stk (st' := []) rfl ?_
  refine g_aload_n dX1_likely_5 rfl 0 rfl ?_
  refine g_iload_n dX1_likely_6 rfl 2 rfl ?_
  refine g_iconst (v := 0) dX1_likely_7 (by decide) ?_
  refine g_iconst (v := 5) dX1_likely_8 (by decide) ?_
  obtain ⟨bc_1, hb9, h⟩ := h
  obtain ⟨⟨_, hO⟩, h⟩ := h
  refine g_callV (N := mX1_within) (st := []) (As := [.int x2, .int 0, .int 5]) (a := h0) dX1_likely_9 wsX1_within (lw_V q833 q835 qs11 q108 q836) rfl mokX1_within rfl cl1 (by decide) (by decide) hb9 (Nat.zero_le _) hO h (fun E q s hx => AtX.out0 rfl hx) (fun _ s1_2 hq => ?_)
  obtain ⟨rfl, h⟩ := hq
  refine At.stk (st' := []) rfl ?_
  refine g_aload_n dX1_likely_12 rfl 0 rfl ?_
  refine g_aload_n dX1_likely_13 rfl 0 rfl ?_
  obtain ⟨⟨_, hO⟩, h⟩ := h
  refine g_callV (N := mX1_asTold) (st := [.ref h0]) (As := []) (a := h0) dX1_likely_14 wsX1_asTold (lw_V q517 q519 qs0 q108 q520) rfl mokX1_asTold rfl cl1 (by decide) (by decide) (Nat.zero_le _) (by simp [Value.category]) hO h (fun E q s hx => AtX.out0 rfl hx) (fun _ s1_3 hq => ?_)
  obtain ⟨ra, rfl, h⟩ := hq
  refine At.stk (st' := [.ref ra, .ref h0]) rfl ?_
  refine g_iload_n dX1_likely_17 rfl 1 rfl ?_
  obtain ⟨⟨_, hO⟩, h⟩ := h
  refine g_callV (N := mX6_to) (st := [.ref h0]) (As := [.int x1]) (a := ra) dX1_likely_18 wsX6_to (lw_V q528 q529 q530 q113 q531) rfl mokX6_to rfl cl6 (by decide) (by decide) (Nat.zero_le _) (by simp [Value.category]) hO h (fun E q s hx => AtX.out0 rfl hx) (fun _ s1_4 hq => ?_)
  obtain ⟨ra_5, rfl, h⟩ := hq
  refine At.stk (st' := [.ref ra_5, .ref h0]) rfl ?_
  obtain ⟨bc_6, hb9, h⟩ := h
  obtain ⟨⟨_, hO⟩, h⟩ := h
  refine g_callV (N := mX1_run) (st := []) (As := [.ref ra_5]) (a := h0) dX1_likely_21 wsX1_run (lw_V q532 q534 qs1 q108 q535) rfl mokX1_run rfl cl1 (by decide) (by decide) hb9 (Nat.zero_le _) hO h (fun E q s hx => AtX.out0 rfl hx) (fun _ s1_7 hq => ?_)
  obtain ⟨ra_8, rfl, h⟩ := hq
  refine At.stk (st' := [.ref ra_8]) rfl ?_
  refine g_iload_n dX1_likely_24 rfl 2 rfl ?_
  refine g_iload_n dX1_likely_25 rfl 1 rfl ?_
  obtain ⟨bc_9, hb9, h⟩ := h
  obtain ⟨⟨_, hO⟩, h⟩ := h
  refine g_callV (N := mX3_likely) (st := []) (As := [.int x2, .int x1]) (a := ra_8) dX1_likely_26 wsX3_likely (lw_V q1442 q754 q755 q110 q756) rfl mokX3_likely rfl cl3 (by decide) (by decide) hb9 (Nat.zero_le _) hO h (fun E q s hx => AtX.out0 rfl hx) (fun _ s1_10 hq => ?_)
  obtain ⟨ry, rfl, h⟩ := hq
  refine At.stk (st' := [.long ry]) rfl ?_
  exact g_lret rfl dX1_likely_29 h
theorem eX1_likely {G : GC} {Q : Option Value → PS → Prop} {X : String → Nat → PS → Prop} {b : Nat} {h0 : Nat} {p1 : Int32} {p2 : Int32} {σ : PS} (h : At G mX1_likely 205 Q X b 0 [(0, .ref h0), (1, .int p1), (2, .int p2)] [] σ) : Call G mX1_likely 205 b [.ref h0, .int p1, .int p2] σ Q X :=
  Call.of (by decide +kernel) wsX1_likely rfl (Nat.le_of_ble_eq_true rfl) (At.sub (ls := [(0, .ref h0), (1, .int p1), (2, .int p2)]) [0, 1, 2] rfl h)
set_option maxHeartbeats 4000000 in
theorem bX1_state_0 {G : GC} {Q : Option Value → PS → Prop} {X : String → Nat → PS → Prop} {b : Nat} {h0 : Nat} {x1 : Int32} {x2 : Int32} {x3 : Int32} {x4 : Int32} {σ : PS} (h : ∃ bc : Nat, bc ≤ b ∧ (∃ fs_20 : List Value, Ob (σ) 1 h0 fs_20) ∧ Call G mX1_visitOf 11 bc [.ref h0, .int x1] (σ) (qV (fun s1 => ∃ bc_1 : Nat, bc_1 ≤ b - bc ∧ (∃ fs_19 : List Value, Ob s1 1 h0 fs_19) ∧ Call G mX1_within 10 bc_1 [.ref h0, .int x2, .int 0, .int 12] s1 (qV (fun s1_2 => ∃ bc_3 : Nat, bc_3 ≤ b - bc - bc_1 ∧ (∃ fs_18 : List Value, Ob s1_2 1 h0 fs_18) ∧ Call G mX1_within 10 bc_3 [.ref h0, .int x3, .int 0, .int 12] s1_2 (qV (fun s1_4 => ∃ bc_5 : Nat, bc_5 ≤ b - bc - bc_1 - bc_3 ∧ (∃ fs_17 : List Value, Ob s1_4 1 h0 fs_17) ∧ Call G mX1_within 10 bc_5 [.ref h0, .int x4, .int 0, .int 1] s1_4 (qV (fun s1_6 => (∃ fs_16 : List Value, Ob s1_6 1 h0 fs_16) ∧ Call G mX1_asTold 4 0 [.ref h0] s1_6 (qR (fun ra s1_7 => (∃ fs_15 : List Value, Ob s1_7 6 ra fs_15) ∧ Call G mX6_to 3 0 [.ref ra, .int x1] s1_7 (qR (fun ra_9 s1_8 => ∃ bc_10 : Nat, bc_10 ≤ b - bc - bc_1 - bc_3 - bc_5 ∧ (∃ fs_14 : List Value, Ob s1_8 1 h0 fs_14) ∧ Call G mX1_run 204 bc_10 [.ref h0, .ref ra_9] s1_8 (qR (fun ra_12 s1_11 => (∃ fs : List Value, Ob s1_11 3 ra_12 fs) ∧ CallO G mX3_at 4 [.ref ra_12, .int x2, .int x3, .int x4] s1_11 (pJ (fun ry => Q (some (.long ry)) s1_11)))) X)) X)) X)) X)) X)) X)) X) : At G mX1_state 205 Q X b 0 [(0, .ref h0), (1, .int x1), (2, .int x2), (3, .int x3), (4, .int x4)] [] (σ) := by
  refine g_aload_n dX1_state_0 rfl 0 rfl ?_
  refine g_iload_n dX1_state_1 rfl 1 rfl ?_
  obtain ⟨bc, hb9, h⟩ := h
  obtain ⟨⟨_, hO⟩, h⟩ := h
  refine g_callV (N := mX1_visitOf) (st := []) (As := [.int x1]) (a := h0) dX1_state_2 wsX1_visitOf (lw_V q1396 q1398 qs26 q108 q1399) rfl mokX1_visitOf rfl cl1 (by decide) (by decide) hb9 (Nat.zero_le _) hO h (fun E q s hx => AtX.out0 rfl hx) (fun _ s1 hq => ?_)
  obtain ⟨rfl, h⟩ := hq
  refine At.stk (st' := []) rfl ?_
  refine g_aload_n dX1_state_5 rfl 0 rfl ?_
  refine g_iload_n dX1_state_6 rfl 2 rfl ?_
  refine g_iconst (v := 0) dX1_state_7 (by decide) ?_
  refine g_bipush (v := 12) dX1_state_8 (by decide) ?_
  obtain ⟨bc_1, hb9, h⟩ := h
  obtain ⟨⟨_, hO⟩, h⟩ := h
  refine g_callV (N := mX1_within) (st := []) (As := [.int x2, .int 0, .int 12]) (a := h0) dX1_state_10 wsX1_within (lw_V q833 q835 qs11 q108 q836) rfl mokX1_within rfl cl1 (by decide) (by decide) hb9 (Nat.zero_le _) hO h (fun E q s hx => AtX.out0 rfl hx) (fun _ s1_2 hq => ?_)
  obtain ⟨rfl, h⟩ := hq
  refine At.stk (st' := []) rfl ?_
  refine g_aload_n dX1_state_13 rfl 0 rfl ?_
  refine g_iload_n dX1_state_14 rfl 3 rfl ?_
  refine g_iconst (v := 0) dX1_state_15 (by decide) ?_
  refine g_bipush (v := 12) dX1_state_16 (by decide) ?_
  obtain ⟨bc_3, hb9, h⟩ := h
  obtain ⟨⟨_, hO⟩, h⟩ := h
  refine g_callV (N := mX1_within) (st := []) (As := [.int x3, .int 0, .int 12]) (a := h0) dX1_state_18 wsX1_within (lw_V q833 q835 qs11 q108 q836) rfl mokX1_within rfl cl1 (by decide) (by decide) hb9 (Nat.zero_le _) hO h (fun E q s hx => AtX.out0 rfl hx) (fun _ s1_4 hq => ?_)
  obtain ⟨rfl, h⟩ := hq
  refine At.stk (st' := []) rfl ?_
  refine g_aload_n dX1_state_21 rfl 0 rfl ?_
  refine g_iload dX1_state_22 4 rfl ?_
  refine g_iconst (v := 0) dX1_state_24 (by decide) ?_
  refine g_iconst (v := 1) dX1_state_25 (by decide) ?_
  obtain ⟨bc_5, hb9, h⟩ := h
  obtain ⟨⟨_, hO⟩, h⟩ := h
  refine g_callV (N := mX1_within) (st := []) (As := [.int x4, .int 0, .int 1]) (a := h0) dX1_state_26 wsX1_within (lw_V q833 q835 qs11 q108 q836) rfl mokX1_within rfl cl1 (by decide) (by decide) hb9 (Nat.zero_le _) hO h (fun E q s hx => AtX.out0 rfl hx) (fun _ s1_6 hq => ?_)
  obtain ⟨rfl, h⟩ := hq
  refine At.stk (st' := []) rfl ?_
  refine g_aload_n dX1_state_29 rfl 0 rfl ?_
  refine g_aload_n dX1_state_30 rfl 0 rfl ?_
  obtain ⟨⟨_, hO⟩, h⟩ := h
  refine g_callV (N := mX1_asTold) (st := [.ref h0]) (As := []) (a := h0) dX1_state_31 wsX1_asTold (lw_V q517 q519 qs0 q108 q520) rfl mokX1_asTold rfl cl1 (by decide) (by decide) (Nat.zero_le _) (by simp [Value.category]) hO h (fun E q s hx => AtX.out0 rfl hx) (fun _ s1_7 hq => ?_)
  obtain ⟨ra, rfl, h⟩ := hq
  refine At.stk (st' := [.ref ra, .ref h0]) rfl ?_
  refine g_iload_n dX1_state_34 rfl 1 rfl ?_
  obtain ⟨⟨_, hO⟩, h⟩ := h
  refine g_callV (N := mX6_to) (st := [.ref h0]) (As := [.int x1]) (a := ra) dX1_state_35 wsX6_to (lw_V q528 q529 q530 q113 q531) rfl mokX6_to rfl cl6 (by decide) (by decide) (Nat.zero_le _) (by simp [Value.category]) hO h (fun E q s hx => AtX.out0 rfl hx) (fun _ s1_8 hq => ?_)
  obtain ⟨ra_9, rfl, h⟩ := hq
  refine At.stk (st' := [.ref ra_9, .ref h0]) rfl ?_
  obtain ⟨bc_10, hb9, h⟩ := h
  obtain ⟨⟨_, hO⟩, h⟩ := h
  refine g_callV (N := mX1_run) (st := []) (As := [.ref ra_9]) (a := h0) dX1_state_38 wsX1_run (lw_V q532 q534 qs1 q108 q535) rfl mokX1_run rfl cl1 (by decide) (by decide) hb9 (Nat.zero_le _) hO h (fun E q s hx => AtX.out0 rfl hx) (fun _ s1_11 hq => ?_)
  obtain ⟨ra_12, rfl, h⟩ := hq
  refine At.stk (st' := [.ref ra_12]) rfl ?_
  refine g_iload_n dX1_state_41 rfl 2 rfl ?_
  refine g_iload_n dX1_state_42 rfl 3 rfl ?_
  refine g_iload dX1_state_43 4 rfl ?_
  obtain ⟨⟨_, hO⟩, h⟩ := h
  refine g_callV (N := mX3_at) (st := []) (As := [.int x2, .int x3, .int x4]) (a := ra_12) dX1_state_45 wsX3_at (lw_V q1450 q1451 q1452 q110 q1453) rfl mokX3_at rfl cl3 (by decide) (by decide) (Nat.zero_le _) (Nat.zero_le _) hO h (fun E q s hx => AtX.never hx) (fun _ s1_13 hq => ?_)
  obtain ⟨es, hq⟩ := hq
  refine g_tops2 es ?_
  obtain ⟨ry, rfl, h⟩ := hq
  refine At.stk (st' := [.long ry]) rfl ?_
  exact g_lret rfl dX1_state_48 h
theorem eX1_state {G : GC} {Q : Option Value → PS → Prop} {X : String → Nat → PS → Prop} {b : Nat} {h0 : Nat} {p1 : Int32} {p2 : Int32} {p3 : Int32} {p4 : Int32} {σ : PS} (h : At G mX1_state 205 Q X b 0 [(0, .ref h0), (1, .int p1), (2, .int p2), (3, .int p3), (4, .int p4)] [] σ) : Call G mX1_state 205 b [.ref h0, .int p1, .int p2, .int p3, .int p4] σ Q X :=
  Call.of (by decide +kernel) wsX1_state rfl (Nat.le_of_ble_eq_true rfl) (At.sub (ls := [(0, .ref h0), (1, .int p1), (2, .int p2), (3, .int p3), (4, .int p4)]) [0, 1, 2, 3, 4] rfl h)
set_option maxHeartbeats 4000000 in
theorem bX1_likeliest_0 {G : GC} {Q : Option Value → PS → Prop} {X : String → Nat → PS → Prop} {b : Nat} {h0 : Nat} {x1 : Int32} {σ : PS} (h : ∃ bc : Nat, bc ≤ b ∧ (∃ fs_9 : List Value, Ob (σ) 1 h0 fs_9) ∧ Call G mX1_visitOf 11 bc [.ref h0, .int x1] (σ) (qV (fun s1 => (∃ fs_8 : List Value, Ob s1 1 h0 fs_8) ∧ Call G mX1_asTold 4 0 [.ref h0] s1 (qR (fun ra s1_1 => (∃ fs_7 : List Value, Ob s1_1 6 ra fs_7) ∧ Call G mX6_to 3 0 [.ref ra, .int x1] s1_1 (qR (fun ra_3 s1_2 => ∃ bc_4 : Nat, bc_4 ≤ b - bc ∧ (∃ fs : List Value, Ob s1_2 1 h0 fs) ∧ Call G mX1_run 204 bc_4 [.ref h0, .ref ra_3] s1_2 (qR (fun ra_6 s1_5 => At G mX1_likeliest 205 Q X (b - bc - bc_4) 25 [(0, .ref h0), (2, .int (-1)), (3, .long 0), (5, .int 0)] [] s1_5)) X)) X)) X)) X) : At G mX1_likeliest 205 Q X b 0 [(0, .ref h0), (1, .int x1)] [] (σ) := by
  refine g_aload_n dX1_likeliest_0 rfl 0 rfl ?_
  refine g_iload_n dX1_likeliest_1 rfl 1 rfl ?_
  obtain ⟨bc, hb9, h⟩ := h
  obtain ⟨⟨_, hO⟩, h⟩ := h
  refine g_callV (N := mX1_visitOf) (st := []) (As := [.int x1]) (a := h0) dX1_likeliest_2 wsX1_visitOf (lw_V q1396 q1398 qs26 q108 q1399) rfl mokX1_visitOf rfl cl1 (by decide) (by decide) hb9 (Nat.zero_le _) hO h (fun E q s hx => AtX.out0 rfl hx) (fun _ s1 hq => ?_)
  obtain ⟨rfl, h⟩ := hq
  refine At.stk (st' := []) rfl ?_
  refine g_aload_n dX1_likeliest_5 rfl 0 rfl ?_
  refine g_aload_n dX1_likeliest_6 rfl 0 rfl ?_
  obtain ⟨⟨_, hO⟩, h⟩ := h
  refine g_callV (N := mX1_asTold) (st := [.ref h0]) (As := []) (a := h0) dX1_likeliest_7 wsX1_asTold (lw_V q517 q519 qs0 q108 q520) rfl mokX1_asTold rfl cl1 (by decide) (by decide) (Nat.zero_le _) (by simp [Value.category]) hO h (fun E q s hx => AtX.out0 rfl hx) (fun _ s1_1 hq => ?_)
  obtain ⟨ra, rfl, h⟩ := hq
  refine At.stk (st' := [.ref ra, .ref h0]) rfl ?_
  refine g_iload_n dX1_likeliest_10 rfl 1 rfl ?_
  obtain ⟨⟨_, hO⟩, h⟩ := h
  refine g_callV (N := mX6_to) (st := [.ref h0]) (As := [.int x1]) (a := ra) dX1_likeliest_11 wsX6_to (lw_V q528 q529 q530 q113 q531) rfl mokX6_to rfl cl6 (by decide) (by decide) (Nat.zero_le _) (by simp [Value.category]) hO h (fun E q s hx => AtX.out0 rfl hx) (fun _ s1_2 hq => ?_)
  obtain ⟨ra_3, rfl, h⟩ := hq
  refine At.stk (st' := [.ref ra_3, .ref h0]) rfl ?_
  obtain ⟨bc_4, hb9, h⟩ := h
  obtain ⟨⟨_, hO⟩, h⟩ := h
  refine g_callV (N := mX1_run) (st := []) (As := [.ref ra_3]) (a := h0) dX1_likeliest_14 wsX1_run (lw_V q532 q534 qs1 q108 q535) rfl mokX1_run rfl cl1 (by decide) (by decide) hb9 (Nat.zero_le _) hO h (fun E q s hx => AtX.out0 rfl hx) (fun _ s1_5 hq => ?_)
  obtain ⟨ra_6, rfl, h⟩ := hq
  refine At.stk (st' := [.ref ra_6]) rfl ?_
  refine g_pop dX1_likeliest_17 rfl ?_
  refine g_iconst (v := (-1)) dX1_likeliest_18 (by decide) ?_
  refine g_istore_n (ls1 := [(2, .int (-1)), (0, .ref h0), (1, .int x1)]) dX1_likeliest_19 rfl (by decide) rfl ?_
  refine g_lconst (v := 0) dX1_likeliest_20 (by decide) ?_
  refine g_lstore_n (ls1 := [(3, .long 0), (2, .int (-1)), (0, .ref h0), (1, .int x1)]) dX1_likeliest_21 rfl (by decide) rfl ?_
  refine g_iconst (v := 0) dX1_likeliest_22 (by decide) ?_
  refine g_istore (ls1 := [(5, .int 0), (3, .long 0), (2, .int (-1)), (0, .ref h0), (1, .int x1)]) dX1_likeliest_23 (by decide) rfl ?_
  exact At.sub (ls := [(5, .int 0), (3, .long 0), (2, .int (-1)), (0, .ref h0), (1, .int x1)]) [3, 2, 1, 0] rfl h
set_option maxHeartbeats 4000000 in
theorem bX1_likeliest_25 {G : GC} {Q : Option Value → PS → Prop} {X : String → Nat → PS → Prop} {b : Nat} {h0 : Nat} {x2 : Int32} {y3 : Int64} {x5 : Int32} {σ : PS} (h : ((12 < x5) → Q (some (.int x2)) (σ)) ∧ ((¬ 12 < x5) → At G mX1_likeliest 205 Q X b 35 [(0, .ref h0), (2, .int x2), (3, .long y3), (5, .int x5), (6, .int 0)] [] (σ))) : At G mX1_likeliest 205 Q X b 25 [(0, .ref h0), (2, .int x2), (3, .long y3), (5, .int x5)] [] (σ) := by
  refine g_iload dX1_likeliest_25 3 rfl ?_
  refine g_bipush (v := 12) dX1_likeliest_27 (by decide) ?_
  refine g_icmp_gt (tgt := 95) dX1_likeliest_29 (by decide) (fun c => ?_) (fun c => ?_)
  · replace h := h.1 c
    refine g_iload_n dX1_likeliest_95 rfl 1 rfl ?_
    exact g_iret rfl dX1_likeliest_96 h
  · replace h := h.2 c
    refine g_iconst (v := 0) dX1_likeliest_32 (by decide) ?_
    refine g_istore (ls1 := [(6, .int 0), (0, .ref h0), (2, .int x2), (3, .long y3), (5, .int x5)]) dX1_likeliest_33 (by decide) rfl ?_
    exact At.sub (ls := [(6, .int 0), (0, .ref h0), (2, .int x2), (3, .long y3), (5, .int x5)]) [1, 2, 3, 4, 0] rfl h
set_option maxHeartbeats 4000000 in
theorem bX1_likeliest_35 {G : GC} {Q : Option Value → PS → Prop} {X : String → Nat → PS → Prop} {b : Nat} {h0 : Nat} {x2 : Int32} {y3 : Int64} {x5 : Int32} {x6 : Int32} {σ : PS} (h : ((25 < x6) → ∀ v5 : Int32, v5 = x5 + 1 → At G mX1_likeliest 205 Q X b 25 [(0, .ref h0), (2, .int x2), (3, .long y3), (5, .int v5)] [] (σ)) ∧ ((¬ 25 < x6) → ∃ a_flow : Nat, Fg (σ) 1 h0 7 (.ref a_flow) ∧ ((∃ fs : List Value, Ob (σ) 3 a_flow fs) ∧ CallO G mX3_at 4 [.ref a_flow, .int x5, .int (x6 / 2), .int (x6 - x6 / 2 * 2)] (σ) (pJ (fun ry => ((y3 < ry) → ∀ v2 : Int32, v2 = ((100 * x5) + x6) → ∀ v6 : Int32, v6 = x6 + 1 → At G mX1_likeliest 205 Q X b 35 [(0, .ref h0), (2, .int v2), (3, .long ry), (5, .int x5), (6, .int v6)] [] (σ)) ∧ ((¬ y3 < ry) → ∀ v6 : Int32, v6 = x6 + 1 → At G mX1_likeliest 205 Q X b 35 [(0, .ref h0), (2, .int x2), (3, .long y3), (5, .int x5), (6, .int v6)] [] (σ))))))) : At G mX1_likeliest 205 Q X b 35 [(0, .ref h0), (2, .int x2), (3, .long y3), (5, .int x5), (6, .int x6)] [] (σ) := by
  refine g_iload dX1_likeliest_35 4 rfl ?_
  refine g_bipush (v := 25) dX1_likeliest_37 (by decide) ?_
  refine g_icmp_gt (tgt := 89) dX1_likeliest_39 (by decide) (fun c => ?_) (fun c => ?_)
  · replace h := h.1 c
    obtain ⟨v5, ev5⟩ : ∃ z : Int32, z = x5 + 1 := ⟨_, rfl⟩
    refine g_iinc (v := v5) (ls1 := [(5, .int v5), (0, .ref h0), (2, .int x2), (3, .long y3), (6, .int x6)]) dX1_likeliest_89 3 rfl (by rw [ev5]; rfl) (by decide) rfl ?_
    replace h := h v5 ev5
    refine g_goto (tgt := 25) dX1_likeliest_92 (by decide) ?_
    exact At.sub (ls := [(5, .int v5), (0, .ref h0), (2, .int x2), (3, .long y3), (6, .int x6)]) [1, 2, 3, 0] rfl h
  · replace h := h.2 c
    refine g_aload_n dX1_likeliest_42 rfl 0 rfl ?_
    obtain ⟨a_flow, hf, h⟩ := h
    refine g_get 7 dX1_likeliest_43 in_X1 cl1 (by decide) q460 hf ?_
    refine g_iload dX1_likeliest_46 3 rfl ?_
    refine g_iload dX1_likeliest_48 4 rfl ?_
    refine g_iconst (v := 2) dX1_likeliest_50 (by decide) ?_
    refine g_idiv dX1_likeliest_51 (by decide) ?_
    refine g_iload dX1_likeliest_52 4 rfl ?_
    refine g_iconst (v := 2) dX1_likeliest_54 (by decide) ?_
    refine g_irem dX1_likeliest_55 (by decide) ?_
    obtain ⟨⟨_, hO⟩, h⟩ := h
    refine g_callV (N := mX3_at) (st := []) (As := [.int x5, .int (x6 / 2), .int (x6 - x6 / 2 * 2)]) (a := a_flow) dX1_likeliest_56 wsX3_at (lw_V q1450 q1451 q1452 q110 q1453) rfl mokX3_at rfl cl3 (by decide) (by decide) (Nat.zero_le _) (Nat.zero_le _) hO h (fun E q s hx => AtX.never hx) (fun _ s1 hq => ?_)
    obtain ⟨es, hq⟩ := hq
    refine g_tops2 es ?_
    obtain ⟨ry, rfl, h⟩ := hq
    refine At.stk (st' := [.long ry]) rfl ?_
    refine g_lstore (ls1 := [(7, .long ry), (0, .ref h0), (2, .int x2), (3, .long y3), (5, .int x5), (6, .int x6)]) dX1_likeliest_59 (by decide) rfl ?_
    refine g_lload dX1_likeliest_61 0 rfl ?_
    refine g_lload_n dX1_likeliest_63 rfl 3 rfl ?_
    refine g_lcmp_gt (tgt := 71) dX1_likeliest_64 dX1_likeliest_65 (by decide) (fun c => ?_) (fun c => ?_)
    · replace h := h.1 c
      refine g_bipush (v := 100) dX1_likeliest_71 (by decide) ?_
      refine g_iload dX1_likeliest_73 4 rfl ?_
      refine g_imul dX1_likeliest_75 ?_
      refine g_iload dX1_likeliest_76 5 rfl ?_
      refine g_iadd dX1_likeliest_78 ?_
      refine g_topi (fun v2 ev2 => ?_)
      replace h := h v2 ev2
      refine g_istore_n (ls1 := [(2, .int v2), (7, .long ry), (0, .ref h0), (3, .long y3), (5, .int x5), (6, .int x6)]) dX1_likeliest_79 rfl (by decide) rfl ?_
      refine g_lload dX1_likeliest_80 1 rfl ?_
      refine g_lstore_n (ls1 := [(3, .long ry), (2, .int v2), (7, .long ry), (0, .ref h0), (5, .int x5), (6, .int x6)]) dX1_likeliest_82 rfl (by decide) rfl ?_
      obtain ⟨v6, ev6⟩ : ∃ z : Int32, z = x6 + 1 := ⟨_, rfl⟩
      refine g_iinc (v := v6) (ls1 := [(6, .int v6), (3, .long ry), (2, .int v2), (7, .long ry), (0, .ref h0), (5, .int x5)]) dX1_likeliest_83 5 rfl (by rw [ev6]; rfl) (by decide) rfl ?_
      replace h := h v6 ev6
      refine g_goto (tgt := 35) dX1_likeliest_86 (by decide) ?_
      exact At.sub (ls := [(6, .int v6), (3, .long ry), (2, .int v2), (7, .long ry), (0, .ref h0), (5, .int x5)]) [4, 2, 1, 5, 0] rfl h
    · replace h := h.2 c
      refine g_goto (tgt := 83) dX1_likeliest_68 (by decide) ?_
      obtain ⟨v6, ev6⟩ : ∃ z : Int32, z = x6 + 1 := ⟨_, rfl⟩
      refine g_iinc (v := v6) (ls1 := [(6, .int v6), (7, .long ry), (0, .ref h0), (2, .int x2), (3, .long y3), (5, .int x5)]) dX1_likeliest_83 5 rfl (by rw [ev6]; rfl) (by decide) rfl ?_
      replace h := h v6 ev6
      refine g_goto (tgt := 35) dX1_likeliest_86 (by decide) ?_
      exact At.sub (ls := [(6, .int v6), (7, .long ry), (0, .ref h0), (2, .int x2), (3, .long y3), (5, .int x5)]) [2, 3, 4, 5, 0] rfl h
theorem eX1_likeliest {G : GC} {Q : Option Value → PS → Prop} {X : String → Nat → PS → Prop} {b : Nat} {h0 : Nat} {p1 : Int32} {σ : PS} (h : At G mX1_likeliest 205 Q X b 0 [(0, .ref h0), (1, .int p1)] [] σ) : Call G mX1_likeliest 205 b [.ref h0, .int p1] σ Q X :=
  Call.of (by decide +kernel) wsX1_likeliest rfl (Nat.le_of_ble_eq_true rfl) (At.sub (ls := [(0, .ref h0), (1, .int p1)]) [0, 1] rfl h)
set_option maxHeartbeats 4000000 in
theorem bX1_mean_0 {G : GC} {Q : Option Value → PS → Prop} {X : String → Nat → PS → Prop} {b : Nat} {h0 : Nat} {x1 : Int32} {x2 : Int32} {x3 : Int32} {σ : PS} (h : ∃ bc : Nat, bc ≤ b ∧ (∃ fs_19 : List Value, Ob (σ) 1 h0 fs_19) ∧ Call G mX1_visitOf 11 bc [.ref h0, .int x1] (σ) (qV (fun s1 => ∃ bc_1 : Nat, bc_1 ≤ b - bc ∧ (∃ fs_18 : List Value, Ob s1 1 h0 fs_18) ∧ Call G mX1_within 10 bc_1 [.ref h0, .int x2, .int 0, .int 1] s1 (qV (fun s1_2 => ∃ bc_3 : Nat, bc_3 ≤ b - bc - bc_1 ∧ (∃ fs_17 : List Value, Ob s1_2 1 h0 fs_17) ∧ Call G mX1_partOf 11 bc_3 [.ref h0, .int x3] s1_2 (qV (fun s1_4 => (∃ fs_16 : List Value, Ob s1_4 1 h0 fs_16) ∧ Call G mX1_asTold 4 0 [.ref h0] s1_4 (qR (fun ra s1_5 => (∃ fs_15 : List Value, Ob s1_5 6 ra fs_15) ∧ Call G mX6_to 3 0 [.ref ra, .int x1] s1_5 (qR (fun ra_7 s1_6 => ∃ bc_8 : Nat, bc_8 ≤ b - bc - bc_1 - bc_3 ∧ (∃ fs_14 : List Value, Ob s1_6 1 h0 fs_14) ∧ Call G mX1_run 204 bc_8 [.ref h0, .ref ra_7] s1_6 (qR (fun ra_10 s1_9 => (∃ fs : List Value, Ob s1_9 3 ra_10 fs) ∧ Call G mX3_mean 4 0 [.ref ra_10, .int x2] s1_9 (qJ (fun ry s1_11 => CallO G mX1_part 3 [.long ry, .long 1099511627776, .int x3] s1_11 (pJ (fun ry_13 => Q (some (.long ry_13)) s1_11)))) X)) X)) X)) X)) X)) X)) X) : At G mX1_mean 205 Q X b 0 [(0, .ref h0), (1, .int x1), (2, .int x2), (3, .int x3)] [] (σ) := by
  refine g_aload_n dX1_mean_0 rfl 0 rfl ?_
  refine g_iload_n dX1_mean_1 rfl 1 rfl ?_
  obtain ⟨bc, hb9, h⟩ := h
  obtain ⟨⟨_, hO⟩, h⟩ := h
  refine g_callV (N := mX1_visitOf) (st := []) (As := [.int x1]) (a := h0) dX1_mean_2 wsX1_visitOf (lw_V q1396 q1398 qs26 q108 q1399) rfl mokX1_visitOf rfl cl1 (by decide) (by decide) hb9 (Nat.zero_le _) hO h (fun E q s hx => AtX.out0 rfl hx) (fun _ s1 hq => ?_)
  obtain ⟨rfl, h⟩ := hq
  refine At.stk (st' := []) rfl ?_
  refine g_aload_n dX1_mean_5 rfl 0 rfl ?_
  refine g_iload_n dX1_mean_6 rfl 2 rfl ?_
  refine g_iconst (v := 0) dX1_mean_7 (by decide) ?_
  refine g_iconst (v := 1) dX1_mean_8 (by decide) ?_
  obtain ⟨bc_1, hb9, h⟩ := h
  obtain ⟨⟨_, hO⟩, h⟩ := h
  refine g_callV (N := mX1_within) (st := []) (As := [.int x2, .int 0, .int 1]) (a := h0) dX1_mean_9 wsX1_within (lw_V q833 q835 qs11 q108 q836) rfl mokX1_within rfl cl1 (by decide) (by decide) hb9 (Nat.zero_le _) hO h (fun E q s hx => AtX.out0 rfl hx) (fun _ s1_2 hq => ?_)
  obtain ⟨rfl, h⟩ := hq
  refine At.stk (st' := []) rfl ?_
  refine g_aload_n dX1_mean_12 rfl 0 rfl ?_
  refine g_iload_n dX1_mean_13 rfl 3 rfl ?_
  obtain ⟨bc_3, hb9, h⟩ := h
  obtain ⟨⟨_, hO⟩, h⟩ := h
  refine g_callV (N := mX1_partOf) (st := []) (As := [.int x3]) (a := h0) dX1_mean_14 wsX1_partOf (lw_V q1468 q1470 qs27 q108 q1471) rfl mokX1_partOf rfl cl1 (by decide) (by decide) hb9 (Nat.zero_le _) hO h (fun E q s hx => AtX.out0 rfl hx) (fun _ s1_4 hq => ?_)
  obtain ⟨rfl, h⟩ := hq
  refine At.stk (st' := []) rfl ?_
  refine g_aload_n dX1_mean_17 rfl 0 rfl ?_
  refine g_aload_n dX1_mean_18 rfl 0 rfl ?_
  obtain ⟨⟨_, hO⟩, h⟩ := h
  refine g_callV (N := mX1_asTold) (st := [.ref h0]) (As := []) (a := h0) dX1_mean_19 wsX1_asTold (lw_V q517 q519 qs0 q108 q520) rfl mokX1_asTold rfl cl1 (by decide) (by decide) (Nat.zero_le _) (by simp [Value.category]) hO h (fun E q s hx => AtX.out0 rfl hx) (fun _ s1_5 hq => ?_)
  obtain ⟨ra, rfl, h⟩ := hq
  refine At.stk (st' := [.ref ra, .ref h0]) rfl ?_
  refine g_iload_n dX1_mean_22 rfl 1 rfl ?_
  obtain ⟨⟨_, hO⟩, h⟩ := h
  refine g_callV (N := mX6_to) (st := [.ref h0]) (As := [.int x1]) (a := ra) dX1_mean_23 wsX6_to (lw_V q528 q529 q530 q113 q531) rfl mokX6_to rfl cl6 (by decide) (by decide) (Nat.zero_le _) (by simp [Value.category]) hO h (fun E q s hx => AtX.out0 rfl hx) (fun _ s1_6 hq => ?_)
  obtain ⟨ra_7, rfl, h⟩ := hq
  refine At.stk (st' := [.ref ra_7, .ref h0]) rfl ?_
  obtain ⟨bc_8, hb9, h⟩ := h
  obtain ⟨⟨_, hO⟩, h⟩ := h
  refine g_callV (N := mX1_run) (st := []) (As := [.ref ra_7]) (a := h0) dX1_mean_26 wsX1_run (lw_V q532 q534 qs1 q108 q535) rfl mokX1_run rfl cl1 (by decide) (by decide) hb9 (Nat.zero_le _) hO h (fun E q s hx => AtX.out0 rfl hx) (fun _ s1_9 hq => ?_)
  obtain ⟨ra_10, rfl, h⟩ := hq
  refine At.stk (st' := [.ref ra_10]) rfl ?_
  refine g_iload_n dX1_mean_29 rfl 2 rfl ?_
  obtain ⟨⟨_, hO⟩, h⟩ := h
  refine g_callV (N := mX3_mean) (st := []) (As := [.int x2]) (a := ra_10) dX1_mean_30 wsX3_mean (lw_V q1472 q1473 q1474 q110 q1475) rfl mokX3_mean rfl cl3 (by decide) (by decide) (Nat.zero_le _) (Nat.zero_le _) hO h (fun E q s hx => AtX.out0 rfl hx) (fun _ s1_11 hq => ?_)
  obtain ⟨ry, rfl, h⟩ := hq
  refine At.stk (st' := [.long ry]) rfl ?_
  refine g_ldc2 dX1_mean_33 q1476 ?_
  refine g_iload_n dX1_mean_36 rfl 3 rfl ?_
  refine g_callS (N := mX1_part) (st := []) (As := [.long ry, .long 1099511627776, .int x3]) dX1_mean_37 wsX1_part (lw_S q1477 q1478 q108 q1479) mokX1_part rfl (by decide) (by decide) (Nat.zero_le _) (Nat.zero_le _) h (fun E q s hx => AtX.never hx) (fun _ s1_12 hq => ?_)
  obtain ⟨es, hq⟩ := hq
  refine g_tops2 es ?_
  obtain ⟨ry_13, rfl, h⟩ := hq
  refine At.stk (st' := [.long ry_13]) rfl ?_
  exact g_lret rfl dX1_mean_40 h
theorem eX1_mean {G : GC} {Q : Option Value → PS → Prop} {X : String → Nat → PS → Prop} {b : Nat} {h0 : Nat} {p1 : Int32} {p2 : Int32} {p3 : Int32} {σ : PS} (h : At G mX1_mean 205 Q X b 0 [(0, .ref h0), (1, .int p1), (2, .int p2), (3, .int p3)] [] σ) : Call G mX1_mean 205 b [.ref h0, .int p1, .int p2, .int p3] σ Q X :=
  Call.of (by decide +kernel) wsX1_mean rfl (Nat.le_of_ble_eq_true rfl) (At.sub (ls := [(0, .ref h0), (1, .int p1), (2, .int p2), (3, .int p3)]) [0, 1, 2, 3] rfl h)
set_option maxHeartbeats 4000000 in
theorem bX1_partOf_0 {G : GC} {Q : Option Value → PS → Prop} {X : String → Nat → PS → Prop} {b : Nat} {h0 : Nat} {x1 : Int32} {σ : PS} (h : ∃ bc : Nat, bc ≤ b ∧ (∃ fs : List Value, Ob (σ) 1 h0 fs) ∧ Call G mX1_within 10 bc [.ref h0, .int x1, .int 0, .int 1] (σ) (qV (fun s1 => Q none s1)) X) : At G mX1_partOf 11 Q X b 0 [(0, .ref h0), (1, .int x1)] [] (σ) := by
  refine g_aload_n dX1_partOf_0 rfl 0 rfl ?_
  refine g_iload_n dX1_partOf_1 rfl 1 rfl ?_
  refine g_iconst (v := 0) dX1_partOf_2 (by decide) ?_
  refine g_iconst (v := 1) dX1_partOf_3 (by decide) ?_
  obtain ⟨bc, hb9, h⟩ := h
  obtain ⟨⟨_, hO⟩, h⟩ := h
  refine g_callV (N := mX1_within) (st := []) (As := [.int x1, .int 0, .int 1]) (a := h0) dX1_partOf_4 wsX1_within (lw_V q833 q835 qs11 q108 q836) rfl mokX1_within rfl cl1 (by decide) (by decide) hb9 (Nat.zero_le _) hO h (fun E q s hx => AtX.out0 rfl hx) (fun _ s1 hq => ?_)
  obtain ⟨rfl, h⟩ := hq
  refine At.stk (st' := []) rfl ?_
  exact g_vret rfl dX1_partOf_7 h
theorem eX1_partOf {G : GC} {Q : Option Value → PS → Prop} {X : String → Nat → PS → Prop} {b : Nat} {h0 : Nat} {p1 : Int32} {σ : PS} (h : At G mX1_partOf 11 Q X b 0 [(0, .ref h0), (1, .int p1)] [] σ) : Call G mX1_partOf 11 b [.ref h0, .int p1] σ Q X :=
  Call.of (by decide +kernel) wsX1_partOf rfl (Nat.le_of_ble_eq_true rfl) (At.sub (ls := [(0, .ref h0), (1, .int p1)]) [0, 1] rfl h)
set_option maxHeartbeats 4000000 in
theorem bX1_part_0 {G : GC} {Q : Option Value → PS → Prop} {X : String → Nat → PS → Prop} {b : Nat} {y0 : Int64} {y2 : Int64} {x4 : Int32} {σ : PS} (h : At G mX1_part 3 Q X b 6 [(0, .long y0), (2, .long y2), (4, .int x4), (5, .long y2), (7, .long y0)] [] (σ)) : At G mX1_part 3 Q X b 0 [(0, .long y0), (2, .long y2), (4, .int x4)] [] (σ) := by
  refine g_lload_n dX1_part_0 rfl 1 rfl ?_
  refine g_lstore (ls1 := [(5, .long y2), (0, .long y0), (2, .long y2), (4, .int x4)]) dX1_part_1 (by decide) rfl ?_
  refine g_lload_n dX1_part_3 rfl 1 rfl ?_
  refine g_lstore (ls1 := [(7, .long y0), (5, .long y2), (0, .long y0), (2, .long y2), (4, .int x4)]) dX1_part_4 (by decide) rfl ?_
  exact At.sub (ls := [(7, .long y0), (5, .long y2), (0, .long y0), (2, .long y2), (4, .int x4)]) [2, 3, 4, 1, 0] rfl h
set_option maxHeartbeats 4000000 in
theorem bX1_part_6 {G : GC} {Q : Option Value → PS → Prop} {X : String → Nat → PS → Prop} {b : Nat} {y0 : Int64} {y2 : Int64} {x4 : Int32} {y5 : Int64} {y7 : Int64} {σ : PS} (h : ((y7 = 0) → ((¬ x4 = 0) → ¬ y5 = 0 ∧ (Q (some (.long (y2 / y5))) (σ))) ∧ ((x4 = 0) → ¬ y5 = 0 ∧ (Q (some (.long (y0 / y5))) (σ)))) ∧ ((¬ y7 = 0) → ¬ y7 = 0 ∧ (∀ v9 : Int64, v9 = (y5 - y5 / y7 * y7) → At G mX1_part 3 Q X b 6 [(0, .long y0), (2, .long y2), (4, .int x4), (5, .long y7), (7, .long v9)] [] (σ)))) : At G mX1_part 3 Q X b 6 [(0, .long y0), (2, .long y2), (4, .int x4), (5, .long y5), (7, .long y7)] [] (σ) := by
  refine g_lload dX1_part_6 4 rfl ?_
  refine g_lconst (v := 0) dX1_part_8 (by decide) ?_
  refine g_lcmp_eq (tgt := 31) dX1_part_9 dX1_part_10 (by decide) (fun c => ?_) (fun c => ?_)
  · replace h := h.1 c
    refine g_iload dX1_part_31 2 rfl ?_
    refine g_if_ne (tgt := 43) dX1_part_33 (by decide) (fun c => ?_) (fun c => ?_)
    · replace h := h.1 c
      refine g_lload_n dX1_part_43 rfl 1 rfl ?_
      refine g_lload dX1_part_44 3 rfl ?_
      obtain ⟨hnz, h⟩ := h
      refine g_ldiv dX1_part_46 hnz ?_
      exact g_lret rfl dX1_part_47 h
    · replace h := h.2 c
      refine g_lload_n dX1_part_36 rfl 0 rfl ?_
      refine g_lload dX1_part_37 3 rfl ?_
      obtain ⟨hnz, h⟩ := h
      refine g_ldiv dX1_part_39 hnz ?_
      refine g_goto (tgt := 47) dX1_part_40 (by decide) ?_
      exact g_lret rfl dX1_part_47 h
  · replace h := h.2 c
    refine g_lload dX1_part_13 3 rfl ?_
    refine g_lload dX1_part_15 4 rfl ?_
    obtain ⟨hnz, h⟩ := h
    refine g_lrem dX1_part_17 hnz ?_
    refine g_topl (fun v9 ev9 => ?_)
    replace h := h v9 ev9
    refine g_lstore (ls1 := [(9, .long v9), (0, .long y0), (2, .long y2), (4, .int x4), (5, .long y5), (7, .long y7)]) dX1_part_18 (by decide) rfl ?_
    refine g_lload dX1_part_20 5 rfl ?_
    refine g_lstore (ls1 := [(5, .long y7), (9, .long v9), (0, .long y0), (2, .long y2), (4, .int x4), (7, .long y7)]) dX1_part_22 (by decide) rfl ?_
    refine g_lload dX1_part_24 1 rfl ?_
    refine g_lstore (ls1 := [(7, .long v9), (5, .long y7), (9, .long v9), (0, .long y0), (2, .long y2), (4, .int x4)]) dX1_part_26 (by decide) rfl ?_
    refine g_goto (tgt := 6) dX1_part_28 (by decide) ?_
    exact At.sub (ls := [(7, .long v9), (5, .long y7), (9, .long v9), (0, .long y0), (2, .long y2), (4, .int x4)]) [3, 4, 5, 1, 0] rfl h
theorem eX1_part {G : GC} {Q : Option Value → PS → Prop} {X : String → Nat → PS → Prop} {b : Nat} {p0 : Int64} {p2 : Int64} {p4 : Int32} {σ : PS} (h : At G mX1_part 3 Q X b 0 [(0, .long p0), (2, .long p2), (4, .int p4)] [] σ) : Call G mX1_part 3 b [.long p0, .long p2, .int p4] σ Q X :=
  Call.of (by decide +kernel) wsX1_part rfl (Nat.le_of_ble_eq_true rfl) (At.sub (ls := [(0, .long p0), (2, .long p2), (4, .int p4)]) [0, 1, 2] rfl h)
set_option maxHeartbeats 4000000 in
theorem bX1_often_0 {G : GC} {Q : Option Value → PS → Prop} {X : String → Nat → PS → Prop} {b : Nat} {h0 : Nat} {x1 : Int32} {σ : PS} (h : ∃ bc : Nat, bc ≤ b ∧ (∃ fs : List Value, Ob (σ) 1 h0 fs) ∧ Call G mX1_partOf 11 bc [.ref h0, .int x1] (σ) (qV (fun s1 => At G mX1_often 205 Q X (b - bc) 10 [(0, .ref h0), (1, .int x1), (2, .long 0), (4, .int 0)] [] s1)) X) : At G mX1_often 205 Q X b 0 [(0, .ref h0), (1, .int x1)] [] (σ) := by
  refine g_aload_n dX1_often_0 rfl 0 rfl ?_
  refine g_iload_n dX1_often_1 rfl 1 rfl ?_
  obtain ⟨bc, hb9, h⟩ := h
  obtain ⟨⟨_, hO⟩, h⟩ := h
  refine g_callV (N := mX1_partOf) (st := []) (As := [.int x1]) (a := h0) dX1_often_2 wsX1_partOf (lw_V q1468 q1470 qs27 q108 q1471) rfl mokX1_partOf rfl cl1 (by decide) (by decide) hb9 (Nat.zero_le _) hO h (fun E q s hx => AtX.out0 rfl hx) (fun _ s1 hq => ?_)
  obtain ⟨rfl, h⟩ := hq
  refine At.stk (st' := []) rfl ?_
  refine g_lconst (v := 0) dX1_often_5 (by decide) ?_
  refine g_lstore_n (ls1 := [(2, .long 0), (0, .ref h0), (1, .int x1)]) dX1_often_6 rfl (by decide) rfl ?_
  refine g_iconst (v := 0) dX1_often_7 (by decide) ?_
  refine g_istore (ls1 := [(4, .int 0), (2, .long 0), (0, .ref h0), (1, .int x1)]) dX1_often_8 (by decide) rfl ?_
  exact At.sub (ls := [(4, .int 0), (2, .long 0), (0, .ref h0), (1, .int x1)]) [2, 3, 1, 0] rfl h
set_option maxHeartbeats 4000000 in
theorem bX1_often_10 {G : GC} {Q : Option Value → PS → Prop} {X : String → Nat → PS → Prop} {b : Nat} {h0 : Nat} {x1 : Int32} {y2 : Int64} {x4 : Int32} {σ : PS} (h : ∃ a_calendar : Nat, Fg (σ) 1 h0 1 (.ref a_calendar) ∧ (∃ x_many : Int32, Fg (σ) 2 a_calendar 2 (.int x_many) ∧ (((x_many ≤ x4) → ∃ a_calendar_1 : Nat, Fg (σ) 1 h0 1 (.ref a_calendar_1) ∧ (∃ x_many_2 : Int32, Fg (σ) 2 a_calendar_1 2 (.int x_many_2) ∧ (((¬ x_many_2 = 0) → ∃ a_calendar_3 : Nat, Fg (σ) 1 h0 1 (.ref a_calendar_3) ∧ (∃ x_many_4 : Int32, Fg (σ) 2 a_calendar_3 2 (.int x_many_4) ∧ (∀ w : Int64, w = (1099511627776 * x_many_4.toInt64) → CallO G mX1_part 3 [.long y2, .long w, .int x1] (σ) (pJ (fun ry => Q (some (.long ry)) (σ)))))) ∧ ((x_many_2 = 0) → Q (some (.long x1.toInt64)) (σ))))) ∧ ((¬ x_many ≤ x4) → (∃ fs_13 : List Value, Ob (σ) 1 h0 fs_13) ∧ Call G mX1_asTold 4 0 [.ref h0] (σ) (qR (fun ra s1 => (∃ fs_12 : List Value, Ob s1 6 ra fs_12) ∧ Call G mX6_to 3 0 [.ref ra, .int x4] s1 (qR (fun ra_6 s1_5 => ∃ bc : Nat, bc ≤ b ∧ (∃ fs_11 : List Value, Ob s1_5 1 h0 fs_11) ∧ Call G mX1_run 204 bc [.ref h0, .ref ra_6] s1_5 (qR (fun ra_8 s1_7 => ∃ bc_9 : Nat, bc_9 ≤ b - bc ∧ (∃ fs : List Value, Ob s1_7 3 ra_8 fs) ∧ Call G mX3_truly 6 bc_9 [.ref ra_8] s1_7 (qJ (fun ry s1_10 => ∀ v2 : Int64, v2 = (y2 + ry) → ∀ v4 : Int32, v4 = x4 + 1 → At G mX1_often 205 Q X (b - bc - bc_9) 10 [(0, .ref h0), (1, .int x1), (2, .long v2), (4, .int v4)] [] s1_10)) X)) X)) X)) X)))) : At G mX1_often 205 Q X b 10 [(0, .ref h0), (1, .int x1), (2, .long y2), (4, .int x4)] [] (σ) := by
  refine g_iload dX1_often_10 3 rfl ?_
  refine g_aload_n dX1_often_12 rfl 0 rfl ?_
  obtain ⟨a_calendar, hf, h⟩ := h
  refine g_get 1 dX1_often_13 in_X1 cl1 (by decide) q454 hf ?_
  obtain ⟨x_many, hf, h⟩ := h
  refine g_getN 2 dX1_often_16 in_X2 cl2 (by decide) q168 hf ?_
  refine g_icmp_ge (tgt := 47) dX1_often_19 (by decide) (fun c => ?_) (fun c => ?_)
  · replace h := h.1 c
    refine g_aload_n dX1_often_47 rfl 0 rfl ?_
    obtain ⟨a_calendar_1, hf, h⟩ := h
    refine g_get 1 dX1_often_48 in_X1 cl1 (by decide) q454 hf ?_
    obtain ⟨x_many_2, hf, h⟩ := h
    refine g_getN 2 dX1_often_51 in_X2 cl2 (by decide) q168 hf ?_
    refine g_if_ne (tgt := 62) dX1_often_54 (by decide) (fun c => ?_) (fun c => ?_)
    · replace h := h.1 c
      refine g_lload_n dX1_often_62 rfl 2 rfl ?_
      refine g_ldc2 dX1_often_63 q1476 ?_
      refine g_aload_n dX1_often_66 rfl 0 rfl ?_
      obtain ⟨a_calendar_3, hf, h⟩ := h
      refine g_get 1 dX1_often_67 in_X1 cl1 (by decide) q454 hf ?_
      obtain ⟨x_many_4, hf, h⟩ := h
      refine g_getN 2 dX1_often_70 in_X2 cl2 (by decide) q168 hf ?_
      refine g_i2l dX1_often_73 ?_
      refine g_lmul dX1_often_74 ?_
      refine g_topl (fun w ew => ?_)
      replace h := h w ew
      refine g_iload_n dX1_often_75 rfl 1 rfl ?_
      refine g_callS (N := mX1_part) (st := []) (As := [.long y2, .long w, .int x1]) dX1_often_76 wsX1_part (lw_S q1477 q1478 q108 q1479) mokX1_part rfl (by decide) (by decide) (Nat.zero_le _) (Nat.zero_le _) h (fun E q s hx => AtX.never hx) (fun _ s1 hq => ?_)
      obtain ⟨es, hq⟩ := hq
      refine g_tops2 es ?_
      obtain ⟨ry, rfl, h⟩ := hq
      refine At.stk (st' := [.long ry]) rfl ?_
      exact g_lret rfl dX1_often_79 h
    · replace h := h.2 c
      refine g_iload_n dX1_often_57 rfl 1 rfl ?_
      refine g_i2l dX1_often_58 ?_
      refine g_goto (tgt := 79) dX1_often_59 (by decide) ?_
      exact g_lret rfl dX1_often_79 h
  · replace h := h.2 c
    refine g_lload_n dX1_often_22 rfl 2 rfl ?_
    refine g_aload_n dX1_often_23 rfl 0 rfl ?_
    refine g_aload_n dX1_often_24 rfl 0 rfl ?_
    obtain ⟨⟨_, hO⟩, h⟩ := h
    refine g_callV (N := mX1_asTold) (st := [.ref h0, .long y2]) (As := []) (a := h0) dX1_often_25 wsX1_asTold (lw_V q517 q519 qs0 q108 q520) rfl mokX1_asTold rfl cl1 (by decide) (by decide) (Nat.zero_le _) (by simp [Value.category]) hO h (fun E q s hx => AtX.out0 rfl hx) (fun _ s1 hq => ?_)
    obtain ⟨ra, rfl, h⟩ := hq
    refine At.stk (st' := [.ref ra, .ref h0, .long y2]) rfl ?_
    refine g_iload dX1_often_28 3 rfl ?_
    obtain ⟨⟨_, hO⟩, h⟩ := h
    refine g_callV (N := mX6_to) (st := [.ref h0, .long y2]) (As := [.int x4]) (a := ra) dX1_often_30 wsX6_to (lw_V q528 q529 q530 q113 q531) rfl mokX6_to rfl cl6 (by decide) (by decide) (Nat.zero_le _) (by simp [Value.category]) hO h (fun E q s hx => AtX.out0 rfl hx) (fun _ s1_5 hq => ?_)
    obtain ⟨ra_6, rfl, h⟩ := hq
    refine At.stk (st' := [.ref ra_6, .ref h0, .long y2]) rfl ?_
    obtain ⟨bc, hb9, h⟩ := h
    obtain ⟨⟨_, hO⟩, h⟩ := h
    refine g_callV (N := mX1_run) (st := [.long y2]) (As := [.ref ra_6]) (a := h0) dX1_often_33 wsX1_run (lw_V q532 q534 qs1 q108 q535) rfl mokX1_run rfl cl1 (by decide) (by decide) hb9 (by simp [Value.category]) hO h (fun E q s hx => AtX.out0 rfl hx) (fun _ s1_7 hq => ?_)
    obtain ⟨ra_8, rfl, h⟩ := hq
    refine At.stk (st' := [.ref ra_8, .long y2]) rfl ?_
    obtain ⟨bc_9, hb9, h⟩ := h
    obtain ⟨⟨_, hO⟩, h⟩ := h
    refine g_callV (N := mX3_truly) (st := [.long y2]) (As := []) (a := ra_8) dX1_often_36 wsX3_truly (lw_V q749 q750 q751 q110 q752) rfl mokX3_truly rfl cl3 (by decide) (by decide) hb9 (by simp [Value.category]) hO h (fun E q s hx => AtX.out0 rfl hx) (fun _ s1_10 hq => ?_)
    obtain ⟨ry, rfl, h⟩ := hq
    refine At.stk (st' := [.long ry, .long y2]) rfl ?_
    refine g_ladd dX1_often_39 ?_
    refine g_topl (fun v2 ev2 => ?_)
    replace h := h v2 ev2
    refine g_lstore_n (ls1 := [(2, .long v2), (0, .ref h0), (1, .int x1), (4, .int x4)]) dX1_often_40 rfl (by decide) rfl ?_
    obtain ⟨v4, ev4⟩ : ∃ z : Int32, z = x4 + 1 := ⟨_, rfl⟩
    refine g_iinc (v := v4) (ls1 := [(4, .int v4), (2, .long v2), (0, .ref h0), (1, .int x1)]) dX1_often_41 3 rfl (by rw [ev4]; rfl) (by decide) rfl ?_
    replace h := h v4 ev4
    refine g_goto (tgt := 10) dX1_often_44 (by decide) ?_
    exact At.sub (ls := [(4, .int v4), (2, .long v2), (0, .ref h0), (1, .int x1)]) [2, 3, 1, 0] rfl h
theorem eX1_often {G : GC} {Q : Option Value → PS → Prop} {X : String → Nat → PS → Prop} {b : Nat} {h0 : Nat} {p1 : Int32} {σ : PS} (h : At G mX1_often 205 Q X b 0 [(0, .ref h0), (1, .int p1)] [] σ) : Call G mX1_often 205 b [.ref h0, .int p1] σ Q X :=
  Call.of (by decide +kernel) wsX1_often rfl (Nat.le_of_ble_eq_true rfl) (At.sub (ls := [(0, .ref h0), (1, .int p1)]) [0, 1] rfl h)
set_option maxHeartbeats 4000000 in
theorem bX1_drunk_0 {G : GC} {Q : Option Value → PS → Prop} {X : String → Nat → PS → Prop} {b : Nat} {h0 : Nat} {x1 : Int32} {x2 : Int32} {σ : PS} (h : ∃ bc : Nat, bc ≤ b ∧ (∃ fs_10 : List Value, Ob (σ) 1 h0 fs_10) ∧ Call G mX1_personOf 11 bc [.ref h0, .int x1] (σ) (qV (fun s1 => ∃ bc_1 : Nat, bc_1 ≤ b - bc ∧ (∃ fs_9 : List Value, Ob s1 1 h0 fs_9) ∧ Call G mX1_partOf 11 bc_1 [.ref h0, .int x2] s1 (qV (fun s1_2 => (∃ fs_8 : List Value, Ob s1_2 1 h0 fs_8) ∧ Call G mX1_asTold 4 0 [.ref h0] s1_2 (qR (fun ra s1_3 => ∃ bc_4 : Nat, bc_4 ≤ b - bc - bc_1 ∧ (∃ fs : List Value, Ob s1_3 1 h0 fs) ∧ Call G mX1_run 204 bc_4 [.ref h0, .ref ra] s1_3 (qR (fun ra_6 s1_5 => ∃ a_drunk : Nat, Fg s1_5 3 ra_6 1 (.ref a_drunk) ∧ (∃ (n : Nat) (f : Nat → Int64), La s1_5 101 a_drunk n f ∧ vp_in x1 n ∧ (CallO G mX1_part 3 [.long (f x1.toNatClampNeg), .long 1099511627776, .int x2] s1_5 (pJ (fun ry => Q (some (.long ry)) s1_5)))))) X)) X)) X)) X) : At G mX1_drunk 205 Q X b 0 [(0, .ref h0), (1, .int x1), (2, .int x2)] [] (σ) := by
  refine g_aload_n dX1_drunk_0 rfl 0 rfl ?_
  refine g_iload_n dX1_drunk_1 rfl 1 rfl ?_
  obtain ⟨bc, hb9, h⟩ := h
  obtain ⟨⟨_, hO⟩, h⟩ := h
  refine g_callV (N := mX1_personOf) (st := []) (As := [.int x1]) (a := h0) dX1_drunk_2 wsX1_personOf (lw_V q1107 q1109 qs17 q108 q1110) rfl mokX1_personOf rfl cl1 (by decide) (by decide) hb9 (Nat.zero_le _) hO h (fun E q s hx => AtX.out0 rfl hx) (fun _ s1 hq => ?_)
  obtain ⟨rfl, h⟩ := hq
  refine At.stk (st' := []) rfl ?_
  refine g_aload_n dX1_drunk_5 rfl 0 rfl ?_
  refine g_iload_n dX1_drunk_6 rfl 2 rfl ?_
  obtain ⟨bc_1, hb9, h⟩ := h
  obtain ⟨⟨_, hO⟩, h⟩ := h
  refine g_callV (N := mX1_partOf) (st := []) (As := [.int x2]) (a := h0) dX1_drunk_7 wsX1_partOf (lw_V q1468 q1470 qs27 q108 q1471) rfl mokX1_partOf rfl cl1 (by decide) (by decide) hb9 (Nat.zero_le _) hO h (fun E q s hx => AtX.out0 rfl hx) (fun _ s1_2 hq => ?_)
  obtain ⟨rfl, h⟩ := hq
  refine At.stk (st' := []) rfl ?_
  refine g_aload_n dX1_drunk_10 rfl 0 rfl ?_
  refine g_aload_n dX1_drunk_11 rfl 0 rfl ?_
  obtain ⟨⟨_, hO⟩, h⟩ := h
  refine g_callV (N := mX1_asTold) (st := [.ref h0]) (As := []) (a := h0) dX1_drunk_12 wsX1_asTold (lw_V q517 q519 qs0 q108 q520) rfl mokX1_asTold rfl cl1 (by decide) (by decide) (Nat.zero_le _) (by simp [Value.category]) hO h (fun E q s hx => AtX.out0 rfl hx) (fun _ s1_3 hq => ?_)
  obtain ⟨ra, rfl, h⟩ := hq
  refine At.stk (st' := [.ref ra, .ref h0]) rfl ?_
  obtain ⟨bc_4, hb9, h⟩ := h
  obtain ⟨⟨_, hO⟩, h⟩ := h
  refine g_callV (N := mX1_run) (st := []) (As := [.ref ra]) (a := h0) dX1_drunk_15 wsX1_run (lw_V q532 q534 qs1 q108 q535) rfl mokX1_run rfl cl1 (by decide) (by decide) hb9 (Nat.zero_le _) hO h (fun E q s hx => AtX.out0 rfl hx) (fun _ s1_5 hq => ?_)
  obtain ⟨ra_6, rfl, h⟩ := hq
  refine At.stk (st' := [.ref ra_6]) rfl ?_
  obtain ⟨a_drunk, hf, h⟩ := h
  refine g_getN 1 dX1_drunk_18 in_X3 cl3 (by decide) q238 hf ?_
  refine g_iload_n dX1_drunk_21 rfl 1 rfl ?_
  obtain ⟨n, f, h1, h2, h⟩ := h
  refine g_lald dX1_drunk_22 h1 h2 ?_
  refine g_ldc2 dX1_drunk_23 q1476 ?_
  refine g_iload_n dX1_drunk_26 rfl 2 rfl ?_
  refine g_callS (N := mX1_part) (st := []) (As := [.long (f x1.toNatClampNeg), .long 1099511627776, .int x2]) dX1_drunk_27 wsX1_part (lw_S q1477 q1478 q108 q1479) mokX1_part rfl (by decide) (by decide) (Nat.zero_le _) (Nat.zero_le _) h (fun E q s hx => AtX.never hx) (fun _ s1_7 hq => ?_)
  obtain ⟨es, hq⟩ := hq
  refine g_tops2 es ?_
  obtain ⟨ry, rfl, h⟩ := hq
  refine At.stk (st' := [.long ry]) rfl ?_
  exact g_lret rfl dX1_drunk_30 h
theorem eX1_drunk {G : GC} {Q : Option Value → PS → Prop} {X : String → Nat → PS → Prop} {b : Nat} {h0 : Nat} {p1 : Int32} {p2 : Int32} {σ : PS} (h : At G mX1_drunk 205 Q X b 0 [(0, .ref h0), (1, .int p1), (2, .int p2)] [] σ) : Call G mX1_drunk 205 b [.ref h0, .int p1, .int p2] σ Q X :=
  Call.of (by decide +kernel) wsX1_drunk rfl (Nat.le_of_ble_eq_true rfl) (At.sub (ls := [(0, .ref h0), (1, .int p1), (2, .int p2)]) [0, 1, 2] rfl h)
set_option maxHeartbeats 4000000 in
theorem bX1_done_0 {G : GC} {Q : Option Value → PS → Prop} {X : String → Nat → PS → Prop} {b : Nat} {h0 : Nat} {x1 : Int32} {x2 : Int32} {σ : PS} (h : ∃ bc : Nat, bc ≤ b ∧ (∃ fs_11 : List Value, Ob (σ) 1 h0 fs_11) ∧ Call G mX1_within 10 bc [.ref h0, .int x1, .int 0, .int 1] (σ) (qV (fun s1 => ∃ bc_1 : Nat, bc_1 ≤ b - bc ∧ (∃ fs_10 : List Value, Ob s1 1 h0 fs_10) ∧ Call G mX1_partOf 11 bc_1 [.ref h0, .int x2] s1 (qV (fun s1_2 => (∃ fs_9 : List Value, Ob s1_2 1 h0 fs_9) ∧ Call G mX1_asTold 4 0 [.ref h0] s1_2 (qR (fun ra s1_3 => ∃ bc_4 : Nat, bc_4 ≤ b - bc - bc_1 ∧ (∃ fs : List Value, Ob s1_3 1 h0 fs) ∧ Call G mX1_run 204 bc_4 [.ref h0, .ref ra] s1_3 (qR (fun ra_6 s1_5 => ((¬ x1 = 0) → ∃ a_flow : Nat, Fg s1_5 1 h0 7 (.ref a_flow) ∧ (∃ y_looks : Int64, Fg s1_5 3 a_flow 7 (.long y_looks) ∧ (CallO G mX1_part 3 [.long y_looks, .long 1099511627776, .int x2] s1_5 (pJ (fun ry => Q (some (.long ry)) s1_5))))) ∧ ((x1 = 0) → ∃ a_flow : Nat, Fg s1_5 1 h0 7 (.ref a_flow) ∧ (∃ y_washed : Int64, Fg s1_5 3 a_flow 6 (.long y_washed) ∧ (CallO G mX1_part 3 [.long y_washed, .long 1099511627776, .int x2] s1_5 (pJ (fun ry => Q (some (.long ry)) s1_5))))))) X)) X)) X)) X) : At G mX1_done 205 Q X b 0 [(0, .ref h0), (1, .int x1), (2, .int x2)] [] (σ) := by
  refine g_aload_n dX1_done_0 rfl 0 rfl ?_
  refine g_iload_n dX1_done_1 rfl 1 rfl ?_
  refine g_iconst (v := 0) dX1_done_2 (by decide) ?_
  refine g_iconst (v := 1) dX1_done_3 (by decide) ?_
  obtain ⟨bc, hb9, h⟩ := h
  obtain ⟨⟨_, hO⟩, h⟩ := h
  refine g_callV (N := mX1_within) (st := []) (As := [.int x1, .int 0, .int 1]) (a := h0) dX1_done_4 wsX1_within (lw_V q833 q835 qs11 q108 q836) rfl mokX1_within rfl cl1 (by decide) (by decide) hb9 (Nat.zero_le _) hO h (fun E q s hx => AtX.out0 rfl hx) (fun _ s1 hq => ?_)
  obtain ⟨rfl, h⟩ := hq
  refine At.stk (st' := []) rfl ?_
  refine g_aload_n dX1_done_7 rfl 0 rfl ?_
  refine g_iload_n dX1_done_8 rfl 2 rfl ?_
  obtain ⟨bc_1, hb9, h⟩ := h
  obtain ⟨⟨_, hO⟩, h⟩ := h
  refine g_callV (N := mX1_partOf) (st := []) (As := [.int x2]) (a := h0) dX1_done_9 wsX1_partOf (lw_V q1468 q1470 qs27 q108 q1471) rfl mokX1_partOf rfl cl1 (by decide) (by decide) hb9 (Nat.zero_le _) hO h (fun E q s hx => AtX.out0 rfl hx) (fun _ s1_2 hq => ?_)
  obtain ⟨rfl, h⟩ := hq
  refine At.stk (st' := []) rfl ?_
  refine g_aload_n dX1_done_12 rfl 0 rfl ?_
  refine g_aload_n dX1_done_13 rfl 0 rfl ?_
  obtain ⟨⟨_, hO⟩, h⟩ := h
  refine g_callV (N := mX1_asTold) (st := [.ref h0]) (As := []) (a := h0) dX1_done_14 wsX1_asTold (lw_V q517 q519 qs0 q108 q520) rfl mokX1_asTold rfl cl1 (by decide) (by decide) (Nat.zero_le _) (by simp [Value.category]) hO h (fun E q s hx => AtX.out0 rfl hx) (fun _ s1_3 hq => ?_)
  obtain ⟨ra, rfl, h⟩ := hq
  refine At.stk (st' := [.ref ra, .ref h0]) rfl ?_
  obtain ⟨bc_4, hb9, h⟩ := h
  obtain ⟨⟨_, hO⟩, h⟩ := h
  refine g_callV (N := mX1_run) (st := []) (As := [.ref ra]) (a := h0) dX1_done_17 wsX1_run (lw_V q532 q534 qs1 q108 q535) rfl mokX1_run rfl cl1 (by decide) (by decide) hb9 (Nat.zero_le _) hO h (fun E q s hx => AtX.out0 rfl hx) (fun _ s1_5 hq => ?_)
  obtain ⟨ra_6, rfl, h⟩ := hq
  refine At.stk (st' := [.ref ra_6]) rfl ?_
  refine g_pop dX1_done_20 rfl ?_
  refine g_iload_n dX1_done_21 rfl 1 rfl ?_
  refine g_if_ne (tgt := 35) dX1_done_22 (by decide) (fun c => ?_) (fun c => ?_)
  · replace h := h.1 c
    refine g_aload_n dX1_done_35 rfl 0 rfl ?_
    obtain ⟨a_flow, hf, h⟩ := h
    refine g_get 7 dX1_done_36 in_X1 cl1 (by decide) q460 hf ?_
    obtain ⟨y_looks, hf, h⟩ := h
    refine g_getN 7 dX1_done_39 in_X3 cl3 (by decide) q249 hf ?_
    refine g_ldc2 dX1_done_42 q1476 ?_
    refine g_iload_n dX1_done_45 rfl 2 rfl ?_
    refine g_callS (N := mX1_part) (st := []) (As := [.long y_looks, .long 1099511627776, .int x2]) dX1_done_46 wsX1_part (lw_S q1477 q1478 q108 q1479) mokX1_part rfl (by decide) (by decide) (Nat.zero_le _) (Nat.zero_le _) h (fun E q s hx => AtX.never hx) (fun _ s1_7 hq => ?_)
    obtain ⟨es, hq⟩ := hq
    refine g_tops2 es ?_
    obtain ⟨ry, rfl, h⟩ := hq
    refine At.stk (st' := [.long ry]) rfl ?_
    exact g_lret rfl dX1_done_49 h
  · replace h := h.2 c
    refine g_aload_n dX1_done_25 rfl 0 rfl ?_
    obtain ⟨a_flow, hf, h⟩ := h
    refine g_get 7 dX1_done_26 in_X1 cl1 (by decide) q460 hf ?_
    obtain ⟨y_washed, hf, h⟩ := h
    refine g_getN 6 dX1_done_29 in_X3 cl3 (by decide) q246 hf ?_
    refine g_goto (tgt := 42) dX1_done_32 (by decide) ?_
    refine g_ldc2 dX1_done_42 q1476 ?_
    refine g_iload_n dX1_done_45 rfl 2 rfl ?_
    refine g_callS (N := mX1_part) (st := []) (As := [.long y_washed, .long 1099511627776, .int x2]) dX1_done_46 wsX1_part (lw_S q1477 q1478 q108 q1479) mokX1_part rfl (by decide) (by decide) (Nat.zero_le _) (Nat.zero_le _) h (fun E q s hx => AtX.never hx) (fun _ s1_8 hq => ?_)
    obtain ⟨es, hq⟩ := hq
    refine g_tops2 es ?_
    obtain ⟨ry, rfl, h⟩ := hq
    refine At.stk (st' := [.long ry]) rfl ?_
    exact g_lret rfl dX1_done_49 h
theorem eX1_done {G : GC} {Q : Option Value → PS → Prop} {X : String → Nat → PS → Prop} {b : Nat} {h0 : Nat} {p1 : Int32} {p2 : Int32} {σ : PS} (h : At G mX1_done 205 Q X b 0 [(0, .ref h0), (1, .int p1), (2, .int p2)] [] σ) : Call G mX1_done 205 b [.ref h0, .int p1, .int p2] σ Q X :=
  Call.of (by decide +kernel) wsX1_done rfl (Nat.le_of_ble_eq_true rfl) (At.sub (ls := [(0, .ref h0), (1, .int p1), (2, .int p2)]) [0, 1, 2] rfl h)
set_option maxHeartbeats 4000000 in
theorem bX1_cost_0 {G : GC} {Q : Option Value → PS → Prop} {X : String → Nat → PS → Prop} {b : Nat} {h0 : Nat} {x1 : Int32} {σ : PS} (h : ∃ bc : Nat, bc ≤ b ∧ (∃ fs_10 : List Value, Ob (σ) 1 h0 fs_10) ∧ Call G mX1_partOf 11 bc [.ref h0, .int x1] (σ) (qV (fun s1 => (∃ fs_9 : List Value, Ob s1 1 h0 fs_9) ∧ Call G mX1_asTold 4 0 [.ref h0] s1 (qR (fun ra s1_1 => ∃ bc_2 : Nat, bc_2 ≤ b - bc ∧ (∃ fs_8 : List Value, Ob s1_1 1 h0 fs_8) ∧ Call G mX1_run 204 bc_2 [.ref h0, .ref ra] s1_1 (qR (fun ra_4 s1_3 => (∃ fs : List Value, Ob s1_3 3 ra_4 fs) ∧ CallO G mX3_cost 3 [.ref ra_4] s1_3 (pJ (fun ry => CallO G mX1_part 3 [.long ry, .long 1099511627776, .int x1] s1_3 (pJ (fun ry_7 => Q (some (.long ry_7)) s1_3)))))) X)) X)) X) : At G mX1_cost 205 Q X b 0 [(0, .ref h0), (1, .int x1)] [] (σ) := by
  refine g_aload_n dX1_cost_0 rfl 0 rfl ?_
  refine g_iload_n dX1_cost_1 rfl 1 rfl ?_
  obtain ⟨bc, hb9, h⟩ := h
  obtain ⟨⟨_, hO⟩, h⟩ := h
  refine g_callV (N := mX1_partOf) (st := []) (As := [.int x1]) (a := h0) dX1_cost_2 wsX1_partOf (lw_V q1468 q1470 qs27 q108 q1471) rfl mokX1_partOf rfl cl1 (by decide) (by decide) hb9 (Nat.zero_le _) hO h (fun E q s hx => AtX.out0 rfl hx) (fun _ s1 hq => ?_)
  obtain ⟨rfl, h⟩ := hq
  refine At.stk (st' := []) rfl ?_
  refine g_aload_n dX1_cost_5 rfl 0 rfl ?_
  refine g_aload_n dX1_cost_6 rfl 0 rfl ?_
  obtain ⟨⟨_, hO⟩, h⟩ := h
  refine g_callV (N := mX1_asTold) (st := [.ref h0]) (As := []) (a := h0) dX1_cost_7 wsX1_asTold (lw_V q517 q519 qs0 q108 q520) rfl mokX1_asTold rfl cl1 (by decide) (by decide) (Nat.zero_le _) (by simp [Value.category]) hO h (fun E q s hx => AtX.out0 rfl hx) (fun _ s1_1 hq => ?_)
  obtain ⟨ra, rfl, h⟩ := hq
  refine At.stk (st' := [.ref ra, .ref h0]) rfl ?_
  obtain ⟨bc_2, hb9, h⟩ := h
  obtain ⟨⟨_, hO⟩, h⟩ := h
  refine g_callV (N := mX1_run) (st := []) (As := [.ref ra]) (a := h0) dX1_cost_10 wsX1_run (lw_V q532 q534 qs1 q108 q535) rfl mokX1_run rfl cl1 (by decide) (by decide) hb9 (Nat.zero_le _) hO h (fun E q s hx => AtX.out0 rfl hx) (fun _ s1_3 hq => ?_)
  obtain ⟨ra_4, rfl, h⟩ := hq
  refine At.stk (st' := [.ref ra_4]) rfl ?_
  obtain ⟨⟨_, hO⟩, h⟩ := h
  refine g_callV (N := mX3_cost) (st := []) (As := []) (a := ra_4) dX1_cost_13 wsX3_cost (lw_V q779 q780 q781 q110 q782) rfl mokX3_cost rfl cl3 (by decide) (by decide) (Nat.zero_le _) (Nat.zero_le _) hO h (fun E q s hx => AtX.never hx) (fun _ s1_5 hq => ?_)
  obtain ⟨es, hq⟩ := hq
  refine g_tops2 es ?_
  obtain ⟨ry, rfl, h⟩ := hq
  refine At.stk (st' := [.long ry]) rfl ?_
  refine g_ldc2 dX1_cost_16 q1476 ?_
  refine g_iload_n dX1_cost_19 rfl 1 rfl ?_
  refine g_callS (N := mX1_part) (st := []) (As := [.long ry, .long 1099511627776, .int x1]) dX1_cost_20 wsX1_part (lw_S q1477 q1478 q108 q1479) mokX1_part rfl (by decide) (by decide) (Nat.zero_le _) (Nat.zero_le _) h (fun E q s hx => AtX.never hx) (fun _ s1_6 hq => ?_)
  obtain ⟨es, hq⟩ := hq
  refine g_tops2 es ?_
  obtain ⟨ry_7, rfl, h⟩ := hq
  refine At.stk (st' := [.long ry_7]) rfl ?_
  exact g_lret rfl dX1_cost_23 h
theorem eX1_cost {G : GC} {Q : Option Value → PS → Prop} {X : String → Nat → PS → Prop} {b : Nat} {h0 : Nat} {p1 : Int32} {σ : PS} (h : At G mX1_cost 205 Q X b 0 [(0, .ref h0), (1, .int p1)] [] σ) : Call G mX1_cost 205 b [.ref h0, .int p1] σ Q X :=
  Call.of (by decide +kernel) wsX1_cost rfl (Nat.le_of_ble_eq_true rfl) (At.sub (ls := [(0, .ref h0), (1, .int p1)]) [0, 1] rfl h)
set_option maxHeartbeats 4000000 in
theorem bX1_fits_0 {G : GC} {Q : Option Value → PS → Prop} {X : String → Nat → PS → Prop} {b : Nat} {h0 : Nat} {x1 : Int32} {σ : PS} (h : ∃ bc : Nat, bc ≤ b ∧ (∃ fs_13 : List Value, Ob (σ) 1 h0 fs_13) ∧ Call G mX1_partOf 11 bc [.ref h0, .int x1] (σ) (qV (fun s1 => (∃ fs_12 : List Value, Ob s1 1 h0 fs_12) ∧ Call G mX1_asTold 4 0 [.ref h0] s1 (qR (fun ra s1_1 => ∃ a_book : Nat, Fg s1_1 1 h0 12 (.ref a_book) ∧ ((∃ fs_11 : List Value, Ob s1_1 6 ra fs_11) ∧ Call G mX6_given 3 0 [.ref ra, .ref a_book] s1_1 (qR (fun ra_3 s1_2 => ∃ bc_4 : Nat, bc_4 ≤ b - bc ∧ (∃ fs_10 : List Value, Ob s1_2 1 h0 fs_10) ∧ Call G mX1_run 204 bc_4 [.ref h0, .ref ra_3] s1_2 (qR (fun ra_6 s1_5 => (∃ fs : List Value, Ob s1_5 3 ra_6 fs) ∧ CallO G mX3_all 3 [.ref ra_6] s1_5 (pJ (fun ry => CallO G mX1_part 3 [.long ry, .long 1099511627776, .int x1] s1_5 (pJ (fun ry_9 => Q (some (.long ry_9)) s1_5)))))) X)) X))) X)) X) : At G mX1_fits 205 Q X b 0 [(0, .ref h0), (1, .int x1)] [] (σ) := by
  refine g_aload_n dX1_fits_0 rfl 0 rfl ?_
  refine g_iload_n dX1_fits_1 rfl 1 rfl ?_
  obtain ⟨bc, hb9, h⟩ := h
  obtain ⟨⟨_, hO⟩, h⟩ := h
  refine g_callV (N := mX1_partOf) (st := []) (As := [.int x1]) (a := h0) dX1_fits_2 wsX1_partOf (lw_V q1468 q1470 qs27 q108 q1471) rfl mokX1_partOf rfl cl1 (by decide) (by decide) hb9 (Nat.zero_le _) hO h (fun E q s hx => AtX.out0 rfl hx) (fun _ s1 hq => ?_)
  obtain ⟨rfl, h⟩ := hq
  refine At.stk (st' := []) rfl ?_
  refine g_aload_n dX1_fits_5 rfl 0 rfl ?_
  refine g_aload_n dX1_fits_6 rfl 0 rfl ?_
  obtain ⟨⟨_, hO⟩, h⟩ := h
  refine g_callV (N := mX1_asTold) (st := [.ref h0]) (As := []) (a := h0) dX1_fits_7 wsX1_asTold (lw_V q517 q519 qs0 q108 q520) rfl mokX1_asTold rfl cl1 (by decide) (by decide) (Nat.zero_le _) (by simp [Value.category]) hO h (fun E q s hx => AtX.out0 rfl hx) (fun _ s1_1 hq => ?_)
  obtain ⟨ra, rfl, h⟩ := hq
  refine At.stk (st' := [.ref ra, .ref h0]) rfl ?_
  refine g_aload_n dX1_fits_10 rfl 0 rfl ?_
  obtain ⟨a_book, hf, h⟩ := h
  refine g_get 12 dX1_fits_11 in_X1 cl1 (by decide) q465 hf ?_
  obtain ⟨⟨_, hO⟩, h⟩ := h
  refine g_callV (N := mX6_given) (st := [.ref h0]) (As := [.ref a_book]) (a := ra) dX1_fits_14 wsX6_given (lw_V q1515 q1516 q1517 q113 q1518) rfl mokX6_given rfl cl6 (by decide) (by decide) (Nat.zero_le _) (by simp [Value.category]) hO h (fun E q s hx => AtX.out0 rfl hx) (fun _ s1_2 hq => ?_)
  obtain ⟨ra_3, rfl, h⟩ := hq
  refine At.stk (st' := [.ref ra_3, .ref h0]) rfl ?_
  obtain ⟨bc_4, hb9, h⟩ := h
  obtain ⟨⟨_, hO⟩, h⟩ := h
  refine g_callV (N := mX1_run) (st := []) (As := [.ref ra_3]) (a := h0) dX1_fits_17 wsX1_run (lw_V q532 q534 qs1 q108 q535) rfl mokX1_run rfl cl1 (by decide) (by decide) hb9 (Nat.zero_le _) hO h (fun E q s hx => AtX.out0 rfl hx) (fun _ s1_5 hq => ?_)
  obtain ⟨ra_6, rfl, h⟩ := hq
  refine At.stk (st' := [.ref ra_6]) rfl ?_
  obtain ⟨⟨_, hO⟩, h⟩ := h
  refine g_callV (N := mX3_all) (st := []) (As := []) (a := ra_6) dX1_fits_20 wsX3_all (lw_V q1519 q1520 q1521 q110 q1522) rfl mokX3_all rfl cl3 (by decide) (by decide) (Nat.zero_le _) (Nat.zero_le _) hO h (fun E q s hx => AtX.never hx) (fun _ s1_7 hq => ?_)
  obtain ⟨es, hq⟩ := hq
  refine g_tops2 es ?_
  obtain ⟨ry, rfl, h⟩ := hq
  refine At.stk (st' := [.long ry]) rfl ?_
  refine g_ldc2 dX1_fits_23 q1476 ?_
  refine g_iload_n dX1_fits_26 rfl 1 rfl ?_
  refine g_callS (N := mX1_part) (st := []) (As := [.long ry, .long 1099511627776, .int x1]) dX1_fits_27 wsX1_part (lw_S q1477 q1478 q108 q1479) mokX1_part rfl (by decide) (by decide) (Nat.zero_le _) (Nat.zero_le _) h (fun E q s hx => AtX.never hx) (fun _ s1_8 hq => ?_)
  obtain ⟨es, hq⟩ := hq
  refine g_tops2 es ?_
  obtain ⟨ry_9, rfl, h⟩ := hq
  refine At.stk (st' := [.long ry_9]) rfl ?_
  exact g_lret rfl dX1_fits_30 h
theorem eX1_fits {G : GC} {Q : Option Value → PS → Prop} {X : String → Nat → PS → Prop} {b : Nat} {h0 : Nat} {p1 : Int32} {σ : PS} (h : At G mX1_fits 205 Q X b 0 [(0, .ref h0), (1, .int p1)] [] σ) : Call G mX1_fits 205 b [.ref h0, .int p1] σ Q X :=
  Call.of (by decide +kernel) wsX1_fits rfl (Nat.le_of_ble_eq_true rfl) (At.sub (ls := [(0, .ref h0), (1, .int p1)]) [0, 1] rfl h)
set_option maxHeartbeats 4000000 in
theorem bX1_given_0 {G : GC} {Q : Option Value → PS → Prop} {X : String → Nat → PS → Prop} {b : Nat} {h0 : Nat} {x1 : Int32} {x2 : Int32} {x3 : Int32} {σ : PS} (h : ∃ bc : Nat, bc ≤ b ∧ (∃ fs_17 : List Value, Ob (σ) 1 h0 fs_17) ∧ Call G mX1_visitOf 11 bc [.ref h0, .int x1] (σ) (qV (fun s1 => ∃ bc_1 : Nat, bc_1 ≤ b - bc ∧ (∃ fs_16 : List Value, Ob s1 1 h0 fs_16) ∧ Call G mX1_within 10 bc_1 [.ref h0, .int x2, .int 0, .int 5] s1 (qV (fun s1_2 => ∃ bc_3 : Nat, bc_3 ≤ b - bc - bc_1 ∧ (∃ fs_15 : List Value, Ob s1_2 1 h0 fs_15) ∧ Call G mX1_partOf 11 bc_3 [.ref h0, .int x3] s1_2 (qV (fun s1_4 => ∃ bc_5 : Nat, bc_5 ≤ b - bc - bc_1 - bc_3 ∧ (∃ fs_14 : List Value, Ob s1_4 1 h0 fs_14) ∧ Call G mX1_begun 205 bc_5 [.ref h0, .int x1] s1_4 (qR (fun ra s1_6 => (∃ fs_13 : List Value, Ob s1_6 3 ra fs_13) ∧ CallO G mX3_all 3 [.ref ra] s1_6 (pJ (fun ry => ((¬ ry = 0) → ∃ a_flow : Nat, Fg s1_6 1 h0 7 (.ref a_flow) ∧ (∃ bc_8 : Nat, bc_8 ≤ b - bc - bc_1 - bc_3 - bc_5 ∧ (∃ fs : List Value, Ob s1_6 3 a_flow fs) ∧ Call G mX3_likely 5 bc_8 [.ref a_flow, .int x2, .int x1] s1_6 (qJ (fun ry_10 s1_9 => CallO G mX1_part 3 [.long ry_10, .long ry, .int x3] s1_9 (pJ (fun ry_12 => Q (some (.long ry_12)) s1_9)))) X)) ∧ ((ry = 0) → Q (some (.long x3.toInt64)) s1_6))))) X)) X)) X)) X) : At G mX1_given 206 Q X b 0 [(0, .ref h0), (1, .int x1), (2, .int x2), (3, .int x3)] [] (σ) := by
  refine g_aload_n dX1_given_0 rfl 0 rfl ?_
  refine g_iload_n dX1_given_1 rfl 1 rfl ?_
  obtain ⟨bc, hb9, h⟩ := h
  obtain ⟨⟨_, hO⟩, h⟩ := h
  refine g_callV (N := mX1_visitOf) (st := []) (As := [.int x1]) (a := h0) dX1_given_2 wsX1_visitOf (lw_V q1396 q1398 qs26 q108 q1399) rfl mokX1_visitOf rfl cl1 (by decide) (by decide) hb9 (Nat.zero_le _) hO h (fun E q s hx => AtX.out0 rfl hx) (fun _ s1 hq => ?_)
  obtain ⟨rfl, h⟩ := hq
  refine At.stk (st' := []) rfl ?_
  refine g_aload_n dX1_given_5 rfl 0 rfl ?_
  refine g_iload_n dX1_given_6 rfl 2 rfl ?_
  refine g_iconst (v := 0) dX1_given_7 (by decide) ?_
  refine g_iconst (v := 5) dX1_given_8 (by decide) ?_
  obtain ⟨bc_1, hb9, h⟩ := h
  obtain ⟨⟨_, hO⟩, h⟩ := h
  refine g_callV (N := mX1_within) (st := []) (As := [.int x2, .int 0, .int 5]) (a := h0) dX1_given_9 wsX1_within (lw_V q833 q835 qs11 q108 q836) rfl mokX1_within rfl cl1 (by decide) (by decide) hb9 (Nat.zero_le _) hO h (fun E q s hx => AtX.out0 rfl hx) (fun _ s1_2 hq => ?_)
  obtain ⟨rfl, h⟩ := hq
  refine At.stk (st' := []) rfl ?_
  refine g_aload_n dX1_given_12 rfl 0 rfl ?_
  refine g_iload_n dX1_given_13 rfl 3 rfl ?_
  obtain ⟨bc_3, hb9, h⟩ := h
  obtain ⟨⟨_, hO⟩, h⟩ := h
  refine g_callV (N := mX1_partOf) (st := []) (As := [.int x3]) (a := h0) dX1_given_14 wsX1_partOf (lw_V q1468 q1470 qs27 q108 q1471) rfl mokX1_partOf rfl cl1 (by decide) (by decide) hb9 (Nat.zero_le _) hO h (fun E q s hx => AtX.out0 rfl hx) (fun _ s1_4 hq => ?_)
  obtain ⟨rfl, h⟩ := hq
  refine At.stk (st' := []) rfl ?_
  refine g_aload_n dX1_given_17 rfl 0 rfl ?_
  refine g_iload_n dX1_given_18 rfl 1 rfl ?_
  obtain ⟨bc_5, hb9, h⟩ := h
  obtain ⟨⟨_, hO⟩, h⟩ := h
  refine g_callV (N := mX1_begun) (st := []) (As := [.int x1]) (a := h0) dX1_given_19 wsX1_begun (lw_V q1530 q1532 qs28 q108 q1533) rfl mokX1_begun rfl cl1 (by decide) (by decide) hb9 (Nat.zero_le _) hO h (fun E q s hx => AtX.out0 rfl hx) (fun _ s1_6 hq => ?_)
  obtain ⟨ra, rfl, h⟩ := hq
  refine At.stk (st' := [.ref ra]) rfl ?_
  obtain ⟨⟨_, hO⟩, h⟩ := h
  refine g_callV (N := mX3_all) (st := []) (As := []) (a := ra) dX1_given_22 wsX3_all (lw_V q1519 q1520 q1521 q110 q1522) rfl mokX3_all rfl cl3 (by decide) (by decide) (Nat.zero_le _) (Nat.zero_le _) hO h (fun E q s hx => AtX.never hx) (fun _ s1_7 hq => ?_)
  obtain ⟨es, hq⟩ := hq
  refine g_tops2 es ?_
  obtain ⟨ry, rfl, h⟩ := hq
  refine At.stk (st' := [.long ry]) rfl ?_
  refine g_lstore (ls1 := [(4, .long ry), (0, .ref h0), (1, .int x1), (2, .int x2), (3, .int x3)]) dX1_given_25 (by decide) rfl ?_
  refine g_lload dX1_given_27 0 rfl ?_
  refine g_lconst (v := 0) dX1_given_29 (by decide) ?_
  refine g_lcmp_ne (tgt := 39) dX1_given_30 dX1_given_31 (by decide) (fun c => ?_) (fun c => ?_)
  · replace h := h.1 c
    refine g_aload_n dX1_given_39 rfl 1 rfl ?_
    obtain ⟨a_flow, hf, h⟩ := h
    refine g_get 7 dX1_given_40 in_X1 cl1 (by decide) q460 hf ?_
    refine g_iload_n dX1_given_43 rfl 3 rfl ?_
    refine g_iload_n dX1_given_44 rfl 2 rfl ?_
    obtain ⟨bc_8, hb9, h⟩ := h
    obtain ⟨⟨_, hO⟩, h⟩ := h
    refine g_callV (N := mX3_likely) (st := []) (As := [.int x2, .int x1]) (a := a_flow) dX1_given_45 wsX3_likely (lw_V q1442 q754 q755 q110 q756) rfl mokX3_likely rfl cl3 (by decide) (by decide) hb9 (Nat.zero_le _) hO h (fun E q s hx => AtX.out0 rfl hx) (fun _ s1_9 hq => ?_)
    obtain ⟨ry_10, rfl, h⟩ := hq
    refine At.stk (st' := [.long ry_10]) rfl ?_
    refine g_lload dX1_given_48 0 rfl ?_
    refine g_iload_n dX1_given_50 rfl 4 rfl ?_
    refine g_callS (N := mX1_part) (st := []) (As := [.long ry_10, .long ry, .int x3]) dX1_given_51 wsX1_part (lw_S q1477 q1478 q108 q1479) mokX1_part rfl (by decide) (by decide) (Nat.zero_le _) (Nat.zero_le _) h (fun E q s hx => AtX.never hx) (fun _ s1_11 hq => ?_)
    obtain ⟨es, hq⟩ := hq
    refine g_tops2 es ?_
    obtain ⟨ry_12, rfl, h⟩ := hq
    refine At.stk (st' := [.long ry_12]) rfl ?_
    exact g_lret rfl dX1_given_54 h
  · replace h := h.2 c
    refine g_iload_n dX1_given_34 rfl 4 rfl ?_
    refine g_i2l dX1_given_35 ?_
    refine g_goto (tgt := 54) dX1_given_36 (by decide) ?_
    exact g_lret rfl dX1_given_54 h
theorem eX1_given {G : GC} {Q : Option Value → PS → Prop} {X : String → Nat → PS → Prop} {b : Nat} {h0 : Nat} {p1 : Int32} {p2 : Int32} {p3 : Int32} {σ : PS} (h : At G mX1_given 206 Q X b 0 [(0, .ref h0), (1, .int p1), (2, .int p2), (3, .int p3)] [] σ) : Call G mX1_given 206 b [.ref h0, .int p1, .int p2, .int p3] σ Q X :=
  Call.of (by decide +kernel) wsX1_given rfl (Nat.le_of_ble_eq_true rfl) (At.sub (ls := [(0, .ref h0), (1, .int p1), (2, .int p2), (3, .int p3)]) [0, 1, 2, 3] rfl h)
set_option maxHeartbeats 4000000 in
theorem bX1_begun_0 {G : GC} {Q : Option Value → PS → Prop} {X : String → Nat → PS → Prop} {b : Nat} {h0 : Nat} {x1 : Int32} {σ : PS} (h : (∃ fs_12 : List Value, Ob (σ) 1 h0 fs_12) ∧ Call G mX1_asTold 4 0 [.ref h0] (σ) (qR (fun ra s1 => (∃ fs_11 : List Value, Ob s1 6 ra fs_11) ∧ Call G mX6_to 3 0 [.ref ra, .int x1] s1 (qR (fun ra_2 s1_1 => ∃ a_book : Nat, Fg s1_1 1 h0 12 (.ref a_book) ∧ ((∃ fs_10 : List Value, Ob s1_1 6 ra_2 fs_10) ∧ Call G mX6_given 3 0 [.ref ra_2, .ref a_book] s1_1 (qR (fun ra_4 s1_3 => (∃ fs_9 : List Value, Ob s1_3 6 ra_4 fs_9) ∧ Call G mX6_begun 3 0 [.ref ra_4] s1_3 (qR (fun ra_6 s1_5 => ∃ bc : Nat, bc ≤ b ∧ (∃ fs : List Value, Ob s1_5 1 h0 fs) ∧ Call G mX1_run 204 bc [.ref h0, .ref ra_6] s1_5 (qR (fun ra_8 s1_7 => Q (some (.ref ra_8)) s1_7)) X)) X)) X))) X)) X) : At G mX1_begun 205 Q X b 0 [(0, .ref h0), (1, .int x1)] [] (σ) := by
  refine g_aload_n dX1_begun_0 rfl 0 rfl ?_
  refine g_aload_n dX1_begun_1 rfl 0 rfl ?_
  obtain ⟨⟨_, hO⟩, h⟩ := h
  refine g_callV (N := mX1_asTold) (st := [.ref h0]) (As := []) (a := h0) dX1_begun_2 wsX1_asTold (lw_V q517 q519 qs0 q108 q520) rfl mokX1_asTold rfl cl1 (by decide) (by decide) (Nat.zero_le _) (by simp [Value.category]) hO h (fun E q s hx => AtX.out0 rfl hx) (fun _ s1 hq => ?_)
  obtain ⟨ra, rfl, h⟩ := hq
  refine At.stk (st' := [.ref ra, .ref h0]) rfl ?_
  refine g_iload_n dX1_begun_5 rfl 1 rfl ?_
  obtain ⟨⟨_, hO⟩, h⟩ := h
  refine g_callV (N := mX6_to) (st := [.ref h0]) (As := [.int x1]) (a := ra) dX1_begun_6 wsX6_to (lw_V q528 q529 q530 q113 q531) rfl mokX6_to rfl cl6 (by decide) (by decide) (Nat.zero_le _) (by simp [Value.category]) hO h (fun E q s hx => AtX.out0 rfl hx) (fun _ s1_1 hq => ?_)
  obtain ⟨ra_2, rfl, h⟩ := hq
  refine At.stk (st' := [.ref ra_2, .ref h0]) rfl ?_
  refine g_aload_n dX1_begun_9 rfl 0 rfl ?_
  obtain ⟨a_book, hf, h⟩ := h
  refine g_get 12 dX1_begun_10 in_X1 cl1 (by decide) q465 hf ?_
  obtain ⟨⟨_, hO⟩, h⟩ := h
  refine g_callV (N := mX6_given) (st := [.ref h0]) (As := [.ref a_book]) (a := ra_2) dX1_begun_13 wsX6_given (lw_V q1515 q1516 q1517 q113 q1518) rfl mokX6_given rfl cl6 (by decide) (by decide) (Nat.zero_le _) (by simp [Value.category]) hO h (fun E q s hx => AtX.out0 rfl hx) (fun _ s1_3 hq => ?_)
  obtain ⟨ra_4, rfl, h⟩ := hq
  refine At.stk (st' := [.ref ra_4, .ref h0]) rfl ?_
  obtain ⟨⟨_, hO⟩, h⟩ := h
  refine g_callV (N := mX6_begun) (st := [.ref h0]) (As := []) (a := ra_4) dX1_begun_16 wsX6_begun (lw_V q1534 q1535 q1536 q113 q1537) rfl mokX6_begun rfl cl6 (by decide) (by decide) (Nat.zero_le _) (by simp [Value.category]) hO h (fun E q s hx => AtX.out0 rfl hx) (fun _ s1_5 hq => ?_)
  obtain ⟨ra_6, rfl, h⟩ := hq
  refine At.stk (st' := [.ref ra_6, .ref h0]) rfl ?_
  obtain ⟨bc, hb9, h⟩ := h
  obtain ⟨⟨_, hO⟩, h⟩ := h
  refine g_callV (N := mX1_run) (st := []) (As := [.ref ra_6]) (a := h0) dX1_begun_19 wsX1_run (lw_V q532 q534 qs1 q108 q535) rfl mokX1_run rfl cl1 (by decide) (by decide) hb9 (Nat.zero_le _) hO h (fun E q s hx => AtX.out0 rfl hx) (fun _ s1_7 hq => ?_)
  obtain ⟨ra_8, rfl, h⟩ := hq
  refine At.stk (st' := [.ref ra_8]) rfl ?_
  exact g_aret (x := (some ra_8)) rfl dX1_begun_22 h
theorem eX1_begun {G : GC} {Q : Option Value → PS → Prop} {X : String → Nat → PS → Prop} {b : Nat} {h0 : Nat} {p1 : Int32} {σ : PS} (h : At G mX1_begun 205 Q X b 0 [(0, .ref h0), (1, .int p1)] [] σ) : Call G mX1_begun 205 b [.ref h0, .int p1] σ Q X :=
  Call.of (by decide +kernel) wsX1_begun rfl (Nat.le_of_ble_eq_true rfl) (At.sub (ls := [(0, .ref h0), (1, .int p1)]) [0, 1] rfl h)
set_option maxHeartbeats 4000000 in
theorem bX1_best_0 {G : GC} {Q : Option Value → PS → Prop} {X : String → Nat → PS → Prop} {b : Nat} {h0 : Nat} {x1 : Int32} {σ : PS} (h : ∃ bc : Nat, bc ≤ b ∧ (∃ fs_5 : List Value, Ob (σ) 1 h0 fs_5) ∧ Call G mX1_visitOf 11 bc [.ref h0, .int x1] (σ) (qV (fun s1 => ∃ bc_1 : Nat, bc_1 ≤ b - bc ∧ (∃ fs_4 : List Value, Ob s1 1 h0 fs_4) ∧ Call G mX1_begun 205 bc_1 [.ref h0, .int x1] s1 (qR (fun ra s1_2 => (∃ fs : List Value, Ob s1_2 3 ra fs) ∧ CallO G mX3_all 3 [.ref ra] s1_2 (pJ (fun ry => ((¬ ry = 0) → At G mX1_best 206 Q X (b - bc - bc_1) 24 [(0, .ref h0), (2, .int 0), (3, .int 1)] [] s1_2) ∧ ((ry = 0) → Q (some (.int (-1))) s1_2))))) X)) X) : At G mX1_best 206 Q X b 0 [(0, .ref h0), (1, .int x1)] [] (σ) := by
  refine g_aload_n dX1_best_0 rfl 0 rfl ?_
  refine g_iload_n dX1_best_1 rfl 1 rfl ?_
  obtain ⟨bc, hb9, h⟩ := h
  obtain ⟨⟨_, hO⟩, h⟩ := h
  refine g_callV (N := mX1_visitOf) (st := []) (As := [.int x1]) (a := h0) dX1_best_2 wsX1_visitOf (lw_V q1396 q1398 qs26 q108 q1399) rfl mokX1_visitOf rfl cl1 (by decide) (by decide) hb9 (Nat.zero_le _) hO h (fun E q s hx => AtX.out0 rfl hx) (fun _ s1 hq => ?_)
  obtain ⟨rfl, h⟩ := hq
  refine At.stk (st' := []) rfl ?_
  refine g_aload_n dX1_best_5 rfl 0 rfl ?_
  refine g_iload_n dX1_best_6 rfl 1 rfl ?_
  obtain ⟨bc_1, hb9, h⟩ := h
  obtain ⟨⟨_, hO⟩, h⟩ := h
  refine g_callV (N := mX1_begun) (st := []) (As := [.int x1]) (a := h0) dX1_best_7 wsX1_begun (lw_V q1530 q1532 qs28 q108 q1533) rfl mokX1_begun rfl cl1 (by decide) (by decide) hb9 (Nat.zero_le _) hO h (fun E q s hx => AtX.out0 rfl hx) (fun _ s1_2 hq => ?_)
  obtain ⟨ra, rfl, h⟩ := hq
  refine At.stk (st' := [.ref ra]) rfl ?_
  obtain ⟨⟨_, hO⟩, h⟩ := h
  refine g_callV (N := mX3_all) (st := []) (As := []) (a := ra) dX1_best_10 wsX3_all (lw_V q1519 q1520 q1521 q110 q1522) rfl mokX3_all rfl cl3 (by decide) (by decide) (Nat.zero_le _) (Nat.zero_le _) hO h (fun E q s hx => AtX.never hx) (fun _ s1_3 hq => ?_)
  obtain ⟨es, hq⟩ := hq
  refine g_tops2 es ?_
  obtain ⟨ry, rfl, h⟩ := hq
  refine At.stk (st' := [.long ry]) rfl ?_
  refine g_lconst (v := 0) dX1_best_13 (by decide) ?_
  refine g_lcmp_ne (tgt := 20) dX1_best_14 dX1_best_15 (by decide) (fun c => ?_) (fun c => ?_)
  · replace h := h.1 c
    refine g_iconst (v := 0) dX1_best_20 (by decide) ?_
    refine g_istore_n (ls1 := [(2, .int 0), (0, .ref h0), (1, .int x1)]) dX1_best_21 rfl (by decide) rfl ?_
    refine g_iconst (v := 1) dX1_best_22 (by decide) ?_
    refine g_istore_n (ls1 := [(3, .int 1), (2, .int 0), (0, .ref h0), (1, .int x1)]) dX1_best_23 rfl (by decide) rfl ?_
    exact At.sub (ls := [(3, .int 1), (2, .int 0), (0, .ref h0), (1, .int x1)]) [2, 1, 0] rfl h
  · replace h := h.2 c
    refine g_iconst (v := (-1)) dX1_best_18 (by decide) ?_
    exact g_iret rfl dX1_best_19 h
set_option maxHeartbeats 4000000 in
theorem bX1_best_24 {G : GC} {Q : Option Value → PS → Prop} {X : String → Nat → PS → Prop} {b : Nat} {h0 : Nat} {x2 : Int32} {x3 : Int32} {σ : PS} (h : ((4 ≤ x3) → Q (some (.int x2)) (σ)) ∧ ((¬ 4 ≤ x3) → ∃ a_flow : Nat, Fg (σ) 1 h0 7 (.ref a_flow) ∧ ((∃ fs_4 : List Value, Ob (σ) 3 a_flow fs_4) ∧ Call G mX3_worth 6 0 [.ref a_flow, .int x3] (σ) (qJ (fun ry s1 => ∃ a_flow_1 : Nat, Fg s1 1 h0 7 (.ref a_flow_1) ∧ ((∃ fs : List Value, Ob s1 3 a_flow_1 fs) ∧ Call G mX3_worth 6 0 [.ref a_flow_1, .int x2] s1 (qJ (fun ry_3 s1_2 => ((ry_3 ≤ ry) → ∀ v3 : Int32, v3 = x3 + 1 → At G mX1_best 206 Q X b 24 [(0, .ref h0), (2, .int x2), (3, .int v3)] [] s1_2) ∧ ((¬ ry_3 ≤ ry) → ∀ v3 : Int32, v3 = x3 + 1 → At G mX1_best 206 Q X b 24 [(0, .ref h0), (2, .int x3), (3, .int v3)] [] s1_2))) X))) X))) : At G mX1_best 206 Q X b 24 [(0, .ref h0), (2, .int x2), (3, .int x3)] [] (σ) := by
  refine g_iload_n dX1_best_24 rfl 2 rfl ?_
  refine g_iconst (v := 4) dX1_best_25 (by decide) ?_
  refine g_icmp_ge (tgt := 57) dX1_best_26 (by decide) (fun c => ?_) (fun c => ?_)
  · replace h := h.1 c
    refine g_iload_n dX1_best_57 rfl 1 rfl ?_
    exact g_iret rfl dX1_best_58 h
  · replace h := h.2 c
    refine g_aload_n dX1_best_29 rfl 0 rfl ?_
    obtain ⟨a_flow, hf, h⟩ := h
    refine g_get 7 dX1_best_30 in_X1 cl1 (by decide) q460 hf ?_
    refine g_iload_n dX1_best_33 rfl 2 rfl ?_
    obtain ⟨⟨_, hO⟩, h⟩ := h
    refine g_callV (N := mX3_worth) (st := []) (As := [.int x3]) (a := a_flow) dX1_best_34 wsX3_worth (lw_V q1545 q1546 q1547 q110 q1548) rfl mokX3_worth rfl cl3 (by decide) (by decide) (Nat.zero_le _) (Nat.zero_le _) hO h (fun E q s hx => AtX.out0 rfl hx) (fun _ s1 hq => ?_)
    obtain ⟨ry, rfl, h⟩ := hq
    refine At.stk (st' := [.long ry]) rfl ?_
    refine g_aload_n dX1_best_37 rfl 0 rfl ?_
    obtain ⟨a_flow_1, hf, h⟩ := h
    refine g_get 7 dX1_best_38 in_X1 cl1 (by decide) q460 hf ?_
    refine g_iload_n dX1_best_41 rfl 1 rfl ?_
    obtain ⟨⟨_, hO⟩, h⟩ := h
    refine g_callV (N := mX3_worth) (st := [.long ry]) (As := [.int x2]) (a := a_flow_1) dX1_best_42 wsX3_worth (lw_V q1545 q1546 q1547 q110 q1548) rfl mokX3_worth rfl cl3 (by decide) (by decide) (Nat.zero_le _) (by simp [Value.category]) hO h (fun E q s hx => AtX.out0 rfl hx) (fun _ s1_2 hq => ?_)
    obtain ⟨ry_3, rfl, h⟩ := hq
    refine At.stk (st' := [.long ry_3, .long ry]) rfl ?_
    refine g_lcmp_ge (tgt := 51) dX1_best_45 dX1_best_46 (by decide) (fun c => ?_) (fun c => ?_)
    · replace h := h.1 c
      obtain ⟨v3, ev3⟩ : ∃ z : Int32, z = x3 + 1 := ⟨_, rfl⟩
      refine g_iinc (v := v3) (ls1 := [(3, .int v3), (0, .ref h0), (2, .int x2)]) dX1_best_51 2 rfl (by rw [ev3]; rfl) (by decide) rfl ?_
      replace h := h v3 ev3
      refine g_goto (tgt := 24) dX1_best_54 (by decide) ?_
      exact At.sub (ls := [(3, .int v3), (0, .ref h0), (2, .int x2)]) [1, 2, 0] rfl h
    · replace h := h.2 c
      refine g_iload_n dX1_best_49 rfl 2 rfl ?_
      refine g_istore_n (ls1 := [(2, .int x3), (0, .ref h0), (3, .int x3)]) dX1_best_50 rfl (by decide) rfl ?_
      obtain ⟨v3, ev3⟩ : ∃ z : Int32, z = x3 + 1 := ⟨_, rfl⟩
      refine g_iinc (v := v3) (ls1 := [(3, .int v3), (2, .int x3), (0, .ref h0)]) dX1_best_51 2 rfl (by rw [ev3]; rfl) (by decide) rfl ?_
      replace h := h v3 ev3
      refine g_goto (tgt := 24) dX1_best_54 (by decide) ?_
      exact At.sub (ls := [(3, .int v3), (2, .int x3), (0, .ref h0)]) [2, 1, 0] rfl h
theorem eX1_best {G : GC} {Q : Option Value → PS → Prop} {X : String → Nat → PS → Prop} {b : Nat} {h0 : Nat} {p1 : Int32} {σ : PS} (h : At G mX1_best 206 Q X b 0 [(0, .ref h0), (1, .int p1)] [] σ) : Call G mX1_best 206 b [.ref h0, .int p1] σ Q X :=
  Call.of (by decide +kernel) wsX1_best rfl (Nat.le_of_ble_eq_true rfl) (At.sub (ls := [(0, .ref h0), (1, .int p1)]) [0, 1] rfl h)
set_option maxHeartbeats 4000000 in
theorem bX1_worth_0 {G : GC} {Q : Option Value → PS → Prop} {X : String → Nat → PS → Prop} {b : Nat} {h0 : Nat} {x1 : Int32} {x2 : Int32} {x3 : Int32} {σ : PS} (h : ∃ bc : Nat, bc ≤ b ∧ (∃ fs_16 : List Value, Ob (σ) 1 h0 fs_16) ∧ Call G mX1_visitOf 11 bc [.ref h0, .int x1] (σ) (qV (fun s1 => ∃ bc_1 : Nat, bc_1 ≤ b - bc ∧ (∃ fs_15 : List Value, Ob s1 1 h0 fs_15) ∧ Call G mX1_within 10 bc_1 [.ref h0, .int x2, .int 0, .int 3] s1 (qV (fun s1_2 => ∃ bc_3 : Nat, bc_3 ≤ b - bc - bc_1 ∧ (∃ fs_14 : List Value, Ob s1_2 1 h0 fs_14) ∧ Call G mX1_partOf 11 bc_3 [.ref h0, .int x3] s1_2 (qV (fun s1_4 => ∃ bc_5 : Nat, bc_5 ≤ b - bc - bc_1 - bc_3 ∧ (∃ fs_13 : List Value, Ob s1_4 1 h0 fs_13) ∧ Call G mX1_begun 205 bc_5 [.ref h0, .int x1] s1_4 (qR (fun ra s1_6 => (∃ fs_12 : List Value, Ob s1_6 3 ra fs_12) ∧ CallO G mX3_all 3 [.ref ra] s1_6 (pJ (fun ry => ((¬ ry = 0) → ∃ a_flow : Nat, Fg s1_6 1 h0 7 (.ref a_flow) ∧ ((∃ fs : List Value, Ob s1_6 3 a_flow fs) ∧ Call G mX3_worth 6 0 [.ref a_flow, .int x2] s1_6 (qJ (fun ry_9 s1_8 => CallO G mX1_part 3 [.long ry_9, .long ry, .int x3] s1_8 (pJ (fun ry_11 => Q (some (.long ry_11)) s1_8)))) X)) ∧ ((ry = 0) → Q (some (.long x3.toInt64)) s1_6))))) X)) X)) X)) X) : At G mX1_worth 206 Q X b 0 [(0, .ref h0), (1, .int x1), (2, .int x2), (3, .int x3)] [] (σ) := by
  refine g_aload_n dX1_worth_0 rfl 0 rfl ?_
  refine g_iload_n dX1_worth_1 rfl 1 rfl ?_
  obtain ⟨bc, hb9, h⟩ := h
  obtain ⟨⟨_, hO⟩, h⟩ := h
  refine g_callV (N := mX1_visitOf) (st := []) (As := [.int x1]) (a := h0) dX1_worth_2 wsX1_visitOf (lw_V q1396 q1398 qs26 q108 q1399) rfl mokX1_visitOf rfl cl1 (by decide) (by decide) hb9 (Nat.zero_le _) hO h (fun E q s hx => AtX.out0 rfl hx) (fun _ s1 hq => ?_)
  obtain ⟨rfl, h⟩ := hq
  refine At.stk (st' := []) rfl ?_
  refine g_aload_n dX1_worth_5 rfl 0 rfl ?_
  refine g_iload_n dX1_worth_6 rfl 2 rfl ?_
  refine g_iconst (v := 0) dX1_worth_7 (by decide) ?_
  refine g_iconst (v := 3) dX1_worth_8 (by decide) ?_
  obtain ⟨bc_1, hb9, h⟩ := h
  obtain ⟨⟨_, hO⟩, h⟩ := h
  refine g_callV (N := mX1_within) (st := []) (As := [.int x2, .int 0, .int 3]) (a := h0) dX1_worth_9 wsX1_within (lw_V q833 q835 qs11 q108 q836) rfl mokX1_within rfl cl1 (by decide) (by decide) hb9 (Nat.zero_le _) hO h (fun E q s hx => AtX.out0 rfl hx) (fun _ s1_2 hq => ?_)
  obtain ⟨rfl, h⟩ := hq
  refine At.stk (st' := []) rfl ?_
  refine g_aload_n dX1_worth_12 rfl 0 rfl ?_
  refine g_iload_n dX1_worth_13 rfl 3 rfl ?_
  obtain ⟨bc_3, hb9, h⟩ := h
  obtain ⟨⟨_, hO⟩, h⟩ := h
  refine g_callV (N := mX1_partOf) (st := []) (As := [.int x3]) (a := h0) dX1_worth_14 wsX1_partOf (lw_V q1468 q1470 qs27 q108 q1471) rfl mokX1_partOf rfl cl1 (by decide) (by decide) hb9 (Nat.zero_le _) hO h (fun E q s hx => AtX.out0 rfl hx) (fun _ s1_4 hq => ?_)
  obtain ⟨rfl, h⟩ := hq
  refine At.stk (st' := []) rfl ?_
  refine g_aload_n dX1_worth_17 rfl 0 rfl ?_
  refine g_iload_n dX1_worth_18 rfl 1 rfl ?_
  obtain ⟨bc_5, hb9, h⟩ := h
  obtain ⟨⟨_, hO⟩, h⟩ := h
  refine g_callV (N := mX1_begun) (st := []) (As := [.int x1]) (a := h0) dX1_worth_19 wsX1_begun (lw_V q1530 q1532 qs28 q108 q1533) rfl mokX1_begun rfl cl1 (by decide) (by decide) hb9 (Nat.zero_le _) hO h (fun E q s hx => AtX.out0 rfl hx) (fun _ s1_6 hq => ?_)
  obtain ⟨ra, rfl, h⟩ := hq
  refine At.stk (st' := [.ref ra]) rfl ?_
  obtain ⟨⟨_, hO⟩, h⟩ := h
  refine g_callV (N := mX3_all) (st := []) (As := []) (a := ra) dX1_worth_22 wsX3_all (lw_V q1519 q1520 q1521 q110 q1522) rfl mokX3_all rfl cl3 (by decide) (by decide) (Nat.zero_le _) (Nat.zero_le _) hO h (fun E q s hx => AtX.never hx) (fun _ s1_7 hq => ?_)
  obtain ⟨es, hq⟩ := hq
  refine g_tops2 es ?_
  obtain ⟨ry, rfl, h⟩ := hq
  refine At.stk (st' := [.long ry]) rfl ?_
  refine g_lstore (ls1 := [(4, .long ry), (0, .ref h0), (1, .int x1), (2, .int x2), (3, .int x3)]) dX1_worth_25 (by decide) rfl ?_
  refine g_lload dX1_worth_27 0 rfl ?_
  refine g_lconst (v := 0) dX1_worth_29 (by decide) ?_
  refine g_lcmp_ne (tgt := 39) dX1_worth_30 dX1_worth_31 (by decide) (fun c => ?_) (fun c => ?_)
  · replace h := h.1 c
    refine g_aload_n dX1_worth_39 rfl 1 rfl ?_
    obtain ⟨a_flow, hf, h⟩ := h
    refine g_get 7 dX1_worth_40 in_X1 cl1 (by decide) q460 hf ?_
    refine g_iload_n dX1_worth_43 rfl 3 rfl ?_
    obtain ⟨⟨_, hO⟩, h⟩ := h
    refine g_callV (N := mX3_worth) (st := []) (As := [.int x2]) (a := a_flow) dX1_worth_44 wsX3_worth (lw_V q1545 q1546 q1547 q110 q1548) rfl mokX3_worth rfl cl3 (by decide) (by decide) (Nat.zero_le _) (Nat.zero_le _) hO h (fun E q s hx => AtX.out0 rfl hx) (fun _ s1_8 hq => ?_)
    obtain ⟨ry_9, rfl, h⟩ := hq
    refine At.stk (st' := [.long ry_9]) rfl ?_
    refine g_lload dX1_worth_47 0 rfl ?_
    refine g_iload_n dX1_worth_49 rfl 4 rfl ?_
    refine g_callS (N := mX1_part) (st := []) (As := [.long ry_9, .long ry, .int x3]) dX1_worth_50 wsX1_part (lw_S q1477 q1478 q108 q1479) mokX1_part rfl (by decide) (by decide) (Nat.zero_le _) (Nat.zero_le _) h (fun E q s hx => AtX.never hx) (fun _ s1_10 hq => ?_)
    obtain ⟨es, hq⟩ := hq
    refine g_tops2 es ?_
    obtain ⟨ry_11, rfl, h⟩ := hq
    refine At.stk (st' := [.long ry_11]) rfl ?_
    exact g_lret rfl dX1_worth_53 h
  · replace h := h.2 c
    refine g_iload_n dX1_worth_34 rfl 4 rfl ?_
    refine g_i2l dX1_worth_35 ?_
    refine g_goto (tgt := 53) dX1_worth_36 (by decide) ?_
    exact g_lret rfl dX1_worth_53 h
theorem eX1_worth {G : GC} {Q : Option Value → PS → Prop} {X : String → Nat → PS → Prop} {b : Nat} {h0 : Nat} {p1 : Int32} {p2 : Int32} {p3 : Int32} {σ : PS} (h : At G mX1_worth 206 Q X b 0 [(0, .ref h0), (1, .int p1), (2, .int p2), (3, .int p3)] [] σ) : Call G mX1_worth 206 b [.ref h0, .int p1, .int p2, .int p3] σ Q X :=
  Call.of (by decide +kernel) wsX1_worth rfl (Nat.le_of_ble_eq_true rfl) (At.sub (ls := [(0, .ref h0), (1, .int p1), (2, .int p2), (3, .int p3)]) [0, 1, 2, 3] rfl h)
set_option maxHeartbeats 4000000 in
theorem bX1_gain_0 {G : GC} {Q : Option Value → PS → Prop} {X : String → Nat → PS → Prop} {b : Nat} {h0 : Nat} {x1 : Int32} {x2 : Int32} {σ : PS} (h : ∃ bc : Nat, bc ≤ b ∧ (∃ fs_22 : List Value, Ob (σ) 1 h0 fs_22) ∧ Call G mX1_visitOf 11 bc [.ref h0, .int x1] (σ) (qV (fun s1 => ∃ bc_1 : Nat, bc_1 ≤ b - bc ∧ (∃ fs_21 : List Value, Ob s1 1 h0 fs_21) ∧ Call G mX1_partOf 11 bc_1 [.ref h0, .int x2] s1 (qV (fun s1_2 => ∃ bc_3 : Nat, bc_3 ≤ b - bc - bc_1 ∧ (∃ fs_20 : List Value, Ob s1_2 1 h0 fs_20) ∧ Call G mX1_begun 205 bc_3 [.ref h0, .int x1] s1_2 (qR (fun ra s1_4 => (∃ fs_19 : List Value, Ob s1_4 3 ra fs_19) ∧ CallO G mX3_all 3 [.ref ra] s1_4 (pJ (fun ry => ((¬ ry = 0) → ∃ a_flow : Nat, Fg s1_4 1 h0 7 (.ref a_flow) ∧ ((∃ fs_18 : List Value, Ob s1_4 3 a_flow fs_18) ∧ Call G mX3_worth 6 0 [.ref a_flow, .int 0] s1_4 (qJ (fun ry_7 s1_6 => ∃ a_flow_8 : Nat, Fg s1_6 1 h0 7 (.ref a_flow_8) ∧ ((∃ fs_17 : List Value, Ob s1_6 3 a_flow_8 fs_17) ∧ Call G mX3_worth 6 0 [.ref a_flow_8, .int 1] s1_6 (qJ (fun ry_10 s1_9 => ∀ w : Int64, w = (if ry_10 < ry_7 then ry_10 else ry_7) → ∃ a_flow_11 : Nat, Fg s1_9 1 h0 7 (.ref a_flow_11) ∧ ((∃ fs : List Value, Ob s1_9 3 a_flow_11 fs) ∧ Call G mX3_worth 6 0 [.ref a_flow_11, .int 2] s1_9 (qJ (fun ry_13 s1_12 => ∀ w_14 : Int64, w_14 = (if (w - ry_13) < 0 then 0 else (w - ry_13)) → CallO G mX1_part 3 [.long w_14, .long ry, .int x2] s1_12 (pJ (fun ry_16 => Q (some (.long ry_16)) s1_12)))) X))) X))) X)) ∧ ((ry = 0) → Q (some (.long x2.toInt64)) s1_4))))) X)) X)) X) : At G mX1_gain 206 Q X b 0 [(0, .ref h0), (1, .int x1), (2, .int x2)] [] (σ) := by
  refine g_aload_n dX1_gain_0 rfl 0 rfl ?_
  refine g_iload_n dX1_gain_1 rfl 1 rfl ?_
  obtain ⟨bc, hb9, h⟩ := h
  obtain ⟨⟨_, hO⟩, h⟩ := h
  refine g_callV (N := mX1_visitOf) (st := []) (As := [.int x1]) (a := h0) dX1_gain_2 wsX1_visitOf (lw_V q1396 q1398 qs26 q108 q1399) rfl mokX1_visitOf rfl cl1 (by decide) (by decide) hb9 (Nat.zero_le _) hO h (fun E q s hx => AtX.out0 rfl hx) (fun _ s1 hq => ?_)
  obtain ⟨rfl, h⟩ := hq
  refine At.stk (st' := []) rfl ?_
  refine g_aload_n dX1_gain_5 rfl 0 rfl ?_
  refine g_iload_n dX1_gain_6 rfl 2 rfl ?_
  obtain ⟨bc_1, hb9, h⟩ := h
  obtain ⟨⟨_, hO⟩, h⟩ := h
  refine g_callV (N := mX1_partOf) (st := []) (As := [.int x2]) (a := h0) dX1_gain_7 wsX1_partOf (lw_V q1468 q1470 qs27 q108 q1471) rfl mokX1_partOf rfl cl1 (by decide) (by decide) hb9 (Nat.zero_le _) hO h (fun E q s hx => AtX.out0 rfl hx) (fun _ s1_2 hq => ?_)
  obtain ⟨rfl, h⟩ := hq
  refine At.stk (st' := []) rfl ?_
  refine g_aload_n dX1_gain_10 rfl 0 rfl ?_
  refine g_iload_n dX1_gain_11 rfl 1 rfl ?_
  obtain ⟨bc_3, hb9, h⟩ := h
  obtain ⟨⟨_, hO⟩, h⟩ := h
  refine g_callV (N := mX1_begun) (st := []) (As := [.int x1]) (a := h0) dX1_gain_12 wsX1_begun (lw_V q1530 q1532 qs28 q108 q1533) rfl mokX1_begun rfl cl1 (by decide) (by decide) hb9 (Nat.zero_le _) hO h (fun E q s hx => AtX.out0 rfl hx) (fun _ s1_4 hq => ?_)
  obtain ⟨ra, rfl, h⟩ := hq
  refine At.stk (st' := [.ref ra]) rfl ?_
  obtain ⟨⟨_, hO⟩, h⟩ := h
  refine g_callV (N := mX3_all) (st := []) (As := []) (a := ra) dX1_gain_15 wsX3_all (lw_V q1519 q1520 q1521 q110 q1522) rfl mokX3_all rfl cl3 (by decide) (by decide) (Nat.zero_le _) (Nat.zero_le _) hO h (fun E q s hx => AtX.never hx) (fun _ s1_5 hq => ?_)
  obtain ⟨es, hq⟩ := hq
  refine g_tops2 es ?_
  obtain ⟨ry, rfl, h⟩ := hq
  refine At.stk (st' := [.long ry]) rfl ?_
  refine g_lstore_n (ls1 := [(3, .long ry), (0, .ref h0), (1, .int x1), (2, .int x2)]) dX1_gain_18 rfl (by decide) rfl ?_
  refine g_lload_n dX1_gain_19 rfl 0 rfl ?_
  refine g_lconst (v := 0) dX1_gain_20 (by decide) ?_
  refine g_lcmp_ne (tgt := 30) dX1_gain_21 dX1_gain_22 (by decide) (fun c => ?_) (fun c => ?_)
  · replace h := h.1 c
    refine g_lconst (v := 0) dX1_gain_30 (by decide) ?_
    refine g_aload_n dX1_gain_31 rfl 1 rfl ?_
    obtain ⟨a_flow, hf, h⟩ := h
    refine g_get 7 dX1_gain_32 in_X1 cl1 (by decide) q460 hf ?_
    refine g_iconst (v := 0) dX1_gain_35 (by decide) ?_
    obtain ⟨⟨_, hO⟩, h⟩ := h
    refine g_callV (N := mX3_worth) (st := [.long 0]) (As := [.int 0]) (a := a_flow) dX1_gain_36 wsX3_worth (lw_V q1545 q1546 q1547 q110 q1548) rfl mokX3_worth rfl cl3 (by decide) (by decide) (Nat.zero_le _) (by simp [Value.category]) hO h (fun E q s hx => AtX.out0 rfl hx) (fun _ s1_6 hq => ?_)
    obtain ⟨ry_7, rfl, h⟩ := hq
    refine At.stk (st' := [.long ry_7, .long 0]) rfl ?_
    refine g_aload_n dX1_gain_39 rfl 1 rfl ?_
    obtain ⟨a_flow_8, hf, h⟩ := h
    refine g_get 7 dX1_gain_40 in_X1 cl1 (by decide) q460 hf ?_
    refine g_iconst (v := 1) dX1_gain_43 (by decide) ?_
    obtain ⟨⟨_, hO⟩, h⟩ := h
    refine g_callV (N := mX3_worth) (st := [.long ry_7, .long 0]) (As := [.int 1]) (a := a_flow_8) dX1_gain_44 wsX3_worth (lw_V q1545 q1546 q1547 q110 q1548) rfl mokX3_worth rfl cl3 (by decide) (by decide) (Nat.zero_le _) (by simp [Value.category]) hO h (fun E q s hx => AtX.out0 rfl hx) (fun _ s1_9 hq => ?_)
    obtain ⟨ry_10, rfl, h⟩ := hq
    refine At.stk (st' := [.long ry_10, .long ry_7, .long 0]) rfl ?_
    refine g_lmin dX1_gain_47 q1583 (by decide) (by simp [Value.category]) ?_
    refine g_topl (fun w ew => ?_)
    replace h := h w ew
    refine g_aload_n dX1_gain_50 rfl 1 rfl ?_
    obtain ⟨a_flow_11, hf, h⟩ := h
    refine g_get 7 dX1_gain_51 in_X1 cl1 (by decide) q460 hf ?_
    refine g_iconst (v := 2) dX1_gain_54 (by decide) ?_
    obtain ⟨⟨_, hO⟩, h⟩ := h
    refine g_callV (N := mX3_worth) (st := [.long w, .long 0]) (As := [.int 2]) (a := a_flow_11) dX1_gain_55 wsX3_worth (lw_V q1545 q1546 q1547 q110 q1548) rfl mokX3_worth rfl cl3 (by decide) (by decide) (Nat.zero_le _) (by simp [Value.category]) hO h (fun E q s hx => AtX.out0 rfl hx) (fun _ s1_12 hq => ?_)
    obtain ⟨ry_13, rfl, h⟩ := hq
    refine At.stk (st' := [.long ry_13, .long w, .long 0]) rfl ?_
    refine g_lsub dX1_gain_58 ?_
    refine g_lmax dX1_gain_59 q1584 (by decide) (Nat.zero_le _) ?_
    refine g_topl (fun w_14 ew_14 => ?_)
    replace h := h w_14 ew_14
    refine g_lload_n dX1_gain_62 rfl 0 rfl ?_
    refine g_iload_n dX1_gain_63 rfl 3 rfl ?_
    refine g_callS (N := mX1_part) (st := []) (As := [.long w_14, .long ry, .int x2]) dX1_gain_64 wsX1_part (lw_S q1477 q1478 q108 q1479) mokX1_part rfl (by decide) (by decide) (Nat.zero_le _) (Nat.zero_le _) h (fun E q s hx => AtX.never hx) (fun _ s1_15 hq => ?_)
    obtain ⟨es, hq⟩ := hq
    refine g_tops2 es ?_
    obtain ⟨ry_16, rfl, h⟩ := hq
    refine At.stk (st' := [.long ry_16]) rfl ?_
    exact g_lret rfl dX1_gain_67 h
  · replace h := h.2 c
    refine g_iload_n dX1_gain_25 rfl 3 rfl ?_
    refine g_i2l dX1_gain_26 ?_
    refine g_goto (tgt := 67) dX1_gain_27 (by decide) ?_
    exact g_lret rfl dX1_gain_67 h
theorem eX1_gain {G : GC} {Q : Option Value → PS → Prop} {X : String → Nat → PS → Prop} {b : Nat} {h0 : Nat} {p1 : Int32} {p2 : Int32} {σ : PS} (h : At G mX1_gain 206 Q X b 0 [(0, .ref h0), (1, .int p1), (2, .int p2)] [] σ) : Call G mX1_gain 206 b [.ref h0, .int p1, .int p2] σ Q X :=
  Call.of (by decide +kernel) wsX1_gain rfl (Nat.le_of_ble_eq_true rfl) (At.sub (ls := [(0, .ref h0), (1, .int p1), (2, .int p2)]) [0, 1, 2] rfl h)
set_option maxHeartbeats 4000000 in
theorem bX1_without_0 {G : GC} {Q : Option Value → PS → Prop} {X : String → Nat → PS → Prop} {b : Nat} {h0 : Nat} {x1 : Int32} {x2 : Int32} {σ : PS} (h : ∃ bc : Nat, bc ≤ b ∧ (∃ fs_16 : List Value, Ob (σ) 1 h0 fs_16) ∧ Call G mX1_personOf 11 bc [.ref h0, .int x1] (σ) (qV (fun s1 => ∃ bc_1 : Nat, bc_1 ≤ b - bc ∧ (∃ fs_15 : List Value, Ob s1 1 h0 fs_15) ∧ Call G mX1_within 10 bc_1 [.ref h0, .int x2, .int 0, .int 1] s1 (qV (fun s1_2 => (∃ fs_14 : List Value, Ob s1_2 1 h0 fs_14) ∧ Call G mX1_asTold 4 0 [.ref h0] s1_2 (qR (fun ra s1_3 => (∃ fs_13 : List Value, Ob s1_3 6 ra fs_13) ∧ Call G mX6_without 3 0 [.ref ra, .int x1] s1_3 (qR (fun ra_5 s1_4 => ∃ bc_6 : Nat, bc_6 ≤ b - bc - bc_1 ∧ (∃ fs_12 : List Value, Ob s1_4 1 h0 fs_12) ∧ Call G mX1_run 204 bc_6 [.ref h0, .ref ra_5] s1_4 (qR (fun ra_8 s1_7 => ((¬ x2 = 0) → ∃ a_flow : Nat, Fg s1_7 1 h0 7 (.ref a_flow) ∧ ((∃ fs : List Value, Ob s1_7 3 a_flow fs) ∧ CallO G mX3_cost 3 [.ref a_flow] s1_7 (pJ (fun ry => Q (some (.long (ry / 1099511627776))) s1_7)))) ∧ ((x2 = 0) → ∃ a_flow : Nat, Fg s1_7 1 h0 7 (.ref a_flow) ∧ (∃ bc_10 : Nat, bc_10 ≤ b - bc - bc_1 - bc_6 ∧ (∃ fs : List Value, Ob s1_7 3 a_flow fs) ∧ Call G mX3_truly 6 bc_10 [.ref a_flow] s1_7 (qJ (fun ry s1_11 => Q (some (.long ry)) s1_11)) X)))) X)) X)) X)) X)) X) : At G mX1_without 205 Q X b 0 [(0, .ref h0), (1, .int x1), (2, .int x2)] [] (σ) := by
  refine g_aload_n dX1_without_0 rfl 0 rfl ?_
  refine g_iload_n dX1_without_1 rfl 1 rfl ?_
  obtain ⟨bc, hb9, h⟩ := h
  obtain ⟨⟨_, hO⟩, h⟩ := h
  refine g_callV (N := mX1_personOf) (st := []) (As := [.int x1]) (a := h0) dX1_without_2 wsX1_personOf (lw_V q1107 q1109 qs17 q108 q1110) rfl mokX1_personOf rfl cl1 (by decide) (by decide) hb9 (Nat.zero_le _) hO h (fun E q s hx => AtX.out0 rfl hx) (fun _ s1 hq => ?_)
  obtain ⟨rfl, h⟩ := hq
  refine At.stk (st' := []) rfl ?_
  refine g_aload_n dX1_without_5 rfl 0 rfl ?_
  refine g_iload_n dX1_without_6 rfl 2 rfl ?_
  refine g_iconst (v := 0) dX1_without_7 (by decide) ?_
  refine g_iconst (v := 1) dX1_without_8 (by decide) ?_
  obtain ⟨bc_1, hb9, h⟩ := h
  obtain ⟨⟨_, hO⟩, h⟩ := h
  refine g_callV (N := mX1_within) (st := []) (As := [.int x2, .int 0, .int 1]) (a := h0) dX1_without_9 wsX1_within (lw_V q833 q835 qs11 q108 q836) rfl mokX1_within rfl cl1 (by decide) (by decide) hb9 (Nat.zero_le _) hO h (fun E q s hx => AtX.out0 rfl hx) (fun _ s1_2 hq => ?_)
  obtain ⟨rfl, h⟩ := hq
  refine At.stk (st' := []) rfl ?_
  refine g_aload_n dX1_without_12 rfl 0 rfl ?_
  refine g_aload_n dX1_without_13 rfl 0 rfl ?_
  obtain ⟨⟨_, hO⟩, h⟩ := h
  refine g_callV (N := mX1_asTold) (st := [.ref h0]) (As := []) (a := h0) dX1_without_14 wsX1_asTold (lw_V q517 q519 qs0 q108 q520) rfl mokX1_asTold rfl cl1 (by decide) (by decide) (Nat.zero_le _) (by simp [Value.category]) hO h (fun E q s hx => AtX.out0 rfl hx) (fun _ s1_3 hq => ?_)
  obtain ⟨ra, rfl, h⟩ := hq
  refine At.stk (st' := [.ref ra, .ref h0]) rfl ?_
  refine g_iload_n dX1_without_17 rfl 1 rfl ?_
  obtain ⟨⟨_, hO⟩, h⟩ := h
  refine g_callV (N := mX6_without) (st := [.ref h0]) (As := [.int x1]) (a := ra) dX1_without_18 wsX6_without (lw_V q771 q772 q773 q113 q774) rfl mokX6_without rfl cl6 (by decide) (by decide) (Nat.zero_le _) (by simp [Value.category]) hO h (fun E q s hx => AtX.out0 rfl hx) (fun _ s1_4 hq => ?_)
  obtain ⟨ra_5, rfl, h⟩ := hq
  refine At.stk (st' := [.ref ra_5, .ref h0]) rfl ?_
  obtain ⟨bc_6, hb9, h⟩ := h
  obtain ⟨⟨_, hO⟩, h⟩ := h
  refine g_callV (N := mX1_run) (st := []) (As := [.ref ra_5]) (a := h0) dX1_without_21 wsX1_run (lw_V q532 q534 qs1 q108 q535) rfl mokX1_run rfl cl1 (by decide) (by decide) hb9 (Nat.zero_le _) hO h (fun E q s hx => AtX.out0 rfl hx) (fun _ s1_7 hq => ?_)
  obtain ⟨ra_8, rfl, h⟩ := hq
  refine At.stk (st' := [.ref ra_8]) rfl ?_
  refine g_pop dX1_without_24 rfl ?_
  refine g_iload_n dX1_without_25 rfl 2 rfl ?_
  refine g_if_ne (tgt := 39) dX1_without_26 (by decide) (fun c => ?_) (fun c => ?_)
  · replace h := h.1 c
    refine g_aload_n dX1_without_39 rfl 0 rfl ?_
    obtain ⟨a_flow, hf, h⟩ := h
    refine g_get 7 dX1_without_40 in_X1 cl1 (by decide) q460 hf ?_
    obtain ⟨⟨_, hO⟩, h⟩ := h
    refine g_callV (N := mX3_cost) (st := []) (As := []) (a := a_flow) dX1_without_43 wsX3_cost (lw_V q779 q780 q781 q110 q782) rfl mokX3_cost rfl cl3 (by decide) (by decide) (Nat.zero_le _) (Nat.zero_le _) hO h (fun E q s hx => AtX.never hx) (fun _ s1_9 hq => ?_)
    obtain ⟨es, hq⟩ := hq
    refine g_tops2 es ?_
    obtain ⟨ry, rfl, h⟩ := hq
    refine At.stk (st' := [.long ry]) rfl ?_
    refine g_ldc2 dX1_without_46 q1476 ?_
    refine g_ldiv dX1_without_49 (by decide) ?_
    exact g_lret rfl dX1_without_50 h
  · replace h := h.2 c
    refine g_aload_n dX1_without_29 rfl 0 rfl ?_
    obtain ⟨a_flow, hf, h⟩ := h
    refine g_get 7 dX1_without_30 in_X1 cl1 (by decide) q460 hf ?_
    obtain ⟨bc_10, hb9, h⟩ := h
    obtain ⟨⟨_, hO⟩, h⟩ := h
    refine g_callV (N := mX3_truly) (st := []) (As := []) (a := a_flow) dX1_without_33 wsX3_truly (lw_V q749 q750 q751 q110 q752) rfl mokX3_truly rfl cl3 (by decide) (by decide) hb9 (Nat.zero_le _) hO h (fun E q s hx => AtX.out0 rfl hx) (fun _ s1_11 hq => ?_)
    obtain ⟨ry, rfl, h⟩ := hq
    refine At.stk (st' := [.long ry]) rfl ?_
    refine g_goto (tgt := 50) dX1_without_36 (by decide) ?_
    exact g_lret rfl dX1_without_50 h
theorem eX1_without {G : GC} {Q : Option Value → PS → Prop} {X : String → Nat → PS → Prop} {b : Nat} {h0 : Nat} {p1 : Int32} {p2 : Int32} {σ : PS} (h : At G mX1_without 205 Q X b 0 [(0, .ref h0), (1, .int p1), (2, .int p2)] [] σ) : Call G mX1_without 205 b [.ref h0, .int p1, .int p2] σ Q X :=
  Call.of (by decide +kernel) wsX1_without rfl (Nat.le_of_ble_eq_true rfl) (At.sub (ls := [(0, .ref h0), (1, .int p1), (2, .int p2)]) [0, 1, 2] rfl h)
set_option maxHeartbeats 4000000 in
theorem bX1_falling_0 {G : GC} {Q : Option Value → PS → Prop} {X : String → Nat → PS → Prop} {b : Nat} {h0 : Nat} {x1 : Int32} {σ : PS} (h : ∃ bc : Nat, bc ≤ b ∧ (∃ fs_11 : List Value, Ob (σ) 1 h0 fs_11) ∧ Call G mX1_within 10 bc [.ref h0, .int x1, .int 0, .int 16] (σ) (qV (fun s1 => (∃ fs_10 : List Value, Ob s1 1 h0 fs_10) ∧ Call G mX1_asTold 4 0 [.ref h0] s1 (qR (fun ra s1_1 => ∃ fs : List Value, Ob s1_1 6 ra fs ∧ 4 < fs.length ∧ (∀ s1_2 : PS, s1_2 = up s1_1 6 ra (.inl (fs.set 4 (.int x1))) → ∃ a_how : Nat, Fg s1_2 1 h0 9 (.ref a_how) ∧ (∃ bc_3 : Nat, bc_3 ≤ b - bc ∧ (∃ fs_9 : List Value, Ob s1_2 1 h0 fs_9) ∧ Call G mX1_run 204 bc_3 [.ref h0, .ref a_how] s1_2 (qR (fun ra_5 s1_4 => ∃ bc_6 : Nat, bc_6 ≤ b - bc - bc_3 ∧ (∃ fs_8 : List Value, Ob s1_4 3 ra_5 fs_8) ∧ Call G mX3_truly 6 bc_6 [.ref ra_5] s1_4 (qJ (fun ry s1_7 => Q (some (.long ry)) s1_7)) X)) X)))) X)) X) : At G mX1_falling 205 Q X b 0 [(0, .ref h0), (1, .int x1)] [] (σ) := by
  refine g_aload_n dX1_falling_0 rfl 0 rfl ?_
  refine g_iload_n dX1_falling_1 rfl 1 rfl ?_
  refine g_iconst (v := 0) dX1_falling_2 (by decide) ?_
  refine g_bipush (v := 16) dX1_falling_3 (by decide) ?_
  obtain ⟨bc, hb9, h⟩ := h
  obtain ⟨⟨_, hO⟩, h⟩ := h
  refine g_callV (N := mX1_within) (st := []) (As := [.int x1, .int 0, .int 16]) (a := h0) dX1_falling_5 wsX1_within (lw_V q833 q835 qs11 q108 q836) rfl mokX1_within rfl cl1 (by decide) (by decide) hb9 (Nat.zero_le _) hO h (fun E q s hx => AtX.out0 rfl hx) (fun _ s1 hq => ?_)
  obtain ⟨rfl, h⟩ := hq
  refine At.stk (st' := []) rfl ?_
  refine g_aload_n dX1_falling_8 rfl 0 rfl ?_
  obtain ⟨⟨_, hO⟩, h⟩ := h
  refine g_callV (N := mX1_asTold) (st := []) (As := []) (a := h0) dX1_falling_9 wsX1_asTold (lw_V q517 q519 qs0 q108 q520) rfl mokX1_asTold rfl cl1 (by decide) (by decide) (Nat.zero_le _) (Nat.zero_le _) hO h (fun E q s hx => AtX.out0 rfl hx) (fun _ s1_1 hq => ?_)
  obtain ⟨ra, rfl, h⟩ := hq
  refine At.stk (st' := [.ref ra]) rfl ?_
  refine g_iload_n dX1_falling_12 rfl 1 rfl ?_
  obtain ⟨fs, hO, hl, h⟩ := h
  refine g_putN 4 dX1_falling_13 in_X6 tyX6 tyX6_ok nmX6 cl6 (by decide) q342 rfl rfl rfl hO hl ?_
  refine g_tops (fun s1_2 es1_2 => ?_)
  replace h := h s1_2 es1_2
  refine g_aload_n dX1_falling_16 rfl 0 rfl ?_
  refine g_aload_n dX1_falling_17 rfl 0 rfl ?_
  obtain ⟨a_how, hf, h⟩ := h
  refine g_get 9 dX1_falling_18 in_X1 cl1 (by decide) q462 hf ?_
  obtain ⟨bc_3, hb9, h⟩ := h
  obtain ⟨⟨_, hO⟩, h⟩ := h
  refine g_callV (N := mX1_run) (st := []) (As := [.ref a_how]) (a := h0) dX1_falling_21 wsX1_run (lw_V q532 q534 qs1 q108 q535) rfl mokX1_run rfl cl1 (by decide) (by decide) hb9 (Nat.zero_le _) hO h (fun E q s hx => AtX.out0 rfl hx) (fun _ s1_4 hq => ?_)
  obtain ⟨ra_5, rfl, h⟩ := hq
  refine At.stk (st' := [.ref ra_5]) rfl ?_
  obtain ⟨bc_6, hb9, h⟩ := h
  obtain ⟨⟨_, hO⟩, h⟩ := h
  refine g_callV (N := mX3_truly) (st := []) (As := []) (a := ra_5) dX1_falling_24 wsX3_truly (lw_V q749 q750 q751 q110 q752) rfl mokX3_truly rfl cl3 (by decide) (by decide) hb9 (Nat.zero_le _) hO h (fun E q s hx => AtX.out0 rfl hx) (fun _ s1_7 hq => ?_)
  obtain ⟨ry, rfl, h⟩ := hq
  refine At.stk (st' := [.long ry]) rfl ?_
  exact g_lret rfl dX1_falling_27 h
theorem eX1_falling {G : GC} {Q : Option Value → PS → Prop} {X : String → Nat → PS → Prop} {b : Nat} {h0 : Nat} {p1 : Int32} {σ : PS} (h : At G mX1_falling 205 Q X b 0 [(0, .ref h0), (1, .int p1)] [] σ) : Call G mX1_falling 205 b [.ref h0, .int p1] σ Q X :=
  Call.of (by decide +kernel) wsX1_falling rfl (Nat.le_of_ble_eq_true rfl) (At.sub (ls := [(0, .ref h0), (1, .int p1)]) [0, 1] rfl h)
set_option maxHeartbeats 4000000 in
theorem bX1_seeing_0 {G : GC} {Q : Option Value → PS → Prop} {X : String → Nat → PS → Prop} {b : Nat} {h0 : Nat} {x1 : Int32} {x2 : Int32} {σ : PS} (h : ∃ bc : Nat, bc ≤ b ∧ (∃ fs_15 : List Value, Ob (σ) 1 h0 fs_15) ∧ Call G mX1_within 10 bc [.ref h0, .int x1, .int 0, .int 16] (σ) (qV (fun s1 => ∃ bc_1 : Nat, bc_1 ≤ b - bc ∧ (∃ fs_14 : List Value, Ob s1 1 h0 fs_14) ∧ Call G mX1_partOf 11 bc_1 [.ref h0, .int x2] s1 (qV (fun s1_2 => (∃ fs_13 : List Value, Ob s1_2 1 h0 fs_13) ∧ Call G mX1_asTold 4 0 [.ref h0] s1_2 (qR (fun ra s1_3 => ∃ fs : List Value, Ob s1_3 6 ra fs ∧ 5 < fs.length ∧ (∀ s1_4 : PS, s1_4 = up s1_3 6 ra (.inl (fs.set 5 (.int x1))) → ∃ a_how : Nat, Fg s1_4 1 h0 9 (.ref a_how) ∧ (∃ bc_5 : Nat, bc_5 ≤ b - bc - bc_1 ∧ (∃ fs_12 : List Value, Ob s1_4 1 h0 fs_12) ∧ Call G mX1_run 204 bc_5 [.ref h0, .ref a_how] s1_4 (qR (fun ra_7 s1_6 => (∃ fs_11 : List Value, Ob s1_6 3 ra_7 fs_11) ∧ CallO G mX3_cost 3 [.ref ra_7] s1_6 (pJ (fun ry => CallO G mX1_part 3 [.long ry, .long 1099511627776, .int x2] s1_6 (pJ (fun ry_10 => Q (some (.long ry_10)) s1_6)))))) X)))) X)) X)) X) : At G mX1_seeing 205 Q X b 0 [(0, .ref h0), (1, .int x1), (2, .int x2)] [] (σ) := by
  refine g_aload_n dX1_seeing_0 rfl 0 rfl ?_
  refine g_iload_n dX1_seeing_1 rfl 1 rfl ?_
  refine g_iconst (v := 0) dX1_seeing_2 (by decide) ?_
  refine g_bipush (v := 16) dX1_seeing_3 (by decide) ?_
  obtain ⟨bc, hb9, h⟩ := h
  obtain ⟨⟨_, hO⟩, h⟩ := h
  refine g_callV (N := mX1_within) (st := []) (As := [.int x1, .int 0, .int 16]) (a := h0) dX1_seeing_5 wsX1_within (lw_V q833 q835 qs11 q108 q836) rfl mokX1_within rfl cl1 (by decide) (by decide) hb9 (Nat.zero_le _) hO h (fun E q s hx => AtX.out0 rfl hx) (fun _ s1 hq => ?_)
  obtain ⟨rfl, h⟩ := hq
  refine At.stk (st' := []) rfl ?_
  refine g_aload_n dX1_seeing_8 rfl 0 rfl ?_
  refine g_iload_n dX1_seeing_9 rfl 2 rfl ?_
  obtain ⟨bc_1, hb9, h⟩ := h
  obtain ⟨⟨_, hO⟩, h⟩ := h
  refine g_callV (N := mX1_partOf) (st := []) (As := [.int x2]) (a := h0) dX1_seeing_10 wsX1_partOf (lw_V q1468 q1470 qs27 q108 q1471) rfl mokX1_partOf rfl cl1 (by decide) (by decide) hb9 (Nat.zero_le _) hO h (fun E q s hx => AtX.out0 rfl hx) (fun _ s1_2 hq => ?_)
  obtain ⟨rfl, h⟩ := hq
  refine At.stk (st' := []) rfl ?_
  refine g_aload_n dX1_seeing_13 rfl 0 rfl ?_
  obtain ⟨⟨_, hO⟩, h⟩ := h
  refine g_callV (N := mX1_asTold) (st := []) (As := []) (a := h0) dX1_seeing_14 wsX1_asTold (lw_V q517 q519 qs0 q108 q520) rfl mokX1_asTold rfl cl1 (by decide) (by decide) (Nat.zero_le _) (Nat.zero_le _) hO h (fun E q s hx => AtX.out0 rfl hx) (fun _ s1_3 hq => ?_)
  obtain ⟨ra, rfl, h⟩ := hq
  refine At.stk (st' := [.ref ra]) rfl ?_
  refine g_iload_n dX1_seeing_17 rfl 1 rfl ?_
  obtain ⟨fs, hO, hl, h⟩ := h
  refine g_putN 5 dX1_seeing_18 in_X6 tyX6 tyX6_ok nmX6 cl6 (by decide) q345 rfl rfl rfl hO hl ?_
  refine g_tops (fun s1_4 es1_4 => ?_)
  replace h := h s1_4 es1_4
  refine g_aload_n dX1_seeing_21 rfl 0 rfl ?_
  refine g_aload_n dX1_seeing_22 rfl 0 rfl ?_
  obtain ⟨a_how, hf, h⟩ := h
  refine g_get 9 dX1_seeing_23 in_X1 cl1 (by decide) q462 hf ?_
  obtain ⟨bc_5, hb9, h⟩ := h
  obtain ⟨⟨_, hO⟩, h⟩ := h
  refine g_callV (N := mX1_run) (st := []) (As := [.ref a_how]) (a := h0) dX1_seeing_26 wsX1_run (lw_V q532 q534 qs1 q108 q535) rfl mokX1_run rfl cl1 (by decide) (by decide) hb9 (Nat.zero_le _) hO h (fun E q s hx => AtX.out0 rfl hx) (fun _ s1_6 hq => ?_)
  obtain ⟨ra_7, rfl, h⟩ := hq
  refine At.stk (st' := [.ref ra_7]) rfl ?_
  obtain ⟨⟨_, hO⟩, h⟩ := h
  refine g_callV (N := mX3_cost) (st := []) (As := []) (a := ra_7) dX1_seeing_29 wsX3_cost (lw_V q779 q780 q781 q110 q782) rfl mokX3_cost rfl cl3 (by decide) (by decide) (Nat.zero_le _) (Nat.zero_le _) hO h (fun E q s hx => AtX.never hx) (fun _ s1_8 hq => ?_)
  obtain ⟨es, hq⟩ := hq
  refine g_tops2 es ?_
  obtain ⟨ry, rfl, h⟩ := hq
  refine At.stk (st' := [.long ry]) rfl ?_
  refine g_ldc2 dX1_seeing_32 q1476 ?_
  refine g_iload_n dX1_seeing_35 rfl 2 rfl ?_
  refine g_callS (N := mX1_part) (st := []) (As := [.long ry, .long 1099511627776, .int x2]) dX1_seeing_36 wsX1_part (lw_S q1477 q1478 q108 q1479) mokX1_part rfl (by decide) (by decide) (Nat.zero_le _) (Nat.zero_le _) h (fun E q s hx => AtX.never hx) (fun _ s1_9 hq => ?_)
  obtain ⟨es, hq⟩ := hq
  refine g_tops2 es ?_
  obtain ⟨ry_10, rfl, h⟩ := hq
  refine At.stk (st' := [.long ry_10]) rfl ?_
  exact g_lret rfl dX1_seeing_39 h
theorem eX1_seeing {G : GC} {Q : Option Value → PS → Prop} {X : String → Nat → PS → Prop} {b : Nat} {h0 : Nat} {p1 : Int32} {p2 : Int32} {σ : PS} (h : At G mX1_seeing 205 Q X b 0 [(0, .ref h0), (1, .int p1), (2, .int p2)] [] σ) : Call G mX1_seeing 205 b [.ref h0, .int p1, .int p2] σ Q X :=
  Call.of (by decide +kernel) wsX1_seeing rfl (Nat.le_of_ble_eq_true rfl) (At.sub (ls := [(0, .ref h0), (1, .int p1), (2, .int p2)]) [0, 1, 2] rfl h)
set_option maxHeartbeats 4000000 in
theorem bX1_filled_0 {G : GC} {Q : Option Value → PS → Prop} {X : String → Nat → PS → Prop} {b : Nat} {h0 : Nat} {x1 : Int32} {x2 : Int32} {σ : PS} (h : ∃ bc : Nat, bc ≤ b ∧ (∃ fs_8 : List Value, Ob (σ) 1 h0 fs_8) ∧ Call G mX1_within 10 bc [.ref h0, .int x1, .int 1, .int 12] (σ) (qV (fun s1 => ∃ bc_1 : Nat, bc_1 ≤ b - bc ∧ (∃ fs_7 : List Value, Ob s1 1 h0 fs_7) ∧ Call G mX1_partOf 11 bc_1 [.ref h0, .int x2] s1 (qV (fun s1_2 => ∃ bc_3 : Nat, bc_3 ≤ b - bc - bc_1 ∧ (∃ fs : List Value, Ob s1_2 1 h0 fs) ∧ Call G mX1_starting 205 bc_3 [.ref h0, .int x1] s1_2 (qJ (fun ry s1_4 => CallO G mX1_part 3 [.long ry, .long 1099511627776, .int x2] s1_4 (pJ (fun ry_6 => Q (some (.long ry_6)) s1_4)))) X)) X)) X) : At G mX1_filled 206 Q X b 0 [(0, .ref h0), (1, .int x1), (2, .int x2)] [] (σ) := by
  refine g_aload_n dX1_filled_0 rfl 0 rfl ?_
  refine g_iload_n dX1_filled_1 rfl 1 rfl ?_
  refine g_iconst (v := 1) dX1_filled_2 (by decide) ?_
  refine g_bipush (v := 12) dX1_filled_3 (by decide) ?_
  obtain ⟨bc, hb9, h⟩ := h
  obtain ⟨⟨_, hO⟩, h⟩ := h
  refine g_callV (N := mX1_within) (st := []) (As := [.int x1, .int 1, .int 12]) (a := h0) dX1_filled_5 wsX1_within (lw_V q833 q835 qs11 q108 q836) rfl mokX1_within rfl cl1 (by decide) (by decide) hb9 (Nat.zero_le _) hO h (fun E q s hx => AtX.out0 rfl hx) (fun _ s1 hq => ?_)
  obtain ⟨rfl, h⟩ := hq
  refine At.stk (st' := []) rfl ?_
  refine g_aload_n dX1_filled_8 rfl 0 rfl ?_
  refine g_iload_n dX1_filled_9 rfl 2 rfl ?_
  obtain ⟨bc_1, hb9, h⟩ := h
  obtain ⟨⟨_, hO⟩, h⟩ := h
  refine g_callV (N := mX1_partOf) (st := []) (As := [.int x2]) (a := h0) dX1_filled_10 wsX1_partOf (lw_V q1468 q1470 qs27 q108 q1471) rfl mokX1_partOf rfl cl1 (by decide) (by decide) hb9 (Nat.zero_le _) hO h (fun E q s hx => AtX.out0 rfl hx) (fun _ s1_2 hq => ?_)
  obtain ⟨rfl, h⟩ := hq
  refine At.stk (st' := []) rfl ?_
  refine g_aload_n dX1_filled_13 rfl 0 rfl ?_
  refine g_iload_n dX1_filled_14 rfl 1 rfl ?_
  obtain ⟨bc_3, hb9, h⟩ := h
  obtain ⟨⟨_, hO⟩, h⟩ := h
  refine g_callV (N := mX1_starting) (st := []) (As := [.int x1]) (a := h0) dX1_filled_15 wsX1_starting (lw_V q787 q789 qs10 q108 q790) rfl mokX1_starting rfl cl1 (by decide) (by decide) hb9 (Nat.zero_le _) hO h (fun E q s hx => AtX.out0 rfl hx) (fun _ s1_4 hq => ?_)
  obtain ⟨ry, rfl, h⟩ := hq
  refine At.stk (st' := [.long ry]) rfl ?_
  refine g_ldc2 dX1_filled_18 q1476 ?_
  refine g_iload_n dX1_filled_21 rfl 2 rfl ?_
  refine g_callS (N := mX1_part) (st := []) (As := [.long ry, .long 1099511627776, .int x2]) dX1_filled_22 wsX1_part (lw_S q1477 q1478 q108 q1479) mokX1_part rfl (by decide) (by decide) (Nat.zero_le _) (Nat.zero_le _) h (fun E q s hx => AtX.never hx) (fun _ s1_5 hq => ?_)
  obtain ⟨es, hq⟩ := hq
  refine g_tops2 es ?_
  obtain ⟨ry_6, rfl, h⟩ := hq
  refine At.stk (st' := [.long ry_6]) rfl ?_
  exact g_lret rfl dX1_filled_25 h
theorem eX1_filled {G : GC} {Q : Option Value → PS → Prop} {X : String → Nat → PS → Prop} {b : Nat} {h0 : Nat} {p1 : Int32} {p2 : Int32} {σ : PS} (h : At G mX1_filled 206 Q X b 0 [(0, .ref h0), (1, .int p1), (2, .int p2)] [] σ) : Call G mX1_filled 206 b [.ref h0, .int p1, .int p2] σ Q X :=
  Call.of (by decide +kernel) wsX1_filled rfl (Nat.le_of_ble_eq_true rfl) (At.sub (ls := [(0, .ref h0), (1, .int p1), (2, .int p2)]) [0, 1, 2] rfl h)
set_option maxHeartbeats 4000000 in
theorem bX1_ruled_0 {G : GC} {Q : Option Value → PS → Prop} {X : String → Nat → PS → Prop} {b : Nat} {h0 : Nat} {x1 : Int32} {σ : PS} (h : ∃ bc : Nat, bc ≤ b ∧ (∃ fs_13 : List Value, Ob (σ) 1 h0 fs_13) ∧ Call G mX1_within 10 bc [.ref h0, .int x1, .int 0, .int 1] (σ) (qV (fun s1 => (∃ fs_12 : List Value, Ob s1 1 h0 fs_12) ∧ Call G mX1_asTold 4 0 [.ref h0] s1 (qR (fun ra s1_1 => ∃ u_rule : Option Nat, Fg s1_1 1 h0 11 (va_rf u_rule) ∧ ((∃ fs_11 : List Value, Ob s1_1 6 ra fs_11) ∧ Call G mX6_ruled 3 0 [.ref ra, va_rf u_rule] s1_1 (qR (fun ra_3 s1_2 => ∃ bc_4 : Nat, bc_4 ≤ b - bc ∧ (∃ fs_10 : List Value, Ob s1_2 1 h0 fs_10) ∧ Call G mX1_run 204 bc_4 [.ref h0, .ref ra_3] s1_2 (qR (fun ra_6 s1_5 => ((¬ x1 = 0) → ∃ a_flow : Nat, Fg s1_5 1 h0 7 (.ref a_flow) ∧ ((∃ fs : List Value, Ob s1_5 3 a_flow fs) ∧ CallO G mX3_cost 3 [.ref a_flow] s1_5 (pJ (fun ry => Q (some (.long (ry / 1099511627776))) s1_5)))) ∧ ((x1 = 0) → ∃ a_flow : Nat, Fg s1_5 1 h0 7 (.ref a_flow) ∧ (∃ bc_8 : Nat, bc_8 ≤ b - bc - bc_4 ∧ (∃ fs : List Value, Ob s1_5 3 a_flow fs) ∧ Call G mX3_truly 6 bc_8 [.ref a_flow] s1_5 (qJ (fun ry s1_9 => Q (some (.long ry)) s1_9)) X)))) X)) X))) X)) X) : At G mX1_ruled 205 Q X b 0 [(0, .ref h0), (1, .int x1)] [] (σ) := by
  refine g_aload_n dX1_ruled_0 rfl 0 rfl ?_
  refine g_iload_n dX1_ruled_1 rfl 1 rfl ?_
  refine g_iconst (v := 0) dX1_ruled_2 (by decide) ?_
  refine g_iconst (v := 1) dX1_ruled_3 (by decide) ?_
  obtain ⟨bc, hb9, h⟩ := h
  obtain ⟨⟨_, hO⟩, h⟩ := h
  refine g_callV (N := mX1_within) (st := []) (As := [.int x1, .int 0, .int 1]) (a := h0) dX1_ruled_4 wsX1_within (lw_V q833 q835 qs11 q108 q836) rfl mokX1_within rfl cl1 (by decide) (by decide) hb9 (Nat.zero_le _) hO h (fun E q s hx => AtX.out0 rfl hx) (fun _ s1 hq => ?_)
  obtain ⟨rfl, h⟩ := hq
  refine At.stk (st' := []) rfl ?_
  refine g_aload_n dX1_ruled_7 rfl 0 rfl ?_
  refine g_aload_n dX1_ruled_8 rfl 0 rfl ?_
  obtain ⟨⟨_, hO⟩, h⟩ := h
  refine g_callV (N := mX1_asTold) (st := [.ref h0]) (As := []) (a := h0) dX1_ruled_9 wsX1_asTold (lw_V q517 q519 qs0 q108 q520) rfl mokX1_asTold rfl cl1 (by decide) (by decide) (Nat.zero_le _) (by simp [Value.category]) hO h (fun E q s hx => AtX.out0 rfl hx) (fun _ s1_1 hq => ?_)
  obtain ⟨ra, rfl, h⟩ := hq
  refine At.stk (st' := [.ref ra, .ref h0]) rfl ?_
  refine g_aload_n dX1_ruled_12 rfl 0 rfl ?_
  obtain ⟨u_rule, hf, h⟩ := h
  refine g_get 11 dX1_ruled_13 in_X1 cl1 (by decide) q464 hf ?_
  obtain ⟨⟨_, hO⟩, h⟩ := h
  refine g_callV (N := mX6_ruled) (st := [.ref h0]) (As := [va_rf u_rule]) (a := ra) dX1_ruled_16 wsX6_ruled (lw_V q1622 q1623 q1624 q113 q1625) rfl mokX6_ruled rfl cl6 (by decide) (by decide) (Nat.zero_le _) (by simp [Value.category]) hO h (fun E q s hx => AtX.out0 rfl hx) (fun _ s1_2 hq => ?_)
  obtain ⟨ra_3, rfl, h⟩ := hq
  refine At.stk (st' := [.ref ra_3, .ref h0]) rfl ?_
  obtain ⟨bc_4, hb9, h⟩ := h
  obtain ⟨⟨_, hO⟩, h⟩ := h
  refine g_callV (N := mX1_run) (st := []) (As := [.ref ra_3]) (a := h0) dX1_ruled_19 wsX1_run (lw_V q532 q534 qs1 q108 q535) rfl mokX1_run rfl cl1 (by decide) (by decide) hb9 (Nat.zero_le _) hO h (fun E q s hx => AtX.out0 rfl hx) (fun _ s1_5 hq => ?_)
  obtain ⟨ra_6, rfl, h⟩ := hq
  refine At.stk (st' := [.ref ra_6]) rfl ?_
  refine g_pop dX1_ruled_22 rfl ?_
  refine g_iload_n dX1_ruled_23 rfl 1 rfl ?_
  refine g_if_ne (tgt := 37) dX1_ruled_24 (by decide) (fun c => ?_) (fun c => ?_)
  · replace h := h.1 c
    refine g_aload_n dX1_ruled_37 rfl 0 rfl ?_
    obtain ⟨a_flow, hf, h⟩ := h
    refine g_get 7 dX1_ruled_38 in_X1 cl1 (by decide) q460 hf ?_
    obtain ⟨⟨_, hO⟩, h⟩ := h
    refine g_callV (N := mX3_cost) (st := []) (As := []) (a := a_flow) dX1_ruled_41 wsX3_cost (lw_V q779 q780 q781 q110 q782) rfl mokX3_cost rfl cl3 (by decide) (by decide) (Nat.zero_le _) (Nat.zero_le _) hO h (fun E q s hx => AtX.never hx) (fun _ s1_7 hq => ?_)
    obtain ⟨es, hq⟩ := hq
    refine g_tops2 es ?_
    obtain ⟨ry, rfl, h⟩ := hq
    refine At.stk (st' := [.long ry]) rfl ?_
    refine g_ldc2 dX1_ruled_44 q1476 ?_
    refine g_ldiv dX1_ruled_47 (by decide) ?_
    exact g_lret rfl dX1_ruled_48 h
  · replace h := h.2 c
    refine g_aload_n dX1_ruled_27 rfl 0 rfl ?_
    obtain ⟨a_flow, hf, h⟩ := h
    refine g_get 7 dX1_ruled_28 in_X1 cl1 (by decide) q460 hf ?_
    obtain ⟨bc_8, hb9, h⟩ := h
    obtain ⟨⟨_, hO⟩, h⟩ := h
    refine g_callV (N := mX3_truly) (st := []) (As := []) (a := a_flow) dX1_ruled_31 wsX3_truly (lw_V q749 q750 q751 q110 q752) rfl mokX3_truly rfl cl3 (by decide) (by decide) hb9 (Nat.zero_le _) hO h (fun E q s hx => AtX.out0 rfl hx) (fun _ s1_9 hq => ?_)
    obtain ⟨ry, rfl, h⟩ := hq
    refine At.stk (st' := [.long ry]) rfl ?_
    refine g_goto (tgt := 48) dX1_ruled_34 (by decide) ?_
    exact g_lret rfl dX1_ruled_48 h
theorem eX1_ruled {G : GC} {Q : Option Value → PS → Prop} {X : String → Nat → PS → Prop} {b : Nat} {h0 : Nat} {p1 : Int32} {σ : PS} (h : At G mX1_ruled 205 Q X b 0 [(0, .ref h0), (1, .int p1)] [] σ) : Call G mX1_ruled 205 b [.ref h0, .int p1] σ Q X :=
  Call.of (by decide +kernel) wsX1_ruled rfl (Nat.le_of_ble_eq_true rfl) (At.sub (ls := [(0, .ref h0), (1, .int p1)]) [0, 1] rfl h)
set_option maxHeartbeats 4000000 in
theorem bX1_swapped_0 {G : GC} {Q : Option Value → PS → Prop} {X : String → Nat → PS → Prop} {b : Nat} {h0 : Nat} {x1 : Int32} {x2 : Int32} {x3 : Int32} {σ : PS} (h : ∃ bc : Nat, bc ≤ b ∧ (∃ fs_3 : List Value, Ob (σ) 1 h0 fs_3) ∧ Call G mX1_personOf 11 bc [.ref h0, .int x1] (σ) (qV (fun s1 => ∃ bc_1 : Nat, bc_1 ≤ b - bc ∧ (∃ fs : List Value, Ob s1 1 h0 fs) ∧ Call G mX1_personOf 11 bc_1 [.ref h0, .int x2] s1 (qV (fun s1_2 => ((¬ x1 = x2) → At G mX1_swapped 205 Q X (b - bc - bc_1) 21 [(0, .ref h0), (1, .int x1), (2, .int x2), (3, .int x3)] [.int 0, .ref h0] s1_2) ∧ ((x1 = x2) → At G mX1_swapped 205 Q X (b - bc - bc_1) 21 [(0, .ref h0), (1, .int x1), (2, .int x2), (3, .int x3)] [.int 1, .ref h0] s1_2))) X)) X) : At G mX1_swapped 205 Q X b 0 [(0, .ref h0), (1, .int x1), (2, .int x2), (3, .int x3)] [] (σ) := by
  refine g_aload_n dX1_swapped_0 rfl 0 rfl ?_
  refine g_iload_n dX1_swapped_1 rfl 1 rfl ?_
  obtain ⟨bc, hb9, h⟩ := h
  obtain ⟨⟨_, hO⟩, h⟩ := h
  refine g_callV (N := mX1_personOf) (st := []) (As := [.int x1]) (a := h0) dX1_swapped_2 wsX1_personOf (lw_V q1107 q1109 qs17 q108 q1110) rfl mokX1_personOf rfl cl1 (by decide) (by decide) hb9 (Nat.zero_le _) hO h (fun E q s hx => AtX.out0 rfl hx) (fun _ s1 hq => ?_)
  obtain ⟨rfl, h⟩ := hq
  refine At.stk (st' := []) rfl ?_
  refine g_aload_n dX1_swapped_5 rfl 0 rfl ?_
  refine g_iload_n dX1_swapped_6 rfl 2 rfl ?_
  obtain ⟨bc_1, hb9, h⟩ := h
  obtain ⟨⟨_, hO⟩, h⟩ := h
  refine g_callV (N := mX1_personOf) (st := []) (As := [.int x2]) (a := h0) dX1_swapped_7 wsX1_personOf (lw_V q1107 q1109 qs17 q108 q1110) rfl mokX1_personOf rfl cl1 (by decide) (by decide) hb9 (Nat.zero_le _) hO h (fun E q s hx => AtX.out0 rfl hx) (fun _ s1_2 hq => ?_)
  obtain ⟨rfl, h⟩ := hq
  refine At.stk (st' := []) rfl ?_
  refine g_aload_n dX1_swapped_10 rfl 0 rfl ?_
  refine g_iload_n dX1_swapped_11 rfl 1 rfl ?_
  refine g_iload_n dX1_swapped_12 rfl 2 rfl ?_
  refine g_icmp_ne (tgt := 20) dX1_swapped_13 (by decide) (fun c => ?_) (fun c => ?_)
  · replace h := h.1 c
    refine g_iconst (v := 0) dX1_swapped_20 (by decide) ?_
    exact At.sub (ls := [(0, .ref h0), (1, .int x1), (2, .int x2), (3, .int x3)]) [0, 1, 2, 3] rfl h
  · replace h := h.2 c
    refine g_iconst (v := 1) dX1_swapped_16 (by decide) ?_
    refine g_goto (tgt := 21) dX1_swapped_17 (by decide) ?_
    exact At.sub (ls := [(0, .ref h0), (1, .int x1), (2, .int x2), (3, .int x3)]) [0, 1, 2, 3] rfl h
set_option maxHeartbeats 4000000 in
theorem bX1_swapped_21 {G : GC} {Q : Option Value → PS → Prop} {X : String → Nat → PS → Prop} {b : Nat} {h0 : Nat} {x1 : Int32} {x2 : Int32} {x3 : Int32} {sa0 : Nat} {sx1 : Int32} {σ : PS} (h : ∃ bc : Nat, bc ≤ b ∧ (∃ fs_16 : List Value, Ob (σ) 1 sa0 fs_16) ∧ Call G mX1_within 10 bc [.ref sa0, .int sx1, .int 0, .int 0] (σ) (qV (fun s1 => ∃ bc_1 : Nat, bc_1 ≤ b - bc ∧ (∃ fs_15 : List Value, Ob s1 1 h0 fs_15) ∧ Call G mX1_partOf 11 bc_1 [.ref h0, .int x3] s1 (qV (fun s1_2 => (∃ fs_14 : List Value, Ob s1_2 1 h0 fs_14) ∧ Call G mX1_asTold 4 0 [.ref h0] s1_2 (qR (fun ra s1_3 => (∃ fs_13 : List Value, Ob s1_3 6 ra fs_13) ∧ Call G mX6_swapped 3 0 [.ref ra, .int x1, .int x2] s1_3 (qR (fun ra_5 s1_4 => ∃ bc_6 : Nat, bc_6 ≤ b - bc - bc_1 ∧ (∃ fs_12 : List Value, Ob s1_4 1 h0 fs_12) ∧ Call G mX1_run 204 bc_6 [.ref h0, .ref ra_5] s1_4 (qR (fun ra_8 s1_7 => (∃ fs : List Value, Ob s1_7 3 ra_8 fs) ∧ CallO G mX3_cost 3 [.ref ra_8] s1_7 (pJ (fun ry => CallO G mX1_part 3 [.long ry, .long 1099511627776, .int x3] s1_7 (pJ (fun ry_11 => Q (some (.long ry_11)) s1_7)))))) X)) X)) X)) X)) X) : At G mX1_swapped 205 Q X b 21 [(0, .ref h0), (1, .int x1), (2, .int x2), (3, .int x3)] [.int sx1, .ref sa0] (σ) := by
  refine g_iconst (v := 0) dX1_swapped_21 (by decide) ?_
  refine g_iconst (v := 0) dX1_swapped_22 (by decide) ?_
  obtain ⟨bc, hb9, h⟩ := h
  obtain ⟨⟨_, hO⟩, h⟩ := h
  refine g_callV (N := mX1_within) (st := []) (As := [.int sx1, .int 0, .int 0]) (a := sa0) dX1_swapped_23 wsX1_within (lw_V q833 q835 qs11 q108 q836) rfl mokX1_within rfl cl1 (by decide) (by decide) hb9 (Nat.zero_le _) hO h (fun E q s hx => AtX.out0 rfl hx) (fun _ s1 hq => ?_)
  obtain ⟨rfl, h⟩ := hq
  refine At.stk (st' := []) rfl ?_
  refine g_aload_n dX1_swapped_26 rfl 0 rfl ?_
  refine g_iload_n dX1_swapped_27 rfl 3 rfl ?_
  obtain ⟨bc_1, hb9, h⟩ := h
  obtain ⟨⟨_, hO⟩, h⟩ := h
  refine g_callV (N := mX1_partOf) (st := []) (As := [.int x3]) (a := h0) dX1_swapped_28 wsX1_partOf (lw_V q1468 q1470 qs27 q108 q1471) rfl mokX1_partOf rfl cl1 (by decide) (by decide) hb9 (Nat.zero_le _) hO h (fun E q s hx => AtX.out0 rfl hx) (fun _ s1_2 hq => ?_)
  obtain ⟨rfl, h⟩ := hq
  refine At.stk (st' := []) rfl ?_
  refine g_aload_n dX1_swapped_31 rfl 0 rfl ?_
  refine g_aload_n dX1_swapped_32 rfl 0 rfl ?_
  obtain ⟨⟨_, hO⟩, h⟩ := h
  refine g_callV (N := mX1_asTold) (st := [.ref h0]) (As := []) (a := h0) dX1_swapped_33 wsX1_asTold (lw_V q517 q519 qs0 q108 q520) rfl mokX1_asTold rfl cl1 (by decide) (by decide) (Nat.zero_le _) (by simp [Value.category]) hO h (fun E q s hx => AtX.out0 rfl hx) (fun _ s1_3 hq => ?_)
  obtain ⟨ra, rfl, h⟩ := hq
  refine At.stk (st' := [.ref ra, .ref h0]) rfl ?_
  refine g_iload_n dX1_swapped_36 rfl 1 rfl ?_
  refine g_iload_n dX1_swapped_37 rfl 2 rfl ?_
  obtain ⟨⟨_, hO⟩, h⟩ := h
  refine g_callV (N := mX6_swapped) (st := [.ref h0]) (As := [.int x1, .int x2]) (a := ra) dX1_swapped_38 wsX6_swapped (lw_V q795 q796 q797 q113 q798) rfl mokX6_swapped rfl cl6 (by decide) (by decide) (Nat.zero_le _) (by simp [Value.category]) hO h (fun E q s hx => AtX.out0 rfl hx) (fun _ s1_4 hq => ?_)
  obtain ⟨ra_5, rfl, h⟩ := hq
  refine At.stk (st' := [.ref ra_5, .ref h0]) rfl ?_
  obtain ⟨bc_6, hb9, h⟩ := h
  obtain ⟨⟨_, hO⟩, h⟩ := h
  refine g_callV (N := mX1_run) (st := []) (As := [.ref ra_5]) (a := h0) dX1_swapped_41 wsX1_run (lw_V q532 q534 qs1 q108 q535) rfl mokX1_run rfl cl1 (by decide) (by decide) hb9 (Nat.zero_le _) hO h (fun E q s hx => AtX.out0 rfl hx) (fun _ s1_7 hq => ?_)
  obtain ⟨ra_8, rfl, h⟩ := hq
  refine At.stk (st' := [.ref ra_8]) rfl ?_
  obtain ⟨⟨_, hO⟩, h⟩ := h
  refine g_callV (N := mX3_cost) (st := []) (As := []) (a := ra_8) dX1_swapped_44 wsX3_cost (lw_V q779 q780 q781 q110 q782) rfl mokX3_cost rfl cl3 (by decide) (by decide) (Nat.zero_le _) (Nat.zero_le _) hO h (fun E q s hx => AtX.never hx) (fun _ s1_9 hq => ?_)
  obtain ⟨es, hq⟩ := hq
  refine g_tops2 es ?_
  obtain ⟨ry, rfl, h⟩ := hq
  refine At.stk (st' := [.long ry]) rfl ?_
  refine g_ldc2 dX1_swapped_47 q1476 ?_
  refine g_iload_n dX1_swapped_50 rfl 3 rfl ?_
  refine g_callS (N := mX1_part) (st := []) (As := [.long ry, .long 1099511627776, .int x3]) dX1_swapped_51 wsX1_part (lw_S q1477 q1478 q108 q1479) mokX1_part rfl (by decide) (by decide) (Nat.zero_le _) (Nat.zero_le _) h (fun E q s hx => AtX.never hx) (fun _ s1_10 hq => ?_)
  obtain ⟨es, hq⟩ := hq
  refine g_tops2 es ?_
  obtain ⟨ry_11, rfl, h⟩ := hq
  refine At.stk (st' := [.long ry_11]) rfl ?_
  exact g_lret rfl dX1_swapped_54 h
theorem eX1_swapped {G : GC} {Q : Option Value → PS → Prop} {X : String → Nat → PS → Prop} {b : Nat} {h0 : Nat} {p1 : Int32} {p2 : Int32} {p3 : Int32} {σ : PS} (h : At G mX1_swapped 205 Q X b 0 [(0, .ref h0), (1, .int p1), (2, .int p2), (3, .int p3)] [] σ) : Call G mX1_swapped 205 b [.ref h0, .int p1, .int p2, .int p3] σ Q X :=
  Call.of (by decide +kernel) wsX1_swapped rfl (Nat.le_of_ble_eq_true rfl) (At.sub (ls := [(0, .ref h0), (1, .int p1), (2, .int p2), (3, .int p3)]) [0, 1, 2, 3] rfl h)
set_option maxHeartbeats 4000000 in
theorem bX1_day_0 {G : GC} {Q : Option Value → PS → Prop} {X : String → Nat → PS → Prop} {b : Nat} {h0 : Nat} {x1 : Int32} {x2 : Int32} {x3 : Int32} {σ : PS} (h : ∃ bc : Nat, bc ≤ b ∧ (∃ fs_6 : List Value, Ob (σ) 1 h0 fs_6) ∧ Call G mX1_visitOf 11 bc [.ref h0, .int x2] (σ) (qV (fun s1 => ∃ bc_1 : Nat, bc_1 ≤ b - bc ∧ (∃ fs_5 : List Value, Ob s1 1 h0 fs_5) ∧ Call G mX1_within 10 bc_1 [.ref h0, .int x3, .int 0, .int 6] s1 (qV (fun s1_2 => ∃ bc_3 : Nat, bc_3 ≤ b - bc - bc_1 ∧ (∃ fs : List Value, Ob s1_2 1 h0 fs) ∧ Call G mX1_drawn 203 bc_3 [.ref h0, .int x1, .int x2] s1_2 (qR (fun ra s1_4 => ∃ a_state : Nat, Fg s1_4 5 ra 0 (.ref a_state) ∧ ((x3.toInt < 0 ∨ 5 < x3.toInt → ∃ x_slot : Int32, Fg s1_4 4 a_state 0 (.int x_slot) ∧ (Q (some (.int (x_slot - 1))) s1_4)) ∧ (x3 = 0 → ∃ x_clean : Int32, Fg s1_4 4 a_state 1 (.int x_clean) ∧ (Q (some (.int x_clean)) s1_4)) ∧ (x3 = 1 → ∃ x_dirty : Int32, Fg s1_4 4 a_state 2 (.int x_dirty) ∧ (Q (some (.int x_dirty)) s1_4)) ∧ (x3 = 2 → ∃ x_card : Int32, Fg s1_4 4 a_state 3 (.int x_card) ∧ (Q (some (.int x_card)) s1_4)) ∧ (x3 = 3 → ∃ a_day : Nat, Fg s1_4 1 h0 8 (.ref a_day) ∧ (∃ x_drunk : Int32, Fg s1_4 5 a_day 4 (.int x_drunk) ∧ (Q (some (.int x_drunk)) s1_4))) ∧ (x3 = 4 → ∃ a_day : Nat, Fg s1_4 1 h0 8 (.ref a_day) ∧ (∃ x_washed : Int32, Fg s1_4 5 a_day 5 (.int x_washed) ∧ (Q (some (.int x_washed)) s1_4))) ∧ (x3 = 5 → ∃ a_day : Nat, Fg s1_4 1 h0 8 (.ref a_day) ∧ (∃ x_looks : Int32, Fg s1_4 5 a_day 6 (.int x_looks) ∧ (Q (some (.int x_looks)) s1_4)))))) X)) X)) X) : At G mX1_day 204 Q X b 0 [(0, .ref h0), (1, .int x1), (2, .int x2), (3, .int x3)] [] (σ) := by
  refine g_aload_n dX1_day_0 rfl 0 rfl ?_
  refine g_iload_n dX1_day_1 rfl 2 rfl ?_
  obtain ⟨bc, hb9, h⟩ := h
  obtain ⟨⟨_, hO⟩, h⟩ := h
  refine g_callV (N := mX1_visitOf) (st := []) (As := [.int x2]) (a := h0) dX1_day_2 wsX1_visitOf (lw_V q1396 q1398 qs26 q108 q1399) rfl mokX1_visitOf rfl cl1 (by decide) (by decide) hb9 (Nat.zero_le _) hO h (fun E q s hx => AtX.out0 rfl hx) (fun _ s1 hq => ?_)
  obtain ⟨rfl, h⟩ := hq
  refine At.stk (st' := []) rfl ?_
  refine g_aload_n dX1_day_5 rfl 0 rfl ?_
  refine g_iload_n dX1_day_6 rfl 3 rfl ?_
  refine g_iconst (v := 0) dX1_day_7 (by decide) ?_
  refine g_bipush (v := 6) dX1_day_8 (by decide) ?_
  obtain ⟨bc_1, hb9, h⟩ := h
  obtain ⟨⟨_, hO⟩, h⟩ := h
  refine g_callV (N := mX1_within) (st := []) (As := [.int x3, .int 0, .int 6]) (a := h0) dX1_day_10 wsX1_within (lw_V q833 q835 qs11 q108 q836) rfl mokX1_within rfl cl1 (by decide) (by decide) hb9 (Nat.zero_le _) hO h (fun E q s hx => AtX.out0 rfl hx) (fun _ s1_2 hq => ?_)
  obtain ⟨rfl, h⟩ := hq
  refine At.stk (st' := []) rfl ?_
  refine g_aload_n dX1_day_13 rfl 0 rfl ?_
  refine g_iload_n dX1_day_14 rfl 1 rfl ?_
  refine g_iload_n dX1_day_15 rfl 2 rfl ?_
  obtain ⟨bc_3, hb9, h⟩ := h
  obtain ⟨⟨_, hO⟩, h⟩ := h
  refine g_callV (N := mX1_drawn) (st := []) (As := [.int x1, .int x2]) (a := h0) dX1_day_16 wsX1_drawn (lw_V q1640 q1642 qs33 q108 q1643) rfl mokX1_drawn rfl cl1 (by decide) (by decide) hb9 (Nat.zero_le _) hO h (fun E q s hx => AtX.out0 rfl hx) (fun _ s1_4 hq => ?_)
  obtain ⟨ra, rfl, h⟩ := hq
  refine At.stk (st' := [.ref ra]) rfl ?_
  obtain ⟨a_state, hf, h⟩ := h
  refine g_getN 0 dX1_day_19 in_X5 cl5 (by decide) q294 hf ?_
  refine g_astore (ls1 := [(4, .ref a_state), (0, .ref h0), (1, .int x1), (2, .int x2), (3, .int x3)]) dX1_day_22 (by decide) rfl ?_
  refine g_iload_n dX1_day_24 rfl 4 rfl ?_
  rcases tb_split x3 0 6 with ho | ⟨i9, hi9, ex9⟩
  · refine g_tableOut (tgt := 106) dX1_day_25 (by omega) (by decide) ?_
    replace h := h.1 ho
    refine g_aload dX1_day_106 0 rfl ?_
    obtain ⟨x_slot, hf, h⟩ := h
    refine g_getN 0 dX1_day_108 in_X4 cl4 (by decide) q199 hf ?_
    refine g_iconst (v := 1) dX1_day_111 (by decide) ?_
    refine g_isub dX1_day_112 ?_
    exact g_iret rfl dX1_day_113 h
  · replace h := h.2
    match i9, hi9, ex9 with
    | 0, _, ex9 =>
      have ex9 : x3 = 0 := ex9.trans (by decide)
      replace h := h.1 ex9
      refine g_tableIn (tgt := 64) dX1_day_25 (by rw [ex9]; decide) (by rw [ex9]; decide) (off := 39) (by rw [ex9]; decide) (by decide) ?_
      refine g_aload dX1_day_64 0 rfl ?_
      obtain ⟨x_clean, hf, h⟩ := h
      refine g_getN 1 dX1_day_66 in_X4 cl4 (by decide) q204 hf ?_
      exact g_iret rfl dX1_day_69 h
    | 1, _, ex9 =>
      have ex9 : x3 = 1 := ex9.trans (by decide)
      replace h := h.2.1 ex9
      refine g_tableIn (tgt := 70) dX1_day_25 (by rw [ex9]; decide) (by rw [ex9]; decide) (off := 45) (by rw [ex9]; decide) (by decide) ?_
      refine g_aload dX1_day_70 0 rfl ?_
      obtain ⟨x_dirty, hf, h⟩ := h
      refine g_getN 2 dX1_day_72 in_X4 cl4 (by decide) q211 hf ?_
      exact g_iret rfl dX1_day_75 h
    | 2, _, ex9 =>
      have ex9 : x3 = 2 := ex9.trans (by decide)
      replace h := h.2.2.1 ex9
      refine g_tableIn (tgt := 76) dX1_day_25 (by rw [ex9]; decide) (by rw [ex9]; decide) (off := 51) (by rw [ex9]; decide) (by decide) ?_
      refine g_aload dX1_day_76 0 rfl ?_
      obtain ⟨x_card, hf, h⟩ := h
      refine g_getN 3 dX1_day_78 in_X4 cl4 (by decide) q218 hf ?_
      exact g_iret rfl dX1_day_81 h
    | 3, _, ex9 =>
      have ex9 : x3 = 3 := ex9.trans (by decide)
      replace h := h.2.2.2.1 ex9
      refine g_tableIn (tgt := 82) dX1_day_25 (by rw [ex9]; decide) (by rw [ex9]; decide) (off := 57) (by rw [ex9]; decide) (by decide) ?_
      refine g_aload_n dX1_day_82 rfl 1 rfl ?_
      obtain ⟨a_day, hf, h⟩ := h
      refine g_get 8 dX1_day_83 in_X1 cl1 (by decide) q461 hf ?_
      obtain ⟨x_drunk, hf, h⟩ := h
      refine g_getN 4 dX1_day_86 in_X5 cl5 (by decide) q303 hf ?_
      exact g_iret rfl dX1_day_89 h
    | 4, _, ex9 =>
      have ex9 : x3 = 4 := ex9.trans (by decide)
      replace h := h.2.2.2.2.1 ex9
      refine g_tableIn (tgt := 90) dX1_day_25 (by rw [ex9]; decide) (by rw [ex9]; decide) (off := 65) (by rw [ex9]; decide) (by decide) ?_
      refine g_aload_n dX1_day_90 rfl 1 rfl ?_
      obtain ⟨a_day, hf, h⟩ := h
      refine g_get 8 dX1_day_91 in_X1 cl1 (by decide) q461 hf ?_
      obtain ⟨x_washed, hf, h⟩ := h
      refine g_getN 5 dX1_day_94 in_X5 cl5 (by decide) q306 hf ?_
      exact g_iret rfl dX1_day_97 h
    | 5, _, ex9 =>
      have ex9 : x3 = 5 := ex9.trans (by decide)
      replace h := h.2.2.2.2.2 ex9
      refine g_tableIn (tgt := 98) dX1_day_25 (by rw [ex9]; decide) (by rw [ex9]; decide) (off := 73) (by rw [ex9]; decide) (by decide) ?_
      refine g_aload_n dX1_day_98 rfl 1 rfl ?_
      obtain ⟨a_day, hf, h⟩ := h
      refine g_get 8 dX1_day_99 in_X1 cl1 (by decide) q461 hf ?_
      obtain ⟨x_looks, hf, h⟩ := h
      refine g_getN 6 dX1_day_102 in_X5 cl5 (by decide) q309 hf ?_
      exact g_iret rfl dX1_day_105 h
    | i9 + 6, hi9, _ => exact absurd hi9 (by omega)
theorem eX1_day {G : GC} {Q : Option Value → PS → Prop} {X : String → Nat → PS → Prop} {b : Nat} {h0 : Nat} {p1 : Int32} {p2 : Int32} {p3 : Int32} {σ : PS} (h : At G mX1_day 204 Q X b 0 [(0, .ref h0), (1, .int p1), (2, .int p2), (3, .int p3)] [] σ) : Call G mX1_day 204 b [.ref h0, .int p1, .int p2, .int p3] σ Q X :=
  Call.of (by decide +kernel) wsX1_day rfl (Nat.le_of_ble_eq_true rfl) (At.sub (ls := [(0, .ref h0), (1, .int p1), (2, .int p2), (3, .int p3)]) [0, 1, 2, 3] rfl h)
set_option maxHeartbeats 4000000 in
theorem bX1_drawn_0 {G : GC} {Q : Option Value → PS → Prop} {X : String → Nat → PS → Prop} {b : Nat} {h0 : Nat} {x1 : Int32} {x2 : Int32} {σ : PS} (h : ∃ a_day : Nat, Fg (σ) 1 h0 8 (.ref a_day) ∧ (∃ a_office : Nat, Fg (σ) 1 h0 10 (.ref a_office) ∧ (∃ a_calendar : Nat, Fg (σ) 1 h0 1 (.ref a_calendar) ∧ (∃ a_habits : Nat, Fg (σ) 1 h0 6 (.ref a_habits) ∧ (∃ bc : Nat, bc ≤ b ∧ (∃ fs : List Value, Ob (σ) 5 a_day fs) ∧ Call G mX5_runs 202 bc [.ref a_day, .ref a_office, .ref a_calendar, .ref a_habits, .int x1, .int x2] (σ) (qR (fun ra s1 => Q (some (.ref ra)) s1)) X))))) : At G mX1_drawn 203 Q X b 0 [(0, .ref h0), (1, .int x1), (2, .int x2)] [] (σ) := by
  refine g_aload_n dX1_drawn_0 rfl 0 rfl ?_
  obtain ⟨a_day, hf, h⟩ := h
  refine g_get 8 dX1_drawn_1 in_X1 cl1 (by decide) q461 hf ?_
  refine g_aload_n dX1_drawn_4 rfl 0 rfl ?_
  obtain ⟨a_office, hf, h⟩ := h
  refine g_get 10 dX1_drawn_5 in_X1 cl1 (by decide) q463 hf ?_
  refine g_aload_n dX1_drawn_8 rfl 0 rfl ?_
  obtain ⟨a_calendar, hf, h⟩ := h
  refine g_get 1 dX1_drawn_9 in_X1 cl1 (by decide) q454 hf ?_
  refine g_aload_n dX1_drawn_12 rfl 0 rfl ?_
  obtain ⟨a_habits, hf, h⟩ := h
  refine g_get 6 dX1_drawn_13 in_X1 cl1 (by decide) q459 hf ?_
  refine g_iload_n dX1_drawn_16 rfl 1 rfl ?_
  refine g_iload_n dX1_drawn_17 rfl 2 rfl ?_
  obtain ⟨bc, hb9, h⟩ := h
  obtain ⟨⟨_, hO⟩, h⟩ := h
  refine g_callV (N := mX5_runs) (st := []) (As := [.ref a_office, .ref a_calendar, .ref a_habits, .int x1, .int x2]) (a := a_day) dX1_drawn_18 wsX5_runs (lw_V q1644 q1645 q1646 q112 q1647) rfl mokX5_runs rfl cl5 (by decide) (by decide) hb9 (Nat.zero_le _) hO h (fun E q s hx => AtX.out0 rfl hx) (fun _ s1 hq => ?_)
  obtain ⟨ra, rfl, h⟩ := hq
  refine At.stk (st' := [.ref ra]) rfl ?_
  exact g_aret (x := (some ra)) rfl dX1_drawn_21 h
theorem eX1_drawn {G : GC} {Q : Option Value → PS → Prop} {X : String → Nat → PS → Prop} {b : Nat} {h0 : Nat} {p1 : Int32} {p2 : Int32} {σ : PS} (h : At G mX1_drawn 203 Q X b 0 [(0, .ref h0), (1, .int p1), (2, .int p2)] [] σ) : Call G mX1_drawn 203 b [.ref h0, .int p1, .int p2] σ Q X :=
  Call.of (by decide +kernel) wsX1_drawn rfl (Nat.le_of_ble_eq_true rfl) (At.sub (ls := [(0, .ref h0), (1, .int p1), (2, .int p2)]) [0, 1, 2] rfl h)
set_option maxHeartbeats 4000000 in
theorem bX1_span_0 {G : GC} {Q : Option Value → PS → Prop} {X : String → Nat → PS → Prop} {b : Nat} {h0 : Nat} {x1 : Int32} {x2 : Int32} {x3 : Int32} {σ : PS} (h : ∃ bc : Nat, bc ≤ b ∧ (∃ fs_3 : List Value, Ob (σ) 1 h0 fs_3) ∧ Call G mX1_within 10 bc [.ref h0, .int x2, .int 1, .int 40] (σ) (qV (fun s1 => ∃ bc_1 : Nat, bc_1 ≤ b - bc ∧ (∃ fs : List Value, Ob s1 1 h0 fs) ∧ Call G mX1_within 10 bc_1 [.ref h0, .int x3, .int 0, .int 2] s1 (qV (fun s1_2 => At G mX1_span 204 Q X (b - bc - bc_1) 27 [(0, .ref h0), (1, .int x1), (2, .int x2), (3, .int x3), (4, .int 0), (5, .int 0), (6, .int 0), (7, .int 0)] [] s1_2)) X)) X) : At G mX1_span 204 Q X b 0 [(0, .ref h0), (1, .int x1), (2, .int x2), (3, .int x3)] [] (σ) := by
  refine g_aload_n dX1_span_0 rfl 0 rfl ?_
  refine g_iload_n dX1_span_1 rfl 2 rfl ?_
  refine g_iconst (v := 1) dX1_span_2 (by decide) ?_
  refine g_bipush (v := 40) dX1_span_3 (by decide) ?_
  obtain ⟨bc, hb9, h⟩ := h
  obtain ⟨⟨_, hO⟩, h⟩ := h
  refine g_callV (N := mX1_within) (st := []) (As := [.int x2, .int 1, .int 40]) (a := h0) dX1_span_5 wsX1_within (lw_V q833 q835 qs11 q108 q836) rfl mokX1_within rfl cl1 (by decide) (by decide) hb9 (Nat.zero_le _) hO h (fun E q s hx => AtX.out0 rfl hx) (fun _ s1 hq => ?_)
  obtain ⟨rfl, h⟩ := hq
  refine At.stk (st' := []) rfl ?_
  refine g_aload_n dX1_span_8 rfl 0 rfl ?_
  refine g_iload_n dX1_span_9 rfl 3 rfl ?_
  refine g_iconst (v := 0) dX1_span_10 (by decide) ?_
  refine g_iconst (v := 2) dX1_span_11 (by decide) ?_
  obtain ⟨bc_1, hb9, h⟩ := h
  obtain ⟨⟨_, hO⟩, h⟩ := h
  refine g_callV (N := mX1_within) (st := []) (As := [.int x3, .int 0, .int 2]) (a := h0) dX1_span_12 wsX1_within (lw_V q833 q835 qs11 q108 q836) rfl mokX1_within rfl cl1 (by decide) (by decide) hb9 (Nat.zero_le _) hO h (fun E q s hx => AtX.out0 rfl hx) (fun _ s1_2 hq => ?_)
  obtain ⟨rfl, h⟩ := hq
  refine At.stk (st' := []) rfl ?_
  refine g_iconst (v := 0) dX1_span_15 (by decide) ?_
  refine g_istore (ls1 := [(4, .int 0), (0, .ref h0), (1, .int x1), (2, .int x2), (3, .int x3)]) dX1_span_16 (by decide) rfl ?_
  refine g_iconst (v := 0) dX1_span_18 (by decide) ?_
  refine g_istore (ls1 := [(5, .int 0), (4, .int 0), (0, .ref h0), (1, .int x1), (2, .int x2), (3, .int x3)]) dX1_span_19 (by decide) rfl ?_
  refine g_iconst (v := 0) dX1_span_21 (by decide) ?_
  refine g_istore (ls1 := [(6, .int 0), (5, .int 0), (4, .int 0), (0, .ref h0), (1, .int x1), (2, .int x2), (3, .int x3)]) dX1_span_22 (by decide) rfl ?_
  refine g_iconst (v := 0) dX1_span_24 (by decide) ?_
  refine g_istore (ls1 := [(7, .int 0), (6, .int 0), (5, .int 0), (4, .int 0), (0, .ref h0), (1, .int x1), (2, .int x2), (3, .int x3)]) dX1_span_25 (by decide) rfl ?_
  exact At.sub (ls := [(7, .int 0), (6, .int 0), (5, .int 0), (4, .int 0), (0, .ref h0), (1, .int x1), (2, .int x2), (3, .int x3)]) [4, 5, 6, 7, 3, 2, 1, 0] rfl h
set_option maxHeartbeats 4000000 in
theorem bX1_span_27 {G : GC} {Q : Option Value → PS → Prop} {X : String → Nat → PS → Prop} {b : Nat} {h0 : Nat} {x1 : Int32} {x2 : Int32} {x3 : Int32} {x4 : Int32} {x5 : Int32} {x6 : Int32} {x7 : Int32} {σ : PS} (h : ((x2 ≤ x7) → ((¬ x3 = 0) → ((¬ x3 = 1) → Q (some (.int x6)) (σ)) ∧ ((x3 = 1) → Q (some (.int x5)) (σ))) ∧ ((x3 = 0) → Q (some (.int x4)) (σ))) ∧ ((¬ x2 ≤ x7) → ∃ a_calendar : Nat, Fg (σ) 1 h0 1 (.ref a_calendar) ∧ (∃ x_many : Int32, Fg (σ) 2 a_calendar 2 (.int x_many) ∧ (∃ bc : Nat, bc ≤ b ∧ (∃ fs_2 : List Value, Ob (σ) 1 h0 fs_2) ∧ Call G mX1_drawn 203 bc [.ref h0, .int (x1 + x7), .int (x_many - 1)] (σ) (qR (fun ra s1 => ∃ a_day : Nat, Fg s1 1 h0 8 (.ref a_day) ∧ (∃ a_state : Nat, Fg s1 5 a_day 0 (.ref a_state) ∧ ((∃ fs : List Value, Ob s1 4 a_state fs) ∧ CallO G mX4_isTrue 3 [.ref a_state] s1 (pI (fun rx => ((rx = 0) → At G mX1_span 204 Q X (b - bc) 67 [(0, .ref h0), (1, .int x1), (2, .int x2), (3, .int x3), (4, .int x4), (5, .int x5), (6, .int x6), (7, .int x7)] [] s1) ∧ ((¬ rx = 0) → ∀ v4 : Int32, v4 = x4 + 1 → At G mX1_span 204 Q X (b - bc) 67 [(0, .ref h0), (1, .int x1), (2, .int x2), (3, .int x3), (4, .int v4), (5, .int x5), (6, .int x6), (7, .int x7)] [] s1))))))) X)))) : At G mX1_span 204 Q X b 27 [(0, .ref h0), (1, .int x1), (2, .int x2), (3, .int x3), (4, .int x4), (5, .int x5), (6, .int x6), (7, .int x7)] [] (σ) := by
  refine g_iload dX1_span_27 7 rfl ?_
  refine g_iload_n dX1_span_29 rfl 2 rfl ?_
  refine g_icmp_ge (tgt := 99) dX1_span_30 (by decide) (fun c => ?_) (fun c => ?_)
  · replace h := h.1 c
    refine g_iload_n dX1_span_99 rfl 3 rfl ?_
    refine g_if_ne (tgt := 108) dX1_span_100 (by decide) (fun c => ?_) (fun c => ?_)
    · replace h := h.1 c
      refine g_iload_n dX1_span_108 rfl 3 rfl ?_
      refine g_iconst (v := 1) dX1_span_109 (by decide) ?_
      refine g_icmp_ne (tgt := 118) dX1_span_110 (by decide) (fun c => ?_) (fun c => ?_)
      · replace h := h.1 c
        refine g_iload dX1_span_118 6 rfl ?_
        exact g_iret rfl dX1_span_120 h
      · replace h := h.2 c
        refine g_iload dX1_span_113 5 rfl ?_
        refine g_goto (tgt := 120) dX1_span_115 (by decide) ?_
        exact g_iret rfl dX1_span_120 h
    · replace h := h.2 c
      refine g_iload dX1_span_103 4 rfl ?_
      refine g_goto (tgt := 120) dX1_span_105 (by decide) ?_
      exact g_iret rfl dX1_span_120 h
  · replace h := h.2 c
    refine g_aload_n dX1_span_33 rfl 0 rfl ?_
    refine g_iload_n dX1_span_34 rfl 1 rfl ?_
    refine g_iload dX1_span_35 7 rfl ?_
    refine g_iadd dX1_span_37 ?_
    refine g_aload_n dX1_span_38 rfl 0 rfl ?_
    obtain ⟨a_calendar, hf, h⟩ := h
    refine g_get 1 dX1_span_39 in_X1 cl1 (by decide) q454 hf ?_
    obtain ⟨x_many, hf, h⟩ := h
    refine g_getN 2 dX1_span_42 in_X2 cl2 (by decide) q168 hf ?_
    refine g_iconst (v := 1) dX1_span_45 (by decide) ?_
    refine g_isub dX1_span_46 ?_
    obtain ⟨bc, hb9, h⟩ := h
    obtain ⟨⟨_, hO⟩, h⟩ := h
    refine g_callV (N := mX1_drawn) (st := []) (As := [.int (x1 + x7), .int (x_many - 1)]) (a := h0) dX1_span_47 wsX1_drawn (lw_V q1640 q1642 qs33 q108 q1643) rfl mokX1_drawn rfl cl1 (by decide) (by decide) hb9 (Nat.zero_le _) hO h (fun E q s hx => AtX.out0 rfl hx) (fun _ s1 hq => ?_)
    obtain ⟨ra, rfl, h⟩ := hq
    refine At.stk (st' := [.ref ra]) rfl ?_
    refine g_pop dX1_span_50 rfl ?_
    refine g_aload_n dX1_span_51 rfl 0 rfl ?_
    obtain ⟨a_day, hf, h⟩ := h
    refine g_get 8 dX1_span_52 in_X1 cl1 (by decide) q461 hf ?_
    obtain ⟨a_state, hf, h⟩ := h
    refine g_getN 0 dX1_span_55 in_X5 cl5 (by decide) q294 hf ?_
    obtain ⟨⟨_, hO⟩, h⟩ := h
    refine g_callV (N := mX4_isTrue) (st := []) (As := []) (a := a_state) dX1_span_58 wsX4_isTrue (lw_V q1700 q762 q763 q111 q764) rfl mokX4_isTrue rfl cl4 (by decide) (by decide) (Nat.zero_le _) (Nat.zero_le _) hO h (fun E q s hx => AtX.never hx) (fun _ s1_1 hq => ?_)
    obtain ⟨es, hq⟩ := hq
    refine g_tops2 es ?_
    obtain ⟨rx, rfl, h⟩ := hq
    refine At.stk (st' := [.int rx]) rfl ?_
    refine g_if_eq (tgt := 67) dX1_span_61 (by decide) (fun c => ?_) (fun c => ?_)
    · replace h := h.1 c
      exact At.sub (ls := [(0, .ref h0), (1, .int x1), (2, .int x2), (3, .int x3), (4, .int x4), (5, .int x5), (6, .int x6), (7, .int x7)]) [0, 1, 2, 3, 4, 5, 6, 7] rfl h
    · replace h := h.2 c
      obtain ⟨v4, ev4⟩ : ∃ z : Int32, z = x4 + 1 := ⟨_, rfl⟩
      refine g_iinc (v := v4) (ls1 := [(4, .int v4), (0, .ref h0), (1, .int x1), (2, .int x2), (3, .int x3), (5, .int x5), (6, .int x6), (7, .int x7)]) dX1_span_64 4 rfl (by rw [ev4]; rfl) (by decide) rfl ?_
      replace h := h v4 ev4
      exact At.sub (ls := [(4, .int v4), (0, .ref h0), (1, .int x1), (2, .int x2), (3, .int x3), (5, .int x5), (6, .int x6), (7, .int x7)]) [1, 2, 3, 4, 0, 5, 6, 7] rfl h
set_option maxHeartbeats 4000000 in
theorem bX1_span_67 {G : GC} {Q : Option Value → PS → Prop} {X : String → Nat → PS → Prop} {b : Nat} {h0 : Nat} {x1 : Int32} {x2 : Int32} {x3 : Int32} {x4 : Int32} {x5 : Int32} {x6 : Int32} {x7 : Int32} {σ : PS} (h : ∃ a_day : Nat, Fg (σ) 1 h0 8 (.ref a_day) ∧ (∃ x_drunk : Int32, Fg (σ) 5 a_day 4 (.int x_drunk) ∧ (∀ v5 : Int32, v5 = (x5 + x_drunk) → ∃ a_day_1 : Nat, Fg (σ) 1 h0 8 (.ref a_day_1) ∧ (∃ x_drunk_2 : Int32, Fg (σ) 5 a_day_1 4 (.int x_drunk_2) ∧ (∀ w : Int32, w = (if x6 < x_drunk_2 then x_drunk_2 else x6) → ∀ v7 : Int32, v7 = x7 + 1 → At G mX1_span 204 Q X b 27 [(0, .ref h0), (1, .int x1), (2, .int x2), (3, .int x3), (4, .int x4), (5, .int v5), (6, .int w), (7, .int v7)] [] (σ)))))) : At G mX1_span 204 Q X b 67 [(0, .ref h0), (1, .int x1), (2, .int x2), (3, .int x3), (4, .int x4), (5, .int x5), (6, .int x6), (7, .int x7)] [] (σ) := by
  refine g_iload dX1_span_67 5 rfl ?_
  refine g_aload_n dX1_span_69 rfl 0 rfl ?_
  obtain ⟨a_day, hf, h⟩ := h
  refine g_get 8 dX1_span_70 in_X1 cl1 (by decide) q461 hf ?_
  obtain ⟨x_drunk, hf, h⟩ := h
  refine g_getN 4 dX1_span_73 in_X5 cl5 (by decide) q303 hf ?_
  refine g_iadd dX1_span_76 ?_
  refine g_topi (fun v5 ev5 => ?_)
  replace h := h v5 ev5
  refine g_istore (ls1 := [(5, .int v5), (0, .ref h0), (1, .int x1), (2, .int x2), (3, .int x3), (4, .int x4), (6, .int x6), (7, .int x7)]) dX1_span_77 (by decide) rfl ?_
  refine g_iload dX1_span_79 6 rfl ?_
  refine g_aload_n dX1_span_81 rfl 1 rfl ?_
  obtain ⟨a_day_1, hf, h⟩ := h
  refine g_get 8 dX1_span_82 in_X1 cl1 (by decide) q461 hf ?_
  obtain ⟨x_drunk_2, hf, h⟩ := h
  refine g_getN 4 dX1_span_85 in_X5 cl5 (by decide) q303 hf ?_
  refine g_imax dX1_span_88 q1701 (by decide) (Nat.zero_le _) ?_
  refine g_topi (fun w ew => ?_)
  replace h := h w ew
  refine g_istore (ls1 := [(6, .int w), (5, .int v5), (0, .ref h0), (1, .int x1), (2, .int x2), (3, .int x3), (4, .int x4), (7, .int x7)]) dX1_span_91 (by decide) rfl ?_
  obtain ⟨v7, ev7⟩ : ∃ z : Int32, z = x7 + 1 := ⟨_, rfl⟩
  refine g_iinc (v := v7) (ls1 := [(7, .int v7), (6, .int w), (5, .int v5), (0, .ref h0), (1, .int x1), (2, .int x2), (3, .int x3), (4, .int x4)]) dX1_span_93 7 rfl (by rw [ev7]; rfl) (by decide) rfl ?_
  replace h := h v7 ev7
  refine g_goto (tgt := 27) dX1_span_96 (by decide) ?_
  exact At.sub (ls := [(7, .int v7), (6, .int w), (5, .int v5), (0, .ref h0), (1, .int x1), (2, .int x2), (3, .int x3), (4, .int x4)]) [3, 4, 5, 6, 7, 2, 1, 0] rfl h
theorem eX1_span {G : GC} {Q : Option Value → PS → Prop} {X : String → Nat → PS → Prop} {b : Nat} {h0 : Nat} {p1 : Int32} {p2 : Int32} {p3 : Int32} {σ : PS} (h : At G mX1_span 204 Q X b 0 [(0, .ref h0), (1, .int p1), (2, .int p2), (3, .int p3)] [] σ) : Call G mX1_span 204 b [.ref h0, .int p1, .int p2, .int p3] σ Q X :=
  Call.of (by decide +kernel) wsX1_span rfl (Nat.le_of_ble_eq_true rfl) (At.sub (ls := [(0, .ref h0), (1, .int p1), (2, .int p2), (3, .int p3)]) [0, 1, 2, 3] rfl h)
set_option maxHeartbeats 4000000 in
theorem bX1_come_0 {G : GC} {Q : Option Value → PS → Prop} {X : String → Nat → PS → Prop} {b : Nat} {h0 : Nat} {x1 : Int32} {x2 : Int32} {σ : PS} (h : ∃ bc : Nat, bc ≤ b ∧ (∃ fs_8 : List Value, Ob (σ) 1 h0 fs_8) ∧ Call G mX1_personOf 11 bc [.ref h0, .int x1] (σ) (qV (fun s1 => ∃ bc_1 : Nat, bc_1 ≤ b - bc ∧ (∃ fs_7 : List Value, Ob s1 1 h0 fs_7) ∧ Call G mX1_within 10 bc_1 [.ref h0, .int x2, .int 0, .int 480] s1 (qV (fun s1_2 => ∃ a_calendar : Nat, Fg s1_2 1 h0 1 (.ref a_calendar) ∧ (∃ x_many : Int32, Fg s1_2 2 a_calendar 2 (.int x_many) ∧ (((x_many = 24) → Q (some (.int (-1))) s1_2) ∧ ((¬ x_many = 24) → ∃ x_changes : Int32, Fg s1_2 1 h0 15 (.int x_changes) ∧ (((¬ x_changes = 20) → (∃ fs_6 : List Value, Ob s1_2 1 h0 fs_6) ∧ Call G mX1_changes 4 0 [.ref h0] s1_2 (qV (fun s1_3 => ∃ a_calendar_4 : Nat, Fg s1_3 1 h0 1 (.ref a_calendar_4) ∧ ((∃ fs : List Value, Ob s1_3 2 a_calendar_4 fs) ∧ Call G mX2_comes 3 0 [.ref a_calendar_4, .int x1, .int x2] s1_3 (qI (fun rx s1_5 => Q (some (.int rx)) s1_5)) X))) X) ∧ ((x_changes = 20) → Q (some (.int (-1))) s1_2))))))) X)) X) : At G mX1_come 12 Q X b 0 [(0, .ref h0), (1, .int x1), (2, .int x2)] [] (σ) := by
  refine g_aload_n dX1_come_0 rfl 0 rfl ?_
  refine g_iload_n dX1_come_1 rfl 1 rfl ?_
  obtain ⟨bc, hb9, h⟩ := h
  obtain ⟨⟨_, hO⟩, h⟩ := h
  refine g_callV (N := mX1_personOf) (st := []) (As := [.int x1]) (a := h0) dX1_come_2 wsX1_personOf (lw_V q1107 q1109 qs17 q108 q1110) rfl mokX1_personOf rfl cl1 (by decide) (by decide) hb9 (Nat.zero_le _) hO h (fun E q s hx => AtX.out0 rfl hx) (fun _ s1 hq => ?_)
  obtain ⟨rfl, h⟩ := hq
  refine At.stk (st' := []) rfl ?_
  refine g_aload_n dX1_come_5 rfl 0 rfl ?_
  refine g_iload_n dX1_come_6 rfl 2 rfl ?_
  refine g_iconst (v := 0) dX1_come_7 (by decide) ?_
  refine g_sipush (v := 480) dX1_come_8 (by decide) ?_
  obtain ⟨bc_1, hb9, h⟩ := h
  obtain ⟨⟨_, hO⟩, h⟩ := h
  refine g_callV (N := mX1_within) (st := []) (As := [.int x2, .int 0, .int 480]) (a := h0) dX1_come_11 wsX1_within (lw_V q833 q835 qs11 q108 q836) rfl mokX1_within rfl cl1 (by decide) (by decide) hb9 (Nat.zero_le _) hO h (fun E q s hx => AtX.out0 rfl hx) (fun _ s1_2 hq => ?_)
  obtain ⟨rfl, h⟩ := hq
  refine At.stk (st' := []) rfl ?_
  refine g_aload_n dX1_come_14 rfl 0 rfl ?_
  obtain ⟨a_calendar, hf, h⟩ := h
  refine g_get 1 dX1_come_15 in_X1 cl1 (by decide) q454 hf ?_
  obtain ⟨x_many, hf, h⟩ := h
  refine g_getN 2 dX1_come_18 in_X2 cl2 (by decide) q168 hf ?_
  refine g_bipush (v := 24) dX1_come_21 (by decide) ?_
  refine g_icmp_eq (tgt := 35) dX1_come_23 (by decide) (fun c => ?_) (fun c => ?_)
  · replace h := h.1 c
    refine g_iconst (v := (-1)) dX1_come_35 (by decide) ?_
    exact g_iret rfl dX1_come_36 h
  · replace h := h.2 c
    refine g_aload_n dX1_come_26 rfl 0 rfl ?_
    obtain ⟨x_changes, hf, h⟩ := h
    refine g_get 15 dX1_come_27 in_X1 cl1 (by decide) q468 hf ?_
    refine g_bipush (v := 20) dX1_come_30 (by decide) ?_
    refine g_icmp_ne (tgt := 37) dX1_come_32 (by decide) (fun c => ?_) (fun c => ?_)
    · replace h := h.1 c
      refine g_aload_n dX1_come_37 rfl 0 rfl ?_
      obtain ⟨⟨_, hO⟩, h⟩ := h
      refine g_callV (N := mX1_changes) (st := []) (As := []) (a := h0) dX1_come_38 wsX1_changes (lw_V q1711 q1713 qs34 q108 q1714) rfl mokX1_changes rfl cl1 (by decide) (by decide) (Nat.zero_le _) (Nat.zero_le _) hO h (fun E q s hx => AtX.out0 rfl hx) (fun _ s1_3 hq => ?_)
      obtain ⟨rfl, h⟩ := hq
      refine At.stk (st' := []) rfl ?_
      refine g_aload_n dX1_come_41 rfl 0 rfl ?_
      obtain ⟨a_calendar_4, hf, h⟩ := h
      refine g_get 1 dX1_come_42 in_X1 cl1 (by decide) q454 hf ?_
      refine g_iload_n dX1_come_45 rfl 1 rfl ?_
      refine g_iload_n dX1_come_46 rfl 2 rfl ?_
      obtain ⟨⟨_, hO⟩, h⟩ := h
      refine g_callV (N := mX2_comes) (st := []) (As := [.int x1, .int x2]) (a := a_calendar_4) dX1_come_47 wsX2_comes (lw_V q1715 q1088 q1089 q109 q1090) rfl mokX2_comes rfl cl2 (by decide) (by decide) (Nat.zero_le _) (Nat.zero_le _) hO h (fun E q s hx => AtX.out0 rfl hx) (fun _ s1_5 hq => ?_)
      obtain ⟨rx, rfl, h⟩ := hq
      refine At.stk (st' := [.int rx]) rfl ?_
      exact g_iret rfl dX1_come_50 h
    · replace h := h.2 c
      refine g_iconst (v := (-1)) dX1_come_35 (by decide) ?_
      exact g_iret rfl dX1_come_36 h
theorem eX1_come {G : GC} {Q : Option Value → PS → Prop} {X : String → Nat → PS → Prop} {b : Nat} {h0 : Nat} {p1 : Int32} {p2 : Int32} {σ : PS} (h : At G mX1_come 12 Q X b 0 [(0, .ref h0), (1, .int p1), (2, .int p2)] [] σ) : Call G mX1_come 12 b [.ref h0, .int p1, .int p2] σ Q X :=
  Call.of (by decide +kernel) wsX1_come rfl (Nat.le_of_ble_eq_true rfl) (At.sub (ls := [(0, .ref h0), (1, .int p1), (2, .int p2)]) [0, 1, 2] rfl h)
set_option maxHeartbeats 4000000 in
theorem bX1_changes_0 {G : GC} {Q : Option Value → PS → Prop} {X : String → Nat → PS → Prop} {b : Nat} {h0 : Nat} {σ : PS} (h : ∃ a_changed : Nat, Fg (σ) 1 h0 2 (.ref a_changed) ∧ (∃ x_changes : Int32, Fg (σ) 1 h0 15 (.int x_changes) ∧ (∃ fs : List Value, Ob (σ) 1 h0 fs ∧ 15 < fs.length ∧ (∀ s1 : PS, s1 = up (σ) 1 h0 (.inl (fs.set 15 (.int (x_changes + 1)))) → ∃ (n : Nat) (f : Nat → Option Nat) (y : Nat), Qa s1 103 a_changed n f ∧ vp_in x_changes n ∧ (f x_changes.toNatClampNeg) = some y ∧ (∃ a_calendar : Nat, Fg s1 1 h0 1 (.ref a_calendar) ∧ ((∃ fs_2 : List Value, Ob s1 2 y fs_2) ∧ Call G mX2_as 3 0 [.ref y, .ref a_calendar] s1 (qR (fun ra s1_1 => Q none s1_1)) X)))))) : At G mX1_changes 4 Q X b 0 [(0, .ref h0)] [] (σ) := by
  refine g_aload_n dX1_changes_0 rfl 0 rfl ?_
  obtain ⟨a_changed, hf, h⟩ := h
  refine g_get 2 dX1_changes_1 in_X1 cl1 (by decide) q455 hf ?_
  refine g_aload_n dX1_changes_4 rfl 0 rfl ?_
  refine g_dup dX1_changes_5 rfl ?_
  obtain ⟨x_changes, hf, h⟩ := h
  refine g_get 15 dX1_changes_6 in_X1 cl1 (by decide) q468 hf ?_
  refine g_dup_x1 dX1_changes_9 rfl rfl ?_
  refine g_iconst (v := 1) dX1_changes_10 (by decide) ?_
  refine g_iadd dX1_changes_11 ?_
  obtain ⟨fs, hO, hl, h⟩ := h
  refine g_put 15 dX1_changes_12 in_X1 tyX1 tyX1_ok nmX1 cl1 (by decide) q468 rfl rfl rfl hO hl ?_
  refine g_tops (fun s1 es1 => ?_)
  replace h := h s1 es1
  obtain ⟨n, f, y, h1, h2, h3, h⟩ := h
  refine g_aald (t0 := 3) dX1_changes_15 rfl rfl h1 h2 ?_
  rw [h3]
  refine At.stk (st' := [.ref y]) rfl ?_
  refine g_aload_n dX1_changes_16 rfl 0 rfl ?_
  obtain ⟨a_calendar, hf, h⟩ := h
  refine g_get 1 dX1_changes_17 in_X1 cl1 (by decide) q454 hf ?_
  obtain ⟨⟨_, hO⟩, h⟩ := h
  refine g_callV (N := mX2_as) (st := []) (As := [.ref a_calendar]) (a := y) dX1_changes_20 wsX2_as (lw_V q803 q804 q805 q109 q806) rfl mokX2_as rfl cl2 (by decide) (by decide) (Nat.zero_le _) (Nat.zero_le _) hO h (fun E q s hx => AtX.out0 rfl hx) (fun _ s1_1 hq => ?_)
  obtain ⟨ra, rfl, h⟩ := hq
  refine At.stk (st' := [.ref ra]) rfl ?_
  refine g_pop dX1_changes_23 rfl ?_
  exact g_vret rfl dX1_changes_24 h
theorem eX1_changes {G : GC} {Q : Option Value → PS → Prop} {X : String → Nat → PS → Prop} {b : Nat} {h0 : Nat} {σ : PS} (h : At G mX1_changes 4 Q X b 0 [(0, .ref h0)] [] σ) : Call G mX1_changes 4 b [.ref h0] σ Q X :=
  Call.of (by decide +kernel) wsX1_changes rfl (Nat.le_of_ble_eq_true rfl) (At.sub (ls := [(0, .ref h0)]) [0] rfl h)
set_option maxHeartbeats 4000000 in
theorem bX1_skip_0 {G : GC} {Q : Option Value → PS → Prop} {X : String → Nat → PS → Prop} {b : Nat} {h0 : Nat} {x1 : Int32} {σ : PS} (h : ∃ bc : Nat, bc ≤ b ∧ (∃ fs_5 : List Value, Ob (σ) 1 h0 fs_5) ∧ Call G mX1_visitOf 11 bc [.ref h0, .int x1] (σ) (qV (fun s1 => ∃ x_changes : Int32, Fg s1 1 h0 15 (.int x_changes) ∧ (((¬ x_changes = 20) → (∃ fs_4 : List Value, Ob s1 1 h0 fs_4) ∧ Call G mX1_changes 4 0 [.ref h0] s1 (qV (fun s1_1 => ∃ a_calendar : Nat, Fg s1_1 1 h0 1 (.ref a_calendar) ∧ ((∃ fs : List Value, Ob s1_1 2 a_calendar fs) ∧ Call G mX2_skips 3 0 [.ref a_calendar, .int x1] s1_1 (qV (fun s1_2 => ∃ a_calendar_3 : Nat, Fg s1_2 1 h0 1 (.ref a_calendar_3) ∧ (∃ x_many : Int32, Fg s1_2 2 a_calendar_3 2 (.int x_many) ∧ (Q (some (.int x_many)) s1_2)))) X))) X) ∧ ((x_changes = 20) → Q (some (.int (-1))) s1)))) X) : At G mX1_skip 12 Q X b 0 [(0, .ref h0), (1, .int x1)] [] (σ) := by
  refine g_aload_n dX1_skip_0 rfl 0 rfl ?_
  refine g_iload_n dX1_skip_1 rfl 1 rfl ?_
  obtain ⟨bc, hb9, h⟩ := h
  obtain ⟨⟨_, hO⟩, h⟩ := h
  refine g_callV (N := mX1_visitOf) (st := []) (As := [.int x1]) (a := h0) dX1_skip_2 wsX1_visitOf (lw_V q1396 q1398 qs26 q108 q1399) rfl mokX1_visitOf rfl cl1 (by decide) (by decide) hb9 (Nat.zero_le _) hO h (fun E q s hx => AtX.out0 rfl hx) (fun _ s1 hq => ?_)
  obtain ⟨rfl, h⟩ := hq
  refine At.stk (st' := []) rfl ?_
  refine g_aload_n dX1_skip_5 rfl 0 rfl ?_
  obtain ⟨x_changes, hf, h⟩ := h
  refine g_get 15 dX1_skip_6 in_X1 cl1 (by decide) q468 hf ?_
  refine g_bipush (v := 20) dX1_skip_9 (by decide) ?_
  refine g_icmp_ne (tgt := 16) dX1_skip_11 (by decide) (fun c => ?_) (fun c => ?_)
  · replace h := h.1 c
    refine g_aload_n dX1_skip_16 rfl 0 rfl ?_
    obtain ⟨⟨_, hO⟩, h⟩ := h
    refine g_callV (N := mX1_changes) (st := []) (As := []) (a := h0) dX1_skip_17 wsX1_changes (lw_V q1711 q1713 qs34 q108 q1714) rfl mokX1_changes rfl cl1 (by decide) (by decide) (Nat.zero_le _) (Nat.zero_le _) hO h (fun E q s hx => AtX.out0 rfl hx) (fun _ s1_1 hq => ?_)
    obtain ⟨rfl, h⟩ := hq
    refine At.stk (st' := []) rfl ?_
    refine g_aload_n dX1_skip_20 rfl 0 rfl ?_
    obtain ⟨a_calendar, hf, h⟩ := h
    refine g_get 1 dX1_skip_21 in_X1 cl1 (by decide) q454 hf ?_
    refine g_iload_n dX1_skip_24 rfl 1 rfl ?_
    obtain ⟨⟨_, hO⟩, h⟩ := h
    refine g_callV (N := mX2_skips) (st := []) (As := [.int x1]) (a := a_calendar) dX1_skip_25 wsX2_skips (lw_V q1723 q1724 q1725 q109 q1726) rfl mokX2_skips rfl cl2 (by decide) (by decide) (Nat.zero_le _) (Nat.zero_le _) hO h (fun E q s hx => AtX.out0 rfl hx) (fun _ s1_2 hq => ?_)
    obtain ⟨rfl, h⟩ := hq
    refine At.stk (st' := []) rfl ?_
    refine g_aload_n dX1_skip_28 rfl 0 rfl ?_
    obtain ⟨a_calendar_3, hf, h⟩ := h
    refine g_get 1 dX1_skip_29 in_X1 cl1 (by decide) q454 hf ?_
    obtain ⟨x_many, hf, h⟩ := h
    refine g_getN 2 dX1_skip_32 in_X2 cl2 (by decide) q168 hf ?_
    exact g_iret rfl dX1_skip_35 h
  · replace h := h.2 c
    refine g_iconst (v := (-1)) dX1_skip_14 (by decide) ?_
    exact g_iret rfl dX1_skip_15 h
theorem eX1_skip {G : GC} {Q : Option Value → PS → Prop} {X : String → Nat → PS → Prop} {b : Nat} {h0 : Nat} {p1 : Int32} {σ : PS} (h : At G mX1_skip 12 Q X b 0 [(0, .ref h0), (1, .int p1)] [] σ) : Call G mX1_skip 12 b [.ref h0, .int p1] σ Q X :=
  Call.of (by decide +kernel) wsX1_skip rfl (Nat.le_of_ble_eq_true rfl) (At.sub (ls := [(0, .ref h0), (1, .int p1)]) [0, 1] rfl h)
set_option maxHeartbeats 4000000 in
theorem bX1_shift_0 {G : GC} {Q : Option Value → PS → Prop} {X : String → Nat → PS → Prop} {b : Nat} {h0 : Nat} {x1 : Int32} {x2 : Int32} {σ : PS} (h : ∃ bc : Nat, bc ≤ b ∧ (∃ fs_11 : List Value, Ob (σ) 1 h0 fs_11) ∧ Call G mX1_visitOf 11 bc [.ref h0, .int x1] (σ) (qV (fun s1 => ∃ bc_1 : Nat, bc_1 ≤ b - bc ∧ (∃ fs_10 : List Value, Ob s1 1 h0 fs_10) ∧ Call G mX1_within 10 bc_1 [.ref h0, .int x2, .int 0, .int 480] s1 (qV (fun s1_2 => ∃ x_changes : Int32, Fg s1_2 1 h0 15 (.int x_changes) ∧ (((¬ x_changes = 20) → (∃ fs_9 : List Value, Ob s1_2 1 h0 fs_9) ∧ Call G mX1_changes 4 0 [.ref h0] s1_2 (qV (fun s1_3 => ∃ a_calendar : Nat, Fg s1_3 1 h0 1 (.ref a_calendar) ∧ (∃ a_who : Nat, Fg s1_3 2 a_calendar 0 (.ref a_who) ∧ (∃ (n : Nat) (f : Nat → Int32), Ia s1_3 100 a_who n f ∧ vp_in x1 n ∧ (∀ v3 : Int32, v3 = (f x1.toNatClampNeg) → ∃ a_calendar_4 : Nat, Fg s1_3 1 h0 1 (.ref a_calendar_4) ∧ ((∃ fs_8 : List Value, Ob s1_3 2 a_calendar_4 fs_8) ∧ Call G mX2_skips 3 0 [.ref a_calendar_4, .int x1] s1_3 (qV (fun s1_5 => ∃ a_calendar_6 : Nat, Fg s1_5 1 h0 1 (.ref a_calendar_6) ∧ ((∃ fs : List Value, Ob s1_5 2 a_calendar_6 fs) ∧ Call G mX2_comes 3 0 [.ref a_calendar_6, .int v3, .int x2] s1_5 (qI (fun rx s1_7 => Q (some (.int rx)) s1_7)) X))) X)))))) X) ∧ ((x_changes = 20) → Q (some (.int (-1))) s1_2)))) X)) X) : At G mX1_shift 12 Q X b 0 [(0, .ref h0), (1, .int x1), (2, .int x2)] [] (σ) := by
  refine g_aload_n dX1_shift_0 rfl 0 rfl ?_
  refine g_iload_n dX1_shift_1 rfl 1 rfl ?_
  obtain ⟨bc, hb9, h⟩ := h
  obtain ⟨⟨_, hO⟩, h⟩ := h
  refine g_callV (N := mX1_visitOf) (st := []) (As := [.int x1]) (a := h0) dX1_shift_2 wsX1_visitOf (lw_V q1396 q1398 qs26 q108 q1399) rfl mokX1_visitOf rfl cl1 (by decide) (by decide) hb9 (Nat.zero_le _) hO h (fun E q s hx => AtX.out0 rfl hx) (fun _ s1 hq => ?_)
  obtain ⟨rfl, h⟩ := hq
  refine At.stk (st' := []) rfl ?_
  refine g_aload_n dX1_shift_5 rfl 0 rfl ?_
  refine g_iload_n dX1_shift_6 rfl 2 rfl ?_
  refine g_iconst (v := 0) dX1_shift_7 (by decide) ?_
  refine g_sipush (v := 480) dX1_shift_8 (by decide) ?_
  obtain ⟨bc_1, hb9, h⟩ := h
  obtain ⟨⟨_, hO⟩, h⟩ := h
  refine g_callV (N := mX1_within) (st := []) (As := [.int x2, .int 0, .int 480]) (a := h0) dX1_shift_11 wsX1_within (lw_V q833 q835 qs11 q108 q836) rfl mokX1_within rfl cl1 (by decide) (by decide) hb9 (Nat.zero_le _) hO h (fun E q s hx => AtX.out0 rfl hx) (fun _ s1_2 hq => ?_)
  obtain ⟨rfl, h⟩ := hq
  refine At.stk (st' := []) rfl ?_
  refine g_aload_n dX1_shift_14 rfl 0 rfl ?_
  obtain ⟨x_changes, hf, h⟩ := h
  refine g_get 15 dX1_shift_15 in_X1 cl1 (by decide) q468 hf ?_
  refine g_bipush (v := 20) dX1_shift_18 (by decide) ?_
  refine g_icmp_ne (tgt := 25) dX1_shift_20 (by decide) (fun c => ?_) (fun c => ?_)
  · replace h := h.1 c
    refine g_aload_n dX1_shift_25 rfl 0 rfl ?_
    obtain ⟨⟨_, hO⟩, h⟩ := h
    refine g_callV (N := mX1_changes) (st := []) (As := []) (a := h0) dX1_shift_26 wsX1_changes (lw_V q1711 q1713 qs34 q108 q1714) rfl mokX1_changes rfl cl1 (by decide) (by decide) (Nat.zero_le _) (Nat.zero_le _) hO h (fun E q s hx => AtX.out0 rfl hx) (fun _ s1_3 hq => ?_)
    obtain ⟨rfl, h⟩ := hq
    refine At.stk (st' := []) rfl ?_
    refine g_aload_n dX1_shift_29 rfl 0 rfl ?_
    obtain ⟨a_calendar, hf, h⟩ := h
    refine g_get 1 dX1_shift_30 in_X1 cl1 (by decide) q454 hf ?_
    obtain ⟨a_who, hf, h⟩ := h
    refine g_getN 0 dX1_shift_33 in_X2 cl2 (by decide) q162 hf ?_
    refine g_iload_n dX1_shift_36 rfl 1 rfl ?_
    obtain ⟨n, f, h1, h2, h⟩ := h
    refine g_iald dX1_shift_37 h1 h2 ?_
    refine g_topi (fun v3 ev3 => ?_)
    replace h := h v3 ev3
    refine g_istore_n (ls1 := [(3, .int v3), (0, .ref h0), (1, .int x1), (2, .int x2)]) dX1_shift_38 rfl (by decide) rfl ?_
    refine g_aload_n dX1_shift_39 rfl 1 rfl ?_
    obtain ⟨a_calendar_4, hf, h⟩ := h
    refine g_get 1 dX1_shift_40 in_X1 cl1 (by decide) q454 hf ?_
    refine g_iload_n dX1_shift_43 rfl 2 rfl ?_
    obtain ⟨⟨_, hO⟩, h⟩ := h
    refine g_callV (N := mX2_skips) (st := []) (As := [.int x1]) (a := a_calendar_4) dX1_shift_44 wsX2_skips (lw_V q1723 q1724 q1725 q109 q1726) rfl mokX2_skips rfl cl2 (by decide) (by decide) (Nat.zero_le _) (Nat.zero_le _) hO h (fun E q s hx => AtX.out0 rfl hx) (fun _ s1_5 hq => ?_)
    obtain ⟨rfl, h⟩ := hq
    refine At.stk (st' := []) rfl ?_
    refine g_aload_n dX1_shift_47 rfl 1 rfl ?_
    obtain ⟨a_calendar_6, hf, h⟩ := h
    refine g_get 1 dX1_shift_48 in_X1 cl1 (by decide) q454 hf ?_
    refine g_iload_n dX1_shift_51 rfl 0 rfl ?_
    refine g_iload_n dX1_shift_52 rfl 3 rfl ?_
    obtain ⟨⟨_, hO⟩, h⟩ := h
    refine g_callV (N := mX2_comes) (st := []) (As := [.int v3, .int x2]) (a := a_calendar_6) dX1_shift_53 wsX2_comes (lw_V q1715 q1088 q1089 q109 q1090) rfl mokX2_comes rfl cl2 (by decide) (by decide) (Nat.zero_le _) (Nat.zero_le _) hO h (fun E q s hx => AtX.out0 rfl hx) (fun _ s1_7 hq => ?_)
    obtain ⟨rx, rfl, h⟩ := hq
    refine At.stk (st' := [.int rx]) rfl ?_
    exact g_iret rfl dX1_shift_56 h
  · replace h := h.2 c
    refine g_iconst (v := (-1)) dX1_shift_23 (by decide) ?_
    exact g_iret rfl dX1_shift_24 h
theorem eX1_shift {G : GC} {Q : Option Value → PS → Prop} {X : String → Nat → PS → Prop} {b : Nat} {h0 : Nat} {p1 : Int32} {p2 : Int32} {σ : PS} (h : At G mX1_shift 12 Q X b 0 [(0, .ref h0), (1, .int p1), (2, .int p2)] [] σ) : Call G mX1_shift 12 b [.ref h0, .int p1, .int p2] σ Q X :=
  Call.of (by decide +kernel) wsX1_shift rfl (Nat.le_of_ble_eq_true rfl) (At.sub (ls := [(0, .ref h0), (1, .int p1), (2, .int p2)]) [0, 1, 2] rfl h)
set_option maxHeartbeats 4000000 in
theorem bX1_teach_0 {G : GC} {Q : Option Value → PS → Prop} {X : String → Nat → PS → Prop} {b : Nat} {h0 : Nat} {x1 : Int32} {x2 : Int32} {σ : PS} (h : ∃ bc : Nat, bc ≤ b ∧ (∃ fs_14 : List Value, Ob (σ) 1 h0 fs_14) ∧ Call G mX1_personOf 11 bc [.ref h0, .int x1] (σ) (qV (fun s1 => ∃ bc_1 : Nat, bc_1 ≤ b - bc ∧ (∃ fs : List Value, Ob s1 1 h0 fs) ∧ Call G mX1_personOf 11 bc_1 [.ref h0, .int x2] s1 (qV (fun s1_2 => ∃ a_habits : Nat, Fg s1_2 1 h0 6 (.ref a_habits) ∧ (∃ a_habits_3 : Nat, Fg s1_2 1 h0 6 (.ref a_habits_3) ∧ (∃ (n : Nat) (f : Nat → Option Nat), Qa s1_2 105 a_habits_3 n f ∧ vp_in x2 n ∧ (∃ (n_4 : Nat) (f_5 : Nat → Option Nat), Qa s1_2 105 a_habits n_4 f_5 ∧ (∀ y : Nat, (f x2.toNatClampNeg) = some y → ∃ vs, Ob s1_2 14 y vs) ∧ vp_in x1 n_4 ∧ (∀ s1_6 : PS, s1_6 = up s1_2 105 a_habits (.inr (n_4, .inr (.inr (va_up f_5 x1.toNatClampNeg (f x2.toNatClampNeg))))) → ∃ a_habits_7 : Nat, Fg s1_6 1 h0 6 (.ref a_habits_7) ∧ (∃ (n_8 : Nat) (f_9 : Nat → Option Nat), Qa s1_6 105 a_habits_7 n_8 f_9 ∧ vp_in x1 n_8 ∧ (((f_9 x1.toNatClampNeg) = none → Q (some (.int 0)) s1_6) ∧ (∀ z : Nat, (f_9 x1.toNatClampNeg) = some z → ∃ a_habits_10 : Nat, Fg s1_6 1 h0 6 (.ref a_habits_10) ∧ (∃ (n_11 : Nat) (f_12 : Nat → Option Nat), Qa s1_6 105 a_habits_10 n_11 f_12 ∧ vp_in x1 n_11 ∧ (∃ z_13 : Nat, (f_12 x1.toNatClampNeg) = some z_13 ∧ (∃ x_many : Int32, Fg s1_6 14 z_13 1 (.int x_many) ∧ (Q (some (.int x_many)) s1_6))))))))))))) X)) X) : At G mX1_teach 12 Q X b 0 [(0, .ref h0), (1, .int x1), (2, .int x2)] [] (σ) := by
  refine g_aload_n dX1_teach_0 rfl 0 rfl ?_
  refine g_iload_n dX1_teach_1 rfl 1 rfl ?_
  obtain ⟨bc, hb9, h⟩ := h
  obtain ⟨⟨_, hO⟩, h⟩ := h
  refine g_callV (N := mX1_personOf) (st := []) (As := [.int x1]) (a := h0) dX1_teach_2 wsX1_personOf (lw_V q1107 q1109 qs17 q108 q1110) rfl mokX1_personOf rfl cl1 (by decide) (by decide) hb9 (Nat.zero_le _) hO h (fun E q s hx => AtX.out0 rfl hx) (fun _ s1 hq => ?_)
  obtain ⟨rfl, h⟩ := hq
  refine At.stk (st' := []) rfl ?_
  refine g_aload_n dX1_teach_5 rfl 0 rfl ?_
  refine g_iload_n dX1_teach_6 rfl 2 rfl ?_
  obtain ⟨bc_1, hb9, h⟩ := h
  obtain ⟨⟨_, hO⟩, h⟩ := h
  refine g_callV (N := mX1_personOf) (st := []) (As := [.int x2]) (a := h0) dX1_teach_7 wsX1_personOf (lw_V q1107 q1109 qs17 q108 q1110) rfl mokX1_personOf rfl cl1 (by decide) (by decide) hb9 (Nat.zero_le _) hO h (fun E q s hx => AtX.out0 rfl hx) (fun _ s1_2 hq => ?_)
  obtain ⟨rfl, h⟩ := hq
  refine At.stk (st' := []) rfl ?_
  refine g_aload_n dX1_teach_10 rfl 0 rfl ?_
  obtain ⟨a_habits, hf, h⟩ := h
  refine g_get 6 dX1_teach_11 in_X1 cl1 (by decide) q459 hf ?_
  refine g_iload_n dX1_teach_14 rfl 1 rfl ?_
  refine g_aload_n dX1_teach_15 rfl 0 rfl ?_
  obtain ⟨a_habits_3, hf, h⟩ := h
  refine g_get 6 dX1_teach_16 in_X1 cl1 (by decide) q459 hf ?_
  refine g_iload_n dX1_teach_19 rfl 2 rfl ?_
  obtain ⟨n, f, h1, h2, h⟩ := h
  refine g_aald (t0 := 5) dX1_teach_20 rfl rfl h1 h2 ?_
  obtain ⟨n_4, f_5, h1, h3, h2, h⟩ := h
  refine g_aastQ (t0 := 5) (ci := 14) dX1_teach_21 rfl cl14 h1 h3 h2 ?_
  refine g_tops (fun s1_6 es1_6 => ?_)
  replace h := h s1_6 es1_6
  refine g_aload_n dX1_teach_22 rfl 0 rfl ?_
  obtain ⟨a_habits_7, hf, h⟩ := h
  refine g_get 6 dX1_teach_23 in_X1 cl1 (by decide) q459 hf ?_
  refine g_iload_n dX1_teach_26 rfl 1 rfl ?_
  obtain ⟨n_8, f_9, h1, h2, h⟩ := h
  refine g_aald (t0 := 5) dX1_teach_27 rfl rfl h1 h2 ?_
  refine g_ifnonnull (tgt := 35) dX1_teach_28 (by decide) (fun hn => ?_) (fun z hs => ?_)
  · replace h := h.1 hn
    refine g_iconst (v := 0) dX1_teach_31 (by decide) ?_
    refine g_goto (tgt := 44) dX1_teach_32 (by decide) ?_
    exact g_iret rfl dX1_teach_44 h
  · replace h := h.2 z hs
    refine g_aload_n dX1_teach_35 rfl 0 rfl ?_
    obtain ⟨a_habits_10, hf, h⟩ := h
    refine g_get 6 dX1_teach_36 in_X1 cl1 (by decide) q459 hf ?_
    refine g_iload_n dX1_teach_39 rfl 1 rfl ?_
    obtain ⟨n_11, f_12, h1, h2, h⟩ := h
    refine g_aald (t0 := 5) dX1_teach_40 rfl rfl h1 h2 ?_
    obtain ⟨z_13, hz9, h⟩ := h
    refine At.stk (st' := [.ref z_13]) (by rw [hz9]; rfl) ?_
    obtain ⟨x_many, hf, h⟩ := h
    refine g_getN 1 dX1_teach_41 in_X14 cl14 (by decide) q1183 hf ?_
    exact g_iret rfl dX1_teach_44 h
theorem eX1_teach {G : GC} {Q : Option Value → PS → Prop} {X : String → Nat → PS → Prop} {b : Nat} {h0 : Nat} {p1 : Int32} {p2 : Int32} {σ : PS} (h : At G mX1_teach 12 Q X b 0 [(0, .ref h0), (1, .int p1), (2, .int p2)] [] σ) : Call G mX1_teach 12 b [.ref h0, .int p1, .int p2] σ Q X :=
  Call.of (by decide +kernel) wsX1_teach rfl (Nat.le_of_ble_eq_true rfl) (At.sub (ls := [(0, .ref h0), (1, .int p1), (2, .int p2)]) [0, 1, 2] rfl h)
