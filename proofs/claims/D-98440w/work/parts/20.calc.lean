set_option maxRecDepth 100000
set_option maxHeartbeats 4000000 in
theorem bX2_init_0 {G : GC} {Q : Option Value → PS → Prop} {X : String → Nat → PS → Prop} {b : Nat} {h0 : Nat} {σ : PS} (h : 1 ≤ b ∧ (∀ q : Nat, (∀ κ, σ κ q = none) → (∀ s1 : PS, s1 = up (σ) 100 q (.inr (24, .inl (fun _ => 0))) → ∃ fs : List Value, Ob s1 2 h0 fs ∧ 0 < fs.length ∧ (∀ s1_1 : PS, s1_1 = up s1 2 h0 (.inl (fs.set 0 (.ref q))) → 1 ≤ b - 1 ∧ (∀ q_2 : Nat, (∀ κ, s1_1 κ q_2 = none) → (∀ s1_3 : PS, s1_3 = up s1_1 100 q_2 (.inr (24, .inl (fun _ => 0))) → ∃ fs_4 : List Value, Ob s1_3 2 h0 fs_4 ∧ 1 < fs_4.length ∧ (∀ s1_5 : PS, s1_5 = up s1_3 2 h0 (.inl (fs_4.set 1 (.ref q_2))) → Q none s1_5))))))) : At G mX2_init 4 Q X b 0 [(0, .ref h0)] [] (σ) := by
  refine g_aload_n dX2_init_0 rfl 0 rfl ?_
  refine g_objInit dX2_init_1 q158 q151 q152 (by decide) (Nat.zero_le _) ?_
  refine g_aload_n dX2_init_4 rfl 0 rfl ?_
  refine g_bipush (v := 24) dX2_init_5 (by decide) ?_
  obtain ⟨hb, h⟩ := h
  refine g_newa (κ := 100) (t0 := 0) (N := 24) (ty := .int) (atype := .int) (x := .inl (fun _ => 0)) 1 dX2_init_7 q177 rfl rfl (Or.inl ⟨rfl, rfl⟩) (by decide) (by decide) (Nat.le_of_ble_eq_true rfl) (by decide) (by decide) hb (fun q hq => ?_)
  replace h := h q hq
  refine g_tops (fun s1 es1 => ?_)
  replace h := h s1 es1
  obtain ⟨fs, hO, hl, h⟩ := h
  refine g_putF 0 dX2_init_9 in_X2 tyX2 tyX2_ok nmX2 cl2 (by decide) q159 rfl rfl rfl rfl rfl hO hl ?_
  refine g_tops (fun s1_1 es1_1 => ?_)
  replace h := h s1_1 es1_1
  refine g_aload_n dX2_init_12 rfl 0 rfl ?_
  refine g_bipush (v := 24) dX2_init_13 (by decide) ?_
  obtain ⟨hb, h⟩ := h
  refine g_newa (κ := 100) (t0 := 0) (N := 24) (ty := .int) (atype := .int) (x := .inl (fun _ => 0)) 1 dX2_init_15 q177 rfl rfl (Or.inl ⟨rfl, rfl⟩) (by decide) (by decide) (Nat.le_of_ble_eq_true rfl) (by decide) (by decide) hb (fun q_2 hq => ?_)
  replace h := h q_2 hq
  refine g_tops (fun s1_3 es1_3 => ?_)
  replace h := h s1_3 es1_3
  obtain ⟨fs_4, hO, hl, h⟩ := h
  refine g_putF 1 dX2_init_17 in_X2 tyX2 tyX2_ok nmX2 cl2 (by decide) q163 rfl rfl rfl rfl rfl hO hl ?_
  refine g_tops (fun s1_5 es1_5 => ?_)
  replace h := h s1_5 es1_5
  exact g_vret rfl dX2_init_20 h
theorem eX2_init {G : GC} {Q : Option Value → PS → Prop} {X : String → Nat → PS → Prop} {b : Nat} {h0 : Nat} {σ : PS} (h : At G mX2_init 4 Q X b 0 [(0, .ref h0)] [] σ) : Call G mX2_init 4 b [.ref h0] σ Q X :=
  Call.of (by decide +kernel) wsX2_init rfl (Nat.le_of_ble_eq_true rfl) (At.sub (ls := [(0, .ref h0)]) [0] rfl h)
set_option maxHeartbeats 4000000 in
theorem bX2_count_0 {G : GC} {Q : Option Value → PS → Prop} {X : String → Nat → PS → Prop} {b : Nat} {h0 : Nat} {x1 : Int32} {σ : PS} (h : At G mX2_count 3 Q X b 4 [(0, .ref h0), (1, .int x1), (2, .int 0), (3, .int 0)] [] (σ)) : At G mX2_count 3 Q X b 0 [(0, .ref h0), (1, .int x1)] [] (σ) := by
  refine g_iconst (v := 0) dX2_count_0 (by decide) ?_
  refine g_istore_n (ls1 := [(2, .int 0), (0, .ref h0), (1, .int x1)]) dX2_count_1 rfl (by decide) rfl ?_
  refine g_iconst (v := 0) dX2_count_2 (by decide) ?_
  refine g_istore_n (ls1 := [(3, .int 0), (2, .int 0), (0, .ref h0), (1, .int x1)]) dX2_count_3 rfl (by decide) rfl ?_
  exact At.sub (ls := [(3, .int 0), (2, .int 0), (0, .ref h0), (1, .int x1)]) [2, 3, 1, 0] rfl h
set_option maxHeartbeats 4000000 in
theorem bX2_count_4 {G : GC} {Q : Option Value → PS → Prop} {X : String → Nat → PS → Prop} {b : Nat} {h0 : Nat} {x1 : Int32} {x2 : Int32} {x3 : Int32} {σ : PS} (h : ((x1 < x3) → Q (some (.int x2)) (σ)) ∧ ((¬ x1 < x3) → ∃ a_who : Nat, Fg (σ) 2 h0 0 (.ref a_who) ∧ (∃ (n : Nat) (f : Nat → Int32), Ia (σ) 100 a_who n f ∧ vp_in x3 n ∧ (∃ a_who_1 : Nat, Fg (σ) 2 h0 0 (.ref a_who_1) ∧ (∃ (n_2 : Nat) (f_3 : Nat → Int32), Ia (σ) 100 a_who_1 n_2 f_3 ∧ vp_in x1 n_2 ∧ (((¬ (f x3.toNatClampNeg) = (f_3 x1.toNatClampNeg)) → ∀ v3 : Int32, v3 = x3 + 1 → At G mX2_count 3 Q X b 4 [(0, .ref h0), (1, .int x1), (2, .int x2), (3, .int v3)] [] (σ)) ∧ (((f x3.toNatClampNeg) = (f_3 x1.toNatClampNeg)) → ∀ v2 : Int32, v2 = x2 + 1 → ∀ v3 : Int32, v3 = x3 + 1 → At G mX2_count 3 Q X b 4 [(0, .ref h0), (1, .int x1), (2, .int v2), (3, .int v3)] [] (σ)))))))) : At G mX2_count 3 Q X b 4 [(0, .ref h0), (1, .int x1), (2, .int x2), (3, .int x3)] [] (σ) := by
  refine g_iload_n dX2_count_4 rfl 3 rfl ?_
  refine g_iload_n dX2_count_5 rfl 1 rfl ?_
  refine g_icmp_gt (tgt := 33) dX2_count_6 (by decide) (fun c => ?_) (fun c => ?_)
  · replace h := h.1 c
    refine g_iload_n dX2_count_33 rfl 2 rfl ?_
    exact g_iret rfl dX2_count_34 h
  · replace h := h.2 c
    refine g_aload_n dX2_count_9 rfl 0 rfl ?_
    obtain ⟨a_who, hf, h⟩ := h
    refine g_get 0 dX2_count_10 in_X2 cl2 (by decide) q159 hf ?_
    refine g_iload_n dX2_count_13 rfl 3 rfl ?_
    obtain ⟨n, f, h1, h2, h⟩ := h
    refine g_iald dX2_count_14 h1 h2 ?_
    refine g_aload_n dX2_count_15 rfl 0 rfl ?_
    obtain ⟨a_who_1, hf, h⟩ := h
    refine g_get 0 dX2_count_16 in_X2 cl2 (by decide) q159 hf ?_
    refine g_iload_n dX2_count_19 rfl 1 rfl ?_
    obtain ⟨n_2, f_3, h1, h2, h⟩ := h
    refine g_iald dX2_count_20 h1 h2 ?_
    refine g_icmp_ne (tgt := 27) dX2_count_21 (by decide) (fun c => ?_) (fun c => ?_)
    · replace h := h.1 c
      obtain ⟨v3, ev3⟩ : ∃ z : Int32, z = x3 + 1 := ⟨_, rfl⟩
      refine g_iinc (v := v3) (ls1 := [(3, .int v3), (0, .ref h0), (1, .int x1), (2, .int x2)]) dX2_count_27 3 rfl (by rw [ev3]; rfl) (by decide) rfl ?_
      replace h := h v3 ev3
      refine g_goto (tgt := 4) dX2_count_30 (by decide) ?_
      exact At.sub (ls := [(3, .int v3), (0, .ref h0), (1, .int x1), (2, .int x2)]) [1, 2, 3, 0] rfl h
    · replace h := h.2 c
      obtain ⟨v2, ev2⟩ : ∃ z : Int32, z = x2 + 1 := ⟨_, rfl⟩
      refine g_iinc (v := v2) (ls1 := [(2, .int v2), (0, .ref h0), (1, .int x1), (3, .int x3)]) dX2_count_24 2 rfl (by rw [ev2]; rfl) (by decide) rfl ?_
      replace h := h v2 ev2
      obtain ⟨v3, ev3⟩ : ∃ z : Int32, z = x3 + 1 := ⟨_, rfl⟩
      refine g_iinc (v := v3) (ls1 := [(3, .int v3), (2, .int v2), (0, .ref h0), (1, .int x1)]) dX2_count_27 3 rfl (by rw [ev3]; rfl) (by decide) rfl ?_
      replace h := h v3 ev3
      refine g_goto (tgt := 4) dX2_count_30 (by decide) ?_
      exact At.sub (ls := [(3, .int v3), (2, .int v2), (0, .ref h0), (1, .int x1)]) [2, 3, 1, 0] rfl h
theorem eX2_count {G : GC} {Q : Option Value → PS → Prop} {X : String → Nat → PS → Prop} {b : Nat} {h0 : Nat} {p1 : Int32} {σ : PS} (h : At G mX2_count 3 Q X b 0 [(0, .ref h0), (1, .int p1)] [] σ) : Call G mX2_count 3 b [.ref h0, .int p1] σ Q X :=
  Call.of (by decide +kernel) wsX2_count rfl (Nat.le_of_ble_eq_true rfl) (At.sub (ls := [(0, .ref h0), (1, .int p1)]) [0, 1] rfl h)
set_option maxHeartbeats 4000000 in
theorem bX2_last_0 {G : GC} {Q : Option Value → PS → Prop} {X : String → Nat → PS → Prop} {b : Nat} {h0 : Nat} {x1 : Int32} {σ : PS} (h : ∀ v2 : Int32, v2 = (x1 - 1) → At G mX2_last 3 Q X b 4 [(0, .ref h0), (1, .int x1), (2, .int v2)] [] (σ)) : At G mX2_last 3 Q X b 0 [(0, .ref h0), (1, .int x1)] [] (σ) := by
  refine g_iload_n dX2_last_0 rfl 1 rfl ?_
  refine g_iconst (v := 1) dX2_last_1 (by decide) ?_
  refine g_isub dX2_last_2 ?_
  refine g_topi (fun v2 ev2 => ?_)
  replace h := h v2 ev2
  refine g_istore_n (ls1 := [(2, .int v2), (0, .ref h0), (1, .int x1)]) dX2_last_3 rfl (by decide) rfl ?_
  exact At.sub (ls := [(2, .int v2), (0, .ref h0), (1, .int x1)]) [1, 2, 0] rfl h
set_option maxHeartbeats 4000000 in
theorem bX2_last_4 {G : GC} {Q : Option Value → PS → Prop} {X : String → Nat → PS → Prop} {b : Nat} {h0 : Nat} {x1 : Int32} {x2 : Int32} {σ : PS} (h : ((x2 < 0) → Q (some (.int 999)) (σ)) ∧ ((¬ x2 < 0) → ∃ a_who : Nat, Fg (σ) 2 h0 0 (.ref a_who) ∧ (∃ (n : Nat) (f : Nat → Int32), Ia (σ) 100 a_who n f ∧ vp_in x2 n ∧ (∃ a_who_1 : Nat, Fg (σ) 2 h0 0 (.ref a_who_1) ∧ (∃ (n_2 : Nat) (f_3 : Nat → Int32), Ia (σ) 100 a_who_1 n_2 f_3 ∧ vp_in x1 n_2 ∧ (((¬ (f x2.toNatClampNeg) = (f_3 x1.toNatClampNeg)) → ∀ v2 : Int32, v2 = x2 + (-1) → At G mX2_last 3 Q X b 4 [(0, .ref h0), (1, .int x1), (2, .int v2)] [] (σ)) ∧ (((f x2.toNatClampNeg) = (f_3 x1.toNatClampNeg)) → ∃ a_minute : Nat, Fg (σ) 2 h0 1 (.ref a_minute) ∧ (∃ (n_4 : Nat) (f_5 : Nat → Int32), Ia (σ) 100 a_minute n_4 f_5 ∧ vp_in x1 n_4 ∧ (∃ a_minute_6 : Nat, Fg (σ) 2 h0 1 (.ref a_minute_6) ∧ (∃ (n_7 : Nat) (f_8 : Nat → Int32), Ia (σ) 100 a_minute_6 n_7 f_8 ∧ vp_in x2 n_7 ∧ (∀ w : Int32, w = ((f_5 x1.toNatClampNeg) - (f_8 x2.toNatClampNeg)) → Q (some (.int w)) (σ)))))))))))) : At G mX2_last 3 Q X b 4 [(0, .ref h0), (1, .int x1), (2, .int x2)] [] (σ) := by
  refine g_iload_n dX2_last_4 rfl 2 rfl ?_
  refine g_if_lt (tgt := 43) dX2_last_5 (by decide) (fun c => ?_) (fun c => ?_)
  · replace h := h.1 c
    refine g_sipush (v := 999) dX2_last_43 (by decide) ?_
    exact g_iret rfl dX2_last_46 h
  · replace h := h.2 c
    refine g_aload_n dX2_last_8 rfl 0 rfl ?_
    obtain ⟨a_who, hf, h⟩ := h
    refine g_get 0 dX2_last_9 in_X2 cl2 (by decide) q159 hf ?_
    refine g_iload_n dX2_last_12 rfl 2 rfl ?_
    obtain ⟨n, f, h1, h2, h⟩ := h
    refine g_iald dX2_last_13 h1 h2 ?_
    refine g_aload_n dX2_last_14 rfl 0 rfl ?_
    obtain ⟨a_who_1, hf, h⟩ := h
    refine g_get 0 dX2_last_15 in_X2 cl2 (by decide) q159 hf ?_
    refine g_iload_n dX2_last_18 rfl 1 rfl ?_
    obtain ⟨n_2, f_3, h1, h2, h⟩ := h
    refine g_iald dX2_last_19 h1 h2 ?_
    refine g_icmp_ne (tgt := 37) dX2_last_20 (by decide) (fun c => ?_) (fun c => ?_)
    · replace h := h.1 c
      obtain ⟨v2, ev2⟩ : ∃ z : Int32, z = x2 + (-1) := ⟨_, rfl⟩
      refine g_iinc (v := v2) (ls1 := [(2, .int v2), (0, .ref h0), (1, .int x1)]) dX2_last_37 2 rfl (by rw [ev2]; rfl) (by decide) rfl ?_
      replace h := h v2 ev2
      refine g_goto (tgt := 4) dX2_last_40 (by decide) ?_
      exact At.sub (ls := [(2, .int v2), (0, .ref h0), (1, .int x1)]) [1, 2, 0] rfl h
    · replace h := h.2 c
      refine g_aload_n dX2_last_23 rfl 0 rfl ?_
      obtain ⟨a_minute, hf, h⟩ := h
      refine g_get 1 dX2_last_24 in_X2 cl2 (by decide) q163 hf ?_
      refine g_iload_n dX2_last_27 rfl 1 rfl ?_
      obtain ⟨n_4, f_5, h1, h2, h⟩ := h
      refine g_iald dX2_last_28 h1 h2 ?_
      refine g_aload_n dX2_last_29 rfl 0 rfl ?_
      obtain ⟨a_minute_6, hf, h⟩ := h
      refine g_get 1 dX2_last_30 in_X2 cl2 (by decide) q163 hf ?_
      refine g_iload_n dX2_last_33 rfl 2 rfl ?_
      obtain ⟨n_7, f_8, h1, h2, h⟩ := h
      refine g_iald dX2_last_34 h1 h2 ?_
      refine g_isub dX2_last_35 ?_
      refine g_topi (fun w ew => ?_)
      replace h := h w ew
      exact g_iret rfl dX2_last_36 h
theorem eX2_last {G : GC} {Q : Option Value → PS → Prop} {X : String → Nat → PS → Prop} {b : Nat} {h0 : Nat} {p1 : Int32} {σ : PS} (h : At G mX2_last 3 Q X b 0 [(0, .ref h0), (1, .int p1)] [] σ) : Call G mX2_last 3 b [.ref h0, .int p1] σ Q X :=
  Call.of (by decide +kernel) wsX2_last rfl (Nat.le_of_ble_eq_true rfl) (At.sub (ls := [(0, .ref h0), (1, .int p1)]) [0, 1] rfl h)
set_option maxHeartbeats 4000000 in
theorem bX2_as_0 {G : GC} {Q : Option Value → PS → Prop} {X : String → Nat → PS → Prop} {b : Nat} {h0 : Nat} {a1 : Nat} {σ : PS} (h : ∃ x_many : Int32, Fg (σ) 2 a1 2 (.int x_many) ∧ (∃ fs : List Value, Ob (σ) 2 h0 fs ∧ 2 < fs.length ∧ (∀ s1 : PS, s1 = up (σ) 2 h0 (.inl (fs.set 2 (.int x_many))) → ∃ a_who : Nat, Fg s1 2 a1 0 (.ref a_who) ∧ (∃ a_who_1 : Nat, Fg s1 2 h0 0 (.ref a_who_1) ∧ (∃ (n n_2 : Nat) (f g : Nat → Int32), Ia s1 100 a_who n f ∧ Ia s1 100 a_who_1 n_2 g ∧ 24 ≤ n ∧ 24 ≤ n_2 ∧ (∀ s1_3 : PS, s1_3 = up s1 100 a_who_1 (.inr (n_2, .inl (va_cpy f g (0 : Int32).toNatClampNeg (0 : Int32).toNatClampNeg (24 : Int32).toNatClampNeg))) → ∃ a_minute : Nat, Fg s1_3 2 a1 1 (.ref a_minute) ∧ (∃ a_minute_4 : Nat, Fg s1_3 2 h0 1 (.ref a_minute_4) ∧ (∃ (n_5 n_6 : Nat) (f_7 g_8 : Nat → Int32), Ia s1_3 100 a_minute n_5 f_7 ∧ Ia s1_3 100 a_minute_4 n_6 g_8 ∧ 24 ≤ n_5 ∧ 24 ≤ n_6 ∧ (∀ s1_9 : PS, s1_9 = up s1_3 100 a_minute_4 (.inr (n_6, .inl (va_cpy f_7 g_8 (0 : Int32).toNatClampNeg (0 : Int32).toNatClampNeg (24 : Int32).toNatClampNeg))) → Q (some (.ref h0)) s1_9))))))))) : At G mX2_as 3 Q X b 0 [(0, .ref h0), (1, .ref a1)] [] (σ) := by
  refine g_aload_n dX2_as_0 rfl 0 rfl ?_
  refine g_aload_n dX2_as_1 rfl 1 rfl ?_
  obtain ⟨x_many, hf, h⟩ := h
  refine g_get 2 dX2_as_2 in_X2 cl2 (by decide) q166 hf ?_
  obtain ⟨fs, hO, hl, h⟩ := h
  refine g_put 2 dX2_as_5 in_X2 tyX2 tyX2_ok nmX2 cl2 (by decide) q166 rfl rfl rfl hO hl ?_
  refine g_tops (fun s1 es1 => ?_)
  replace h := h s1 es1
  refine g_aload_n dX2_as_8 rfl 1 rfl ?_
  obtain ⟨a_who, hf, h⟩ := h
  refine g_get 0 dX2_as_9 in_X2 cl2 (by decide) q159 hf ?_
  refine g_iconst (v := 0) dX2_as_12 (by decide) ?_
  refine g_aload_n dX2_as_13 rfl 0 rfl ?_
  obtain ⟨a_who_1, hf, h⟩ := h
  refine g_get 0 dX2_as_14 in_X2 cl2 (by decide) q159 hf ?_
  refine g_iconst (v := 0) dX2_as_17 (by decide) ?_
  refine g_bipush (v := 24) dX2_as_18 (by decide) ?_
  obtain ⟨n, n_2, f, g, h1, h2, h3, h4, h⟩ := h
  refine g_copyi dX2_as_20 q807 q527 q526 q129 h1 h2 (by decide) (by decide) (by decide) h3 h4 (by decide) (Nat.zero_le _) ?_
  refine g_tops (fun s1_3 es1_3 => ?_)
  replace h := h s1_3 es1_3
  refine g_aload_n dX2_as_23 rfl 1 rfl ?_
  obtain ⟨a_minute, hf, h⟩ := h
  refine g_get 1 dX2_as_24 in_X2 cl2 (by decide) q163 hf ?_
  refine g_iconst (v := 0) dX2_as_27 (by decide) ?_
  refine g_aload_n dX2_as_28 rfl 0 rfl ?_
  obtain ⟨a_minute_4, hf, h⟩ := h
  refine g_get 1 dX2_as_29 in_X2 cl2 (by decide) q163 hf ?_
  refine g_iconst (v := 0) dX2_as_32 (by decide) ?_
  refine g_bipush (v := 24) dX2_as_33 (by decide) ?_
  obtain ⟨n_5, n_6, f_7, g_8, h1, h2, h3, h4, h⟩ := h
  refine g_copyi dX2_as_35 q807 q527 q526 q129 h1 h2 (by decide) (by decide) (by decide) h3 h4 (by decide) (Nat.zero_le _) ?_
  refine g_tops (fun s1_9 es1_9 => ?_)
  replace h := h s1_9 es1_9
  refine g_aload_n dX2_as_38 rfl 0 rfl ?_
  exact g_aret (x := (some h0)) rfl dX2_as_39 h
theorem eX2_as {G : GC} {Q : Option Value → PS → Prop} {X : String → Nat → PS → Prop} {b : Nat} {h0 : Nat} {p1 : Nat} {σ : PS} (h : At G mX2_as 3 Q X b 0 [(0, .ref h0), (1, .ref p1)] [] σ) : Call G mX2_as 3 b [.ref h0, .ref p1] σ Q X :=
  Call.of (by decide +kernel) wsX2_as rfl (Nat.le_of_ble_eq_true rfl) (At.sub (ls := [(0, .ref h0), (1, .ref p1)]) [0, 1] rfl h)
set_option maxHeartbeats 4000000 in
theorem bX2_comes_0 {G : GC} {Q : Option Value → PS → Prop} {X : String → Nat → PS → Prop} {b : Nat} {h0 : Nat} {x1 : Int32} {x2 : Int32} {σ : PS} (h : ∃ x_many : Int32, Fg (σ) 2 h0 2 (.int x_many) ∧ (∃ fs : List Value, Ob (σ) 2 h0 fs ∧ 2 < fs.length ∧ (∀ s1 : PS, s1 = up (σ) 2 h0 (.inl (fs.set 2 (.int (x_many + 1)))) → At G mX2_comes 3 Q X b 12 [(0, .ref h0), (1, .int x1), (2, .int x2), (3, .int x_many)] [] s1))) : At G mX2_comes 3 Q X b 0 [(0, .ref h0), (1, .int x1), (2, .int x2)] [] (σ) := by
  refine g_aload_n dX2_comes_0 rfl 0 rfl ?_
  refine g_dup dX2_comes_1 rfl ?_
  obtain ⟨x_many, hf, h⟩ := h
  refine g_get 2 dX2_comes_2 in_X2 cl2 (by decide) q166 hf ?_
  refine g_dup_x1 dX2_comes_5 rfl rfl ?_
  refine g_iconst (v := 1) dX2_comes_6 (by decide) ?_
  refine g_iadd dX2_comes_7 ?_
  obtain ⟨fs, hO, hl, h⟩ := h
  refine g_put 2 dX2_comes_8 in_X2 tyX2 tyX2_ok nmX2 cl2 (by decide) q166 rfl rfl rfl hO hl ?_
  refine g_tops (fun s1 es1 => ?_)
  replace h := h s1 es1
  refine g_istore_n (ls1 := [(3, .int x_many), (0, .ref h0), (1, .int x1), (2, .int x2)]) dX2_comes_11 rfl (by decide) rfl ?_
  exact At.sub (ls := [(3, .int x_many), (0, .ref h0), (1, .int x1), (2, .int x2)]) [1, 2, 3, 0] rfl h
set_option maxHeartbeats 4000000 in
theorem bX2_comes_12 {G : GC} {Q : Option Value → PS → Prop} {X : String → Nat → PS → Prop} {b : Nat} {h0 : Nat} {x1 : Int32} {x2 : Int32} {x3 : Int32} {σ : PS} (h : ((x3 ≤ 0) → ∃ a_who : Nat, Fg (σ) 2 h0 0 (.ref a_who) ∧ (∃ (n : Nat) (f : Nat → Int32), Ia (σ) 100 a_who n f ∧ vp_in x3 n ∧ (∀ s1 : PS, s1 = up (σ) 100 a_who (.inr (n, .inl (upd f x3.toNatClampNeg x1))) → ∃ a_minute : Nat, Fg s1 2 h0 1 (.ref a_minute) ∧ (∃ (n_1 : Nat) (f_2 : Nat → Int32), Ia s1 100 a_minute n_1 f_2 ∧ vp_in x3 n_1 ∧ (∀ s1_3 : PS, s1_3 = up s1 100 a_minute (.inr (n_1, .inl (upd f_2 x3.toNatClampNeg x2))) → Q (some (.int x3)) s1_3))))) ∧ ((¬ x3 ≤ 0) → ∃ a_minute : Nat, Fg (σ) 2 h0 1 (.ref a_minute) ∧ (∃ (n : Nat) (f : Nat → Int32), Ia (σ) 100 a_minute n f ∧ vp_in ((x3 - 1)) n ∧ ((((f ((x3 - 1)).toNatClampNeg) ≤ x2) → ∃ a_who : Nat, Fg (σ) 2 h0 0 (.ref a_who) ∧ (∃ (n_4 : Nat) (f_5 : Nat → Int32), Ia (σ) 100 a_who n_4 f_5 ∧ vp_in x3 n_4 ∧ (∀ s1 : PS, s1 = up (σ) 100 a_who (.inr (n_4, .inl (upd f_5 x3.toNatClampNeg x1))) → ∃ a_minute_6 : Nat, Fg s1 2 h0 1 (.ref a_minute_6) ∧ (∃ (n_7 : Nat) (f_8 : Nat → Int32), Ia s1 100 a_minute_6 n_7 f_8 ∧ vp_in x3 n_7 ∧ (∀ s1_9 : PS, s1_9 = up s1 100 a_minute_6 (.inr (n_7, .inl (upd f_8 x3.toNatClampNeg x2))) → Q (some (.int x3)) s1_9))))) ∧ ((¬ (f ((x3 - 1)).toNatClampNeg) ≤ x2) → ∃ a_who : Nat, Fg (σ) 2 h0 0 (.ref a_who) ∧ (∃ a_who_10 : Nat, Fg (σ) 2 h0 0 (.ref a_who_10) ∧ (∃ (n_11 : Nat) (f_12 : Nat → Int32), Ia (σ) 100 a_who_10 n_11 f_12 ∧ vp_in ((x3 - 1)) n_11 ∧ (∃ (n_13 : Nat) (f_14 : Nat → Int32), Ia (σ) 100 a_who n_13 f_14 ∧ vp_in x3 n_13 ∧ (∀ s1 : PS, s1 = up (σ) 100 a_who (.inr (n_13, .inl (upd f_14 x3.toNatClampNeg ((f_12 ((x3 - 1)).toNatClampNeg))))) → ∃ a_minute_15 : Nat, Fg s1 2 h0 1 (.ref a_minute_15) ∧ (∃ a_minute_16 : Nat, Fg s1 2 h0 1 (.ref a_minute_16) ∧ (∃ (n_17 : Nat) (f_18 : Nat → Int32), Ia s1 100 a_minute_16 n_17 f_18 ∧ vp_in ((x3 - 1)) n_17 ∧ (∃ (n_19 : Nat) (f_20 : Nat → Int32), Ia s1 100 a_minute_15 n_19 f_20 ∧ vp_in x3 n_19 ∧ (∀ s1_21 : PS, s1_21 = up s1 100 a_minute_15 (.inr (n_19, .inl (upd f_20 x3.toNatClampNeg ((f_18 ((x3 - 1)).toNatClampNeg))))) → ∀ v3 : Int32, v3 = x3 + (-1) → At G mX2_comes 3 Q X b 12 [(0, .ref h0), (1, .int x1), (2, .int x2), (3, .int v3)] [] s1_21))))))))))))) : At G mX2_comes 3 Q X b 12 [(0, .ref h0), (1, .int x1), (2, .int x2), (3, .int x3)] [] (σ) := by
  refine g_iload_n dX2_comes_12 rfl 3 rfl ?_
  refine g_if_le (tgt := 62) dX2_comes_13 (by decide) (fun c => ?_) (fun c => ?_)
  · replace h := h.1 c
    refine g_aload_n dX2_comes_62 rfl 0 rfl ?_
    obtain ⟨a_who, hf, h⟩ := h
    refine g_get 0 dX2_comes_63 in_X2 cl2 (by decide) q159 hf ?_
    refine g_iload_n dX2_comes_66 rfl 3 rfl ?_
    refine g_iload_n dX2_comes_67 rfl 1 rfl ?_
    obtain ⟨n, f, h1, h2, h⟩ := h
    refine g_iast dX2_comes_68 h1 h2 ?_
    refine g_tops (fun s1 es1 => ?_)
    replace h := h s1 es1
    refine g_aload_n dX2_comes_69 rfl 0 rfl ?_
    obtain ⟨a_minute, hf, h⟩ := h
    refine g_get 1 dX2_comes_70 in_X2 cl2 (by decide) q163 hf ?_
    refine g_iload_n dX2_comes_73 rfl 3 rfl ?_
    refine g_iload_n dX2_comes_74 rfl 2 rfl ?_
    obtain ⟨n_1, f_2, h1, h2, h⟩ := h
    refine g_iast dX2_comes_75 h1 h2 ?_
    refine g_tops (fun s1_3 es1_3 => ?_)
    replace h := h s1_3 es1_3
    refine g_iload_n dX2_comes_76 rfl 3 rfl ?_
    exact g_iret rfl dX2_comes_77 h
  · replace h := h.2 c
    refine g_aload_n dX2_comes_16 rfl 0 rfl ?_
    obtain ⟨a_minute, hf, h⟩ := h
    refine g_get 1 dX2_comes_17 in_X2 cl2 (by decide) q163 hf ?_
    refine g_iload_n dX2_comes_20 rfl 3 rfl ?_
    refine g_iconst (v := 1) dX2_comes_21 (by decide) ?_
    refine g_isub dX2_comes_22 ?_
    obtain ⟨n, f, h1, h2, h⟩ := h
    refine g_iald dX2_comes_23 h1 h2 ?_
    refine g_iload_n dX2_comes_24 rfl 2 rfl ?_
    refine g_icmp_le (tgt := 62) dX2_comes_25 (by decide) (fun c => ?_) (fun c => ?_)
    · replace h := h.1 c
      refine g_aload_n dX2_comes_62 rfl 0 rfl ?_
      obtain ⟨a_who, hf, h⟩ := h
      refine g_get 0 dX2_comes_63 in_X2 cl2 (by decide) q159 hf ?_
      refine g_iload_n dX2_comes_66 rfl 3 rfl ?_
      refine g_iload_n dX2_comes_67 rfl 1 rfl ?_
      obtain ⟨n_4, f_5, h1, h2, h⟩ := h
      refine g_iast dX2_comes_68 h1 h2 ?_
      refine g_tops (fun s1 es1 => ?_)
      replace h := h s1 es1
      refine g_aload_n dX2_comes_69 rfl 0 rfl ?_
      obtain ⟨a_minute_6, hf, h⟩ := h
      refine g_get 1 dX2_comes_70 in_X2 cl2 (by decide) q163 hf ?_
      refine g_iload_n dX2_comes_73 rfl 3 rfl ?_
      refine g_iload_n dX2_comes_74 rfl 2 rfl ?_
      obtain ⟨n_7, f_8, h1, h2, h⟩ := h
      refine g_iast dX2_comes_75 h1 h2 ?_
      refine g_tops (fun s1_9 es1_9 => ?_)
      replace h := h s1_9 es1_9
      refine g_iload_n dX2_comes_76 rfl 3 rfl ?_
      exact g_iret rfl dX2_comes_77 h
    · replace h := h.2 c
      refine g_aload_n dX2_comes_28 rfl 0 rfl ?_
      obtain ⟨a_who, hf, h⟩ := h
      refine g_get 0 dX2_comes_29 in_X2 cl2 (by decide) q159 hf ?_
      refine g_iload_n dX2_comes_32 rfl 3 rfl ?_
      refine g_aload_n dX2_comes_33 rfl 0 rfl ?_
      obtain ⟨a_who_10, hf, h⟩ := h
      refine g_get 0 dX2_comes_34 in_X2 cl2 (by decide) q159 hf ?_
      refine g_iload_n dX2_comes_37 rfl 3 rfl ?_
      refine g_iconst (v := 1) dX2_comes_38 (by decide) ?_
      refine g_isub dX2_comes_39 ?_
      obtain ⟨n_11, f_12, h1, h2, h⟩ := h
      refine g_iald dX2_comes_40 h1 h2 ?_
      obtain ⟨n_13, f_14, h1, h2, h⟩ := h
      refine g_iast dX2_comes_41 h1 h2 ?_
      refine g_tops (fun s1 es1 => ?_)
      replace h := h s1 es1
      refine g_aload_n dX2_comes_42 rfl 0 rfl ?_
      obtain ⟨a_minute_15, hf, h⟩ := h
      refine g_get 1 dX2_comes_43 in_X2 cl2 (by decide) q163 hf ?_
      refine g_iload_n dX2_comes_46 rfl 3 rfl ?_
      refine g_aload_n dX2_comes_47 rfl 0 rfl ?_
      obtain ⟨a_minute_16, hf, h⟩ := h
      refine g_get 1 dX2_comes_48 in_X2 cl2 (by decide) q163 hf ?_
      refine g_iload_n dX2_comes_51 rfl 3 rfl ?_
      refine g_iconst (v := 1) dX2_comes_52 (by decide) ?_
      refine g_isub dX2_comes_53 ?_
      obtain ⟨n_17, f_18, h1, h2, h⟩ := h
      refine g_iald dX2_comes_54 h1 h2 ?_
      obtain ⟨n_19, f_20, h1, h2, h⟩ := h
      refine g_iast dX2_comes_55 h1 h2 ?_
      refine g_tops (fun s1_21 es1_21 => ?_)
      replace h := h s1_21 es1_21
      obtain ⟨v3, ev3⟩ : ∃ z : Int32, z = x3 + (-1) := ⟨_, rfl⟩
      refine g_iinc (v := v3) (ls1 := [(3, .int v3), (0, .ref h0), (1, .int x1), (2, .int x2)]) dX2_comes_56 3 rfl (by rw [ev3]; rfl) (by decide) rfl ?_
      replace h := h v3 ev3
      refine g_goto (tgt := 12) dX2_comes_59 (by decide) ?_
      exact At.sub (ls := [(3, .int v3), (0, .ref h0), (1, .int x1), (2, .int x2)]) [1, 2, 3, 0] rfl h
theorem eX2_comes {G : GC} {Q : Option Value → PS → Prop} {X : String → Nat → PS → Prop} {b : Nat} {h0 : Nat} {p1 : Int32} {p2 : Int32} {σ : PS} (h : At G mX2_comes 3 Q X b 0 [(0, .ref h0), (1, .int p1), (2, .int p2)] [] σ) : Call G mX2_comes 3 b [.ref h0, .int p1, .int p2] σ Q X :=
  Call.of (by decide +kernel) wsX2_comes rfl (Nat.le_of_ble_eq_true rfl) (At.sub (ls := [(0, .ref h0), (1, .int p1), (2, .int p2)]) [0, 1, 2] rfl h)
set_option maxHeartbeats 4000000 in
theorem bX2_of_0 {G : GC} {Q : Option Value → PS → Prop} {X : String → Nat → PS → Prop} {b : Nat} {h0 : Nat} {x1 : Int32} {σ : PS} (h : At G mX2_of 3 Q X b 4 [(0, .ref h0), (1, .int x1), (2, .int 0), (3, .int 0)] [] (σ)) : At G mX2_of 3 Q X b 0 [(0, .ref h0), (1, .int x1)] [] (σ) := by
  refine g_iconst (v := 0) dX2_of_0 (by decide) ?_
  refine g_istore_n (ls1 := [(2, .int 0), (0, .ref h0), (1, .int x1)]) dX2_of_1 rfl (by decide) rfl ?_
  refine g_iconst (v := 0) dX2_of_2 (by decide) ?_
  refine g_istore_n (ls1 := [(3, .int 0), (2, .int 0), (0, .ref h0), (1, .int x1)]) dX2_of_3 rfl (by decide) rfl ?_
  exact At.sub (ls := [(3, .int 0), (2, .int 0), (0, .ref h0), (1, .int x1)]) [2, 3, 1, 0] rfl h
set_option maxHeartbeats 4000000 in
theorem bX2_of_4 {G : GC} {Q : Option Value → PS → Prop} {X : String → Nat → PS → Prop} {b : Nat} {h0 : Nat} {x1 : Int32} {x2 : Int32} {x3 : Int32} {σ : PS} (h : ∃ x_many : Int32, Fg (σ) 2 h0 2 (.int x_many) ∧ (((x_many ≤ x3) → Q (some (.int x2)) (σ)) ∧ ((¬ x_many ≤ x3) → ∃ a_who : Nat, Fg (σ) 2 h0 0 (.ref a_who) ∧ (∃ (n : Nat) (f : Nat → Int32), Ia (σ) 100 a_who n f ∧ vp_in x3 n ∧ (((¬ (f x3.toNatClampNeg) = x1) → ∀ v3 : Int32, v3 = x3 + 1 → At G mX2_of 3 Q X b 4 [(0, .ref h0), (1, .int x1), (2, .int x2), (3, .int v3)] [] (σ)) ∧ (((f x3.toNatClampNeg) = x1) → ∀ v2 : Int32, v2 = x2 + 1 → ∀ v3 : Int32, v3 = x3 + 1 → At G mX2_of 3 Q X b 4 [(0, .ref h0), (1, .int x1), (2, .int v2), (3, .int v3)] [] (σ))))))) : At G mX2_of 3 Q X b 4 [(0, .ref h0), (1, .int x1), (2, .int x2), (3, .int x3)] [] (σ) := by
  refine g_iload_n dX2_of_4 rfl 3 rfl ?_
  refine g_aload_n dX2_of_5 rfl 0 rfl ?_
  obtain ⟨x_many, hf, h⟩ := h
  refine g_get 2 dX2_of_6 in_X2 cl2 (by decide) q166 hf ?_
  refine g_icmp_ge (tgt := 31) dX2_of_9 (by decide) (fun c => ?_) (fun c => ?_)
  · replace h := h.1 c
    refine g_iload_n dX2_of_31 rfl 2 rfl ?_
    exact g_iret rfl dX2_of_32 h
  · replace h := h.2 c
    refine g_aload_n dX2_of_12 rfl 0 rfl ?_
    obtain ⟨a_who, hf, h⟩ := h
    refine g_get 0 dX2_of_13 in_X2 cl2 (by decide) q159 hf ?_
    refine g_iload_n dX2_of_16 rfl 3 rfl ?_
    obtain ⟨n, f, h1, h2, h⟩ := h
    refine g_iald dX2_of_17 h1 h2 ?_
    refine g_iload_n dX2_of_18 rfl 1 rfl ?_
    refine g_icmp_ne (tgt := 25) dX2_of_19 (by decide) (fun c => ?_) (fun c => ?_)
    · replace h := h.1 c
      obtain ⟨v3, ev3⟩ : ∃ z : Int32, z = x3 + 1 := ⟨_, rfl⟩
      refine g_iinc (v := v3) (ls1 := [(3, .int v3), (0, .ref h0), (1, .int x1), (2, .int x2)]) dX2_of_25 3 rfl (by rw [ev3]; rfl) (by decide) rfl ?_
      replace h := h v3 ev3
      refine g_goto (tgt := 4) dX2_of_28 (by decide) ?_
      exact At.sub (ls := [(3, .int v3), (0, .ref h0), (1, .int x1), (2, .int x2)]) [1, 2, 3, 0] rfl h
    · replace h := h.2 c
      obtain ⟨v2, ev2⟩ : ∃ z : Int32, z = x2 + 1 := ⟨_, rfl⟩
      refine g_iinc (v := v2) (ls1 := [(2, .int v2), (0, .ref h0), (1, .int x1), (3, .int x3)]) dX2_of_22 2 rfl (by rw [ev2]; rfl) (by decide) rfl ?_
      replace h := h v2 ev2
      obtain ⟨v3, ev3⟩ : ∃ z : Int32, z = x3 + 1 := ⟨_, rfl⟩
      refine g_iinc (v := v3) (ls1 := [(3, .int v3), (2, .int v2), (0, .ref h0), (1, .int x1)]) dX2_of_25 3 rfl (by rw [ev3]; rfl) (by decide) rfl ?_
      replace h := h v3 ev3
      refine g_goto (tgt := 4) dX2_of_28 (by decide) ?_
      exact At.sub (ls := [(3, .int v3), (2, .int v2), (0, .ref h0), (1, .int x1)]) [2, 3, 1, 0] rfl h
theorem eX2_of {G : GC} {Q : Option Value → PS → Prop} {X : String → Nat → PS → Prop} {b : Nat} {h0 : Nat} {p1 : Int32} {σ : PS} (h : At G mX2_of 3 Q X b 0 [(0, .ref h0), (1, .int p1)] [] σ) : Call G mX2_of 3 b [.ref h0, .int p1] σ Q X :=
  Call.of (by decide +kernel) wsX2_of rfl (Nat.le_of_ble_eq_true rfl) (At.sub (ls := [(0, .ref h0), (1, .int p1)]) [0, 1] rfl h)
set_option maxHeartbeats 4000000 in
theorem bX2_first_0 {G : GC} {Q : Option Value → PS → Prop} {X : String → Nat → PS → Prop} {b : Nat} {h0 : Nat} {x1 : Int32} {σ : PS} (h : At G mX2_first 3 Q X b 2 [(0, .ref h0), (1, .int x1), (2, .int 0)] [] (σ)) : At G mX2_first 3 Q X b 0 [(0, .ref h0), (1, .int x1)] [] (σ) := by
  refine g_iconst (v := 0) dX2_first_0 (by decide) ?_
  refine g_istore_n (ls1 := [(2, .int 0), (0, .ref h0), (1, .int x1)]) dX2_first_1 rfl (by decide) rfl ?_
  exact At.sub (ls := [(2, .int 0), (0, .ref h0), (1, .int x1)]) [1, 2, 0] rfl h
set_option maxHeartbeats 4000000 in
theorem bX2_first_2 {G : GC} {Q : Option Value → PS → Prop} {X : String → Nat → PS → Prop} {b : Nat} {h0 : Nat} {x1 : Int32} {x2 : Int32} {σ : PS} (h : ∃ x_many : Int32, Fg (σ) 2 h0 2 (.int x_many) ∧ (((x_many ≤ x2) → Q (some (.int (-1))) (σ)) ∧ ((¬ x_many ≤ x2) → ∃ a_who : Nat, Fg (σ) 2 h0 0 (.ref a_who) ∧ (∃ (n : Nat) (f : Nat → Int32), Ia (σ) 100 a_who n f ∧ vp_in x2 n ∧ (((¬ (f x2.toNatClampNeg) = x1) → ∀ v2 : Int32, v2 = x2 + 1 → At G mX2_first 3 Q X b 2 [(0, .ref h0), (1, .int x1), (2, .int v2)] [] (σ)) ∧ (((f x2.toNatClampNeg) = x1) → Q (some (.int x2)) (σ))))))) : At G mX2_first 3 Q X b 2 [(0, .ref h0), (1, .int x1), (2, .int x2)] [] (σ) := by
  refine g_iload_n dX2_first_2 rfl 2 rfl ?_
  refine g_aload_n dX2_first_3 rfl 0 rfl ?_
  obtain ⟨x_many, hf, h⟩ := h
  refine g_get 2 dX2_first_4 in_X2 cl2 (by decide) q166 hf ?_
  refine g_icmp_ge (tgt := 28) dX2_first_7 (by decide) (fun c => ?_) (fun c => ?_)
  · replace h := h.1 c
    refine g_iconst (v := (-1)) dX2_first_28 (by decide) ?_
    exact g_iret rfl dX2_first_29 h
  · replace h := h.2 c
    refine g_aload_n dX2_first_10 rfl 0 rfl ?_
    obtain ⟨a_who, hf, h⟩ := h
    refine g_get 0 dX2_first_11 in_X2 cl2 (by decide) q159 hf ?_
    refine g_iload_n dX2_first_14 rfl 2 rfl ?_
    obtain ⟨n, f, h1, h2, h⟩ := h
    refine g_iald dX2_first_15 h1 h2 ?_
    refine g_iload_n dX2_first_16 rfl 1 rfl ?_
    refine g_icmp_ne (tgt := 22) dX2_first_17 (by decide) (fun c => ?_) (fun c => ?_)
    · replace h := h.1 c
      obtain ⟨v2, ev2⟩ : ∃ z : Int32, z = x2 + 1 := ⟨_, rfl⟩
      refine g_iinc (v := v2) (ls1 := [(2, .int v2), (0, .ref h0), (1, .int x1)]) dX2_first_22 2 rfl (by rw [ev2]; rfl) (by decide) rfl ?_
      replace h := h v2 ev2
      refine g_goto (tgt := 2) dX2_first_25 (by decide) ?_
      exact At.sub (ls := [(2, .int v2), (0, .ref h0), (1, .int x1)]) [1, 2, 0] rfl h
    · replace h := h.2 c
      refine g_iload_n dX2_first_20 rfl 2 rfl ?_
      exact g_iret rfl dX2_first_21 h
theorem eX2_first {G : GC} {Q : Option Value → PS → Prop} {X : String → Nat → PS → Prop} {b : Nat} {h0 : Nat} {p1 : Int32} {σ : PS} (h : At G mX2_first 3 Q X b 0 [(0, .ref h0), (1, .int p1)] [] σ) : Call G mX2_first 3 b [.ref h0, .int p1] σ Q X :=
  Call.of (by decide +kernel) wsX2_first rfl (Nat.le_of_ble_eq_true rfl) (At.sub (ls := [(0, .ref h0), (1, .int p1)]) [0, 1] rfl h)
set_option maxHeartbeats 4000000 in
theorem bX2_skips_0 {G : GC} {Q : Option Value → PS → Prop} {X : String → Nat → PS → Prop} {b : Nat} {h0 : Nat} {x1 : Int32} {σ : PS} (h : ∃ x_many : Int32, Fg (σ) 2 h0 2 (.int x_many) ∧ (∃ fs : List Value, Ob (σ) 2 h0 fs ∧ 2 < fs.length ∧ (∀ s1 : PS, s1 = up (σ) 2 h0 (.inl (fs.set 2 (.int (x_many - 1)))) → At G mX2_skips 3 Q X b 12 [(0, .ref h0), (2, .int x1)] [] s1))) : At G mX2_skips 3 Q X b 0 [(0, .ref h0), (1, .int x1)] [] (σ) := by
  refine g_aload_n dX2_skips_0 rfl 0 rfl ?_
  refine g_dup dX2_skips_1 rfl ?_
  obtain ⟨x_many, hf, h⟩ := h
  refine g_get 2 dX2_skips_2 in_X2 cl2 (by decide) q166 hf ?_
  refine g_iconst (v := 1) dX2_skips_5 (by decide) ?_
  refine g_isub dX2_skips_6 ?_
  obtain ⟨fs, hO, hl, h⟩ := h
  refine g_put 2 dX2_skips_7 in_X2 tyX2 tyX2_ok nmX2 cl2 (by decide) q166 rfl rfl rfl hO hl ?_
  refine g_tops (fun s1 es1 => ?_)
  replace h := h s1 es1
  refine g_iload_n dX2_skips_10 rfl 1 rfl ?_
  refine g_istore_n (ls1 := [(2, .int x1), (0, .ref h0), (1, .int x1)]) dX2_skips_11 rfl (by decide) rfl ?_
  exact At.sub (ls := [(2, .int x1), (0, .ref h0), (1, .int x1)]) [1, 0] rfl h
set_option maxHeartbeats 4000000 in
theorem bX2_skips_12 {G : GC} {Q : Option Value → PS → Prop} {X : String → Nat → PS → Prop} {b : Nat} {h0 : Nat} {x2 : Int32} {σ : PS} (h : ∃ x_many : Int32, Fg (σ) 2 h0 2 (.int x_many) ∧ (((x_many ≤ x2) → Q none (σ)) ∧ ((¬ x_many ≤ x2) → ∃ a_who : Nat, Fg (σ) 2 h0 0 (.ref a_who) ∧ (∃ a_who_1 : Nat, Fg (σ) 2 h0 0 (.ref a_who_1) ∧ (∃ (n : Nat) (f : Nat → Int32), Ia (σ) 100 a_who_1 n f ∧ vp_in ((x2 + 1)) n ∧ (∃ (n_2 : Nat) (f_3 : Nat → Int32), Ia (σ) 100 a_who n_2 f_3 ∧ vp_in x2 n_2 ∧ (∀ s1 : PS, s1 = up (σ) 100 a_who (.inr (n_2, .inl (upd f_3 x2.toNatClampNeg ((f ((x2 + 1)).toNatClampNeg))))) → ∃ a_minute : Nat, Fg s1 2 h0 1 (.ref a_minute) ∧ (∃ a_minute_4 : Nat, Fg s1 2 h0 1 (.ref a_minute_4) ∧ (∃ (n_5 : Nat) (f_6 : Nat → Int32), Ia s1 100 a_minute_4 n_5 f_6 ∧ vp_in ((x2 + 1)) n_5 ∧ (∃ (n_7 : Nat) (f_8 : Nat → Int32), Ia s1 100 a_minute n_7 f_8 ∧ vp_in x2 n_7 ∧ (∀ s1_9 : PS, s1_9 = up s1 100 a_minute (.inr (n_7, .inl (upd f_8 x2.toNatClampNeg ((f_6 ((x2 + 1)).toNatClampNeg))))) → ∀ v2 : Int32, v2 = x2 + 1 → At G mX2_skips 3 Q X b 12 [(0, .ref h0), (2, .int v2)] [] s1_9))))))))))) : At G mX2_skips 3 Q X b 12 [(0, .ref h0), (2, .int x2)] [] (σ) := by
  refine g_iload_n dX2_skips_12 rfl 1 rfl ?_
  refine g_aload_n dX2_skips_13 rfl 0 rfl ?_
  obtain ⟨x_many, hf, h⟩ := h
  refine g_get 2 dX2_skips_14 in_X2 cl2 (by decide) q166 hf ?_
  refine g_icmp_ge (tgt := 54) dX2_skips_17 (by decide) (fun c => ?_) (fun c => ?_)
  · replace h := h.1 c
    exact g_vret rfl dX2_skips_54 h
  · replace h := h.2 c
    refine g_aload_n dX2_skips_20 rfl 0 rfl ?_
    obtain ⟨a_who, hf, h⟩ := h
    refine g_get 0 dX2_skips_21 in_X2 cl2 (by decide) q159 hf ?_
    refine g_iload_n dX2_skips_24 rfl 1 rfl ?_
    refine g_aload_n dX2_skips_25 rfl 0 rfl ?_
    obtain ⟨a_who_1, hf, h⟩ := h
    refine g_get 0 dX2_skips_26 in_X2 cl2 (by decide) q159 hf ?_
    refine g_iload_n dX2_skips_29 rfl 1 rfl ?_
    refine g_iconst (v := 1) dX2_skips_30 (by decide) ?_
    refine g_iadd dX2_skips_31 ?_
    obtain ⟨n, f, h1, h2, h⟩ := h
    refine g_iald dX2_skips_32 h1 h2 ?_
    obtain ⟨n_2, f_3, h1, h2, h⟩ := h
    refine g_iast dX2_skips_33 h1 h2 ?_
    refine g_tops (fun s1 es1 => ?_)
    replace h := h s1 es1
    refine g_aload_n dX2_skips_34 rfl 0 rfl ?_
    obtain ⟨a_minute, hf, h⟩ := h
    refine g_get 1 dX2_skips_35 in_X2 cl2 (by decide) q163 hf ?_
    refine g_iload_n dX2_skips_38 rfl 1 rfl ?_
    refine g_aload_n dX2_skips_39 rfl 0 rfl ?_
    obtain ⟨a_minute_4, hf, h⟩ := h
    refine g_get 1 dX2_skips_40 in_X2 cl2 (by decide) q163 hf ?_
    refine g_iload_n dX2_skips_43 rfl 1 rfl ?_
    refine g_iconst (v := 1) dX2_skips_44 (by decide) ?_
    refine g_iadd dX2_skips_45 ?_
    obtain ⟨n_5, f_6, h1, h2, h⟩ := h
    refine g_iald dX2_skips_46 h1 h2 ?_
    obtain ⟨n_7, f_8, h1, h2, h⟩ := h
    refine g_iast dX2_skips_47 h1 h2 ?_
    refine g_tops (fun s1_9 es1_9 => ?_)
    replace h := h s1_9 es1_9
    obtain ⟨v2, ev2⟩ : ∃ z : Int32, z = x2 + 1 := ⟨_, rfl⟩
    refine g_iinc (v := v2) (ls1 := [(2, .int v2), (0, .ref h0)]) dX2_skips_48 1 rfl (by rw [ev2]; rfl) (by decide) rfl ?_
    replace h := h v2 ev2
    refine g_goto (tgt := 12) dX2_skips_51 (by decide) ?_
    exact At.sub (ls := [(2, .int v2), (0, .ref h0)]) [1, 0] rfl h
theorem eX2_skips {G : GC} {Q : Option Value → PS → Prop} {X : String → Nat → PS → Prop} {b : Nat} {h0 : Nat} {p1 : Int32} {σ : PS} (h : At G mX2_skips 3 Q X b 0 [(0, .ref h0), (1, .int p1)] [] σ) : Call G mX2_skips 3 b [.ref h0, .int p1] σ Q X :=
  Call.of (by decide +kernel) wsX2_skips rfl (Nat.le_of_ble_eq_true rfl) (At.sub (ls := [(0, .ref h0), (1, .int p1)]) [0, 1] rfl h)
set_option maxHeartbeats 4000000 in
theorem bX26_init_0 {G : GC} {Q : Option Value → PS → Prop} {X : String → Nat → PS → Prop} {b : Nat} {h0 : Nat} {a1 : Nat} {a2 : Nat} {x3 : Int32} {σ : PS} (h : ∃ fs : List Value, Ob (σ) 26 h0 fs ∧ 0 < fs.length ∧ (∀ s1 : PS, s1 = up (σ) 26 h0 (.inl (fs.set 0 (.ref a1))) → ∃ fs_1 : List Value, Ob s1 26 h0 fs_1 ∧ 1 < fs_1.length ∧ (∀ s1_2 : PS, s1_2 = up s1 26 h0 (.inl (fs_1.set 1 (.ref a2))) → ∃ fs_3 : List Value, Ob s1_2 26 h0 fs_3 ∧ 2 < fs_3.length ∧ (∀ s1_4 : PS, s1_4 = up s1_2 26 h0 (.inl (fs_3.set 2 (.int x3))) → (∃ fs_13 : List Value, Ob s1_4 2 a2 fs_13) ∧ CallO G mX2_count 3 [.ref a2, .int x3] s1_4 (pI (fun rx => ∃ fs_6 : List Value, Ob s1_4 26 h0 fs_6 ∧ 3 < fs_6.length ∧ (∀ s1_7 : PS, s1_7 = up s1_4 26 h0 (.inl (fs_6.set 3 (.int rx))) → (∃ fs_12 : List Value, Ob s1_7 2 a2 fs_12) ∧ CallO G mX2_last 3 [.ref a2, .int x3] s1_7 (pI (fun rx_9 => ∃ fs_10 : List Value, Ob s1_7 26 h0 fs_10 ∧ 4 < fs_10.length ∧ (∀ s1_11 : PS, s1_11 = up s1_7 26 h0 (.inl (fs_10.set 4 (.int rx_9))) → Q none s1_11)))))))))) : At G mX26_init 4 Q X b 0 [(0, .ref h0), (1, .ref a1), (2, .ref a2), (3, .int x3)] [] (σ) := by
  refine g_aload_n dX26_init_0 rfl 0 rfl ?_
  refine g_objInit dX26_init_1 q549 q151 q152 (by decide) (Nat.zero_le _) ?_
  refine g_aload_n dX26_init_4 rfl 0 rfl ?_
  refine g_aload_n dX26_init_5 rfl 1 rfl ?_
  obtain ⟨fs, hO, hl, h⟩ := h
  refine g_putF 0 dX26_init_6 in_X26 tyX26 tyX26_ok nmX26 cl26 (by decide) q558 rfl rfl rfl rfl rfl hO hl ?_
  refine g_tops (fun s1 es1 => ?_)
  replace h := h s1 es1
  refine g_aload_n dX26_init_9 rfl 0 rfl ?_
  refine g_aload_n dX26_init_10 rfl 2 rfl ?_
  obtain ⟨fs_1, hO, hl, h⟩ := h
  refine g_putF 1 dX26_init_11 in_X26 tyX26 tyX26_ok nmX26 cl26 (by decide) q559 rfl rfl rfl rfl rfl hO hl ?_
  refine g_tops (fun s1_2 es1_2 => ?_)
  replace h := h s1_2 es1_2
  refine g_aload_n dX26_init_14 rfl 0 rfl ?_
  refine g_iload_n dX26_init_15 rfl 3 rfl ?_
  obtain ⟨fs_3, hO, hl, h⟩ := h
  refine g_putF 2 dX26_init_16 in_X26 tyX26 tyX26_ok nmX26 cl26 (by decide) q560 rfl rfl rfl rfl rfl hO hl ?_
  refine g_tops (fun s1_4 es1_4 => ?_)
  replace h := h s1_4 es1_4
  refine g_aload_n dX26_init_19 rfl 0 rfl ?_
  refine g_aload_n dX26_init_20 rfl 2 rfl ?_
  refine g_iload_n dX26_init_21 rfl 3 rfl ?_
  obtain ⟨⟨_, hO⟩, h⟩ := h
  refine g_callV (N := mX2_count) (st := [.ref h0]) (As := [.int x3]) (a := a2) dX26_init_22 wsX2_count (lw_V q550 q551 q552 q109 q553) rfl mokX2_count rfl cl2 (by decide) (by decide) (Nat.zero_le _) (by simp [Value.category]) hO h (fun E q s hx => AtX.never hx) (fun _ s1_5 hq => ?_)
  obtain ⟨es, hq⟩ := hq
  refine g_tops2 es ?_
  obtain ⟨rx, rfl, h⟩ := hq
  refine At.stk (st' := [.int rx, .ref h0]) rfl ?_
  obtain ⟨fs_6, hO, hl, h⟩ := h
  refine g_putF 3 dX26_init_25 in_X26 tyX26 tyX26_ok nmX26 cl26 (by decide) q562 rfl rfl rfl rfl rfl hO hl ?_
  refine g_tops (fun s1_7 es1_7 => ?_)
  replace h := h s1_7 es1_7
  refine g_aload_n dX26_init_28 rfl 0 rfl ?_
  refine g_aload_n dX26_init_29 rfl 2 rfl ?_
  refine g_iload_n dX26_init_30 rfl 3 rfl ?_
  obtain ⟨⟨_, hO⟩, h⟩ := h
  refine g_callV (N := mX2_last) (st := [.ref h0]) (As := [.int x3]) (a := a2) dX26_init_31 wsX2_last (lw_V q554 q555 q556 q109 q557) rfl mokX2_last rfl cl2 (by decide) (by decide) (Nat.zero_le _) (by simp [Value.category]) hO h (fun E q s hx => AtX.never hx) (fun _ s1_8 hq => ?_)
  obtain ⟨es, hq⟩ := hq
  refine g_tops2 es ?_
  obtain ⟨rx_9, rfl, h⟩ := hq
  refine At.stk (st' := [.int rx_9, .ref h0]) rfl ?_
  obtain ⟨fs_10, hO, hl, h⟩ := h
  refine g_putF 4 dX26_init_34 in_X26 tyX26 tyX26_ok nmX26 cl26 (by decide) q563 rfl rfl rfl rfl rfl hO hl ?_
  refine g_tops (fun s1_11 es1_11 => ?_)
  replace h := h s1_11 es1_11
  exact g_vret rfl dX26_init_37 h
theorem eX26_init {G : GC} {Q : Option Value → PS → Prop} {X : String → Nat → PS → Prop} {b : Nat} {h0 : Nat} {p1 : Nat} {p2 : Nat} {p3 : Int32} {σ : PS} (h : At G mX26_init 4 Q X b 0 [(0, .ref h0), (1, .ref p1), (2, .ref p2), (3, .int p3)] [] σ) : Call G mX26_init 4 b [.ref h0, .ref p1, .ref p2, .int p3] σ Q X :=
  Call.of (by decide +kernel) wsX26_init rfl (Nat.le_of_ble_eq_true rfl) (At.sub (ls := [(0, .ref h0), (1, .ref p1), (2, .ref p2), (3, .int p3)]) [0, 1, 2, 3] rfl h)
set_option maxHeartbeats 4000000 in
theorem bX26_at_0 {G : GC} {Q : Option Value → PS → Prop} {X : String → Nat → PS → Prop} {b : Nat} {h0 : Nat} {a1 : Nat} {σ : PS} (h : ∃ fs : List Value, Ob (σ) 26 h0 fs ∧ 5 < fs.length ∧ (∀ s1 : PS, s1 = up (σ) 26 h0 (.inl (fs.set 5 (.ref a1))) → Q (some (.ref h0)) s1)) : At G mX26_at 3 Q X b 0 [(0, .ref h0), (1, .ref a1)] [] (σ) := by
  refine g_aload_n dX26_at_0 rfl 0 rfl ?_
  refine g_aload_n dX26_at_1 rfl 1 rfl ?_
  obtain ⟨fs, hO, hl, h⟩ := h
  refine g_put 5 dX26_at_2 in_X26 tyX26 tyX26_ok nmX26 cl26 (by decide) q564 rfl rfl rfl hO hl ?_
  refine g_tops (fun s1 es1 => ?_)
  replace h := h s1 es1
  refine g_aload_n dX26_at_5 rfl 0 rfl ?_
  exact g_aret (x := (some h0)) rfl dX26_at_6 h
theorem eX26_at {G : GC} {Q : Option Value → PS → Prop} {X : String → Nat → PS → Prop} {b : Nat} {h0 : Nat} {p1 : Nat} {σ : PS} (h : At G mX26_at 3 Q X b 0 [(0, .ref h0), (1, .ref p1)] [] σ) : Call G mX26_at 3 b [.ref h0, .ref p1] σ Q X :=
  Call.of (by decide +kernel) wsX26_at rfl (Nat.le_of_ble_eq_true rfl) (At.sub (ls := [(0, .ref h0), (1, .ref p1)]) [0, 1] rfl h)
set_option maxHeartbeats 4000000 in
theorem bX26_known_0 {G : GC} {Q : Option Value → PS → Prop} {X : String → Nat → PS → Prop} {b : Nat} {h0 : Nat} {x1 : Int32} {σ : PS} (h : (x1.toInt < 0 ∨ 6 < x1.toInt → ∃ x_count : Int32, Fg (σ) 26 h0 3 (.int x_count) ∧ (Q (some (.int x_count)) (σ))) ∧ (x1 = 0 → ∃ a_state : Nat, Fg (σ) 26 h0 5 (.ref a_state) ∧ (∃ x_card : Int32, Fg (σ) 4 a_state 3 (.int x_card) ∧ (Q (some (.int x_card)) (σ)))) ∧ (x1 = 1 → (∃ fs : List Value, Ob (σ) 26 h0 fs) ∧ CallO G mX26_isWarm 3 [.ref h0] (σ) (pI (fun rx => ((rx = 0) → Q (some (.int 0)) (σ)) ∧ ((¬ rx = 0) → Q (some (.int 1)) (σ))))) ∧ (x1 = 2 → ∃ a_state : Nat, Fg (σ) 26 h0 5 (.ref a_state) ∧ ((∃ fs : List Value, Ob (σ) 4 a_state fs) ∧ CallO G mX4_in 3 [.ref a_state] (σ) (pI (fun rx => Q (some (.int rx)) (σ))))) ∧ (x1 = 3 → ∃ a_office : Nat, Fg (σ) 26 h0 0 (.ref a_office) ∧ (∃ x_cups : Int32, Fg (σ) 7 a_office 1 (.int x_cups) ∧ (∃ a_state : Nat, Fg (σ) 26 h0 5 (.ref a_state) ∧ ((∃ fs : List Value, Ob (σ) 4 a_state fs) ∧ CallO G mX4_in 3 [.ref a_state] (σ) (pI (fun rx => Q (some (.int (x_cups - rx))) (σ))))))) ∧ (x1 = 4 → ∃ a_calendar : Nat, Fg (σ) 26 h0 1 (.ref a_calendar) ∧ (∃ a_minute : Nat, Fg (σ) 2 a_calendar 1 (.ref a_minute) ∧ (∃ x_visit : Int32, Fg (σ) 26 h0 2 (.int x_visit) ∧ (∃ (n : Nat) (f : Nat → Int32), Ia (σ) 100 a_minute n f ∧ vp_in x_visit n ∧ (Q (some (.int (f x_visit.toNatClampNeg))) (σ)))))) ∧ (x1 = 5 → ∃ a_state : Nat, Fg (σ) 26 h0 5 (.ref a_state) ∧ (∃ x_seen : Int32, Fg (σ) 4 a_state 4 (.int x_seen) ∧ (Q (some (.int x_seen)) (σ)))) ∧ (x1 = 6 → ∃ x_last : Int32, Fg (σ) 26 h0 4 (.int x_last) ∧ (Q (some (.int x_last)) (σ)))) : At G mX26_known 4 Q X b 0 [(0, .ref h0), (1, .int x1)] [] (σ) := by
  refine g_iload_n dX26_known_0 rfl 1 rfl ?_
  rcases tb_split x1 0 7 with ho | ⟨i9, hi9, ex9⟩
  · refine g_tableOut (tgt := 115) dX26_known_1 (by omega) (by decide) ?_
    replace h := h.1 ho
    refine g_aload_n dX26_known_115 rfl 0 rfl ?_
    obtain ⟨x_count, hf, h⟩ := h
    refine g_get 3 dX26_known_116 in_X26 cl26 (by decide) q562 hf ?_
    exact g_iret rfl dX26_known_119 h
  · replace h := h.2
    match i9, hi9, ex9 with
    | 0, _, ex9 =>
      have ex9 : x1 = 0 := ex9.trans (by decide)
      replace h := h.1 ex9
      refine g_tableIn (tgt := 44) dX26_known_1 (by rw [ex9]; decide) (by rw [ex9]; decide) (off := 43) (by rw [ex9]; decide) (by decide) ?_
      refine g_aload_n dX26_known_44 rfl 0 rfl ?_
      obtain ⟨a_state, hf, h⟩ := h
      refine g_get 5 dX26_known_45 in_X26 cl26 (by decide) q564 hf ?_
      obtain ⟨x_card, hf, h⟩ := h
      refine g_getN 3 dX26_known_48 in_X4 cl4 (by decide) q216 hf ?_
      exact g_iret rfl dX26_known_51 h
    | 1, _, ex9 =>
      have ex9 : x1 = 1 := ex9.trans (by decide)
      replace h := h.2.1 ex9
      refine g_tableIn (tgt := 52) dX26_known_1 (by rw [ex9]; decide) (by rw [ex9]; decide) (off := 51) (by rw [ex9]; decide) (by decide) ?_
      refine g_aload_n dX26_known_52 rfl 0 rfl ?_
      obtain ⟨⟨_, hO⟩, h⟩ := h
      refine g_callV (N := mX26_isWarm) (st := []) (As := []) (a := h0) dX26_known_53 wsX26_isWarm (lw_V q614 q615 q616 q144 q617) rfl mokX26_isWarm rfl cl26 (by decide) (by decide) (Nat.zero_le _) (Nat.zero_le _) hO h (fun E q s hx => AtX.never hx) (fun _ s1 hq => ?_)
      obtain ⟨es, hq⟩ := hq
      refine g_tops2 es ?_
      obtain ⟨rx, rfl, h⟩ := hq
      refine At.stk (st' := [.int rx]) rfl ?_
      refine g_if_eq (tgt := 63) dX26_known_56 (by decide) (fun c => ?_) (fun c => ?_)
      · replace h := h.1 c
        refine g_iconst (v := 0) dX26_known_63 (by decide) ?_
        exact g_iret rfl dX26_known_64 h
      · replace h := h.2 c
        refine g_iconst (v := 1) dX26_known_59 (by decide) ?_
        refine g_goto (tgt := 64) dX26_known_60 (by decide) ?_
        exact g_iret rfl dX26_known_64 h
    | 2, _, ex9 =>
      have ex9 : x1 = 2 := ex9.trans (by decide)
      replace h := h.2.2.1 ex9
      refine g_tableIn (tgt := 65) dX26_known_1 (by rw [ex9]; decide) (by rw [ex9]; decide) (off := 64) (by rw [ex9]; decide) (by decide) ?_
      refine g_aload_n dX26_known_65 rfl 0 rfl ?_
      obtain ⟨a_state, hf, h⟩ := h
      refine g_get 5 dX26_known_66 in_X26 cl26 (by decide) q564 hf ?_
      obtain ⟨⟨_, hO⟩, h⟩ := h
      refine g_callV (N := mX4_in) (st := []) (As := []) (a := a_state) dX26_known_69 wsX4_in (lw_V q618 q619 q620 q111 q621) rfl mokX4_in rfl cl4 (by decide) (by decide) (Nat.zero_le _) (Nat.zero_le _) hO h (fun E q s hx => AtX.never hx) (fun _ s1 hq => ?_)
      obtain ⟨es, hq⟩ := hq
      refine g_tops2 es ?_
      obtain ⟨rx, rfl, h⟩ := hq
      refine At.stk (st' := [.int rx]) rfl ?_
      exact g_iret rfl dX26_known_72 h
    | 3, _, ex9 =>
      have ex9 : x1 = 3 := ex9.trans (by decide)
      replace h := h.2.2.2.1 ex9
      refine g_tableIn (tgt := 73) dX26_known_1 (by rw [ex9]; decide) (by rw [ex9]; decide) (off := 72) (by rw [ex9]; decide) (by decide) ?_
      refine g_aload_n dX26_known_73 rfl 0 rfl ?_
      obtain ⟨a_office, hf, h⟩ := h
      refine g_get 0 dX26_known_74 in_X26 cl26 (by decide) q558 hf ?_
      obtain ⟨x_cups, hf, h⟩ := h
      refine g_getN 1 dX26_known_77 in_X7 cl7 (by decide) q381 hf ?_
      refine g_aload_n dX26_known_80 rfl 0 rfl ?_
      obtain ⟨a_state, hf, h⟩ := h
      refine g_get 5 dX26_known_81 in_X26 cl26 (by decide) q564 hf ?_
      obtain ⟨⟨_, hO⟩, h⟩ := h
      refine g_callV (N := mX4_in) (st := [.int x_cups]) (As := []) (a := a_state) dX26_known_84 wsX4_in (lw_V q618 q619 q620 q111 q621) rfl mokX4_in rfl cl4 (by decide) (by decide) (Nat.zero_le _) (by simp [Value.category]) hO h (fun E q s hx => AtX.never hx) (fun _ s1 hq => ?_)
      obtain ⟨es, hq⟩ := hq
      refine g_tops2 es ?_
      obtain ⟨rx, rfl, h⟩ := hq
      refine At.stk (st' := [.int rx, .int x_cups]) rfl ?_
      refine g_isub dX26_known_87 ?_
      exact g_iret rfl dX26_known_88 h
    | 4, _, ex9 =>
      have ex9 : x1 = 4 := ex9.trans (by decide)
      replace h := h.2.2.2.2.1 ex9
      refine g_tableIn (tgt := 89) dX26_known_1 (by rw [ex9]; decide) (by rw [ex9]; decide) (off := 88) (by rw [ex9]; decide) (by decide) ?_
      refine g_aload_n dX26_known_89 rfl 0 rfl ?_
      obtain ⟨a_calendar, hf, h⟩ := h
      refine g_get 1 dX26_known_90 in_X26 cl26 (by decide) q559 hf ?_
      obtain ⟨a_minute, hf, h⟩ := h
      refine g_getN 1 dX26_known_93 in_X2 cl2 (by decide) q164 hf ?_
      refine g_aload_n dX26_known_96 rfl 0 rfl ?_
      obtain ⟨x_visit, hf, h⟩ := h
      refine g_get 2 dX26_known_97 in_X26 cl26 (by decide) q560 hf ?_
      obtain ⟨n, f, h1, h2, h⟩ := h
      refine g_iald dX26_known_100 h1 h2 ?_
      exact g_iret rfl dX26_known_101 h
    | 5, _, ex9 =>
      have ex9 : x1 = 5 := ex9.trans (by decide)
      replace h := h.2.2.2.2.2.1 ex9
      refine g_tableIn (tgt := 102) dX26_known_1 (by rw [ex9]; decide) (by rw [ex9]; decide) (off := 101) (by rw [ex9]; decide) (by decide) ?_
      refine g_aload_n dX26_known_102 rfl 0 rfl ?_
      obtain ⟨a_state, hf, h⟩ := h
      refine g_get 5 dX26_known_103 in_X26 cl26 (by decide) q564 hf ?_
      obtain ⟨x_seen, hf, h⟩ := h
      refine g_getN 4 dX26_known_106 in_X4 cl4 (by decide) q223 hf ?_
      exact g_iret rfl dX26_known_109 h
    | 6, _, ex9 =>
      have ex9 : x1 = 6 := ex9.trans (by decide)
      replace h := h.2.2.2.2.2.2 ex9
      refine g_tableIn (tgt := 110) dX26_known_1 (by rw [ex9]; decide) (by rw [ex9]; decide) (off := 109) (by rw [ex9]; decide) (by decide) ?_
      refine g_aload_n dX26_known_110 rfl 0 rfl ?_
      obtain ⟨x_last, hf, h⟩ := h
      refine g_get 4 dX26_known_111 in_X26 cl26 (by decide) q563 hf ?_
      exact g_iret rfl dX26_known_114 h
    | i9 + 7, hi9, _ => exact absurd hi9 (by omega)
theorem eX26_known {G : GC} {Q : Option Value → PS → Prop} {X : String → Nat → PS → Prop} {b : Nat} {h0 : Nat} {p1 : Int32} {σ : PS} (h : At G mX26_known 4 Q X b 0 [(0, .ref h0), (1, .int p1)] [] σ) : Call G mX26_known 4 b [.ref h0, .int p1] σ Q X :=
  Call.of (by decide +kernel) wsX26_known rfl (Nat.le_of_ble_eq_true rfl) (At.sub (ls := [(0, .ref h0), (1, .int p1)]) [0, 1] rfl h)
set_option maxHeartbeats 4000000 in
theorem bX26_isWarm_0 {G : GC} {Q : Option Value → PS → Prop} {X : String → Nat → PS → Prop} {b : Nat} {h0 : Nat} {σ : PS} (h : ∃ a_state : Nat, Fg (σ) 26 h0 5 (.ref a_state) ∧ (∃ x_slot : Int32, Fg (σ) 4 a_state 0 (.int x_slot) ∧ (((x_slot ≤ 0) → Q (some (.int 0)) (σ)) ∧ ((¬ x_slot ≤ 0) → ∃ a_calendar : Nat, Fg (σ) 26 h0 1 (.ref a_calendar) ∧ (∃ a_minute : Nat, Fg (σ) 2 a_calendar 1 (.ref a_minute) ∧ (∃ x_visit : Int32, Fg (σ) 26 h0 2 (.int x_visit) ∧ (∃ (n : Nat) (f : Nat → Int32), Ia (σ) 100 a_minute n f ∧ vp_in x_visit n ∧ (∃ a_calendar_1 : Nat, Fg (σ) 26 h0 1 (.ref a_calendar_1) ∧ (∃ a_minute_2 : Nat, Fg (σ) 2 a_calendar_1 1 (.ref a_minute_2) ∧ (∃ a_state_3 : Nat, Fg (σ) 26 h0 5 (.ref a_state_3) ∧ (∃ x_slot_4 : Int32, Fg (σ) 4 a_state_3 0 (.int x_slot_4) ∧ (∃ (n_5 : Nat) (f_6 : Nat → Int32), Ia (σ) 100 a_minute_2 n_5 f_6 ∧ vp_in ((x_slot_4 - 1)) n_5 ∧ (∀ w : Int32, w = ((f x_visit.toNatClampNeg) - (f_6 ((x_slot_4 - 1)).toNatClampNeg)) → ∃ a_office : Nat, Fg (σ) 26 h0 0 (.ref a_office) ∧ (∃ x_warm : Int32, Fg (σ) 7 a_office 6 (.int x_warm) ∧ (((x_warm ≤ w) → Q (some (.int 0)) (σ)) ∧ ((¬ x_warm ≤ w) → Q (some (.int 1)) (σ))))))))))))))))) : At G mX26_isWarm 3 Q X b 0 [(0, .ref h0)] [] (σ) := by
  refine g_aload_n dX26_isWarm_0 rfl 0 rfl ?_
  obtain ⟨a_state, hf, h⟩ := h
  refine g_get 5 dX26_isWarm_1 in_X26 cl26 (by decide) q564 hf ?_
  obtain ⟨x_slot, hf, h⟩ := h
  refine g_getN 0 dX26_isWarm_4 in_X4 cl4 (by decide) q198 hf ?_
  refine g_if_le (tgt := 54) dX26_isWarm_7 (by decide) (fun c => ?_) (fun c => ?_)
  · replace h := h.1 c
    refine g_iconst (v := 0) dX26_isWarm_54 (by decide) ?_
    exact g_zret rfl rfl dX26_isWarm_55 h
  · replace h := h.2 c
    refine g_aload_n dX26_isWarm_10 rfl 0 rfl ?_
    obtain ⟨a_calendar, hf, h⟩ := h
    refine g_get 1 dX26_isWarm_11 in_X26 cl26 (by decide) q559 hf ?_
    obtain ⟨a_minute, hf, h⟩ := h
    refine g_getN 1 dX26_isWarm_14 in_X2 cl2 (by decide) q164 hf ?_
    refine g_aload_n dX26_isWarm_17 rfl 0 rfl ?_
    obtain ⟨x_visit, hf, h⟩ := h
    refine g_get 2 dX26_isWarm_18 in_X26 cl26 (by decide) q560 hf ?_
    obtain ⟨n, f, h1, h2, h⟩ := h
    refine g_iald dX26_isWarm_21 h1 h2 ?_
    refine g_aload_n dX26_isWarm_22 rfl 0 rfl ?_
    obtain ⟨a_calendar_1, hf, h⟩ := h
    refine g_get 1 dX26_isWarm_23 in_X26 cl26 (by decide) q559 hf ?_
    obtain ⟨a_minute_2, hf, h⟩ := h
    refine g_getN 1 dX26_isWarm_26 in_X2 cl2 (by decide) q164 hf ?_
    refine g_aload_n dX26_isWarm_29 rfl 0 rfl ?_
    obtain ⟨a_state_3, hf, h⟩ := h
    refine g_get 5 dX26_isWarm_30 in_X26 cl26 (by decide) q564 hf ?_
    obtain ⟨x_slot_4, hf, h⟩ := h
    refine g_getN 0 dX26_isWarm_33 in_X4 cl4 (by decide) q198 hf ?_
    refine g_iconst (v := 1) dX26_isWarm_36 (by decide) ?_
    refine g_isub dX26_isWarm_37 ?_
    obtain ⟨n_5, f_6, h1, h2, h⟩ := h
    refine g_iald dX26_isWarm_38 h1 h2 ?_
    refine g_isub dX26_isWarm_39 ?_
    refine g_topi (fun w ew => ?_)
    replace h := h w ew
    refine g_aload_n dX26_isWarm_40 rfl 0 rfl ?_
    obtain ⟨a_office, hf, h⟩ := h
    refine g_get 0 dX26_isWarm_41 in_X26 cl26 (by decide) q558 hf ?_
    obtain ⟨x_warm, hf, h⟩ := h
    refine g_getN 6 dX26_isWarm_44 in_X7 cl7 (by decide) q401 hf ?_
    refine g_icmp_ge (tgt := 54) dX26_isWarm_47 (by decide) (fun c => ?_) (fun c => ?_)
    · replace h := h.1 c
      refine g_iconst (v := 0) dX26_isWarm_54 (by decide) ?_
      exact g_zret rfl rfl dX26_isWarm_55 h
    · replace h := h.2 c
      refine g_iconst (v := 1) dX26_isWarm_50 (by decide) ?_
      refine g_goto (tgt := 55) dX26_isWarm_51 (by decide) ?_
      exact g_zret rfl rfl dX26_isWarm_55 h
theorem eX26_isWarm {G : GC} {Q : Option Value → PS → Prop} {X : String → Nat → PS → Prop} {b : Nat} {h0 : Nat} {σ : PS} (h : At G mX26_isWarm 3 Q X b 0 [(0, .ref h0)] [] σ) : Call G mX26_isWarm 3 b [.ref h0] σ Q X :=
  Call.of (by decide +kernel) wsX26_isWarm rfl (Nat.le_of_ble_eq_true rfl) (At.sub (ls := [(0, .ref h0)]) [0] rfl h)
set_option maxHeartbeats 4000000 in
theorem bX4_init_0 {G : GC} {Q : Option Value → PS → Prop} {X : String → Nat → PS → Prop} {b : Nat} {h0 : Nat} {σ : PS} (h : Q none (σ)) : At G mX4_init 4 Q X b 0 [(0, .ref h0)] [] (σ) := by
  refine g_aload_n dX4_init_0 rfl 0 rfl ?_
  refine g_objInit dX4_init_1 q195 q151 q152 (by decide) (Nat.zero_le _) ?_
  exact g_vret rfl dX4_init_4 h
theorem eX4_init {G : GC} {Q : Option Value → PS → Prop} {X : String → Nat → PS → Prop} {b : Nat} {h0 : Nat} {σ : PS} (h : At G mX4_init 4 Q X b 0 [(0, .ref h0)] [] σ) : Call G mX4_init 4 b [.ref h0] σ Q X :=
  Call.of (by decide +kernel) wsX4_init rfl (Nat.le_of_ble_eq_true rfl) (At.sub (ls := [(0, .ref h0)]) [0] rfl h)
set_option maxHeartbeats 4000000 in
theorem bX4_codeOf_0 {G : GC} {Q : Option Value → PS → Prop} {X : String → Nat → PS → Prop} {b : Nat} {x0 : Int32} {x1 : Int32} {x2 : Int32} {x3 : Int32} {x4 : Int32} {σ : PS} (h : ∀ w : Int32, w = ((((x0 * 13) + x1) * 13) + x2) → ∀ w_1 : Int32, w_1 = ((((w * 2) + x3) * 2) + x4) → Q (some (.int w_1)) (σ)) : At G mX4_codeOf 3 Q X b 0 [(0, .int x0), (1, .int x1), (2, .int x2), (3, .int x3), (4, .int x4)] [] (σ) := by
  refine g_iload_n dX4_codeOf_0 rfl 0 rfl ?_
  refine g_bipush (v := 13) dX4_codeOf_1 (by decide) ?_
  refine g_imul dX4_codeOf_3 ?_
  refine g_iload_n dX4_codeOf_4 rfl 1 rfl ?_
  refine g_iadd dX4_codeOf_5 ?_
  refine g_bipush (v := 13) dX4_codeOf_6 (by decide) ?_
  refine g_imul dX4_codeOf_8 ?_
  refine g_iload_n dX4_codeOf_9 rfl 2 rfl ?_
  refine g_iadd dX4_codeOf_10 ?_
  refine g_topi (fun w ew => ?_)
  replace h := h w ew
  refine g_iconst (v := 2) dX4_codeOf_11 (by decide) ?_
  refine g_imul dX4_codeOf_12 ?_
  refine g_iload_n dX4_codeOf_13 rfl 3 rfl ?_
  refine g_iadd dX4_codeOf_14 ?_
  refine g_iconst (v := 2) dX4_codeOf_15 (by decide) ?_
  refine g_imul dX4_codeOf_16 ?_
  refine g_iload dX4_codeOf_17 4 rfl ?_
  refine g_iadd dX4_codeOf_19 ?_
  refine g_topi (fun w_1 ew_1 => ?_)
  replace h := h w_1 ew_1
  exact g_iret rfl dX4_codeOf_20 h
theorem eX4_codeOf {G : GC} {Q : Option Value → PS → Prop} {X : String → Nat → PS → Prop} {b : Nat} {p0 : Int32} {p1 : Int32} {p2 : Int32} {p3 : Int32} {p4 : Int32} {σ : PS} (h : At G mX4_codeOf 3 Q X b 0 [(0, .int p0), (1, .int p1), (2, .int p2), (3, .int p3), (4, .int p4)] [] σ) : Call G mX4_codeOf 3 b [.int p0, .int p1, .int p2, .int p3, .int p4] σ Q X :=
  Call.of (by decide +kernel) wsX4_codeOf rfl (Nat.le_of_ble_eq_true rfl) (At.sub (ls := [(0, .int p0), (1, .int p1), (2, .int p2), (3, .int p3), (4, .int p4)]) [0, 1, 2, 3, 4] rfl h)
set_option maxHeartbeats 4000000 in
theorem bX4_of_0 {G : GC} {Q : Option Value → PS → Prop} {X : String → Nat → PS → Prop} {b : Nat} {h0 : Nat} {x1 : Int32} {σ : PS} (h : ∃ fs : List Value, Ob (σ) 4 h0 fs ∧ 4 < fs.length ∧ (∀ s1 : PS, s1 = up (σ) 4 h0 (.inl (fs.set 4 (.int (x1 &&& 1)))) → ∀ w : Int32, w = ((x1 >>> (1 &&& 31)) &&& 1) → ∃ fs_1 : List Value, Ob s1 4 h0 fs_1 ∧ 3 < fs_1.length ∧ (∀ s1_2 : PS, s1_2 = up s1 4 h0 (.inl (fs_1.set 3 (.int w))) → ∀ v2 : Int32, v2 = (x1 >>> (2 &&& 31)) → ∃ fs_3 : List Value, Ob s1_2 4 h0 fs_3 ∧ 2 < fs_3.length ∧ (∀ s1_4 : PS, s1_4 = up s1_2 4 h0 (.inl (fs_3.set 2 (.int (v2 - v2 / 13 * 13)))) → ∀ w_5 : Int32, w_5 = ((v2 / 13) - (v2 / 13) / 13 * 13) → ∃ fs_6 : List Value, Ob s1_4 4 h0 fs_6 ∧ 1 < fs_6.length ∧ (∀ s1_7 : PS, s1_7 = up s1_4 4 h0 (.inl (fs_6.set 1 (.int w_5))) → ∃ fs_8 : List Value, Ob s1_7 4 h0 fs_8 ∧ 0 < fs_8.length ∧ (∀ s1_9 : PS, s1_9 = up s1_7 4 h0 (.inl (fs_8.set 0 (.int ((v2 / 13) / 13)))) → Q (some (.ref h0)) s1_9)))))) : At G mX4_of 3 Q X b 0 [(0, .ref h0), (1, .int x1)] [] (σ) := by
  refine g_aload_n dX4_of_0 rfl 0 rfl ?_
  refine g_iload_n dX4_of_1 rfl 1 rfl ?_
  refine g_iconst (v := 1) dX4_of_2 (by decide) ?_
  refine g_iand dX4_of_3 ?_
  obtain ⟨fs, hO, hl, h⟩ := h
  refine g_put 4 dX4_of_4 in_X4 tyX4 tyX4_ok nmX4 cl4 (by decide) q221 rfl rfl rfl hO hl ?_
  refine g_tops (fun s1 es1 => ?_)
  replace h := h s1 es1
  refine g_aload_n dX4_of_7 rfl 0 rfl ?_
  refine g_iload_n dX4_of_8 rfl 1 rfl ?_
  refine g_iconst (v := 1) dX4_of_9 (by decide) ?_
  refine g_ishr dX4_of_10 ?_
  refine g_iconst (v := 1) dX4_of_11 (by decide) ?_
  refine g_iand dX4_of_12 ?_
  refine g_topi (fun w ew => ?_)
  replace h := h w ew
  obtain ⟨fs_1, hO, hl, h⟩ := h
  refine g_put 3 dX4_of_13 in_X4 tyX4 tyX4_ok nmX4 cl4 (by decide) q214 rfl rfl rfl hO hl ?_
  refine g_tops (fun s1_2 es1_2 => ?_)
  replace h := h s1_2 es1_2
  refine g_iload_n dX4_of_16 rfl 1 rfl ?_
  refine g_iconst (v := 2) dX4_of_17 (by decide) ?_
  refine g_ishr dX4_of_18 ?_
  refine g_topi (fun v2 ev2 => ?_)
  replace h := h v2 ev2
  refine g_istore_n (ls1 := [(2, .int v2), (0, .ref h0), (1, .int x1)]) dX4_of_19 rfl (by decide) rfl ?_
  refine g_aload_n dX4_of_20 rfl 1 rfl ?_
  refine g_iload_n dX4_of_21 rfl 0 rfl ?_
  refine g_bipush (v := 13) dX4_of_22 (by decide) ?_
  refine g_irem dX4_of_24 (by decide) ?_
  obtain ⟨fs_3, hO, hl, h⟩ := h
  refine g_put 2 dX4_of_25 in_X4 tyX4 tyX4_ok nmX4 cl4 (by decide) q209 rfl rfl rfl hO hl ?_
  refine g_tops (fun s1_4 es1_4 => ?_)
  replace h := h s1_4 es1_4
  refine g_aload_n dX4_of_28 rfl 1 rfl ?_
  refine g_iload_n dX4_of_29 rfl 0 rfl ?_
  refine g_bipush (v := 13) dX4_of_30 (by decide) ?_
  refine g_idiv dX4_of_32 (by decide) ?_
  refine g_bipush (v := 13) dX4_of_33 (by decide) ?_
  refine g_irem dX4_of_35 (by decide) ?_
  refine g_topi (fun w_5 ew_5 => ?_)
  replace h := h w_5 ew_5
  obtain ⟨fs_6, hO, hl, h⟩ := h
  refine g_put 1 dX4_of_36 in_X4 tyX4 tyX4_ok nmX4 cl4 (by decide) q202 rfl rfl rfl hO hl ?_
  refine g_tops (fun s1_7 es1_7 => ?_)
  replace h := h s1_7 es1_7
  refine g_aload_n dX4_of_39 rfl 1 rfl ?_
  refine g_iload_n dX4_of_40 rfl 0 rfl ?_
  refine g_bipush (v := 13) dX4_of_41 (by decide) ?_
  refine g_idiv dX4_of_43 (by decide) ?_
  refine g_bipush (v := 13) dX4_of_44 (by decide) ?_
  refine g_idiv dX4_of_46 (by decide) ?_
  obtain ⟨fs_8, hO, hl, h⟩ := h
  refine g_put 0 dX4_of_47 in_X4 tyX4 tyX4_ok nmX4 cl4 (by decide) q197 rfl rfl rfl hO hl ?_
  refine g_tops (fun s1_9 es1_9 => ?_)
  replace h := h s1_9 es1_9
  refine g_aload_n dX4_of_50 rfl 1 rfl ?_
  exact g_aret (x := (some h0)) rfl dX4_of_51 h
theorem eX4_of {G : GC} {Q : Option Value → PS → Prop} {X : String → Nat → PS → Prop} {b : Nat} {h0 : Nat} {p1 : Int32} {σ : PS} (h : At G mX4_of 3 Q X b 0 [(0, .ref h0), (1, .int p1)] [] σ) : Call G mX4_of 3 b [.ref h0, .int p1] σ Q X :=
  Call.of (by decide +kernel) wsX4_of rfl (Nat.le_of_ble_eq_true rfl) (At.sub (ls := [(0, .ref h0), (1, .int p1)]) [0, 1] rfl h)
set_option maxHeartbeats 4000000 in
theorem bX4_in_0 {G : GC} {Q : Option Value → PS → Prop} {X : String → Nat → PS → Prop} {b : Nat} {h0 : Nat} {σ : PS} (h : ∃ x_clean : Int32, Fg (σ) 4 h0 1 (.int x_clean) ∧ (∃ x_dirty : Int32, Fg (σ) 4 h0 2 (.int x_dirty) ∧ (Q (some (.int (x_clean + x_dirty))) (σ)))) : At G mX4_in 3 Q X b 0 [(0, .ref h0)] [] (σ) := by
  refine g_aload_n dX4_in_0 rfl 0 rfl ?_
  obtain ⟨x_clean, hf, h⟩ := h
  refine g_get 1 dX4_in_1 in_X4 cl4 (by decide) q202 hf ?_
  refine g_aload_n dX4_in_4 rfl 0 rfl ?_
  obtain ⟨x_dirty, hf, h⟩ := h
  refine g_get 2 dX4_in_5 in_X4 cl4 (by decide) q209 hf ?_
  refine g_iadd dX4_in_8 ?_
  exact g_iret rfl dX4_in_9 h
theorem eX4_in {G : GC} {Q : Option Value → PS → Prop} {X : String → Nat → PS → Prop} {b : Nat} {h0 : Nat} {σ : PS} (h : At G mX4_in 3 Q X b 0 [(0, .ref h0)] [] σ) : Call G mX4_in 3 b [.ref h0] σ Q X :=
  Call.of (by decide +kernel) wsX4_in rfl (Nat.le_of_ble_eq_true rfl) (At.sub (ls := [(0, .ref h0)]) [0] rfl h)
set_option maxHeartbeats 4000000 in
theorem bX4_code_0 {G : GC} {Q : Option Value → PS → Prop} {X : String → Nat → PS → Prop} {b : Nat} {h0 : Nat} {σ : PS} (h : ∃ x_slot : Int32, Fg (σ) 4 h0 0 (.int x_slot) ∧ (∃ x_clean : Int32, Fg (σ) 4 h0 1 (.int x_clean) ∧ (∃ x_dirty : Int32, Fg (σ) 4 h0 2 (.int x_dirty) ∧ (∃ x_card : Int32, Fg (σ) 4 h0 3 (.int x_card) ∧ (∃ x_seen : Int32, Fg (σ) 4 h0 4 (.int x_seen) ∧ (CallO G mX4_codeOf 3 [.int x_slot, .int x_clean, .int x_dirty, .int x_card, .int x_seen] (σ) (pI (fun rx => Q (some (.int rx)) (σ))))))))) : At G mX4_code 4 Q X b 0 [(0, .ref h0)] [] (σ) := by
  refine g_aload_n dX4_code_0 rfl 0 rfl ?_
  obtain ⟨x_slot, hf, h⟩ := h
  refine g_get 0 dX4_code_1 in_X4 cl4 (by decide) q197 hf ?_
  refine g_aload_n dX4_code_4 rfl 0 rfl ?_
  obtain ⟨x_clean, hf, h⟩ := h
  refine g_get 1 dX4_code_5 in_X4 cl4 (by decide) q202 hf ?_
  refine g_aload_n dX4_code_8 rfl 0 rfl ?_
  obtain ⟨x_dirty, hf, h⟩ := h
  refine g_get 2 dX4_code_9 in_X4 cl4 (by decide) q209 hf ?_
  refine g_aload_n dX4_code_12 rfl 0 rfl ?_
  obtain ⟨x_card, hf, h⟩ := h
  refine g_get 3 dX4_code_13 in_X4 cl4 (by decide) q214 hf ?_
  refine g_aload_n dX4_code_16 rfl 0 rfl ?_
  obtain ⟨x_seen, hf, h⟩ := h
  refine g_get 4 dX4_code_17 in_X4 cl4 (by decide) q221 hf ?_
  refine g_callS (N := mX4_codeOf) (st := []) (As := [.int x_slot, .int x_clean, .int x_dirty, .int x_card, .int x_seen]) dX4_code_20 wsX4_codeOf (lw_S q697 q541 q111 q542) mokX4_codeOf rfl (by decide) (by decide) (Nat.zero_le _) (Nat.zero_le _) h (fun E q s hx => AtX.never hx) (fun _ s1 hq => ?_)
  obtain ⟨es, hq⟩ := hq
  refine g_tops2 es ?_
  obtain ⟨rx, rfl, h⟩ := hq
  refine At.stk (st' := [.int rx]) rfl ?_
  exact g_iret rfl dX4_code_23 h
theorem eX4_code {G : GC} {Q : Option Value → PS → Prop} {X : String → Nat → PS → Prop} {b : Nat} {h0 : Nat} {σ : PS} (h : At G mX4_code 4 Q X b 0 [(0, .ref h0)] [] σ) : Call G mX4_code 4 b [.ref h0] σ Q X :=
  Call.of (by decide +kernel) wsX4_code rfl (Nat.le_of_ble_eq_true rfl) (At.sub (ls := [(0, .ref h0)]) [0] rfl h)
set_option maxHeartbeats 4000000 in
theorem bX4_starts_0 {G : GC} {Q : Option Value → PS → Prop} {X : String → Nat → PS → Prop} {b : Nat} {h0 : Nat} {x1 : Int32} {σ : PS} (h : (∃ fs_7 : List Value, Ob (σ) 4 h0 fs_7) ∧ CallO G mX4_in 3 [.ref h0] (σ) (pI (fun rx => ((¬ rx = 0) → ∃ x_clean : Int32, Fg (σ) 4 h0 1 (.int x_clean) ∧ (∃ x_clean_1 : Int32, Fg (σ) 4 h0 1 (.int x_clean_1) ∧ (∃ x_dirty : Int32, Fg (σ) 4 h0 2 (.int x_dirty) ∧ (∃ fs : List Value, Ob (σ) 4 h0 fs ∧ 1 < fs.length ∧ (∀ s1_2 : PS, s1_2 = up (σ) 4 h0 (.inl (fs.set 1 (.int (x_clean_1 + x_dirty)))) → ∃ fs_3 : List Value, Ob s1_2 4 h0 fs_3 ∧ 2 < fs_3.length ∧ (∀ s1_4 : PS, s1_4 = up s1_2 4 h0 (.inl (fs_3.set 2 (.int 0))) → ∃ fs_5 : List Value, Ob s1_4 4 h0 fs_5 ∧ 0 < fs_5.length ∧ (∀ s1_6 : PS, s1_6 = up s1_4 4 h0 (.inl (fs_5.set 0 (.int (x1 + 1)))) → Q (some (.int x_clean)) s1_6))))))) ∧ ((rx = 0) → Q (some (.int 0)) (σ))))) : At G mX4_starts 4 Q X b 0 [(0, .ref h0), (1, .int x1)] [] (σ) := by
  refine g_aload_n dX4_starts_0 rfl 0 rfl ?_
  obtain ⟨⟨_, hO⟩, h⟩ := h
  refine g_callV (N := mX4_in) (st := []) (As := []) (a := h0) dX4_starts_1 wsX4_in (lw_V q718 q619 q620 q111 q621) rfl mokX4_in rfl cl4 (by decide) (by decide) (Nat.zero_le _) (Nat.zero_le _) hO h (fun E q s hx => AtX.never hx) (fun _ s1 hq => ?_)
  obtain ⟨es, hq⟩ := hq
  refine g_tops2 es ?_
  obtain ⟨rx, rfl, h⟩ := hq
  refine At.stk (st' := [.int rx]) rfl ?_
  refine g_if_ne (tgt := 9) dX4_starts_4 (by decide) (fun c => ?_) (fun c => ?_)
  · replace h := h.1 c
    refine g_aload_n dX4_starts_9 rfl 0 rfl ?_
    obtain ⟨x_clean, hf, h⟩ := h
    refine g_get 1 dX4_starts_10 in_X4 cl4 (by decide) q202 hf ?_
    refine g_istore_n (ls1 := [(2, .int x_clean), (0, .ref h0), (1, .int x1)]) dX4_starts_13 rfl (by decide) rfl ?_
    refine g_aload_n dX4_starts_14 rfl 1 rfl ?_
    refine g_dup dX4_starts_15 rfl ?_
    obtain ⟨x_clean_1, hf, h⟩ := h
    refine g_get 1 dX4_starts_16 in_X4 cl4 (by decide) q202 hf ?_
    refine g_aload_n dX4_starts_19 rfl 1 rfl ?_
    obtain ⟨x_dirty, hf, h⟩ := h
    refine g_get 2 dX4_starts_20 in_X4 cl4 (by decide) q209 hf ?_
    refine g_iadd dX4_starts_23 ?_
    obtain ⟨fs, hO, hl, h⟩ := h
    refine g_put 1 dX4_starts_24 in_X4 tyX4 tyX4_ok nmX4 cl4 (by decide) q202 rfl rfl rfl hO hl ?_
    refine g_tops (fun s1_2 es1_2 => ?_)
    replace h := h s1_2 es1_2
    refine g_aload_n dX4_starts_27 rfl 1 rfl ?_
    refine g_iconst (v := 0) dX4_starts_28 (by decide) ?_
    obtain ⟨fs_3, hO, hl, h⟩ := h
    refine g_put 2 dX4_starts_29 in_X4 tyX4 tyX4_ok nmX4 cl4 (by decide) q209 rfl rfl rfl hO hl ?_
    refine g_tops (fun s1_4 es1_4 => ?_)
    replace h := h s1_4 es1_4
    refine g_aload_n dX4_starts_32 rfl 1 rfl ?_
    refine g_iload_n dX4_starts_33 rfl 2 rfl ?_
    refine g_iconst (v := 1) dX4_starts_34 (by decide) ?_
    refine g_iadd dX4_starts_35 ?_
    obtain ⟨fs_5, hO, hl, h⟩ := h
    refine g_put 0 dX4_starts_36 in_X4 tyX4 tyX4_ok nmX4 cl4 (by decide) q197 rfl rfl rfl hO hl ?_
    refine g_tops (fun s1_6 es1_6 => ?_)
    replace h := h s1_6 es1_6
    refine g_iload_n dX4_starts_39 rfl 0 rfl ?_
    exact g_iret rfl dX4_starts_40 h
  · replace h := h.2 c
    refine g_iconst (v := 0) dX4_starts_7 (by decide) ?_
    exact g_iret rfl dX4_starts_8 h
theorem eX4_starts {G : GC} {Q : Option Value → PS → Prop} {X : String → Nat → PS → Prop} {b : Nat} {h0 : Nat} {p1 : Int32} {σ : PS} (h : At G mX4_starts 4 Q X b 0 [(0, .ref h0), (1, .int p1)] [] σ) : Call G mX4_starts 4 b [.ref h0, .int p1] σ Q X :=
  Call.of (by decide +kernel) wsX4_starts rfl (Nat.le_of_ble_eq_true rfl) (At.sub (ls := [(0, .ref h0), (1, .int p1)]) [0, 1] rfl h)
set_option maxHeartbeats 4000000 in
theorem bX4_isTrue_0 {G : GC} {Q : Option Value → PS → Prop} {X : String → Nat → PS → Prop} {b : Nat} {h0 : Nat} {σ : PS} (h : ∃ x_card : Int32, Fg (σ) 4 h0 3 (.int x_card) ∧ (((¬ x_card = 1) → At G mX4_isTrue 3 Q X b 13 [(0, .ref h0)] [.int 0] (σ)) ∧ ((x_card = 1) → At G mX4_isTrue 3 Q X b 13 [(0, .ref h0)] [.int 1] (σ)))) : At G mX4_isTrue 3 Q X b 0 [(0, .ref h0)] [] (σ) := by
  refine g_aload_n dX4_isTrue_0 rfl 0 rfl ?_
  obtain ⟨x_card, hf, h⟩ := h
  refine g_get 3 dX4_isTrue_1 in_X4 cl4 (by decide) q214 hf ?_
  refine g_iconst (v := 1) dX4_isTrue_4 (by decide) ?_
  refine g_icmp_ne (tgt := 12) dX4_isTrue_5 (by decide) (fun c => ?_) (fun c => ?_)
  · replace h := h.1 c
    refine g_iconst (v := 0) dX4_isTrue_12 (by decide) ?_
    exact At.sub (ls := [(0, .ref h0)]) [0] rfl h
  · replace h := h.2 c
    refine g_iconst (v := 1) dX4_isTrue_8 (by decide) ?_
    refine g_goto (tgt := 13) dX4_isTrue_9 (by decide) ?_
    exact At.sub (ls := [(0, .ref h0)]) [0] rfl h
set_option maxHeartbeats 4000000 in
theorem bX4_isTrue_13 {G : GC} {Q : Option Value → PS → Prop} {X : String → Nat → PS → Prop} {b : Nat} {h0 : Nat} {sx0 : Int32} {σ : PS} (h : ∃ x_dirty : Int32, Fg (σ) 4 h0 2 (.int x_dirty) ∧ (((¬ x_dirty = 0) → ((¬ sx0 = 0) → Q (some (.int 0)) (σ)) ∧ ((sx0 = 0) → Q (some (.int 1)) (σ))) ∧ ((x_dirty = 0) → ((¬ sx0 = 1) → Q (some (.int 0)) (σ)) ∧ ((sx0 = 1) → Q (some (.int 1)) (σ))))) : At G mX4_isTrue 3 Q X b 13 [(0, .ref h0)] [.int sx0] (σ) := by
  refine g_aload_n dX4_isTrue_13 rfl 0 rfl ?_
  obtain ⟨x_dirty, hf, h⟩ := h
  refine g_get 2 dX4_isTrue_14 in_X4 cl4 (by decide) q209 hf ?_
  refine g_if_ne (tgt := 24) dX4_isTrue_17 (by decide) (fun c => ?_) (fun c => ?_)
  · replace h := h.1 c
    refine g_iconst (v := 0) dX4_isTrue_24 (by decide) ?_
    refine g_icmp_ne (tgt := 32) dX4_isTrue_25 (by decide) (fun c => ?_) (fun c => ?_)
    · replace h := h.1 c
      refine g_iconst (v := 0) dX4_isTrue_32 (by decide) ?_
      exact g_zret rfl rfl dX4_isTrue_33 h
    · replace h := h.2 c
      refine g_iconst (v := 1) dX4_isTrue_28 (by decide) ?_
      refine g_goto (tgt := 33) dX4_isTrue_29 (by decide) ?_
      exact g_zret rfl rfl dX4_isTrue_33 h
  · replace h := h.2 c
    refine g_iconst (v := 1) dX4_isTrue_20 (by decide) ?_
    refine g_goto (tgt := 25) dX4_isTrue_21 (by decide) ?_
    refine g_icmp_ne (tgt := 32) dX4_isTrue_25 (by decide) (fun c => ?_) (fun c => ?_)
    · replace h := h.1 c
      refine g_iconst (v := 0) dX4_isTrue_32 (by decide) ?_
      exact g_zret rfl rfl dX4_isTrue_33 h
    · replace h := h.2 c
      refine g_iconst (v := 1) dX4_isTrue_28 (by decide) ?_
      refine g_goto (tgt := 33) dX4_isTrue_29 (by decide) ?_
      exact g_zret rfl rfl dX4_isTrue_33 h
theorem eX4_isTrue {G : GC} {Q : Option Value → PS → Prop} {X : String → Nat → PS → Prop} {b : Nat} {h0 : Nat} {σ : PS} (h : At G mX4_isTrue 3 Q X b 0 [(0, .ref h0)] [] σ) : Call G mX4_isTrue 3 b [.ref h0] σ Q X :=
  Call.of (by decide +kernel) wsX4_isTrue rfl (Nat.le_of_ble_eq_true rfl) (At.sub (ls := [(0, .ref h0)]) [0] rfl h)
set_option maxHeartbeats 4000000 in
theorem bX6_init_0 {G : GC} {Q : Option Value → PS → Prop} {X : String → Nat → PS → Prop} {b : Nat} {h0 : Nat} {σ : PS} (h : 1 ≤ b ∧ (∀ q : Nat, (∀ κ, σ κ q = none) → (∀ s1 : PS, s1 = up (σ) 105 q (.inr (6, .inr (.inr (fun _ => none)))) → ∃ fs : List Value, Ob s1 6 h0 fs ∧ 0 < fs.length ∧ (∀ s1_1 : PS, s1_1 = up s1 6 h0 (.inl (fs.set 0 (.ref q))) → Q none s1_1)))) : At G mX6_init 4 Q X b 0 [(0, .ref h0)] [] (σ) := by
  refine g_aload_n dX6_init_0 rfl 0 rfl ?_
  refine g_objInit dX6_init_1 q330 q151 q152 (by decide) (Nat.zero_le _) ?_
  refine g_aload_n dX6_init_4 rfl 0 rfl ?_
  refine g_bipush (v := 6) dX6_init_5 (by decide) ?_
  obtain ⟨hb, h⟩ := h
  refine g_newq (κ := 105) (t0 := 5) (N := 6) 1 dX6_init_7 q331 (fun U h => h.2.2.2.1.2.1) rfl (by decide) (by decide) (Nat.le_of_ble_eq_true rfl) (by decide) (by decide) hb (fun q hq => ?_)
  replace h := h q hq
  refine g_tops (fun s1 es1 => ?_)
  replace h := h s1 es1
  obtain ⟨fs, hO, hl, h⟩ := h
  refine g_putF 0 dX6_init_10 in_X6 tyX6 tyX6_ok nmX6 cl6 (by decide) q332 rfl rfl rfl rfl rfl hO hl ?_
  refine g_tops (fun s1_1 es1_1 => ?_)
  replace h := h s1_1 es1_1
  exact g_vret rfl dX6_init_13 h
theorem eX6_init {G : GC} {Q : Option Value → PS → Prop} {X : String → Nat → PS → Prop} {b : Nat} {h0 : Nat} {σ : PS} (h : At G mX6_init 4 Q X b 0 [(0, .ref h0)] [] σ) : Call G mX6_init 4 b [.ref h0] σ Q X :=
  Call.of (by decide +kernel) wsX6_init rfl (Nat.le_of_ble_eq_true rfl) (At.sub (ls := [(0, .ref h0)]) [0] rfl h)
set_option maxHeartbeats 4000000 in
theorem bX6_asTold_0 {G : GC} {Q : Option Value → PS → Prop} {X : String → Nat → PS → Prop} {b : Nat} {h0 : Nat} {a1 : Nat} {a2 : Nat} {x3 : Int32} {σ : PS} (h : ∃ a_habits : Nat, Fg (σ) 6 h0 0 (.ref a_habits) ∧ (∃ (n n_1 : Nat) (f g : Nat → Option Nat), Qa (σ) 105 a1 n f ∧ Qa (σ) 105 a_habits n_1 g ∧ (∀ i y, f i = some y → ∃ vs, Ob (σ) 14 y vs) ∧ 6 ≤ n ∧ 6 ≤ n_1 ∧ (∀ s1 : PS, s1 = up (σ) 105 a_habits (.inr (n_1, .inr (.inr (va_cpy f g (0 : Int32).toNatClampNeg (0 : Int32).toNatClampNeg (6 : Int32).toNatClampNeg)))) → ∃ fs : List Value, Ob s1 6 h0 fs ∧ 1 < fs.length ∧ (∀ s1_2 : PS, s1_2 = up s1 6 h0 (.inl (fs.set 1 (.null))) → ∃ fs_3 : List Value, Ob s1_2 6 h0 fs_3 ∧ 2 < fs_3.length ∧ (∀ s1_4 : PS, s1_4 = up s1_2 6 h0 (.inl (fs_3.set 2 (.int (x3 - 1)))) → ∃ fs_5 : List Value, Ob s1_4 6 h0 fs_5 ∧ 3 < fs_5.length ∧ (∀ s1_6 : PS, s1_6 = up s1_4 6 h0 (.inl (fs_5.set 3 (.int (-1)))) → ∃ x_fall : Int32, Fg s1_6 7 a2 5 (.int x_fall) ∧ (∃ fs_7 : List Value, Ob s1_6 6 h0 fs_7 ∧ 4 < fs_7.length ∧ (∀ s1_8 : PS, s1_8 = up s1_6 6 h0 (.inl (fs_7.set 4 (.int x_fall))) → ∃ x_see : Int32, Fg s1_8 7 a2 7 (.int x_see) ∧ (∃ fs_9 : List Value, Ob s1_8 6 h0 fs_9 ∧ 5 < fs_9.length ∧ (∀ s1_10 : PS, s1_10 = up s1_8 6 h0 (.inl (fs_9.set 5 (.int x_see))) → ∃ fs_11 : List Value, Ob s1_10 6 h0 fs_11 ∧ 6 < fs_11.length ∧ (∀ s1_12 : PS, s1_12 = up s1_10 6 h0 (.inl (fs_11.set 6 (.int (-1)))) → ∃ fs_13 : List Value, Ob s1_12 6 h0 fs_13 ∧ 7 < fs_13.length ∧ (∀ s1_14 : PS, s1_14 = up s1_12 6 h0 (.inl (fs_13.set 7 (.int 0))) → Q (some (.ref h0)) s1_14)))))))))))) : At G mX6_asTold 3 Q X b 0 [(0, .ref h0), (1, .ref a1), (2, .ref a2), (3, .int x3)] [] (σ) := by
  refine g_aload_n dX6_asTold_0 rfl 1 rfl ?_
  refine g_iconst (v := 0) dX6_asTold_1 (by decide) ?_
  refine g_aload_n dX6_asTold_2 rfl 0 rfl ?_
  obtain ⟨a_habits, hf, h⟩ := h
  refine g_get 0 dX6_asTold_3 in_X6 cl6 (by decide) q332 hf ?_
  refine g_iconst (v := 0) dX6_asTold_6 (by decide) ?_
  refine g_bipush (v := 6) dX6_asTold_7 (by decide) ?_
  obtain ⟨n, n_1, f, g, h1, h2, h5, h3, h4, h⟩ := h
  refine g_copyq (t0 := 5) (ci := 14) dX6_asTold_9 q525 q527 q526 q129 rfl cl14 h1 h2 h5 (by decide) (by decide) (by decide) h3 h4 (by decide) (Nat.zero_le _) ?_
  refine g_tops (fun s1 es1 => ?_)
  replace h := h s1 es1
  refine g_aload_n dX6_asTold_12 rfl 0 rfl ?_
  refine g_null dX6_asTold_13 ?_
  obtain ⟨fs, hO, hl, h⟩ := h
  refine g_put 1 dX6_asTold_14 in_X6 tyX6 tyX6_ok nmX6 cl6 (by decide) q334 rfl rfl rfl hO hl ?_
  refine g_tops (fun s1_2 es1_2 => ?_)
  replace h := h s1_2 es1_2
  refine g_aload_n dX6_asTold_17 rfl 0 rfl ?_
  refine g_iload_n dX6_asTold_18 rfl 3 rfl ?_
  refine g_iconst (v := 1) dX6_asTold_19 (by decide) ?_
  refine g_isub dX6_asTold_20 ?_
  obtain ⟨fs_3, hO, hl, h⟩ := h
  refine g_put 2 dX6_asTold_21 in_X6 tyX6 tyX6_ok nmX6 cl6 (by decide) q336 rfl rfl rfl hO hl ?_
  refine g_tops (fun s1_4 es1_4 => ?_)
  replace h := h s1_4 es1_4
  refine g_aload_n dX6_asTold_24 rfl 0 rfl ?_
  refine g_iconst (v := (-1)) dX6_asTold_25 (by decide) ?_
  obtain ⟨fs_5, hO, hl, h⟩ := h
  refine g_put 3 dX6_asTold_26 in_X6 tyX6 tyX6_ok nmX6 cl6 (by decide) q338 rfl rfl rfl hO hl ?_
  refine g_tops (fun s1_6 es1_6 => ?_)
  replace h := h s1_6 es1_6
  refine g_aload_n dX6_asTold_29 rfl 0 rfl ?_
  refine g_aload_n dX6_asTold_30 rfl 2 rfl ?_
  obtain ⟨x_fall, hf, h⟩ := h
  refine g_getN 5 dX6_asTold_31 in_X7 cl7 (by decide) q396 hf ?_
  obtain ⟨fs_7, hO, hl, h⟩ := h
  refine g_put 4 dX6_asTold_34 in_X6 tyX6 tyX6_ok nmX6 cl6 (by decide) q340 rfl rfl rfl hO hl ?_
  refine g_tops (fun s1_8 es1_8 => ?_)
  replace h := h s1_8 es1_8
  refine g_aload_n dX6_asTold_37 rfl 0 rfl ?_
  refine g_aload_n dX6_asTold_38 rfl 2 rfl ?_
  obtain ⟨x_see, hf, h⟩ := h
  refine g_getN 7 dX6_asTold_39 in_X7 cl7 (by decide) q405 hf ?_
  obtain ⟨fs_9, hO, hl, h⟩ := h
  refine g_put 5 dX6_asTold_42 in_X6 tyX6 tyX6_ok nmX6 cl6 (by decide) q344 rfl rfl rfl hO hl ?_
  refine g_tops (fun s1_10 es1_10 => ?_)
  replace h := h s1_10 es1_10
  refine g_aload_n dX6_asTold_45 rfl 0 rfl ?_
  refine g_iconst (v := (-1)) dX6_asTold_46 (by decide) ?_
  obtain ⟨fs_11, hO, hl, h⟩ := h
  refine g_put 6 dX6_asTold_47 in_X6 tyX6 tyX6_ok nmX6 cl6 (by decide) q346 rfl rfl rfl hO hl ?_
  refine g_tops (fun s1_12 es1_12 => ?_)
  replace h := h s1_12 es1_12
  refine g_aload_n dX6_asTold_50 rfl 0 rfl ?_
  refine g_iconst (v := 0) dX6_asTold_51 (by decide) ?_
  obtain ⟨fs_13, hO, hl, h⟩ := h
  refine g_put 7 dX6_asTold_52 in_X6 tyX6 tyX6_ok nmX6 cl6 (by decide) q349 rfl rfl rfl hO hl ?_
  refine g_tops (fun s1_14 es1_14 => ?_)
  replace h := h s1_14 es1_14
  refine g_aload_n dX6_asTold_55 rfl 0 rfl ?_
  exact g_aret (x := (some h0)) rfl dX6_asTold_56 h
theorem eX6_asTold {G : GC} {Q : Option Value → PS → Prop} {X : String → Nat → PS → Prop} {b : Nat} {h0 : Nat} {p1 : Nat} {p2 : Nat} {p3 : Int32} {σ : PS} (h : At G mX6_asTold 3 Q X b 0 [(0, .ref h0), (1, .ref p1), (2, .ref p2), (3, .int p3)] [] σ) : Call G mX6_asTold 3 b [.ref h0, .ref p1, .ref p2, .int p3] σ Q X :=
  Call.of (by decide +kernel) wsX6_asTold rfl (Nat.le_of_ble_eq_true rfl) (At.sub (ls := [(0, .ref h0), (1, .ref p1), (2, .ref p2), (3, .int p3)]) [0, 1, 2, 3] rfl h)
set_option maxHeartbeats 4000000 in
theorem bX6_to_0 {G : GC} {Q : Option Value → PS → Prop} {X : String → Nat → PS → Prop} {b : Nat} {h0 : Nat} {x1 : Int32} {σ : PS} (h : ∃ fs : List Value, Ob (σ) 6 h0 fs ∧ 2 < fs.length ∧ (∀ s1 : PS, s1 = up (σ) 6 h0 (.inl (fs.set 2 (.int x1))) → Q (some (.ref h0)) s1)) : At G mX6_to 3 Q X b 0 [(0, .ref h0), (1, .int x1)] [] (σ) := by
  refine g_aload_n dX6_to_0 rfl 0 rfl ?_
  refine g_iload_n dX6_to_1 rfl 1 rfl ?_
  obtain ⟨fs, hO, hl, h⟩ := h
  refine g_put 2 dX6_to_2 in_X6 tyX6 tyX6_ok nmX6 cl6 (by decide) q336 rfl rfl rfl hO hl ?_
  refine g_tops (fun s1 es1 => ?_)
  replace h := h s1 es1
  refine g_aload_n dX6_to_5 rfl 0 rfl ?_
  exact g_aret (x := (some h0)) rfl dX6_to_6 h
theorem eX6_to {G : GC} {Q : Option Value → PS → Prop} {X : String → Nat → PS → Prop} {b : Nat} {h0 : Nat} {p1 : Int32} {σ : PS} (h : At G mX6_to 3 Q X b 0 [(0, .ref h0), (1, .int p1)] [] σ) : Call G mX6_to 3 b [.ref h0, .int p1] σ Q X :=
  Call.of (by decide +kernel) wsX6_to rfl (Nat.le_of_ble_eq_true rfl) (At.sub (ls := [(0, .ref h0), (1, .int p1)]) [0, 1] rfl h)
set_option maxHeartbeats 4000000 in
theorem bX6_without_0 {G : GC} {Q : Option Value → PS → Prop} {X : String → Nat → PS → Prop} {b : Nat} {h0 : Nat} {x1 : Int32} {σ : PS} (h : ∃ fs : List Value, Ob (σ) 6 h0 fs ∧ 3 < fs.length ∧ (∀ s1 : PS, s1 = up (σ) 6 h0 (.inl (fs.set 3 (.int x1))) → Q (some (.ref h0)) s1)) : At G mX6_without 3 Q X b 0 [(0, .ref h0), (1, .int x1)] [] (σ) := by
  refine g_aload_n dX6_without_0 rfl 0 rfl ?_
  refine g_iload_n dX6_without_1 rfl 1 rfl ?_
  obtain ⟨fs, hO, hl, h⟩ := h
  refine g_put 3 dX6_without_2 in_X6 tyX6 tyX6_ok nmX6 cl6 (by decide) q338 rfl rfl rfl hO hl ?_
  refine g_tops (fun s1 es1 => ?_)
  replace h := h s1 es1
  refine g_aload_n dX6_without_5 rfl 0 rfl ?_
  exact g_aret (x := (some h0)) rfl dX6_without_6 h
theorem eX6_without {G : GC} {Q : Option Value → PS → Prop} {X : String → Nat → PS → Prop} {b : Nat} {h0 : Nat} {p1 : Int32} {σ : PS} (h : At G mX6_without 3 Q X b 0 [(0, .ref h0), (1, .int p1)] [] σ) : Call G mX6_without 3 b [.ref h0, .int p1] σ Q X :=
  Call.of (by decide +kernel) wsX6_without rfl (Nat.le_of_ble_eq_true rfl) (At.sub (ls := [(0, .ref h0), (1, .int p1)]) [0, 1] rfl h)
set_option maxHeartbeats 4000000 in
theorem bX6_swapped_0 {G : GC} {Q : Option Value → PS → Prop} {X : String → Nat → PS → Prop} {b : Nat} {h0 : Nat} {x1 : Int32} {x2 : Int32} {σ : PS} (h : ∃ a_habits : Nat, Fg (σ) 6 h0 0 (.ref a_habits) ∧ (∃ (n : Nat) (f : Nat → Option Nat), Qa (σ) 105 a_habits n f ∧ vp_in x1 n ∧ (∃ a_habits_1 : Nat, Fg (σ) 6 h0 0 (.ref a_habits_1) ∧ (∃ a_habits_2 : Nat, Fg (σ) 6 h0 0 (.ref a_habits_2) ∧ (∃ (n_3 : Nat) (f_4 : Nat → Option Nat), Qa (σ) 105 a_habits_2 n_3 f_4 ∧ vp_in x2 n_3 ∧ (∃ (n_5 : Nat) (f_6 : Nat → Option Nat), Qa (σ) 105 a_habits_1 n_5 f_6 ∧ (∀ y : Nat, (f_4 x2.toNatClampNeg) = some y → ∃ vs, Ob (σ) 14 y vs) ∧ vp_in x1 n_5 ∧ (∀ s1 : PS, s1 = up (σ) 105 a_habits_1 (.inr (n_5, .inr (.inr (va_up f_6 x1.toNatClampNeg (f_4 x2.toNatClampNeg))))) → ∃ a_habits_7 : Nat, Fg s1 6 h0 0 (.ref a_habits_7) ∧ (∃ (n_8 : Nat) (f_9 : Nat → Option Nat), Qa s1 105 a_habits_7 n_8 f_9 ∧ (∀ y : Nat, (f x1.toNatClampNeg) = some y → ∃ vs, Ob s1 14 y vs) ∧ vp_in x2 n_8 ∧ (∀ s1_10 : PS, s1_10 = up s1 105 a_habits_7 (.inr (n_8, .inr (.inr (va_up f_9 x2.toNatClampNeg (f x1.toNatClampNeg))))) → Q (some (.ref h0)) s1_10))))))))) : At G mX6_swapped 3 Q X b 0 [(0, .ref h0), (1, .int x1), (2, .int x2)] [] (σ) := by
  refine g_aload_n dX6_swapped_0 rfl 0 rfl ?_
  obtain ⟨a_habits, hf, h⟩ := h
  refine g_get 0 dX6_swapped_1 in_X6 cl6 (by decide) q332 hf ?_
  refine g_iload_n dX6_swapped_4 rfl 1 rfl ?_
  obtain ⟨n, f, h1, h2, h⟩ := h
  refine g_aald (t0 := 5) dX6_swapped_5 rfl rfl h1 h2 ?_
  refine g_astoreq_n (ls1 := [(3, va_rf (f x1.toNatClampNeg)), (0, .ref h0), (1, .int x1), (2, .int x2)]) dX6_swapped_6 rfl (by decide) rfl ?_
  refine g_aload_n dX6_swapped_7 rfl 1 rfl ?_
  obtain ⟨a_habits_1, hf, h⟩ := h
  refine g_get 0 dX6_swapped_8 in_X6 cl6 (by decide) q332 hf ?_
  refine g_iload_n dX6_swapped_11 rfl 2 rfl ?_
  refine g_aload_n dX6_swapped_12 rfl 1 rfl ?_
  obtain ⟨a_habits_2, hf, h⟩ := h
  refine g_get 0 dX6_swapped_13 in_X6 cl6 (by decide) q332 hf ?_
  refine g_iload_n dX6_swapped_16 rfl 3 rfl ?_
  obtain ⟨n_3, f_4, h1, h2, h⟩ := h
  refine g_aald (t0 := 5) dX6_swapped_17 rfl rfl h1 h2 ?_
  obtain ⟨n_5, f_6, h1, h3, h2, h⟩ := h
  refine g_aastQ (t0 := 5) (ci := 14) dX6_swapped_18 rfl cl14 h1 h3 h2 ?_
  refine g_tops (fun s1 es1 => ?_)
  replace h := h s1 es1
  refine g_aload_n dX6_swapped_19 rfl 1 rfl ?_
  obtain ⟨a_habits_7, hf, h⟩ := h
  refine g_get 0 dX6_swapped_20 in_X6 cl6 (by decide) q332 hf ?_
  refine g_iload_n dX6_swapped_23 rfl 3 rfl ?_
  refine g_aloadq_n dX6_swapped_24 rfl 0 rfl ?_
  obtain ⟨n_8, f_9, h1, h3, h2, h⟩ := h
  refine g_aastQ (t0 := 5) (ci := 14) dX6_swapped_25 rfl cl14 h1 h3 h2 ?_
  refine g_tops (fun s1_10 es1_10 => ?_)
  replace h := h s1_10 es1_10
  refine g_aload_n dX6_swapped_26 rfl 1 rfl ?_
  exact g_aret (x := (some h0)) rfl dX6_swapped_27 h
theorem eX6_swapped {G : GC} {Q : Option Value → PS → Prop} {X : String → Nat → PS → Prop} {b : Nat} {h0 : Nat} {p1 : Int32} {p2 : Int32} {σ : PS} (h : At G mX6_swapped 3 Q X b 0 [(0, .ref h0), (1, .int p1), (2, .int p2)] [] σ) : Call G mX6_swapped 3 b [.ref h0, .int p1, .int p2] σ Q X :=
  Call.of (by decide +kernel) wsX6_swapped rfl (Nat.le_of_ble_eq_true rfl) (At.sub (ls := [(0, .ref h0), (1, .int p1), (2, .int p2)]) [0, 1, 2] rfl h)
set_option maxHeartbeats 4000000 in
theorem bX6_given_0 {G : GC} {Q : Option Value → PS → Prop} {X : String → Nat → PS → Prop} {b : Nat} {h0 : Nat} {a1 : Nat} {σ : PS} (h : ∃ fs : List Value, Ob (σ) 6 h0 fs ∧ 1 < fs.length ∧ (∀ s1 : PS, s1 = up (σ) 6 h0 (.inl (fs.set 1 (.ref a1))) → Q (some (.ref h0)) s1)) : At G mX6_given 3 Q X b 0 [(0, .ref h0), (1, .ref a1)] [] (σ) := by
  refine g_aload_n dX6_given_0 rfl 0 rfl ?_
  refine g_aload_n dX6_given_1 rfl 1 rfl ?_
  obtain ⟨fs, hO, hl, h⟩ := h
  refine g_put 1 dX6_given_2 in_X6 tyX6 tyX6_ok nmX6 cl6 (by decide) q334 rfl rfl rfl hO hl ?_
  refine g_tops (fun s1 es1 => ?_)
  replace h := h s1 es1
  refine g_aload_n dX6_given_5 rfl 0 rfl ?_
  exact g_aret (x := (some h0)) rfl dX6_given_6 h
theorem eX6_given {G : GC} {Q : Option Value → PS → Prop} {X : String → Nat → PS → Prop} {b : Nat} {h0 : Nat} {p1 : Nat} {σ : PS} (h : At G mX6_given 3 Q X b 0 [(0, .ref h0), (1, .ref p1)] [] σ) : Call G mX6_given 3 b [.ref h0, .ref p1] σ Q X :=
  Call.of (by decide +kernel) wsX6_given rfl (Nat.le_of_ble_eq_true rfl) (At.sub (ls := [(0, .ref h0), (1, .ref p1)]) [0, 1] rfl h)
set_option maxHeartbeats 4000000 in
theorem bX6_begun_0 {G : GC} {Q : Option Value → PS → Prop} {X : String → Nat → PS → Prop} {b : Nat} {h0 : Nat} {σ : PS} (h : ∃ fs : List Value, Ob (σ) 6 h0 fs ∧ 7 < fs.length ∧ (∀ s1 : PS, s1 = up (σ) 6 h0 (.inl (fs.set 7 (.int 1))) → Q (some (.ref h0)) s1)) : At G mX6_begun 3 Q X b 0 [(0, .ref h0)] [] (σ) := by
  refine g_aload_n dX6_begun_0 rfl 0 rfl ?_
  refine g_iconst (v := 1) dX6_begun_1 (by decide) ?_
  obtain ⟨fs, hO, hl, h⟩ := h
  refine g_put 7 dX6_begun_2 in_X6 tyX6 tyX6_ok nmX6 cl6 (by decide) q349 rfl rfl rfl hO hl ?_
  refine g_tops (fun s1 es1 => ?_)
  replace h := h s1 es1
  refine g_aload_n dX6_begun_5 rfl 0 rfl ?_
  exact g_aret (x := (some h0)) rfl dX6_begun_6 h
theorem eX6_begun {G : GC} {Q : Option Value → PS → Prop} {X : String → Nat → PS → Prop} {b : Nat} {h0 : Nat} {σ : PS} (h : At G mX6_begun 3 Q X b 0 [(0, .ref h0)] [] σ) : Call G mX6_begun 3 b [.ref h0] σ Q X :=
  Call.of (by decide +kernel) wsX6_begun rfl (Nat.le_of_ble_eq_true rfl) (At.sub (ls := [(0, .ref h0)]) [0] rfl h)
set_option maxHeartbeats 4000000 in
theorem bX6_ruled_0 {G : GC} {Q : Option Value → PS → Prop} {X : String → Nat → PS → Prop} {b : Nat} {h0 : Nat} {u1 : Option Nat} {σ : PS} (h : At G mX6_ruled 3 Q X b 2 [(0, .ref h0), (1, va_rf u1), (2, .int 0)] [] (σ)) : At G mX6_ruled 3 Q X b 0 [(0, .ref h0), (1, va_rf u1)] [] (σ) := by
  refine g_iconst (v := 0) dX6_ruled_0 (by decide) ?_
  refine g_istore_n (ls1 := [(2, .int 0), (0, .ref h0), (1, va_rf u1)]) dX6_ruled_1 rfl (by decide) (by simp [cat_q, cat_i9, cat_j9, cat_r9, cat_n9]) ?_
  exact At.sub (ls := [(2, .int 0), (0, .ref h0), (1, va_rf u1)]) [1, 2, 0] rfl h
set_option maxHeartbeats 4000000 in
theorem bX6_ruled_2 {G : GC} {Q : Option Value → PS → Prop} {X : String → Nat → PS → Prop} {b : Nat} {h0 : Nat} {u1 : Option Nat} {x2 : Int32} {σ : PS} (h : ((6 ≤ x2) → Q (some (.ref h0)) (σ)) ∧ ((¬ 6 ≤ x2) → ∃ a_habits : Nat, Fg (σ) 6 h0 0 (.ref a_habits) ∧ (∃ (n : Nat) (f : Nat → Option Nat), Qa (σ) 105 a_habits n f ∧ (∀ y : Nat, u1 = some y → ∃ vs, Ob (σ) 14 y vs) ∧ vp_in x2 n ∧ (∀ s1 : PS, s1 = up (σ) 105 a_habits (.inr (n, .inr (.inr (va_up f x2.toNatClampNeg u1)))) → ∀ v2 : Int32, v2 = x2 + 1 → At G mX6_ruled 3 Q X b 2 [(0, .ref h0), (1, va_rf u1), (2, .int v2)] [] s1)))) : At G mX6_ruled 3 Q X b 2 [(0, .ref h0), (1, va_rf u1), (2, .int x2)] [] (σ) := by
  refine g_iload_n dX6_ruled_2 rfl 2 rfl ?_
  refine g_bipush (v := 6) dX6_ruled_3 (by decide) ?_
  refine g_icmp_ge (tgt := 21) dX6_ruled_5 (by decide) (fun c => ?_) (fun c => ?_)
  · replace h := h.1 c
    refine g_aload_n dX6_ruled_21 rfl 0 rfl ?_
    exact g_aret (x := (some h0)) rfl dX6_ruled_22 h
  · replace h := h.2 c
    refine g_aload_n dX6_ruled_8 rfl 0 rfl ?_
    obtain ⟨a_habits, hf, h⟩ := h
    refine g_get 0 dX6_ruled_9 in_X6 cl6 (by decide) q332 hf ?_
    refine g_iload_n dX6_ruled_12 rfl 2 rfl ?_
    refine g_aloadq_n dX6_ruled_13 rfl 1 rfl ?_
    obtain ⟨n, f, h1, h3, h2, h⟩ := h
    refine g_aastQ (t0 := 5) (ci := 14) dX6_ruled_14 rfl cl14 h1 h3 h2 ?_
    refine g_tops (fun s1 es1 => ?_)
    replace h := h s1 es1
    obtain ⟨v2, ev2⟩ : ∃ z : Int32, z = x2 + 1 := ⟨_, rfl⟩
    refine g_iinc (v := v2) (ls1 := [(2, .int v2), (0, .ref h0), (1, va_rf u1)]) dX6_ruled_15 2 rfl (by rw [ev2]; rfl) (by decide) (by simp [cat_q, cat_i9, cat_j9, cat_r9, cat_n9]) ?_
    replace h := h v2 ev2
    refine g_goto (tgt := 2) dX6_ruled_18 (by decide) ?_
    exact At.sub (ls := [(2, .int v2), (0, .ref h0), (1, va_rf u1)]) [1, 2, 0] rfl h
theorem eX6_ruled {G : GC} {Q : Option Value → PS → Prop} {X : String → Nat → PS → Prop} {b : Nat} {h0 : Nat} {p1 : Option Nat} {σ : PS} (h : At G mX6_ruled 3 Q X b 0 [(0, .ref h0), (1, va_rf p1)] [] σ) : Call G mX6_ruled 3 b [.ref h0, va_rf p1] σ Q X :=
  by cases p1 <;> exact Call.of (by decide +kernel) wsX6_ruled rfl (Nat.le_of_ble_eq_true rfl) (At.sub [0, 1] rfl h)
set_option maxHeartbeats 4000000 in
theorem bX7_init_0 {G : GC} {Q : Option Value → PS → Prop} {X : String → Nat → PS → Prop} {b : Nat} {h0 : Nat} {σ : PS} (h : 1 ≤ b ∧ (∀ q : Nat, (∀ κ, σ κ q = none) → (∀ s1 : PS, s1 = up (σ) 100 q (.inr (5, .inl (fun _ => 0))) → ∃ (n : Nat) (f : Nat → Int32), Ia s1 100 q n f ∧ 0 < n ∧ (∀ s1_1 : PS, s1_1 = up s1 100 q (.inr (n, .inl (upd f 0 9))) → ∃ (n_2 : Nat) (f_3 : Nat → Int32), Ia s1_1 100 q n_2 f_3 ∧ 1 < n_2 ∧ (∀ s1_4 : PS, s1_4 = up s1_1 100 q (.inr (n_2, .inl (upd f_3 1 1))) → ∃ (n_5 : Nat) (f_6 : Nat → Int32), Ia s1_4 100 q n_5 f_6 ∧ 2 < n_5 ∧ (∀ s1_7 : PS, s1_7 = up s1_4 100 q (.inr (n_5, .inl (upd f_6 2 1))) → ∃ (n_8 : Nat) (f_9 : Nat → Int32), Ia s1_7 100 q n_8 f_9 ∧ 3 < n_8 ∧ (∀ s1_10 : PS, s1_10 = up s1_7 100 q (.inr (n_8, .inl (upd f_9 3 3))) → ∃ (n_11 : Nat) (f_12 : Nat → Int32), Ia s1_10 100 q n_11 f_12 ∧ 4 < n_11 ∧ (∀ s1_13 : PS, s1_13 = up s1_10 100 q (.inr (n_11, .inl (upd f_12 4 2))) → ∃ fs : List Value, Ob s1_13 7 h0 fs ∧ 0 < fs.length ∧ (∀ s1_14 : PS, s1_14 = up s1_13 7 h0 (.inl (fs.set 0 (.ref q))) → ∃ fs_15 : List Value, Ob s1_14 7 h0 fs_15 ∧ 1 < fs_15.length ∧ (∀ s1_16 : PS, s1_16 = up s1_14 7 h0 (.inl (fs_15.set 1 (.int 8))) → ∃ fs_17 : List Value, Ob s1_16 7 h0 fs_17 ∧ 6 < fs_17.length ∧ (∀ s1_18 : PS, s1_18 = up s1_16 7 h0 (.inl (fs_17.set 6 (.int 30))) → ∃ fs_19 : List Value, Ob s1_18 7 h0 fs_19 ∧ 7 < fs_19.length ∧ (∀ s1_20 : PS, s1_20 = up s1_18 7 h0 (.inl (fs_19.set 7 (.int 12))) → Q none s1_20)))))))))))) : At G mX7_init 4 Q X b 0 [(0, .ref h0)] [] (σ) := by
  refine g_aload_n dX7_init_0 rfl 0 rfl ?_
  refine g_objInit dX7_init_1 q373 q151 q152 (by decide) (Nat.zero_le _) ?_
  refine g_aload_n dX7_init_4 rfl 0 rfl ?_
  refine g_iconst (v := 5) dX7_init_5 (by decide) ?_
  obtain ⟨hb, h⟩ := h
  refine g_newa (κ := 100) (t0 := 0) (N := 5) (ty := .int) (atype := .int) (x := .inl (fun _ => 0)) 1 dX7_init_6 q177 rfl rfl (Or.inl ⟨rfl, rfl⟩) (by decide) (by decide) (Nat.le_of_ble_eq_true rfl) (by decide) (by decide) hb (fun q hq => ?_)
  replace h := h q hq
  refine g_tops (fun s1 es1 => ?_)
  replace h := h s1 es1
  refine g_dup dX7_init_8 rfl ?_
  refine g_iconst (v := 0) dX7_init_9 (by decide) ?_
  refine g_bipush (v := 9) dX7_init_10 (by decide) ?_
  obtain ⟨n, f, h1, h2, h⟩ := h
  refine g_iast0 (j := 0) dX7_init_12 h1 (by decide) rfl h2 ?_
  refine g_tops (fun s1_1 es1_1 => ?_)
  replace h := h s1_1 es1_1
  refine g_dup dX7_init_13 rfl ?_
  refine g_iconst (v := 1) dX7_init_14 (by decide) ?_
  refine g_iconst (v := 1) dX7_init_15 (by decide) ?_
  obtain ⟨n_2, f_3, h1, h2, h⟩ := h
  refine g_iast0 (j := 1) dX7_init_16 h1 (by decide) rfl h2 ?_
  refine g_tops (fun s1_4 es1_4 => ?_)
  replace h := h s1_4 es1_4
  refine g_dup dX7_init_17 rfl ?_
  refine g_iconst (v := 2) dX7_init_18 (by decide) ?_
  refine g_iconst (v := 1) dX7_init_19 (by decide) ?_
  obtain ⟨n_5, f_6, h1, h2, h⟩ := h
  refine g_iast0 (j := 2) dX7_init_20 h1 (by decide) rfl h2 ?_
  refine g_tops (fun s1_7 es1_7 => ?_)
  replace h := h s1_7 es1_7
  refine g_dup dX7_init_21 rfl ?_
  refine g_iconst (v := 3) dX7_init_22 (by decide) ?_
  refine g_iconst (v := 3) dX7_init_23 (by decide) ?_
  obtain ⟨n_8, f_9, h1, h2, h⟩ := h
  refine g_iast0 (j := 3) dX7_init_24 h1 (by decide) rfl h2 ?_
  refine g_tops (fun s1_10 es1_10 => ?_)
  replace h := h s1_10 es1_10
  refine g_dup dX7_init_25 rfl ?_
  refine g_iconst (v := 4) dX7_init_26 (by decide) ?_
  refine g_iconst (v := 2) dX7_init_27 (by decide) ?_
  obtain ⟨n_11, f_12, h1, h2, h⟩ := h
  refine g_iast0 (j := 4) dX7_init_28 h1 (by decide) rfl h2 ?_
  refine g_tops (fun s1_13 es1_13 => ?_)
  replace h := h s1_13 es1_13
  obtain ⟨fs, hO, hl, h⟩ := h
  refine g_putF 0 dX7_init_29 in_X7 tyX7 tyX7_ok nmX7 cl7 (by decide) q374 rfl rfl rfl rfl rfl hO hl ?_
  refine g_tops (fun s1_14 es1_14 => ?_)
  replace h := h s1_14 es1_14
  refine g_aload_n dX7_init_32 rfl 0 rfl ?_
  refine g_bipush (v := 8) dX7_init_33 (by decide) ?_
  obtain ⟨fs_15, hO, hl, h⟩ := h
  refine g_put 1 dX7_init_35 in_X7 tyX7 tyX7_ok nmX7 cl7 (by decide) q378 rfl rfl rfl hO hl ?_
  refine g_tops (fun s1_16 es1_16 => ?_)
  replace h := h s1_16 es1_16
  refine g_aload_n dX7_init_38 rfl 0 rfl ?_
  refine g_bipush (v := 30) dX7_init_39 (by decide) ?_
  obtain ⟨fs_17, hO, hl, h⟩ := h
  refine g_put 6 dX7_init_41 in_X7 tyX7 tyX7_ok nmX7 cl7 (by decide) q400 rfl rfl rfl hO hl ?_
  refine g_tops (fun s1_18 es1_18 => ?_)
  replace h := h s1_18 es1_18
  refine g_aload_n dX7_init_44 rfl 0 rfl ?_
  refine g_bipush (v := 12) dX7_init_45 (by decide) ?_
  obtain ⟨fs_19, hO, hl, h⟩ := h
  refine g_put 7 dX7_init_47 in_X7 tyX7 tyX7_ok nmX7 cl7 (by decide) q404 rfl rfl rfl hO hl ?_
  refine g_tops (fun s1_20 es1_20 => ?_)
  replace h := h s1_20 es1_20
  exact g_vret rfl dX7_init_50 h
theorem eX7_init {G : GC} {Q : Option Value → PS → Prop} {X : String → Nat → PS → Prop} {b : Nat} {h0 : Nat} {σ : PS} (h : At G mX7_init 4 Q X b 0 [(0, .ref h0)] [] σ) : Call G mX7_init 4 b [.ref h0] σ Q X :=
  Call.of (by decide +kernel) wsX7_init rfl (Nat.le_of_ble_eq_true rfl) (At.sub (ls := [(0, .ref h0)]) [0] rfl h)
set_option maxHeartbeats 4000000 in
theorem bX8_init_0 {G : GC} {Q : Option Value → PS → Prop} {X : String → Nat → PS → Prop} {b : Nat} {h0 : Nat} {σ : PS} (h : 1 ≤ b ∧ (∀ q : Nat, (∀ κ, σ κ q = none) → (∀ s1 : PS, s1 = up (σ) 100 q (.inr (10, .inl (fun _ => 0))) → ∃ fs : List Value, Ob s1 8 h0 fs ∧ 0 < fs.length ∧ (∀ s1_1 : PS, s1_1 = up s1 8 h0 (.inl (fs.set 0 (.ref q))) → 1 ≤ b - 1 ∧ (∀ q_2 : Nat, (∀ κ, s1_1 κ q_2 = none) → (∀ s1_3 : PS, s1_3 = up s1_1 100 q_2 (.inr (10, .inl (fun _ => 0))) → ∃ fs_4 : List Value, Ob s1_3 8 h0 fs_4 ∧ 1 < fs_4.length ∧ (∀ s1_5 : PS, s1_5 = up s1_3 8 h0 (.inl (fs_4.set 1 (.ref q_2))) → 1 ≤ b - 1 - 1 ∧ (∀ q_6 : Nat, (∀ κ, s1_5 κ q_6 = none) → (∀ s1_7 : PS, s1_7 = up s1_5 100 q_6 (.inr (10, .inl (fun _ => 0))) → ∃ fs_8 : List Value, Ob s1_7 8 h0 fs_8 ∧ 2 < fs_8.length ∧ (∀ s1_9 : PS, s1_9 = up s1_7 8 h0 (.inl (fs_8.set 2 (.ref q_6))) → Q none s1_9)))))))))) : At G mX8_init 4 Q X b 0 [(0, .ref h0)] [] (σ) := by
  refine g_aload_n dX8_init_0 rfl 0 rfl ?_
  refine g_objInit dX8_init_1 q435 q151 q152 (by decide) (Nat.zero_le _) ?_
  refine g_aload_n dX8_init_4 rfl 0 rfl ?_
  refine g_bipush (v := 10) dX8_init_5 (by decide) ?_
  obtain ⟨hb, h⟩ := h
  refine g_newa (κ := 100) (t0 := 0) (N := 10) (ty := .int) (atype := .int) (x := .inl (fun _ => 0)) 1 dX8_init_7 q177 rfl rfl (Or.inl ⟨rfl, rfl⟩) (by decide) (by decide) (Nat.le_of_ble_eq_true rfl) (by decide) (by decide) hb (fun q hq => ?_)
  replace h := h q hq
  refine g_tops (fun s1 es1 => ?_)
  replace h := h s1 es1
  obtain ⟨fs, hO, hl, h⟩ := h
  refine g_putF 0 dX8_init_9 in_X8 tyX8 tyX8_ok nmX8 cl8 (by decide) q436 rfl rfl rfl rfl rfl hO hl ?_
  refine g_tops (fun s1_1 es1_1 => ?_)
  replace h := h s1_1 es1_1
  refine g_aload_n dX8_init_12 rfl 0 rfl ?_
  refine g_bipush (v := 10) dX8_init_13 (by decide) ?_
  obtain ⟨hb, h⟩ := h
  refine g_newa (κ := 100) (t0 := 0) (N := 10) (ty := .int) (atype := .int) (x := .inl (fun _ => 0)) 1 dX8_init_15 q177 rfl rfl (Or.inl ⟨rfl, rfl⟩) (by decide) (by decide) (Nat.le_of_ble_eq_true rfl) (by decide) (by decide) hb (fun q_2 hq => ?_)
  replace h := h q_2 hq
  refine g_tops (fun s1_3 es1_3 => ?_)
  replace h := h s1_3 es1_3
  obtain ⟨fs_4, hO, hl, h⟩ := h
  refine g_putF 1 dX8_init_17 in_X8 tyX8 tyX8_ok nmX8 cl8 (by decide) q438 rfl rfl rfl rfl rfl hO hl ?_
  refine g_tops (fun s1_5 es1_5 => ?_)
  replace h := h s1_5 es1_5
  refine g_aload_n dX8_init_20 rfl 0 rfl ?_
  refine g_bipush (v := 10) dX8_init_21 (by decide) ?_
  obtain ⟨hb, h⟩ := h
  refine g_newa (κ := 100) (t0 := 0) (N := 10) (ty := .int) (atype := .int) (x := .inl (fun _ => 0)) 1 dX8_init_23 q177 rfl rfl (Or.inl ⟨rfl, rfl⟩) (by decide) (by decide) (Nat.le_of_ble_eq_true rfl) (by decide) (by decide) hb (fun q_6 hq => ?_)
  replace h := h q_6 hq
  refine g_tops (fun s1_7 es1_7 => ?_)
  replace h := h s1_7 es1_7
  obtain ⟨fs_8, hO, hl, h⟩ := h
  refine g_putF 2 dX8_init_25 in_X8 tyX8 tyX8_ok nmX8 cl8 (by decide) q440 rfl rfl rfl rfl rfl hO hl ?_
  refine g_tops (fun s1_9 es1_9 => ?_)
  replace h := h s1_9 es1_9
  exact g_vret rfl dX8_init_28 h
theorem eX8_init {G : GC} {Q : Option Value → PS → Prop} {X : String → Nat → PS → Prop} {b : Nat} {h0 : Nat} {σ : PS} (h : At G mX8_init 4 Q X b 0 [(0, .ref h0)] [] σ) : Call G mX8_init 4 b [.ref h0] σ Q X :=
  Call.of (by decide +kernel) wsX8_init rfl (Nat.le_of_ble_eq_true rfl) (At.sub (ls := [(0, .ref h0)]) [0] rfl h)
set_option maxHeartbeats 4000000 in
theorem bX8_isSo_0 {G : GC} {Q : Option Value → PS → Prop} {X : String → Nat → PS → Prop} {b : Nat} {h0 : Nat} {a1 : Nat} {σ : PS} (h : At G mX8_isSo 5 Q X b 2 [(0, .ref h0), (1, .ref a1), (2, .int 0)] [] (σ)) : At G mX8_isSo 5 Q X b 0 [(0, .ref h0), (1, .ref a1)] [] (σ) := by
  refine g_iconst (v := 0) dX8_isSo_0 (by decide) ?_
  refine g_istore_n (ls1 := [(2, .int 0), (0, .ref h0), (1, .ref a1)]) dX8_isSo_1 rfl (by decide) rfl ?_
  exact At.sub (ls := [(2, .int 0), (0, .ref h0), (1, .ref a1)]) [1, 2, 0] rfl h
set_option maxHeartbeats 4000000 in
theorem bX8_isSo_2 {G : GC} {Q : Option Value → PS → Prop} {X : String → Nat → PS → Prop} {b : Nat} {h0 : Nat} {a1 : Nat} {x2 : Int32} {σ : PS} (h : ∃ x_lines : Int32, Fg (σ) 8 h0 3 (.int x_lines) ∧ (((x_lines ≤ x2) → Q (some (.int 1)) (σ)) ∧ ((¬ x_lines ≤ x2) → ∃ a_visit : Nat, Fg (σ) 8 h0 0 (.ref a_visit) ∧ (∃ (n : Nat) (f : Nat → Int32), Ia (σ) 100 a_visit n f ∧ vp_in x2 n ∧ (∃ x_visit : Int32, Fg (σ) 26 a1 2 (.int x_visit) ∧ (((¬ (f x2.toNatClampNeg) = x_visit) → ∀ v2 : Int32, v2 = x2 + 1 → At G mX8_isSo 5 Q X b 2 [(0, .ref h0), (1, .ref a1), (2, .int v2)] [] (σ)) ∧ (((f x2.toNatClampNeg) = x_visit) → ∃ a_what : Nat, Fg (σ) 8 h0 1 (.ref a_what) ∧ (∃ (n_1 : Nat) (f_2 : Nat → Int32), Ia (σ) 100 a_what n_1 f_2 ∧ vp_in x2 n_1 ∧ ((∃ fs : List Value, Ob (σ) 26 a1 fs) ∧ CallO G mX26_known 4 [.ref a1, .int (f_2 x2.toNatClampNeg)] (σ) (pI (fun rx => ∃ a_much : Nat, Fg (σ) 8 h0 2 (.ref a_much) ∧ (∃ (n_3 : Nat) (f_4 : Nat → Int32), Ia (σ) 100 a_much n_3 f_4 ∧ vp_in x2 n_3 ∧ (((rx = (f_4 x2.toNatClampNeg)) → ∀ v2 : Int32, v2 = x2 + 1 → At G mX8_isSo 5 Q X b 2 [(0, .ref h0), (1, .ref a1), (2, .int v2)] [] (σ)) ∧ ((¬ rx = (f_4 x2.toNatClampNeg)) → Q (some (.int 0)) (σ))))))))))))))) : At G mX8_isSo 5 Q X b 2 [(0, .ref h0), (1, .ref a1), (2, .int x2)] [] (σ) := by
  refine g_iload_n dX8_isSo_2 rfl 2 rfl ?_
  refine g_aload_n dX8_isSo_3 rfl 0 rfl ?_
  obtain ⟨x_lines, hf, h⟩ := h
  refine g_get 3 dX8_isSo_4 in_X8 cl8 (by decide) q442 hf ?_
  refine g_icmp_ge (tgt := 50) dX8_isSo_7 (by decide) (fun c => ?_) (fun c => ?_)
  · replace h := h.1 c
    refine g_iconst (v := 1) dX8_isSo_50 (by decide) ?_
    exact g_zret rfl rfl dX8_isSo_51 h
  · replace h := h.2 c
    refine g_aload_n dX8_isSo_10 rfl 0 rfl ?_
    obtain ⟨a_visit, hf, h⟩ := h
    refine g_get 0 dX8_isSo_11 in_X8 cl8 (by decide) q436 hf ?_
    refine g_iload_n dX8_isSo_14 rfl 2 rfl ?_
    obtain ⟨n, f, h1, h2, h⟩ := h
    refine g_iald dX8_isSo_15 h1 h2 ?_
    refine g_aload_n dX8_isSo_16 rfl 1 rfl ?_
    obtain ⟨x_visit, hf, h⟩ := h
    refine g_getN 2 dX8_isSo_17 in_X26 cl26 (by decide) q561 hf ?_
    refine g_icmp_ne (tgt := 44) dX8_isSo_20 (by decide) (fun c => ?_) (fun c => ?_)
    · replace h := h.1 c
      obtain ⟨v2, ev2⟩ : ∃ z : Int32, z = x2 + 1 := ⟨_, rfl⟩
      refine g_iinc (v := v2) (ls1 := [(2, .int v2), (0, .ref h0), (1, .ref a1)]) dX8_isSo_44 2 rfl (by rw [ev2]; rfl) (by decide) rfl ?_
      replace h := h v2 ev2
      refine g_goto (tgt := 2) dX8_isSo_47 (by decide) ?_
      exact At.sub (ls := [(2, .int v2), (0, .ref h0), (1, .ref a1)]) [1, 2, 0] rfl h
    · replace h := h.2 c
      refine g_aload_n dX8_isSo_23 rfl 1 rfl ?_
      refine g_aload_n dX8_isSo_24 rfl 0 rfl ?_
      obtain ⟨a_what, hf, h⟩ := h
      refine g_get 1 dX8_isSo_25 in_X8 cl8 (by decide) q438 hf ?_
      refine g_iload_n dX8_isSo_28 rfl 2 rfl ?_
      obtain ⟨n_1, f_2, h1, h2, h⟩ := h
      refine g_iald dX8_isSo_29 h1 h2 ?_
      obtain ⟨⟨_, hO⟩, h⟩ := h
      refine g_callV (N := mX26_known) (st := []) (As := [.int (f_2 x2.toNatClampNeg)]) (a := a1) dX8_isSo_30 wsX26_known (lw_V q610 q611 q612 q144 q613) rfl mokX26_known rfl cl26 (by decide) (by decide) (Nat.zero_le _) (Nat.zero_le _) hO h (fun E q s hx => AtX.never hx) (fun _ s1 hq => ?_)
      obtain ⟨es, hq⟩ := hq
      refine g_tops2 es ?_
      obtain ⟨rx, rfl, h⟩ := hq
      refine At.stk (st' := [.int rx]) rfl ?_
      refine g_aload_n dX8_isSo_33 rfl 0 rfl ?_
      obtain ⟨a_much, hf, h⟩ := h
      refine g_get 2 dX8_isSo_34 in_X8 cl8 (by decide) q440 hf ?_
      refine g_iload_n dX8_isSo_37 rfl 2 rfl ?_
      obtain ⟨n_3, f_4, h1, h2, h⟩ := h
      refine g_iald dX8_isSo_38 h1 h2 ?_
      refine g_icmp_eq (tgt := 44) dX8_isSo_39 (by decide) (fun c => ?_) (fun c => ?_)
      · replace h := h.1 c
        obtain ⟨v2, ev2⟩ : ∃ z : Int32, z = x2 + 1 := ⟨_, rfl⟩
        refine g_iinc (v := v2) (ls1 := [(2, .int v2), (0, .ref h0), (1, .ref a1)]) dX8_isSo_44 2 rfl (by rw [ev2]; rfl) (by decide) rfl ?_
        replace h := h v2 ev2
        refine g_goto (tgt := 2) dX8_isSo_47 (by decide) ?_
        exact At.sub (ls := [(2, .int v2), (0, .ref h0), (1, .ref a1)]) [1, 2, 0] rfl h
      · replace h := h.2 c
        refine g_iconst (v := 0) dX8_isSo_42 (by decide) ?_
        exact g_zret rfl rfl dX8_isSo_43 h
theorem eX8_isSo {G : GC} {Q : Option Value → PS → Prop} {X : String → Nat → PS → Prop} {b : Nat} {h0 : Nat} {p1 : Nat} {σ : PS} (h : At G mX8_isSo 5 Q X b 0 [(0, .ref h0), (1, .ref p1)] [] σ) : Call G mX8_isSo 5 b [.ref h0, .ref p1] σ Q X :=
  Call.of (by decide +kernel) wsX8_isSo rfl (Nat.le_of_ble_eq_true rfl) (At.sub (ls := [(0, .ref h0), (1, .ref p1)]) [0, 1] rfl h)
