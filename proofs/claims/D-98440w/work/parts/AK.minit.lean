set_option maxRecDepth 100000
/-! Part B: the reference is made -/
def PW (κ0 h0 : Nat) (σ0 : PS) (fs : List Value) (l : List (Nat × Nat × aE)) (s : PS) : Prop :=
  s κ0 h0 = some (.inl fs) ∧ (∀ z ∈ l, s z.1 z.2.1 = some z.2.2 ∧ ∀ κ, σ0 κ z.2.1 = none) ∧ (∀ (i j : Nat) (z w : Nat × Nat × aE), l[i]? = some z → l[j]? = some w → z.2.1 = w.2.1 → i = j) ∧ KpD (fun κ a => κ = κ0 ∧ a = h0) σ0 s
theorem PW.z {κ0 h0 : Nat} {σ0 : PS} {fs : List Value} (h : σ0 κ0 h0 = some (.inl fs)) : PW κ0 h0 σ0 fs [] σ0 := ⟨h, fun z hz => (by cases hz), fun i j z w hz => (by cases hz), KpD.rf⟩
theorem PW.fr {κ0 h0 q : Nat} {σ0 s : PS} {fs : List Value} {l : List (Nat × Nat × aE)} (h : PW κ0 h0 σ0 fs l s) (hq : ∀ κ, s κ q = none) : ∀ κ, σ0 κ q = none := fun κ => by
  cases c : σ0 κ q with
  | none => rfl
  | some e =>
    exfalso
    by_cases d : κ = κ0 ∧ q = h0
    · obtain ⟨rfl, rfl⟩ := d
      have := h.1
      rw [hq] at this
      cases this
    · have := h.2.2.2 κ q e c d
      rw [hq] at this
      cases this
theorem PW.nw {κ0 h0 κ q : Nat} {σ0 s s' : PS} {fs : List Value} {l : List (Nat × Nat × aE)} {e : aE} (h : PW κ0 h0 σ0 fs l s) (hq : ∀ κ, s κ q = none) (e1 : s' = up s κ q e) : PW κ0 h0 σ0 fs ((κ, q, e) :: l) s' := by
  have fr := h.fr hq
  obtain ⟨h1, h2, h3, h4⟩ := h
  subst e1
  have old : ∀ κ' a x, s κ' a = some x → up s κ q e κ' a = some x := fun κ' a x hx => by
    rw [up_a]
    · exact hx
    · intro c
      rw [c, hq] at hx
      cases hx
  have ne : ∀ z ∈ l, z.2.1 ≠ q := fun z hz c => by
    have := (h2 z hz).1
    rw [c, hq] at this
    cases this
  refine ⟨old _ _ _ h1, fun z hz => ?_, fun i j z w hz hw hh => ?_, fun κ' a x hx n => old _ _ _ (h4 κ' a x hx n)⟩
  · rcases List.mem_cons.mp hz with rfl | hz
    · exact ⟨up_eq, fr⟩
    · exact ⟨old _ _ _ (h2 z hz).1, (h2 z hz).2⟩
  · cases i with
    | zero =>
      cases j with
      | zero => rfl
      | succ j =>
        cases hz
        exact absurd hh.symm (ne w (List.mem_of_getElem? (show l[j]? = some w from hw)))
    | succ i =>
      cases j with
      | zero =>
        cases hw
        exact absurd hh (ne z (List.mem_of_getElem? (show l[i]? = some z from hz)))
      | succ j => exact congrArg Nat.succ (h3 i j z w hz hw hh)
theorem PW.fd {κ0 h0 : Nat} {σ0 s s' : PS} {fs fs' : List Value} {l : List (Nat × Nat × aE)} (h : PW κ0 h0 σ0 fs l s) (x : ∃ e, σ0 κ0 h0 = some e) (e1 : s' = up s κ0 h0 (.inl fs')) : PW κ0 h0 σ0 fs' l s' := by
  obtain ⟨h1, h2, h3, h4⟩ := h
  obtain ⟨e0, x⟩ := x
  subst e1
  refine ⟨up_eq, fun z hz => ⟨?_, (h2 z hz).2⟩, h3, KpD.up h4 ⟨rfl, rfl⟩⟩
  rw [up_a]
  · exact (h2 z hz).1
  · intro c
    have := (h2 z hz).2 κ0
    rw [c, x] at this
    cases this
theorem lN_0 : lN 0 = 0 := by decide
/-- the state at first -/
def T0 : TS := (o0, 0, fun _ => (0, fun _ => 0, fun _ => 0), fun _ => [], [], fun _ => 0, 0, -1, 0, 0, fun _ => 0, 0, 0)
theorem T0_ok : tsOK T0 := by
  refine ⟨⟨by decide, by decide, by decide, by decide, by decide, by decide, by decide, ?_⟩, by decide, fun i _ => ⟨Nat.zero_le _, fun j hj => absurd hj (Nat.not_lt_zero _)⟩, fun p _ => ⟨fun Z hZ => (by cases hZ), Nat.zero_le _⟩, Nat.zero_le _, fun i hi => absurd hi (Nat.not_lt_zero _), Nat.zero_le _, Nat.zero_le _, fun i hi => absurd hi (Nat.not_lt_zero _)⟩
  intro i h1 h2
  have : i = 7 ∨ i = 8 ∨ i = 9 ∨ i = 10 ∨ i = 11 := by omega
  rcases this with rfl | rfl | rfl | rfl | rfl <;> decide
set_option maxHeartbeats 4000000 in
theorem m_init {G : GC} {σ : PS} {Q : Option Value → PS → Prop} {X : String → Nat → PS → Prop} {b o : Nat} (hb : 3200 ≤ b) (hO : σ 9 o = some (.inl [.int 0, .null, .int 0, .int 0, .int 0, .int 0, .int 0, .int 0, .int 0, .null, .null, .null, .null, .null, .null, .null, .int 0, .int 0, .int 0, .int 0, .null, .null, .null, .null, .null, .null, .null, .null, .int 0, .int 0, .null, .null, .int 0, .null, .null, .int 0, .int 0, .null, .null, .null, .null, .long 0, .long 0, .int 0, .int 0, .int 0, .int 0, .int 0, .int 0, .int 0, .int 0, .int 0, .int 0, .int 0, .int 0, .int 0, .null, .int 0, .int 0, .int 0, .int 0, .null, .int 0, .null, .int 0])) (k : ∀ τ ad F L I J, MW ad o F L I J τ → MI F L I J T0 → KpD (fun κ a => κ = 9 ∧ a = o) σ τ → (∀ k, k < 65 → 2 ≤ mKind k → ∀ κ, σ κ (ad k) = none) → Q none τ) : Call G mX9_init 5 b [.ref o] σ Q X := by
  have z : ∃ e, σ 9 o = some e := ⟨_, hO⟩
  have p0 := PW.z hO
  refine eX9_init (bX9_init_0 ⟨by omega, fun q1 n1 s1 e1 => ?_⟩)
  have p1 := p0.nw n1 e1
  refine ⟨_, p1.1, Nat.le_of_ble_eq_true rfl, fun s2 e2 => ?_⟩
  have p2 := p1.fd z e2
  clear p1
  refine ⟨_, p2.1, Nat.le_of_ble_eq_true rfl, fun s3 e3 => ?_⟩
  have p3 := p2.fd z e3
  clear p2
  refine ⟨by omega, fun q9 n9 s4 e4 => ?_⟩
  have p4 := p3.nw n9 e4
  refine ⟨_, p4.1, Nat.le_of_ble_eq_true rfl, fun s5 e5 => ?_⟩
  have p5 := p4.fd z e5
  clear p4
  refine ⟨by omega, fun q10 n10 s6 e6 => ?_⟩
  have p6 := p5.nw n10 e6
  refine ⟨_, p6.1, Nat.le_of_ble_eq_true rfl, fun s7 e7 => ?_⟩
  have p7 := p6.fd z e7
  clear p6
  refine ⟨by omega, fun q11 n11 s8 e8 => ?_⟩
  have p8 := p7.nw n11 e8
  refine ⟨_, p8.1, Nat.le_of_ble_eq_true rfl, fun s9 e9 => ?_⟩
  have p9 := p8.fd z e9
  clear p8
  refine ⟨by omega, fun q12 n12 s10 e10 => ?_⟩
  have p10 := p9.nw n12 e10
  refine ⟨_, p10.1, Nat.le_of_ble_eq_true rfl, fun s11 e11 => ?_⟩
  have p11 := p10.fd z e11
  clear p10
  refine ⟨by omega, fun q13 n13 s12 e12 => ?_⟩
  have p12 := p11.nw n13 e12
  refine ⟨_, p12.1, Nat.le_of_ble_eq_true rfl, fun s13 e13 => ?_⟩
  have p13 := p12.fd z e13
  clear p12
  refine ⟨by omega, fun q14 n14 s14 e14 => ?_⟩
  have p14 := p13.nw n14 e14
  refine ⟨_, p14.1, Nat.le_of_ble_eq_true rfl, fun s15 e15 => ?_⟩
  have p15 := p14.fd z e15
  clear p14
  refine ⟨by omega, fun q15 n15 s16 e16 => ?_⟩
  have p16 := p15.nw n15 e16
  refine ⟨_, p16.1, Nat.le_of_ble_eq_true rfl, fun s17 e17 => ?_⟩
  have p17 := p16.fd z e17
  clear p16
  refine ⟨by omega, fun q20 n20 s18 e18 => ?_⟩
  have p18 := p17.nw n20 e18
  refine ⟨_, p18.1, Nat.le_of_ble_eq_true rfl, fun s19 e19 => ?_⟩
  have p19 := p18.fd z e19
  clear p18
  refine ⟨by omega, fun q21 n21 s20 e20 => ?_⟩
  have p20 := p19.nw n21 e20
  refine ⟨_, p20.1, Nat.le_of_ble_eq_true rfl, fun s21 e21 => ?_⟩
  have p21 := p20.fd z e21
  clear p20
  refine ⟨by omega, fun q22 n22 s22 e22 => ?_⟩
  have p22 := p21.nw n22 e22
  refine ⟨_, p22.1, Nat.le_of_ble_eq_true rfl, fun s23 e23 => ?_⟩
  have p23 := p22.fd z e23
  clear p22
  refine ⟨by omega, fun q23 n23 s24 e24 => ?_⟩
  have p24 := p23.nw n23 e24
  refine ⟨_, p24.1, Nat.le_of_ble_eq_true rfl, fun s25 e25 => ?_⟩
  have p25 := p24.fd z e25
  clear p24
  refine ⟨by omega, fun q24 n24 s26 e26 => ?_⟩
  have p26 := p25.nw n24 e26
  refine ⟨_, p26.1, Nat.le_of_ble_eq_true rfl, fun s27 e27 => ?_⟩
  have p27 := p26.fd z e27
  clear p26
  refine ⟨by omega, fun q25 n25 s28 e28 => ?_⟩
  have p28 := p27.nw n25 e28
  refine ⟨_, p28.1, Nat.le_of_ble_eq_true rfl, fun s29 e29 => ?_⟩
  have p29 := p28.fd z e29
  clear p28
  refine ⟨by omega, fun q26 n26 s30 e30 => ?_⟩
  have p30 := p29.nw n26 e30
  refine ⟨_, p30.1, Nat.le_of_ble_eq_true rfl, fun s31 e31 => ?_⟩
  have p31 := p30.fd z e31
  clear p30
  refine ⟨by omega, fun q27 n27 s32 e32 => ?_⟩
  have p32 := p31.nw n27 e32
  refine ⟨_, p32.1, Nat.le_of_ble_eq_true rfl, fun s33 e33 => ?_⟩
  have p33 := p32.fd z e33
  clear p32
  refine ⟨by omega, fun q30 n30 s34 e34 => ?_⟩
  have p34 := p33.nw n30 e34
  refine ⟨_, p34.1, Nat.le_of_ble_eq_true rfl, fun s35 e35 => ?_⟩
  have p35 := p34.fd z e35
  clear p34
  refine ⟨by omega, fun q31 n31 s36 e36 => ?_⟩
  have p36 := p35.nw n31 e36
  refine ⟨_, p36.1, Nat.le_of_ble_eq_true rfl, fun s37 e37 => ?_⟩
  have p37 := p36.fd z e37
  clear p36
  refine ⟨by omega, fun q33 n33 s38 e38 => ?_⟩
  have p38 := p37.nw n33 e38
  refine ⟨_, p38.1, Nat.le_of_ble_eq_true rfl, fun s39 e39 => ?_⟩
  have p39 := p38.fd z e39
  clear p38
  refine ⟨by omega, fun q34 n34 s40 e40 => ?_⟩
  have p40 := p39.nw n34 e40
  refine ⟨_, p40.1, Nat.le_of_ble_eq_true rfl, fun s41 e41 => ?_⟩
  have p41 := p40.fd z e41
  clear p40
  refine ⟨by omega, fun q37 n37 s42 e42 => ?_⟩
  have p42 := p41.nw n37 e42
  refine ⟨_, p42.1, Nat.le_of_ble_eq_true rfl, fun s43 e43 => ?_⟩
  have p43 := p42.fd z e43
  clear p42
  refine ⟨by omega, fun q38 n38 s44 e44 => ?_⟩
  have p44 := p43.nw n38 e44
  refine ⟨_, p44.1, Nat.le_of_ble_eq_true rfl, fun s45 e45 => ?_⟩
  have p45 := p44.fd z e45
  clear p44
  refine ⟨by omega, fun q39 n39 s46 e46 => ?_⟩
  have p46 := p45.nw n39 e46
  refine ⟨_, p46.1, Nat.le_of_ble_eq_true rfl, fun s47 e47 => ?_⟩
  have p47 := p46.fd z e47
  clear p46
  refine ⟨by omega, fun q40 n40 s48 e48 => ?_⟩
  have p48 := p47.nw n40 e48
  refine ⟨_, p48.1, Nat.le_of_ble_eq_true rfl, fun s49 e49 => ?_⟩
  have p49 := p48.fd z e49
  clear p48
  refine ⟨by omega, fun q56 n56 s50 e50 => ?_⟩
  have p50 := p49.nw n56 e50
  refine ⟨_, p50.1, Nat.le_of_ble_eq_true rfl, fun s51 e51 => ?_⟩
  have p51 := p50.fd z e51
  clear p50
  refine ⟨by omega, fun q61 n61 s52 e52 => ?_⟩
  have p52 := p51.nw n61 e52
  refine ⟨_, p52.1, Nat.le_of_ble_eq_true rfl, fun s53 e53 => ?_⟩
  have p53 := p52.fd z e53
  clear p52
  refine ⟨by omega, fun q63 n63 s54 e54 => ?_⟩
  have p54 := p53.nw n63 e54
  refine ⟨_, p54.1, Nat.le_of_ble_eq_true rfl, fun s55 e55 => ?_⟩
  have p55 := p54.fd z e55
  clear p54
  obtain ⟨ad, had⟩ : ∃ ad : Nat → Nat, ad = fun k => if k = 1 then q1 else if k = 9 then q9 else if k = 10 then q10 else if k = 11 then q11 else if k = 12 then q12 else if k = 13 then q13 else if k = 14 then q14 else if k = 15 then q15 else if k = 20 then q20 else if k = 21 then q21 else if k = 22 then q22 else if k = 23 then q23 else if k = 24 then q24 else if k = 25 then q25 else if k = 26 then q26 else if k = 27 then q27 else if k = 30 then q30 else if k = 31 then q31 else if k = 33 then q33 else if k = 34 then q34 else if k = 37 then q37 else if k = 38 then q38 else if k = 39 then q39 else if k = 40 then q40 else if k = 56 then q56 else if k = 61 then q61 else if k = 63 then q63 else 0 := ⟨_, rfl⟩
  obtain ⟨F, hF⟩ : ∃ F : Nat → Int32, F = fun j => if j = 8 then -1 else 0 := ⟨_, rfl⟩
  have e2 : ∀ k, k < 65 → mKind k = 2 → k ∈ [1, 9, 10, 11, 12, 13, 14, 15, 20, 21, 22, 23, 24, 25, 26, 27, 30, 31, 33, 34, 56, 61, 63] := by decide
  have e3 : ∀ k, k < 65 → mKind k = 3 → k ∈ [37, 38, 39, 40] := by decide
  have e4 : ∀ k, k < 65 → 2 ≤ mKind k → k ∈ [1, 9, 10, 11, 12, 13, 14, 15, 20, 21, 22, 23, 24, 25, 26, 27, 30, 31, 33, 34, 37, 38, 39, 40, 56, 61, 63] := by decide
  have w2 : ∀ k, k < 65 → mKind k = 2 → s55 100 (ad k) = some (.inr (mLen k, .inl (fun _ => 0))) := fun k hk h2 => by
    have hm := e2 k hk h2
    simp only [List.mem_cons, List.not_mem_nil, or_false] at hm
    subst had
    rcases hm with rfl | rfl | rfl | rfl | rfl | rfl | rfl | rfl | rfl | rfl | rfl | rfl | rfl | rfl | rfl | rfl | rfl | rfl | rfl | rfl | rfl | rfl | rfl
    · exact (p55.2.1 _ (List.mem_of_getElem? (i := 26) rfl)).1
    · exact (p55.2.1 _ (List.mem_of_getElem? (i := 25) rfl)).1
    · exact (p55.2.1 _ (List.mem_of_getElem? (i := 24) rfl)).1
    · exact (p55.2.1 _ (List.mem_of_getElem? (i := 23) rfl)).1
    · exact (p55.2.1 _ (List.mem_of_getElem? (i := 22) rfl)).1
    · exact (p55.2.1 _ (List.mem_of_getElem? (i := 21) rfl)).1
    · exact (p55.2.1 _ (List.mem_of_getElem? (i := 20) rfl)).1
    · exact (p55.2.1 _ (List.mem_of_getElem? (i := 19) rfl)).1
    · exact (p55.2.1 _ (List.mem_of_getElem? (i := 18) rfl)).1
    · exact (p55.2.1 _ (List.mem_of_getElem? (i := 17) rfl)).1
    · exact (p55.2.1 _ (List.mem_of_getElem? (i := 16) rfl)).1
    · exact (p55.2.1 _ (List.mem_of_getElem? (i := 15) rfl)).1
    · exact (p55.2.1 _ (List.mem_of_getElem? (i := 14) rfl)).1
    · exact (p55.2.1 _ (List.mem_of_getElem? (i := 13) rfl)).1
    · exact (p55.2.1 _ (List.mem_of_getElem? (i := 12) rfl)).1
    · exact (p55.2.1 _ (List.mem_of_getElem? (i := 11) rfl)).1
    · exact (p55.2.1 _ (List.mem_of_getElem? (i := 10) rfl)).1
    · exact (p55.2.1 _ (List.mem_of_getElem? (i := 9) rfl)).1
    · exact (p55.2.1 _ (List.mem_of_getElem? (i := 8) rfl)).1
    · exact (p55.2.1 _ (List.mem_of_getElem? (i := 7) rfl)).1
    · exact (p55.2.1 _ (List.mem_of_getElem? (i := 2) rfl)).1
    · exact (p55.2.1 _ (List.mem_of_getElem? (i := 1) rfl)).1
    · exact (p55.2.1 _ (List.mem_of_getElem? (i := 0) rfl)).1
  have w3 : ∀ k, k < 65 → mKind k = 3 → s55 101 (ad k) = some (.inr (mLen k, .inr (.inl (fun _ => 0)))) := fun k hk h2 => by
    have hm := e3 k hk h2
    simp only [List.mem_cons, List.not_mem_nil, or_false] at hm
    subst had
    rcases hm with rfl | rfl | rfl | rfl
    · exact (p55.2.1 _ (List.mem_of_getElem? (i := 6) rfl)).1
    · exact (p55.2.1 _ (List.mem_of_getElem? (i := 5) rfl)).1
    · exact (p55.2.1 _ (List.mem_of_getElem? (i := 4) rfl)).1
    · exact (p55.2.1 _ (List.mem_of_getElem? (i := 3) rfl)).1
  have w4 : ∀ k, k < 65 → 2 ≤ mKind k → ∃ (i : Nat) (z : Nat × Nat × aE), ([((100, q63, .inr (3090, .inl (fun _ => 0))) : Nat × Nat × aE), ((100, q61, .inr (980, .inl (fun _ => 0))) : Nat × Nat × aE), ((100, q56, .inr (8, .inl (fun _ => 0))) : Nat × Nat × aE), ((101, q40, .inr (24, .inr (.inl (fun _ => 0)))) : Nat × Nat × aE), ((101, q39, .inr (6, .inr (.inl (fun _ => 0)))) : Nat × Nat × aE), ((101, q38, .inr (16900, .inr (.inl (fun _ => 0)))) : Nat × Nat × aE), ((101, q37, .inr (16900, .inr (.inl (fun _ => 0)))) : Nat × Nat × aE), ((100, q34, .inr (16900, .inl (fun _ => 0))) : Nat × Nat × aE), ((100, q33, .inr (16900, .inl (fun _ => 0))) : Nat × Nat × aE), ((100, q31, .inr (30, .inl (fun _ => 0))) : Nat × Nat × aE), ((100, q30, .inr (30, .inl (fun _ => 0))) : Nat × Nat × aE), ((100, q27, .inr (7, .inl (fun _ => 0))) : Nat × Nat × aE), ((100, q26, .inr (224, .inl (fun _ => 0))) : Nat × Nat × aE), ((100, q25, .inr (1050, .inl (fun _ => 0))) : Nat × Nat × aE), ((100, q24, .inr (1050, .inl (fun _ => 0))) : Nat × Nat × aE), ((100, q23, .inr (150, .inl (fun _ => 0))) : Nat × Nat × aE), ((100, q22, .inr (32, .inl (fun _ => 0))) : Nat × Nat × aE), ((100, q21, .inr (150, .inl (fun _ => 0))) : Nat × Nat × aE), ((100, q20, .inr (150, .inl (fun _ => 0))) : Nat × Nat × aE), ((100, q15, .inr (24, .inl (fun _ => 0))) : Nat × Nat × aE), ((100, q14, .inr (24, .inl (fun _ => 0))) : Nat × Nat × aE), ((100, q13, .inr (24, .inl (fun _ => 0))) : Nat × Nat × aE), ((100, q12, .inr (24, .inl (fun _ => 0))) : Nat × Nat × aE), ((100, q11, .inr (12, .inl (fun _ => 0))) : Nat × Nat × aE), ((100, q10, .inr (12, .inl (fun _ => 0))) : Nat × Nat × aE), ((100, q9, .inr (600, .inl (fun _ => 0))) : Nat × Nat × aE), ((100, q1, .inr (2, .inl (fun _ => 0))) : Nat × Nat × aE)])[i]? = some z ∧ z.2.1 = ad k ∧ ([63, 61, 56, 40, 39, 38, 37, 34, 33, 31, 30, 27, 26, 25, 24, 23, 22, 21, 20, 15, 14, 13, 12, 11, 10, 9, 1] : List Nat)[i]? = some k := fun k hk h2 => by
    have hm := e4 k hk h2
    simp only [List.mem_cons, List.not_mem_nil, or_false] at hm
    subst had
    rcases hm with rfl | rfl | rfl | rfl | rfl | rfl | rfl | rfl | rfl | rfl | rfl | rfl | rfl | rfl | rfl | rfl | rfl | rfl | rfl | rfl | rfl | rfl | rfl | rfl | rfl | rfl | rfl
    · exact ⟨26, _, rfl, rfl, rfl⟩
    · exact ⟨25, _, rfl, rfl, rfl⟩
    · exact ⟨24, _, rfl, rfl, rfl⟩
    · exact ⟨23, _, rfl, rfl, rfl⟩
    · exact ⟨22, _, rfl, rfl, rfl⟩
    · exact ⟨21, _, rfl, rfl, rfl⟩
    · exact ⟨20, _, rfl, rfl, rfl⟩
    · exact ⟨19, _, rfl, rfl, rfl⟩
    · exact ⟨18, _, rfl, rfl, rfl⟩
    · exact ⟨17, _, rfl, rfl, rfl⟩
    · exact ⟨16, _, rfl, rfl, rfl⟩
    · exact ⟨15, _, rfl, rfl, rfl⟩
    · exact ⟨14, _, rfl, rfl, rfl⟩
    · exact ⟨13, _, rfl, rfl, rfl⟩
    · exact ⟨12, _, rfl, rfl, rfl⟩
    · exact ⟨11, _, rfl, rfl, rfl⟩
    · exact ⟨10, _, rfl, rfl, rfl⟩
    · exact ⟨9, _, rfl, rfl, rfl⟩
    · exact ⟨8, _, rfl, rfl, rfl⟩
    · exact ⟨7, _, rfl, rfl, rfl⟩
    · exact ⟨6, _, rfl, rfl, rfl⟩
    · exact ⟨5, _, rfl, rfl, rfl⟩
    · exact ⟨4, _, rfl, rfl, rfl⟩
    · exact ⟨3, _, rfl, rfl, rfl⟩
    · exact ⟨2, _, rfl, rfl, rfl⟩
    · exact ⟨1, _, rfl, rfl, rfl⟩
    · exact ⟨0, _, rfl, rfl, rfl⟩
  have fr : ∀ k, k < 65 → 2 ≤ mKind k → ∀ κ, σ κ (ad k) = none := fun k hk h2 κ => by
    obtain ⟨i, z, g1, g2, -⟩ := w4 k hk h2
    rw [← g2]
    exact (p55.2.1 z (List.mem_of_getElem? g1)).2 κ
  have mw : MW ad o F (fun _ => 0) (fun _ _ => 0) (fun _ _ => 0) s55 := by
    refine ⟨?_, w2, w3, fun j k hj hk h2 h2' e => ?_⟩
    · refine p55.1.trans ?_
      subst had
      subst hF
      rfl
    · obtain ⟨i, z, g1, g2, g3⟩ := w4 j hj h2
      obtain ⟨i', z', g1', g2', g3'⟩ := w4 k hk h2'
      have := p55.2.2.1 i i' z z' g1 g1' (g2.trans (e.trans g2'.symm))
      subst this
      exact Option.some.inj (g3.symm.trans g3')
  have kp := p55.2.2.2
  have hF8 : F 8 = -1 := by rw [hF]; rfl
  have hF0 : ∀ j, j ≠ 8 → F j = 0 := fun j hj => by rw [hF]; exact if_neg hj
  refine ⟨⟨_, mw.1⟩, (w_clears (Q := fun v F' L' I' J' => v = none ∧ L' = (fun _ => 0) ∧ J' = (fun _ _ => 0) ∧ (∀ j, j ≠ 16 → j ≠ 17 → F' j = F j) ∧ F' 16 = 0 ∧ F' 17 = 0 ∧ (∀ a, a ≠ 10 → I' a = fun _ => 0) ∧ (∀ i, i < 12 → I' 10 i = nI (o0 i))) (fun F' I' g1 g2 g3 g4 g5 => ⟨rfl, rfl, rfl, g1, g2, g3, g4, g5⟩) _ mw).post (fun v s1 hq => ?_) (fun _ _ _ h => h.elim)⟩
  obtain ⟨F1, L1, I1, J1, mw1, mf1, hv, rfl, rfl, f1, f16, f17, i1, i10⟩ := hq
  refine ⟨hv, ⟨_, mw1.1⟩, (w_sets (Q := fun v F' L' I' J' => v = none ∧ L' = (fun _ => 0) ∧ J' = (fun _ _ => 0) ∧ (∀ j, j ≠ 18 → j ≠ 19 → j ≠ 32 → j ≠ 62 → j ≠ 64 → F' j = F1 j) ∧ (F' 18 = F1 16 ∧ F' 19 = F1 17 ∧ F' 32 = 0 ∧ F' 62 = 0 ∧ F' 64 = 0) ∧ (∀ a, a ≠ 11 → a ≠ 14 → a ≠ 15 → a ≠ 27 → I' a = I1 a) ∧ (∀ i, i < 12 → I' 11 i = I1 10 i) ∧ (∀ p, p < 7 → I' 27 p = 0)) (fun F' I' g1 g2 g3 g4 g5 g6 g7 g8 g9 g10 => ⟨rfl, rfl, rfl, g1, ⟨g2, g3, g4, g5, g6⟩, g7, g8, g10⟩) _ mw1).post (fun v s2 hq => ?_) (fun _ _ _ h => h.elim)⟩
  obtain ⟨F2, L2, I2, J2, mw2, mf2, hv2, rfl, rfl, f2, ⟨f18, f19, f32, f62, f64⟩, i2, i11, i27⟩ := hq
  refine ⟨hv2, k s2 ad F2 (fun _ => 0) I2 (fun _ _ => 0) mw2 ?_ (fun κ a e he n => ?_) fr⟩
  · have hz : ∀ j, j ≠ 16 → j ≠ 17 → j ≠ 18 → j ≠ 19 → j ≠ 32 → j ≠ 62 → j ≠ 64 → j ≠ 8 → F2 j = 0 := fun j a1 a2 a3 a4 a5 a6 a7 a8 => ((f2 j a3 a4 a5 a6 a7).trans (f1 j a1 a2)).trans (hF0 j a8)
    have iz : ∀ a, a ≠ 10 → a ≠ 11 → a ≠ 14 → a ≠ 15 → a ≠ 27 → I2 a = fun _ => 0 := fun a a1 a2 a3 a4 a5 => (i2 a a2 a3 a4 a5).trans (i1 a a1)
    refine ⟨⟨fun i hi => (i11 i hi).trans (i10 i hi), fun i hi => absurd hi (Nat.not_lt_zero _)⟩, ⟨(f18.trans f16).trans nI_0.symm, (f19.trans f17).trans nI_0.symm⟩, fun p hp => ⟨(i27 p hp).trans nI_0.symm, Nat.zero_le _, fun _ => 0, fun s S hS => by cases hS⟩, ⟨f32.trans nI_0.symm, Nat.zero_le _, fun i q hq => by cases hq⟩, ⟨0, fun _ => 0, fun _ => 0, fun _ => 0, 0, 0, ⟨lN_0.symm, lN_0.symm, fun p _ => lN_0.symm⟩, fun x _ => lN_0.symm, fun x _ => lN_0.symm, ⟨(hz 35 (by decide) (by decide) (by decide) (by decide) (by decide) (by decide) (by decide) (by decide)).trans nI_0.symm, Nat.zero_le _, ⟨fun i hi => absurd hi (Nat.not_lt_zero _), fun i j hi => absurd hi (Nat.not_lt_zero _)⟩, fun i hi => absurd hi (Nat.not_lt_zero _), fun x _ hx => absurd rfl hx⟩, 0, fun _ => 0, (hz 36 (by decide) (by decide) (by decide) (by decide) (by decide) (by decide) (by decide) (by decide)).trans nI_0.symm, Nat.zero_le _, ⟨fun i hi => absurd hi (Nat.not_lt_zero _), fun i j hi => absurd hi (Nat.not_lt_zero _)⟩, fun i hi => absurd hi (Nat.not_lt_zero _), fun x _ => ⟨fun hx => absurd rfl hx, fun ⟨i, hi, _⟩ => absurd hi (Nat.not_lt_zero _)⟩⟩, ⟨(hz 2 (by decide) (by decide) (by decide) (by decide) (by decide) (by decide) (by decide) (by decide)).trans nI_0.symm, fun i hi => absurd hi (Nat.not_lt_zero _), ((f2 8 (by decide) (by decide) (by decide) (by decide) (by decide)).trans (f1 8 (by decide) (by decide))).trans hF8⟩, ⟨f62.trans nI_0.symm, fun k hk => absurd hk (Nat.not_lt_zero _)⟩, ⟨f64.trans nI_0.symm, fun k hk => absurd hk (Nat.not_lt_zero _)⟩, ⟨by rw [iz 1 (by decide) (by decide) (by decide) (by decide) (by decide)]; rfl, by rw [iz 1 (by decide) (by decide) (by decide) (by decide) (by decide)]; rfl⟩, T0_ok⟩
  · have nm : ¬ mAd ad o κ a := fun w => by
      rcases w with w | ⟨w, k, hk, h2, rfl⟩ | ⟨w, k, hk, h2, rfl⟩
      · exact n w
      · rw [fr k hk (by omega) κ] at he
        cases he
      · rw [fr k hk (by omega) κ] at he
        cases he
    exact (mf2 κ a nm).trans ((mf1 κ a nm).trans (kp κ a e he n))
