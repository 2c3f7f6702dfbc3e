/-! Part B: the component's office read -/
def eO (Z : Nat → Nat) (bk va wa ma : Nat) : Nat × Nat × Option Nat × Nat × Nat × Nat × Nat := (Z 3, Z 4, none, bk, va, wa, ma)
def tsOf (T : TS) (O : Nat → Nat) (P : Nat) (C : CL) : TS := (O, P, kUp (tsK T) 0 C, (fun _ => []), [], tsT T, 0, -1, 0, 0, tsQ T, tsR0 T, tsR1 T)
theorem tsOf_ok {T : TS} {O : Nat → Nat} {P : Nat} {C : CL} (h : tsOK T) (hO : offOK O) (hP : P ≤ 6) (hC : clOK C) : tsOK (tsOf T O P C) := by
  refine ⟨hO, hP, fun i hi => ?_, fun p hp => ⟨fun Z hZ => absurd (show Z ∈ ([] : List StT) from hZ) List.not_mem_nil, show ([] : List StT).length ≤ 8 from by decide⟩, Nat.zero_le _, fun i hi => absurd hi (Nat.not_lt_zero i), Nat.zero_le _, Nat.zero_le _, fun i hi => absurd hi (Nat.not_lt_zero i)⟩
  show clOK (kUp (tsK T) 0 C i)
  by_cases z : i = 0
  · rw [z, kUp_at]
    exact hC
  · rw [kUp_ne z]
    exact h.2.2.1 i hi
/-- habits are gone; a new book -/
theorem k_off59 {G : GC} {σ : PS} {Q : Option Value → PS → Prop} {X : String → Nat → PS → Prop} {cal n : Nat} {v0 v2 v3 v4 v5 v7 v8 v9 v11 v13 v14 : Value} {A : Nat → Nat} {v10 v12 v15 v16 : Value} {w m : Value} (hc : σ 2 cal = some (.inl [w, m, .int (nI n)])) (hA : σ 1 (A 0) = some (.inl [v0, .ref cal, v2, v3, v4, v5, .ref (A 9), v7, v8, v9, v10, v11, v12, v13, v14, v15, v16]))
    (k : ∀ τ bk va wa ma hf, τ 1 (A 0) = some (.inl [v0, .ref cal, v2, v3, v4, v5, .ref (A 9), v7, v8, v9, v10, .null, .ref bk, v13, v14, .int 0, .int 0]) → τ 105 (A 9) = some (.inr (6, .inr (.inr hf))) → (∀ i, i < 6 → hf i = none) → (∀ i y, hf i = some y → ∃ j, j = i ∧ 6 ≤ j ∧ ∃ g, σ 105 (A 9) = some (.inr (6, .inr (.inr g))) ∧ g j = some y) → BkA τ bk va wa ma [] → (∀ κ, σ κ va = none) → (∀ κ, σ κ wa = none) → (∀ κ, σ κ ma = none) → KpD (D2 A) σ τ → Q (some (.int (nI n))) τ) : ∀ (d i b : Nat) (τ : PS) (hf : Nat → Option Nat), i + d = 6 → 4 ≤ b → KpD (fun κ a => κ = 105 ∧ a = A 9) σ τ → (∃ g, σ 105 (A 9) = some (.inr (6, .inr (.inr g))) ∧ ∀ j, ¬ j < i → hf j = g j) → τ 105 (A 9) = some (.inr (6, .inr (.inr hf))) → (∀ j, j < i → hf j = none) → At G mX1_office 13 Q X b 59 [(0, .ref (A 0)), (3, .int (nI i))] [] τ := by
  intro d
  induction d with
  | zero =>
    intro i b τ hf hi hb k0 hg hh hn
    have hi6 : i = 6 := by omega
    subst hi6
    have x1 := k0 _ _ _ hA (fun w => absurd w.1 (by decide))
    refine bX1_office_59 ⟨fun _ => ⟨_, x1, by simp, fun s1 e1 => ⟨by omega, fun q hq s2 e2 => ⟨3, by omega, ?_⟩⟩⟩, fun z => absurd (nI_le (Nat.le_refl 6) (by decide)) z⟩
    have y1 : s1 1 (A 0) = some (.inl [v0, .ref cal, v2, v3, v4, v5, .ref (A 9), v7, v8, v9, v10, .null, v12, v13, v14, v15, v16]) := by
      rw [e1, up_eq]
      rfl
    have n1 : ∀ κ x, κ ≠ 1 → s1 κ x = τ κ x := fun κ x hn => by rw [e1, up_k hn]
    have K1 : KpD (D2 A) σ s1 := by
      rw [e1]
      exact (k0.mono (fun κ a d => Or.inr d)).up (Or.inl ⟨rfl, rfl⟩)
    have fz : ∀ υ q, KpD (D2 A) σ υ → (∃ e, υ 1 (A 0) = some e) → (∃ e, υ 105 (A 9) = some e) → (∀ κ, υ κ q = none) → ∀ κ, σ κ q = none := fun υ q kk h1 h2 hq κ => by
      cases e : σ κ q with
      | none => rfl
      | some y =>
        by_cases z : D2 A κ q
        · rcases z with ⟨z1, z2⟩ | ⟨z1, z2⟩
          · obtain ⟨e9, h9⟩ := h1
            rw [← z2, hq] at h9
            cases h9
          · obtain ⟨e9, h9⟩ := h2
            rw [← z2, hq] at h9
            cases h9
        · have := kk κ q y e z
          rw [hq] at this
          cases this
    have h105 : s1 105 (A 9) = _ := (n1 105 (A 9) (by decide)).trans hh
    have hq0 := fz s1 q K1 ⟨_, y1⟩ ⟨_, h105⟩ hq
    have a2 := nw_al (κ0 := 8) (e0 := .inl [.null, .null, .null, .int 0]) hq
    rw [← e2] at a2
    have K2 : KpD (D2 A) σ s2 := by
      rw [e2]
      exact K1.upf hq0
    refine k_bkinit (Nat.le_refl _) (by rw [e2]; exact up_eq) (fun τ3 va wa ma hB hva hwa hma n1' n2' n3' kb => ⟨rfl, ?_⟩)
    have K3 : KpD (D2 A) σ τ3 := K2.fd kb (fun κ a d => Or.inr (by rw [d.2]; exact hq0 κ))
    have y3 := kb _ _ _ (a2 _ _ _ y1) (fun w => absurd w.1 (by decide))
    have c3 := kb _ _ _ (a2 _ _ _ ((n1 2 cal (by decide)).trans (k0 _ _ _ hc (fun w => absurd w.1 (by decide))))) (fun w => absurd w.1 (by decide))
    have z3 := kb _ _ _ (a2 _ _ _ h105) (fun w => absurd w.1 (by decide))
    have f2 := fz s2 va K2 ⟨_, a2 _ _ _ y1⟩ ⟨_, a2 _ _ _ h105⟩ hva
    have f3 := fz s2 wa K2 ⟨_, a2 _ _ _ y1⟩ ⟨_, a2 _ _ _ h105⟩ hwa
    have f4 := fz s2 ma K2 ⟨_, a2 _ _ _ y1⟩ ⟨_, a2 _ _ _ h105⟩ hma
    refine ⟨_, y3, by simp, fun s4 e4 => ?_⟩
    subst e4
    refine ⟨_, up_eq, by simp, fun s5 e5 => ?_⟩
    rw [up_up] at e5
    subst e5
    refine ⟨_, up_eq, by simp, fun s6 e6 => ?_⟩
    rw [up_up] at e6
    have y6 : s6 1 (A 0) = some (.inl [v0, .ref cal, v2, v3, v4, v5, .ref (A 9), v7, v8, v9, v10, .null, .ref q, v13, v14, .int 0, .int 0]) := by
      rw [e6, up_eq]
      rfl
    have n6 : ∀ κ x, κ ≠ 1 → s6 κ x = τ3 κ x := fun κ x hn => by rw [e6, up_k hn]
    obtain ⟨f9, g9, h9, B1, B2, B3, B4, B5, B6⟩ := hB
    refine ⟨cal, ⟨_, y6, rfl⟩, nI n, ⟨_, (n6 2 cal (by decide)).trans c3, rfl⟩, k s6 q va wa ma hf y6 ((n6 _ _ (by decide)).trans z3) hn (fun i y hy => ?_) ⟨f9, g9, h9, (n6 _ _ (by decide)).trans B1, B2, (n6 _ _ (by decide)).trans B3, (n6 _ _ (by decide)).trans B4, (n6 _ _ (by decide)).trans B5, B6⟩ f2 f3 f4 ?_⟩
    · obtain ⟨g, g1, g2⟩ := hg
      by_cases z : i < 6
      · rw [hn i z] at hy
        cases hy
      · exact ⟨i, rfl, by omega, g, g1, by rw [← g2 i z]; exact hy⟩
    · rw [e6]
      exact K3.up (Or.inl ⟨rfl, rfl⟩)
  | succ d ih =>
    intro i b τ hf hi hb k0 hg hh hn
    have x1 := k0 _ _ _ hA (fun w => absurd w.1 (by decide))
    refine bX1_office_59 ⟨fun z => absurd z (nI_ge (a := i) (b := 6) (by omega) (by decide)), fun _ => ⟨A 9, ⟨_, x1, rfl⟩, 6, hf, hh, vp_in_nI (by omega) (by decide), fun s1 e1 v3 e3 => ?_⟩⟩
    rw [nI_clamp (by omega)] at e1
    rw [nI_1] at e3
    rw [e3]
    have upa : ∀ j, va_up hf i none j = if j = i then none else hf j := fun j => rfl
    refine ih (i + 1) b s1 (va_up hf i none) (by omega) hb (by rw [e1]; exact k0.up ⟨rfl, rfl⟩) ?_ (by rw [e1, up_eq]) (fun j hj => ?_)
    · obtain ⟨g, g1, g2⟩ := hg
      refine ⟨g, g1, fun j hj => ?_⟩
      rw [upa, if_neg (by omega)]
      exact g2 j (by omega)
    · rw [upa]
      by_cases z : j = i
      · exact if_pos z
      · rw [if_neg z]
        exact hn j (by omega)
