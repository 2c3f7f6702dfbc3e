/-! Part B: readers made -/
theorem k_hinit {G : GC} {σ : PS} {Q : Option Value → PS → Prop} {X : String → Nat → PS → Prop} {b h r : Nat} (hb : 2 ≤ b) (h13 : σ 13 h = some (.inl [.null, .null, .null])) (kq : ∀ τ, HRO G τ h r → KpD (fun κ x => κ = 13 ∧ x = h) σ τ → Q none τ) : Call G mX13_init 4 b [.ref h, .ref r] σ Q X := by
  refine eX13_init (bX13_init_0 ⟨by omega, fun wa hwa s e => ?_⟩)
  subst e
  refine ⟨_, _, up_eq, vp_in_nI (n := 0) (by decide) (by decide), fun s e => ?_⟩
  rw [up_up] at e
  subst e
  refine ⟨_, _, up_eq, vp_in_nI (n := 1) (by decide) (by decide), fun s e => ?_⟩
  rw [up_up] at e
  subst e
  refine ⟨_, _, up_eq, vp_in_nI (n := 2) (by decide) (by decide), fun s e => ?_⟩
  rw [up_up] at e
  subst e
  refine ⟨_, _, up_eq, vp_in_nI (n := 3) (by decide) (by decide), fun s e => ?_⟩
  rw [up_up] at e
  subst e
  refine ⟨_, _, up_eq, vp_in_nI (n := 4) (by decide) (by decide), fun s e => ?_⟩
  rw [up_up] at e
  subst e
  refine ⟨_, _, up_eq, vp_in_nI (n := 5) (by decide) (by decide), fun s e => ?_⟩
  rw [up_up] at e
  subst e
  refine ⟨_, _, up_eq, vp_in_nI (n := 6) (by decide) (by decide), fun s e => ?_⟩
  rw [up_up] at e
  subst e
  refine ⟨_, _, up_eq, vp_in_nI (n := 7) (by decide) (by decide), fun s e => ?_⟩
  rw [up_up] at e
  subst e
  refine ⟨_, (up_k (by decide)).trans h13, by simp, fun s1 e1 => ⟨by omega, fun wk hwk s e => ?_⟩⟩
  subst e
  refine ⟨_, _, up_eq, vp_in_nI (n := 0) (by decide) (by decide), fun s e => ?_⟩
  rw [up_up] at e
  subst e
  refine ⟨_, _, up_eq, vp_in_nI (n := 1) (by decide) (by decide), fun s e => ?_⟩
  rw [up_up] at e
  subst e
  refine ⟨_, _, up_eq, vp_in_nI (n := 2) (by decide) (by decide), fun s e => ?_⟩
  rw [up_up] at e
  subst e
  refine ⟨_, _, up_eq, vp_in_nI (n := 3) (by decide) (by decide), fun s e => ?_⟩
  rw [up_up] at e
  subst e
  refine ⟨_, _, up_eq, vp_in_nI (n := 4) (by decide) (by decide), fun s e => ?_⟩
  rw [up_up] at e
  subst e
  refine ⟨_, _, up_eq, vp_in_nI (n := 5) (by decide) (by decide), fun s e => ?_⟩
  rw [up_up] at e
  subst e
  refine ⟨_, _, up_eq, vp_in_nI (n := 6) (by decide) (by decide), fun s e => ?_⟩
  rw [up_up] at e
  subst e
  refine ⟨_, _, up_eq, vp_in_nI (n := 7) (by decide) (by decide), fun s e => ?_⟩
  rw [up_up] at e
  subst e
  have hne : wa ≠ wk := fun w => by
    have := hwk 107
    rw [e1, up_k (by decide), w, up_eq] at this
    cases this
  have hwk0 : ∀ κ, σ κ wk = none := fun κ => by
    by_cases z : κ = 13 ∧ wk = h
    · have := hwk 13
      rw [e1, z.2, up_eq] at this
      cases this
    · have := hwk κ
      rw [e1, up_ne (by
        by_cases y : κ = 13
        · exact Or.inr (fun w => z ⟨y, w⟩)
        · exact Or.inl y), up_a (fun w => hne w.symm)] at this
      exact this
  refine ⟨_, (up_k (by decide)).trans (by rw [e1]; exact up_eq), by simp, fun s2 e2 => ?_⟩
  subst e2
  refine ⟨_, up_eq, by simp, fun s3 e3 => ?_⟩
  rw [up_up] at e3
  subst e3
  subst e1
  refine kq _ ⟨wa, wk, up_eq, ⟨_, (up_k (by decide)).trans ((up_a hne).trans ((up_k (by decide)).trans up_eq)), fun j hj => ?_⟩, ⟨_, (up_k (by decide)).trans up_eq, fun j hj => ?_⟩⟩ ((((KpD.rf.upf hwa).up ⟨rfl, rfl⟩).upf hwk0).up ⟨rfl, rfl⟩)
  · match j, hj with
    | 0, _ => rfl
    | 1, _ => rfl
    | 2, _ => rfl
    | 3, _ => rfl
    | 4, _ => rfl
    | 5, _ => rfl
    | 6, _ => rfl
    | 7, _ => rfl
  · match j, hj with
    | 0, _ => rfl
    | 1, _ => rfl
    | 2, _ => rfl
    | 3, _ => rfl
    | 4, _ => rfl
    | 5, _ => rfl
    | 6, _ => rfl
    | 7, _ => rfl
/-- an office at first -/
def o0 : Nat → Nat := fun i => ([8, 0, 0, 0, 0, 30, 12, 9, 1, 1, 3, 2] : List Nat).getD i 0
theorem k_oinit {G : GC} {σ : PS} {Q : Option Value → PS → Prop} {X : String → Nat → PS → Prop} {b h : Nat} (hb : 1 ≤ b) (h7 : σ 7 h = some (.inl [.null, .int 0, .int 0, .int 0, .int 0, .int 0, .int 0, .int 0, .int 0])) (kq : ∀ τ p, OffO τ h p o0 0 → (∀ κ, σ κ p = none) → KpD (fun κ x => κ = 7 ∧ x = h) σ τ → Q none τ) : Call G mX7_init 4 b [.ref h] σ Q X := by
  refine eX7_init (bX7_init_0 ⟨by omega, fun p hp s e => ?_⟩)
  subst e
  refine ⟨_, _, up_eq, by decide, fun s e => ?_⟩
  rw [up_up] at e
  subst e
  refine ⟨_, _, up_eq, by decide, fun s e => ?_⟩
  rw [up_up] at e
  subst e
  refine ⟨_, _, up_eq, by decide, fun s e => ?_⟩
  rw [up_up] at e
  subst e
  refine ⟨_, _, up_eq, by decide, fun s e => ?_⟩
  rw [up_up] at e
  subst e
  refine ⟨_, _, up_eq, by decide, fun s e => ?_⟩
  rw [up_up] at e
  subst e
  refine ⟨_, (up_k (by decide)).trans h7, by simp, fun s1 e1 => ?_⟩
  subst e1
  refine ⟨_, up_eq, by simp, fun s1 e1 => ?_⟩
  rw [up_up] at e1
  subst e1
  refine ⟨_, up_eq, by simp, fun s1 e1 => ?_⟩
  rw [up_up] at e1
  subst e1
  refine ⟨_, up_eq, by simp, fun s1 e1 => ?_⟩
  rw [up_up] at e1
  subst e1
  refine kq _ p ⟨up_eq, _, (up_k (by decide)).trans up_eq, fun i hi => ?_⟩ hp ((KpD.rf.upf hp).up ⟨rfl, rfl⟩)
  match i, hi with
  | 0, _ => rfl
  | 1, _ => rfl
  | 2, _ => rfl
  | 3, _ => rfl
  | 4, _ => rfl
theorem k_bkinit {G : GC} {σ : PS} {Q : Option Value → PS → Prop} {X : String → Nat → PS → Prop} {b h : Nat} (hb : 3 ≤ b) (h8 : σ 8 h = some (.inl [.null, .null, .null, .int 0])) (kq : ∀ τ va wa ma, BkA τ h va wa ma [] → (∀ κ, σ κ va = none) → (∀ κ, σ κ wa = none) → (∀ κ, σ κ ma = none) → va ≠ wa → va ≠ ma → wa ≠ ma → KpD (fun κ x => κ = 8 ∧ x = h) σ τ → Q none τ) : Call G mX8_init 4 b [.ref h] σ Q X := by
  refine eX8_init (bX8_init_0 ⟨by omega, fun va hva s e => ?_⟩)
  subst e
  refine ⟨_, (up_k (by decide)).trans h8, by simp, fun s1 e1 => ⟨by omega, fun wa hwa s e => ?_⟩⟩
  subst e
  have nh : ∀ q, (∀ κ, s1 κ q = none) → q ≠ h ∧ q ≠ va := fun q hq => by
    refine ⟨fun w => ?_, fun w => ?_⟩
    · have := hq 8
      rw [e1, w, up_eq] at this
      cases this
    · have := hq 100
      rw [e1, up_k (by decide), w, up_eq] at this
      cases this
  have f0 : ∀ q, (∀ κ, s1 κ q = none) → ∀ κ, σ κ q = none := fun q hq κ => by
    have := hq κ
    rw [e1, up_a (nh q hq).1, up_a (nh q hq).2] at this
    exact this
  have hw := nh wa hwa
  have hwa0 := f0 wa hwa
  refine ⟨_, (up_k (by decide)).trans (by rw [e1]; exact up_eq), by simp, fun s2 e2 => ⟨by omega, fun ma hma s e => ?_⟩⟩
  subst e
  have hm : ma ≠ wa ∧ ma ≠ h := by
    refine ⟨fun w => ?_, fun w => ?_⟩
    · have := hma 100
      rw [e2, up_k (by decide), w, up_eq] at this
      cases this
    · have := hma 8
      rw [e2, w, up_eq] at this
      cases this
  have hm1 : ∀ κ, s1 κ ma = none := fun κ => by
    have := hma κ
    rw [e2, up_a hm.2, up_a hm.1] at this
    exact this
  have hm2 := nh ma hm1
  have hma0 := f0 ma hm1
  refine ⟨_, (up_k (by decide)).trans (by rw [e2]; exact up_eq), by simp, fun s3 e3 => ?_⟩
  subst e3
  subst e2
  subst e1
  refine kq _ va wa ma ⟨fun _ => 0, fun _ => 0, fun _ => 0, up_eq, by decide, ?_, ?_, ?_, fun i q hi => by simp at hi⟩ hva hwa0 hma0 hw.2.symm hm2.2.symm hm.1.symm ((((((KpD.rf.upf hva).up ⟨rfl, rfl⟩).upf hwa0).up ⟨rfl, rfl⟩).upf hma0).up ⟨rfl, rfl⟩)
  · rw [up_k (by decide), up_a hm2.2.symm, up_k (by decide), up_a hw.2.symm, up_k (by decide), up_eq]
  · rw [up_k (by decide), up_a hm.1.symm, up_k (by decide), up_eq]
  · rw [up_k (by decide), up_eq]
