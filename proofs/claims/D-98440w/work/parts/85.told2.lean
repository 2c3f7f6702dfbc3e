/-! Part B: status, a person, on both sides -/
theorem c_status {G : GC} {σ : PS} {Q : Option Value → PS → Prop} {X : String → Nat → PS → Prop} {b : Nat} {A : Nat → Nat} {CA : Nat → Nat × Nat × Nat} {E : Nat × Nat × Option Nat × Nat × Nat × Nat × Nat} {T : TS} {x : Int32} (hC : CI σ A CA E T) (kq : ∀ τ, CI τ A CA E T → KpD (own A CA) σ τ → Q (some (.int (staV T x))) τ) : Call G mX1_status 3 b [.ref (A 0), .int x] σ Q X := by
  have kk := kq σ hC KpD.rf
  unfold staV at kk
  obtain ⟨g, g1, g2, g3⟩ := hC.1.2.2.2.2.2.2.2.2.2.1
  refine eX1_status (bX1_status_0 ⟨fun z => ?_, fun z => ⟨fun y => ⟨_, ⟨_, hC.1.x, rfl⟩, 2, g, g1, ?_⟩, fun y => ?_⟩⟩)
  · rw [if_neg (fun e => absurd z (by rw [e]; decide)), if_neg (fun e => absurd z (by rw [e]; decide))] at kk
    exact kk
  · obtain ⟨j, hj, rfl⟩ := nI_of z
    have j1 := (nI_leI (b := 1) hj (by decide)).mp y
    have : j = 0 ∨ j = 1 := by omega
    rcases this with rfl | rfl
    · refine ⟨vp_in_nI (by decide) (by decide), ?_⟩
      rw [nI_clamp (by decide), g2]
      exact kk
    · refine ⟨vp_in_nI (by decide) (by decide), ?_⟩
      rw [nI_clamp (by decide), g3]
      exact kk
  · rw [if_neg (fun e => absurd y (by rw [e]; decide)), if_neg (fun e => absurd y (by rw [e]; decide))] at kk
    exact kk
theorem m_status {G : GC} {ad : Nat → Nat} {o : Nat} {F : Nat → Int32} {L : Nat → Int64} {I : Nat → Nat → Int32} {J : Nat → Nat → Int64} {Q : MPost} {T : TS} {x : Int32} (hM : MI F L I J T) (kq : ∀ F' L' I' J', MI F' L' I' J' T → F' 0 = 0 → Q (some (.int (staV T x))) F' L' I' J') : CallM G mX9_status 4 ad o [.ref o, .int x] F L I J Q := by
  refine eX9_status (fun σ0 => bX9_status_0 (fun F1 e1 => ?_))
  subst e1
  have kk := kq _ L I J hM.th fU_at
  unfold staV at kk
  obtain ⟨r1, r2⟩ := hM.2.2.2.2.2.2.2.2.1
  refine w_in (n := 1) rfl (by decide) (fun w hw hx => ⟨_, rfl, fun z => absurd z (by decide), fun _ => ⟨?_, ?_⟩⟩) (fun h => ⟨_, rfl, fun _ => ?_, fun z => absurd rfl z⟩)
  · subst hx
    exact vp_in_nI (by omega) (by decide)
  · subst hx
    rw [nI_clamp (by omega)]
    have : w = 0 ∨ w = 1 := by omega
    rcases this with rfl | rfl
    · rw [r1]
      exact kk
    · rw [r2]
      exact kk
  · rw [if_neg (show ¬ x = 0 from fun e => h ⟨0, by decide, e⟩), if_neg (show ¬ x = 1 from fun e => h ⟨1, by decide, e⟩)] at kk
    exact kk
theorem c_person {G : GC} {σ : PS} {Q : Option Value → PS → Prop} {X : String → Nat → PS → Prop} {b : Nat} {A : Nat → Nat} {CA : Nat → Nat × Nat × Nat} {E : Nat × Nat × Option Nat × Nat × Nat × Nat × Nat} {T : TS} {x y : Int32} (hC : CI σ A CA E T) (hb : 2 ≤ b) (kq : ∀ v w, v < tsP T → x = nI v → w < 3 → y = nI w → ∀ τ, CI τ A CA E T → KpD (own A CA) σ τ → Q (some (.int (perV T v w))) τ) (k0 : ¬ inN x (tsP T) → ∀ τ q, CI τ A CA E (bu0 T) → KpD (own A CA) σ τ → X "java/util/NoSuchElementException" q τ) (k1 : inN x (tsP T) → ¬ inN y 3 → ∀ τ q, CI τ A CA E (bu1 T) → KpD (own A CA) σ τ → X "java/lang/IllegalArgumentException" q τ) : Call G mX1_person 12 b [.ref (A 0), .int x, .int y] σ Q X := by
  refine eX1_person (bX1_person_0 ⟨1, by omega, ⟨_, hC.1.x⟩, c_personOf hC (Nat.le_refl _) (fun v hv hx => ⟨rfl, 1, by omega, ⟨_, hC.1.x⟩, c_in (n := 2) hC (Nat.le_refl _) (by decide) rfl (fun w hw hy => ⟨rfl, ?_⟩) (k1 ⟨v, hv, hx⟩)⟩) k0⟩)
  have hn := n24 hC.2.2
  have hP6 := hC.2.2.2.1
  subst hx
  subst hy
  have kk := kq v w hv rfl hw rfl σ hC KpD.rf
  unfold perV at kk
  have hx := hC.1.x
  have hcal := hC.1.cal (i := 0) (by decide)
  have c1 := hcal.1
  obtain ⟨hf, b1, b2, b3⟩ := hC.1.2.2.2.1
  have lt : ∀ j : Nat, j < 10 → (nI w = nI j ↔ w = j) := fun j hj => nI_eq (by omega) (by omega)
  refine ⟨fun q0 => ⟨fun q1 => ⟨_, ⟨_, hx, rfl⟩, ⟨_, c1⟩, k_first hcal hn ⟨_, rfl, ?_⟩⟩, fun q1 => ⟨_, ⟨_, hx, rfl⟩, ⟨_, c1⟩, k_of hcal hn ⟨_, rfl, ?_⟩⟩⟩, fun q0 => ⟨_, ⟨_, hx, rfl⟩, 6, hf, b1, vp_in_nI (by omega) (by decide), fun z => ?_, fun z hz => ⟨_, ⟨_, hx, rfl⟩, 6, hf, b1, vp_in_nI (by omega) (by decide), z, hz, ?_⟩⟩⟩
  · rw [if_neg (fun u => q0 ((lt 0 (by decide)).mpr u)), if_neg (fun u => q1 ((lt 1 (by decide)).mpr u))] at kk
    exact kk
  · have q1 := (lt 1 (by decide)).mp q1
    subst q1
    exact kk
  · have q0 := (lt 0 (by decide)).mp q0
    subst q0
    rw [nI_clamp (by omega)] at z
    rcases b2 v (by omega) with ⟨_, e⟩ | ⟨y, e, _⟩
    · rw [e] at kk
      exact kk
    · rw [e] at z
      cases z
  · have q0 := (lt 0 (by decide)).mp q0
    subst q0
    rw [nI_clamp (by omega)] at hz
    rcases b2 v (by omega) with ⟨e, _⟩ | ⟨y, e, hO⟩
    · rw [e] at hz
      cases hz
    · rw [e] at hz
      cases hz
      obtain ⟨ar, o1, -⟩ := hO
      exact ⟨_, ⟨_, o1, rfl⟩, kk⟩
theorem m_person {G : GC} {ad : Nat → Nat} {o : Nat} {F : Nat → Int32} {L : Nat → Int64} {I : Nat → Nat → Int32} {J : Nat → Nat → Int64} {Q : MPost} {T : TS} {x y : Int32} (hM : MI F L I J T) (kq : ∀ v w, v < tsP T → x = nI v → w < 3 → y = nI w → ∀ F' L' I' J', MI F' L' I' J' T → F' 0 = 0 → Q (some (.int (perV T v w))) F' L' I' J') (k0 : ¬ inN x (tsP T) → ∀ F' L' I' J', MI F' L' I' J' (bu0 T) → F' 0 = 1 → Q (some (.int 0)) F' L' I' J') (k1 : inN x (tsP T) → ¬ inN y 3 → ∀ F' L' I' J', MI F' L' I' J' (bu1 T) → F' 0 = 2 → Q (some (.int 0)) F' L' I' J') : CallM G mX9_person 5 ad o [.ref o, .int x, .int y] F L I J Q := by
  refine eX9_person (fun σ0 => bX9_person_0 (fun F1 e1 => ?_))
  subst e1
  refine w_isPerson hM.th fU_at (fun v hv hx => ⟨_, rfl, fun z => absurd z (by decide), fun _ => ?_⟩) (fun h F' I' q1 q2 => ⟨_, rfl, fun _ => k0 h F' L I' J q1 q2, fun z => absurd rfl z⟩)
  refine w_in (n := 2) rfl (by decide) (fun w hw hy => ⟨_, rfl, w_mayT fU_at ?_⟩) (fun h => ⟨_, rfl, w_mayF hM.th fU_at (by decide) (fun F' I' q1 q2 => k1 ⟨v, hv, hx⟩ h F' L I' J q1 q2)⟩)
  have hn := n24 hM.ok
  have hP6 := hM.ok.2.1
  subst hx
  subst hy
  have kk := kq v w hv rfl hw rfl _ L I J hM.th fU_at
  unfold perV at kk
  have hag := hM.1.2
  have lt : ∀ j : Nat, j < 10 → (nI w = nI j ↔ w = j) := fun j hj => nI_eq (by omega) (by omega)
  have f19 : fU F 0 0 19 = nI (tsK T 0).1 := hM.2.1.2
  refine ⟨fun q0 v5 e5 => ?_, fun q0 => ⟨vp_in_nI (by omega) (by decide), ?_⟩⟩
  · rw [f19, Int32.sub_eq_add_neg] at e5
    rw [e5]
    have w0 : ¬ w = 0 := fun u => q0 ((lt 0 (by decide)).mpr u)
    rw [if_neg w0] at kk
    have Lp : ∀ i, i ≤ (tsK T 0).1 → ∀ c, c + cn (tsK T 0).2.1 (nI v) i = cn (tsK T 0).2.1 (nI v) (tsK T 0).1 → AtM G mX9_person 5 ad o σ0 Q 55 [(0, .ref o), (1, .int (nI v)), (2, .int (nI w)), (3, .int (nI c)), (4, .int (fi (tsK T 0).2.1 (nI v) ((tsK T 0).1 - i) i)), (5, .int (nI i + (-1)))] [] (fU F 0 0) L I J := by
      intro i
      induction i with
      | zero =>
        intro _ c hc
        have hc : c = cn (tsK T 0).2.1 (nI v) (tsK T 0).1 := hc
        refine bX9_person_55 ⟨fun _ => ⟨fun q1 => ?_, fun q1 => ?_⟩, fun q => absurd (by decide) q⟩
        · rw [if_neg (fun u => q1 ((lt 1 (by decide)).mpr u))] at kk
          exact kk
        · have q1 := (lt 1 (by decide)).mp q1
          rw [if_pos q1] at kk
          rw [hc]
          exact kk
      | succ i ih =>
        intro hi c hc
        rw [pk_m1]
        refine bX9_person_55 ⟨fun q => absurd q (nI_pos (by omega)), fun _ => ⟨vp_in_nI (by omega) (by decide), ?_⟩⟩
        rw [nI_clamp (by omega), (hag i (by omega)).1]
        have ih1 := ih (by omega)
        rw [show (tsK T 0).1 - i = (tsK T 0).1 - (i + 1) + 1 by omega] at ih1
        refine ⟨fun q v3 e3 v5 e5 => ?_, fun q v5 e5 => ?_⟩
        · rw [cn_yes q] at hc
          rw [e3, e5, nI_1]
          have ih2 := ih1 (c + 1) (by omega)
          rw [show fi (tsK T 0).2.1 (nI v) ((tsK T 0).1 - (i + 1) + 1) i = nI i from if_pos q] at ih2
          exact ih2
        · rw [cn_no q] at hc
          rw [e5]
          have ih2 := ih1 c hc
          rw [show fi (tsK T 0).2.1 (nI v) ((tsK T 0).1 - (i + 1) + 1) i = fi (tsK T 0).2.1 (nI v) ((tsK T 0).1 - (i + 1)) (i + 1) from if_neg q] at ih2
          exact ih2
    have L0 := Lp (tsK T 0).1 (Nat.le_refl _) 0 (Nat.zero_add _)
    rw [Nat.sub_self] at L0
    exact L0
  · have q0 := (lt 0 (by decide)).mp q0
    subst q0
    rw [nI_clamp (by omega), (hM.2.2.1 v (by omega)).1]
    exact kk
