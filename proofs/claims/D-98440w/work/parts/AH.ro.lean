/-! Part B: what only reads -/
theorem c_fault0 {G : GC} {σ : PS} {A : Nat → Nat} {CA : Nat → Nat × Nat × Nat} {E : Nat × Nat × Option Nat × Nat × Nat × Nat × Nat} {T : TS} {P : Option Value → Prop} (hC : CI σ A CA E T) (kq : P (some (.int (tsL T)))) : CallO G mX1_fault 3 [.ref (A 0)] σ P :=
  eX1_fault (bX1_fault_0 ⟨_, ⟨_, hC.1.x, rfl⟩, rfl, kq⟩)
theorem c_count0 {G : GC} {σ : PS} {A : Nat → Nat} {CA : Nat → Nat × Nat × Nat} {E : Nat × Nat × Option Nat × Nat × Nat × Nat × Nat} {T : TS} {P : Option Value → Prop} {x : Int32} (hC : CI σ A CA E T) (kq : P (some (.int (couV T x)))) : CallO G mX1_count 3 [.ref (A 0), .int x] σ P := by
  have kk : σ = σ ∧ P (some (.int (couV T x))) := ⟨rfl, kq⟩
  unfold couV at kk
  refine eX1_count (bX1_count_0 ⟨fun q0 => ⟨fun q1 => ⟨fun q2 => ?_, fun q2 => ⟨_, ⟨_, hC.1.x, rfl⟩, ?_⟩⟩, fun q1 => ⟨_, ⟨_, hC.1.x, rfl⟩, ?_⟩⟩, fun q0 => ⟨_, ⟨_, hC.1.x, rfl⟩, ?_⟩⟩)
  · rw [if_neg q0, if_neg q1, if_neg q2] at kk
    exact kk
  · rw [if_neg q0, if_neg q1, if_pos q2] at kk
    exact kk
  · rw [if_neg q0, if_pos q1] at kk
    exact kk
  · rw [if_pos q0] at kk
    exact kk
theorem c_status0 {G : GC} {σ : PS} {A : Nat → Nat} {CA : Nat → Nat × Nat × Nat} {E : Nat × Nat × Option Nat × Nat × Nat × Nat × Nat} {T : TS} {P : Option Value → Prop} {x : Int32} (hC : CI σ A CA E T) (kq : P (some (.int (staV T x)))) : CallO G mX1_status 3 [.ref (A 0), .int x] σ P := by
  have kk : σ = σ ∧ P (some (.int (staV T x))) := ⟨rfl, kq⟩
  unfold staV at kk
  obtain ⟨g, g1, g2, g3⟩ := hC.1.2.2.2.2.2.2.2.2.2.1
  refine eX1_status (bX1_status_0 ⟨fun z => ?_, fun z => ⟨fun y => ⟨_, ⟨_, hC.1.x, rfl⟩, 2, g, g1, ?_⟩, fun y => ?_⟩⟩)
  · rw [if_neg (fun e => absurd z (by rw [e]; decide)), if_neg (fun e => absurd z (by rw [e]; decide))] at kk
    exact kk
  · obtain ⟨j, hj, rfl⟩ := nI_of z
    have j1 := (nI_leI (b := 1) hj (by decide)).mp y
    have : j = 0 ∨ j = 1 := by omega
    rcases this with rfl | rfl
    · refine ⟨vp_in_nI (by decide) (by decide), ?_⟩
      rw [nI_clamp (by decide), g2]
      exact kk
    · refine ⟨vp_in_nI (by decide) (by decide), ?_⟩
      rw [nI_clamp (by decide), g3]
      exact kk
  · rw [if_neg (fun e => absurd y (by rw [e]; decide)), if_neg (fun e => absurd y (by rw [e]; decide))] at kk
    exact kk
theorem imR_ex {T : TS} {k : Nat} : ∃ K, imR T K k := by
  refine ⟨fun x => if 21 + 21 * tsI T ≤ x ∧ x < 21 + 21 * tsI T + k then tsK T (1 + (x - (21 + 21 * tsI T))) else tsK T x, fun j hj => ?_, fun x hx => ?_⟩
  · dsimp only
    rw [if_pos ⟨by omega, by omega⟩, show 21 + 21 * tsI T + j - (21 + 21 * tsI T) = j by omega]
    exact sameC.rf
  · dsimp only
    rw [if_neg (by omega)]
