/-! Part B: the component's undo, images -/
def unS (T : TS) (C : CL) : TS := tsN T (kUp (tsK T) 0 C) (tsC T - 1) (tsI T) (tsQ T)
theorem c_undo {G : GC} {σ : PS} {Q : Option Value → PS → Prop} {X : String → Nat → PS → Prop} {b : Nat} {A : Nat → Nat} {CA : Nat → Nat × Nat × Nat} {E : Nat × Nat × Option Nat × Nat × Nat × Nat × Nat} {T : TS} (hC : CI σ A CA E T) (kq : tsC T ≠ 0 → ∀ τ C, sameC (tsK T (1 + (tsC T - 1))) C → CI τ A CA E (unS T C) → KpD (own A CA) σ τ → Q (some (.int (nI (tsC T - 1)))) τ) (kn : tsC T = 0 → ∀ τ, CI τ A CA E T → KpD (own A CA) σ τ → Q (some (.int (-1))) τ) : Call G mX1_undo 4 b [.ref (A 0)] σ Q X := by
  have hc := hC.2.2.2.2.2.2.2.2.1
  have z0 : nI (tsC T) = 0 ↔ tsC T = 0 := nI_eq (b := 0) (by omega) (by decide)
  obtain ⟨f, f1, f2⟩ := hC.1.chg
  refine eX1_undo (bX1_undo_0 ⟨_, ⟨_, hC.1.x, rfl⟩, fun z => ⟨_, ⟨_, hC.1.x, rfl⟩, _, ⟨_, hC.1.x, rfl⟩, _, ⟨_, hC.1.x, rfl⟩, _, hC.1.x, by simp, fun s1 e1 => ?_⟩, fun z => kn (z0.mp z) σ hC KpD.rf⟩)
  have z1 : tsC T ≠ 0 := fun e => z (z0.mpr e)
  have ec : nI (tsC T) - 1 = nI (tsC T - 1) := by
    rw [show tsC T = tsC T - 1 + 1 by omega, nI_pred]
    rfl
  rw [ec] at e1 ⊢
  obtain ⟨C1, K1⟩ := hC.n (τ := s1) (c := tsC T - 1) (i := tsI T) (by omega) (Nat.le_refl _) (by
    rw [e1]
    exact KpD.rf.up ⟨rfl, rfl⟩) (by
    rw [e1, up_eq]
    rfl)
  refine ⟨20, f, (CA (1 + (tsC T - 1))).1, by rw [e1]; exact (up_ne (Or.inl (by decide))).trans f1, vp_in_nI (by omega) (by decide), ?_, c_as9 (i := 0) (j := 1 + (tsC T - 1)) C1 (by decide) (by omega) (by omega) (fun τ C c1 hs c2 => ⟨_, rfl, _, ⟨_, c1.1.x, rfl⟩, kq z1 τ C hs c1 (K1.tr c2)⟩)⟩
  rw [nI_clamp (by omega)]
  exact f2 _ (by omega)
theorem CP.kep {σ : PS} {A : Nat → Nat} {CA : Nat → Nat × Nat × Nat} {E : Nat × Nat × Option Nat × Nat × Nat × Nat × Nat} {T : TS} (h : CP σ A CA E T) : ∃ f, σ 104 (A 3) = some (.inr (3, .inr (.inr f))) ∧ ∀ i, i < 3 → f i = some (A (4 + i)) := h.2.2.2.2.2.2.2.1.2.1
theorem CP.kpr {σ : PS} {A : Nat → Nat} {CA : Nat → Nat × Nat × Nat} {E : Nat × Nat × Option Nat × Nat × Nat × Nat × Nat} {T : TS} (h : CP σ A CA E T) {i : Nat} (hi : i < 3) : ∃ f, σ 103 (A (4 + i)) = some (.inr (21, .inr (.inr f))) ∧ ∀ k, k < 21 → f k = some (CA (21 + 21 * i + k)).1 := h.2.2.2.2.2.2.2.1.2.2 i hi
theorem CP.kpc {σ : PS} {A : Nat → Nat} {CA : Nat → Nat × Nat × Nat} {E : Nat × Nat × Option Nat × Nat × Nat × Nat × Nat} {T : TS} (h : CP σ A CA E T) : ∃ f, σ 100 (A 7) = some (.inr (3, .inl f)) ∧ ∀ i, i < tsI T → f i = nI (tsQ T i) := h.2.2.2.2.2.2.2.2.1
/-- an image is kept -/
def imR (T : TS) (K : Nat → CL) (k : Nat) : Prop := (∀ j, j < k → sameC (tsK T (1 + j)) (K (21 + 21 * tsI T + j))) ∧ ∀ x, (x < 21 + 21 * tsI T ∨ 21 + 21 * tsI T + k ≤ x) → K x = tsK T x
def imS (T : TS) (K : Nat → CL) (C : CL) : TS := tsN T (kUp K (21 + 21 * tsI T + 20) C) (tsC T) (tsI T + 1) (fun j => if j = tsI T then tsC T else tsQ T j)
theorem c_image {G : GC} {σ : PS} {Q : Option Value → PS → Prop} {X : String → Nat → PS → Prop} {b : Nat} {A : Nat → Nat} {CA : Nat → Nat × Nat × Nat} {E : Nat × Nat × Option Nat × Nat × Nat × Nat × Nat} {T : TS} (hC : CI σ A CA E T) (kq : tsI T ≠ 3 → ∀ τ K C, imR T K (tsC T) → sameC (tsK T 0) C → CI τ A CA E (imS T K C) → KpD (own A CA) σ τ → Q (some (.int (nI (tsI T + 1)))) τ) (kn : tsI T = 3 → ∀ τ, CI τ A CA E T → KpD (own A CA) σ τ → Q (some (.int (-1))) τ) : Call G mX1_image 4 b [.ref (A 0)] σ Q X := by
  have hc := hC.2.2.2.2.2.2.2.2.1
  have hi := hC.2.2.2.2.2.2.2.2.2.1
  have z3 : nI (tsI T) = 3 ↔ tsI T = 3 := nI_eq (b := 3) (by omega) (by decide)
  refine eX1_image (bX1_image_0 ⟨_, ⟨_, hC.1.x, rfl⟩, fun z => ?_, fun z => kn (z3.mp z) σ hC KpD.rf⟩)
  have z1 : tsI T ≠ 3 := fun e => z (z3.mpr e)
  have cI := nI_clamp (show tsI T < 2 ^ 31 by omega)
  have vI := vp_in_nI (show tsI T < 3 by omega) (by decide)
  have Lp : ∀ d k, k + d = tsC T → ∀ τ K, CI τ A CA E (tsN T K (tsC T) (tsI T) (tsQ T)) → imR T K k → KpD (own A CA) σ τ → At G mX1_image 4 Q X b 12 [(0, .ref (A 0)), (1, .int (nI k))] [] τ := by
    intro d
    induction d with
    | zero =>
      intro k hk τ K C1 R K1
      have hk : k = tsC T := by omega
      subst hk
      obtain ⟨f3, g1, g2⟩ := C1.1.kep
      obtain ⟨f4, g3, g4⟩ := C1.1.kpr (show tsI T < 3 by omega)
      refine bX1_image_12 ⟨_, ⟨_, C1.1.x, rfl⟩, fun _ => ⟨_, ⟨_, C1.1.x, rfl⟩, _, ⟨_, C1.1.x, rfl⟩, 3, f3, A (4 + tsI T), g1, vI, ?_, 21, f4, (CA (21 + 21 * tsI T + 20)).1, g3, vp_in_nI (n := 20) (by decide) (by decide), ?_, _, ⟨_, C1.1.x, rfl⟩, c_as9 (i := 21 + 21 * tsI T + 20) (j := 0) C1 (by omega) (by decide) (by omega) (fun τ2 C c1 hs c2 => ⟨_, rfl, ?_⟩)⟩, fun z => absurd (nI_le (Nat.le_refl _) (show tsC T < 2 ^ 31 by omega)) z⟩
      · show f3 (nI (tsI T)).toNatClampNeg = _
        rw [cI]
        exact g2 _ (by omega)
      · exact g4 20 (by decide)
      · obtain ⟨g, g5, g6⟩ := c1.1.kpc
        refine ⟨_, ⟨_, c1.1.x, rfl⟩, _, ⟨_, c1.1.x, rfl⟩, _, ⟨_, c1.1.x, rfl⟩, 3, g, g5, vI, fun s8 e8 => ?_⟩
        have x8 : s8 1 (A 0) = τ2 1 (A 0) := by
          rw [e8]
          exact up_ne (Or.inl (by decide))
        refine ⟨_, ⟨_, x8.trans c1.1.x, rfl⟩, _, x8.trans c1.1.x, by simp, fun s9 e9 => ?_⟩
        have kp : KpD (wr A CA) τ2 s9 := by
          rw [e9, e8]
          exact (KpD.rf.up (Or.inr (Or.inr (Or.inr ⟨rfl, Or.inl rfl⟩)))).up (Or.inl ⟨rfl, rfl⟩)
        have hs0 : sameC (tsK T 0) C := by
          have := hs
          rw [show tsK (tsN T K (tsC T) (tsI T) (tsQ T)) 0 = tsK T 0 from R.2 0 (by omega)] at this
          exact this
        have nq : ∀ a e, τ2 100 a = some e → a ≠ A 7 → s9 100 a = some e := fun a e hh na => by
          rw [e9, e8, up_ne (Or.inl (by decide)), up_ne (Or.inr na)]
          exact hh
        have n2 : ∀ κ a e, τ2 κ a = some e → κ ≠ 1 → κ ≠ 100 → s9 κ a = some e := fun κ a e hh na nb => by
          rw [e9, e8, up_ne (Or.inl na), up_ne (Or.inl nb)]
          exact hh
        have ap := hC.1.2.2.2.2.2.2.2.2.2.2.2.2.2.1
        have fin : CI s9 A CA E (imS T K C) := by
          refine c1.w (K := kUp K (21 + 21 * tsI T + 20) C) (t := tsT T) (f := tsF T) (l := tsL T) (c := tsC T) (i := tsI T + 1) (q := fun j => if j = tsI T then tsC T else tsQ T j) kp ?_ ?_ (fun i hi => ?_) ⟨_, by rw [e9, e8, up_ne (Or.inl (by decide)), up_eq], fun j hj => ?_⟩ ?_
          · rw [e9, up_eq, ← nI_1]
            rfl
          · obtain ⟨ft, d1, d2⟩ := c1.1.2.2.2.2.2.1
            exact ⟨ft, n2 _ _ _ d1 (by decide) (by decide), d2⟩
          · obtain ⟨q1, q2, q3, q4, q5⟩ := c1.1.cal hi
            have a9 := ap i hi
            exact ⟨n2 _ _ _ q1 (by decide) (by decide), nq _ _ q2 a9.1.symm, nq _ _ q3 a9.2.1.symm, q4, q5⟩
          · show (if j = (nI (tsI T)).toNatClampNeg then nI (tsC T) else g j) = nI (if j = tsI T then tsC T else tsQ T j)
            rw [cI]
            by_cases y : j = tsI T
            · rw [if_pos y, if_pos y]
            · rw [if_neg y, if_neg y]
              exact g6 j (show j < tsI T by omega)
          · refine tsN_ok hC.2.2 (fun i hi => ?_) hc (by omega) (fun j hj => ?_)
            · exact c1.2.2.2.2.1 i hi
            · show (if j = tsI T then tsC T else tsQ T j) ≤ 20
              split
              · exact hc
              · exact hC.2.2.2.2.2.2.2.2.2.2 j (by omega)
        have kk := kq z1 s9 K C R hs0 fin ((K1.tr c2).tr (kp.mono (fun κ a d => wr_own d)))
        rw [← nI_1] at kk
        exact kk
    | succ d ih =>
      intro k hk τ K C1 R K1
      have hkc : k < tsC T := by omega
      obtain ⟨f3, g1, g2⟩ := C1.1.kep
      obtain ⟨f4, g3, g4⟩ := C1.1.kpr (show tsI T < 3 by omega)
      obtain ⟨f5, g5, g6⟩ := C1.1.chg
      have ck := nI_clamp (show k < 2 ^ 31 by omega)
      refine bX1_image_12 ⟨_, ⟨_, C1.1.x, rfl⟩, fun z => absurd z (nI_ge hkc (show tsC T < 2 ^ 31 by omega)), fun _ => ⟨_, ⟨_, C1.1.x, rfl⟩, _, ⟨_, C1.1.x, rfl⟩, 3, f3, A (4 + tsI T), g1, vI, ?_, 21, f4, (CA (21 + 21 * tsI T + k)).1, g3, vp_in_nI (by omega) (by decide), ?_, _, ⟨_, C1.1.x, rfl⟩, 20, f5, (CA (1 + k)).1, g5, vp_in_nI (by omega) (by decide), ?_, c_as9 (i := 21 + 21 * tsI T + k) (j := 1 + k) C1 (by omega) (by omega) (by omega) (fun τ2 C c1 hs c2 => ⟨_, rfl, fun v1 e1 => ?_⟩)⟩⟩
      · show f3 (nI (tsI T)).toNatClampNeg = _
        rw [cI]
        exact g2 _ (by omega)
      · rw [ck]
        exact g4 k (by omega)
      · rw [ck]
        exact g6 k (by omega)
      · rw [e1, nI_1]
        refine ih (k + 1) (by omega) τ2 (kUp K (21 + 21 * tsI T + k) C) c1 ⟨fun j hj => ?_, fun x hx => ?_⟩ (K1.tr c2)
        · by_cases y : j = k
          · subst y
            rw [kUp_at]
            rw [show tsK (tsN T K (tsC T) (tsI T) (tsQ T)) (1 + j) = tsK T (1 + j) from R.2 _ (by omega)] at hs
            exact hs
          · rw [kUp_ne (by omega)]
            exact R.1 j (by omega)
        · rw [kUp_ne (by omega)]
          exact R.2 x (by omega)
  exact Lp (tsC T) 0 (by omega) σ (tsK T) hC ⟨fun j hj => absurd hj (by omega), fun x _ => rfl⟩ KpD.rf
/-- an image is there again -/
def reR (T : TS) (K : Nat → CL) (k : Nat) : Prop := (∀ j, j < k → sameC (tsK T (21 + 21 * (tsI T - 1) + j)) (K (1 + j))) ∧ ∀ x, (x < 1 ∨ 1 + k ≤ x) → K x = tsK T x
def reS (T : TS) (K : Nat → CL) (C : CL) : TS := tsN T (kUp K 0 C) (tsQ T (tsI T - 1)) (tsI T - 1) (tsQ T)
theorem c_restore {G : GC} {σ : PS} {Q : Option Value → PS → Prop} {X : String → Nat → PS → Prop} {b : Nat} {A : Nat → Nat} {CA : Nat → Nat × Nat × Nat} {E : Nat × Nat × Option Nat × Nat × Nat × Nat × Nat} {T : TS} (hC : CI σ A CA E T) (kq : tsI T ≠ 0 → ∀ τ K C, reR T K (tsQ T (tsI T - 1)) → sameC (tsK T (21 + 21 * (tsI T - 1) + 20)) C → CI τ A CA E (reS T K C) → KpD (own A CA) σ τ → Q (some (.int (nI (tsI T - 1)))) τ) (kn : tsI T = 0 → ∀ τ, CI τ A CA E T → KpD (own A CA) σ τ → Q (some (.int (-1))) τ) : Call G mX1_restore 4 b [.ref (A 0)] σ Q X := by
  have hc := hC.2.2.2.2.2.2.2.2.1
  have hi := hC.2.2.2.2.2.2.2.2.2.1
  have z0 : nI (tsI T) = 0 ↔ tsI T = 0 := nI_eq (b := 0) (by omega) (by decide)
  refine eX1_restore (bX1_restore_0 ⟨_, ⟨_, hC.1.x, rfl⟩, fun z => ⟨_, ⟨_, hC.1.x, rfl⟩, _, hC.1.x, by simp, fun s1 e1 => ?_⟩, fun z => kn (z0.mp z) σ hC KpD.rf⟩)
  have z1 : tsI T ≠ 0 := fun e => z (z0.mpr e)
  have hq := hC.2.2.2.2.2.2.2.2.2.2 (tsI T - 1) (by omega)
  have ei : nI (tsI T) - 1 = nI (tsI T - 1) := by
    rw [show tsI T = tsI T - 1 + 1 by omega, nI_pred]
    rfl
  rw [ei] at e1
  obtain ⟨C1, K1⟩ := hC.n (τ := s1) (c := tsC T) (i := tsI T - 1) hc (by omega) (by
    rw [e1]
    exact KpD.rf.up ⟨rfl, rfl⟩) (by
    rw [e1, up_eq]
    rfl)
  obtain ⟨g, g5, g6⟩ := hC.1.kpc
  have g7 : s1 100 (A 7) = some (.inr (3, .inl g)) := by
    rw [e1, up_ne (Or.inl (by decide))]
    exact g5
  have cI := nI_clamp (show tsI T - 1 < 2 ^ 31 by omega)
  have vI := vp_in_nI (show tsI T - 1 < 3 by omega) (by decide)
  refine ⟨_, ⟨_, C1.1.x, rfl⟩, _, ⟨_, C1.1.x, rfl⟩, 3, g, g7, vI, _, C1.1.x, by simp, fun s2 e2 => ?_⟩
  have cx : g (nI (tsI T - 1)).toNatClampNeg = nI (tsQ T (tsI T - 1)) := by
    rw [cI]
    exact g6 _ (by omega)
  obtain ⟨C2, K2⟩ := C1.n (τ := s2) (c := tsQ T (tsI T - 1)) (i := tsI T - 1) hq (Nat.le_refl _) (by
    rw [e2]
    exact KpD.rf.up ⟨rfl, rfl⟩) (by
    rw [e2, up_eq, ← cx]
    rfl)
  have Lp : ∀ d k, k + d = tsQ T (tsI T - 1) → ∀ τ K, CI τ A CA E (tsN T K (tsQ T (tsI T - 1)) (tsI T - 1) (tsQ T)) → reR T K k → KpD (own A CA) σ τ → At G mX1_restore 4 Q X b 34 [(0, .ref (A 0)), (1, .int (nI k))] [] τ := by
    intro d
    induction d with
    | zero =>
      intro k hk τ K C3 R K3
      have hk : k = tsQ T (tsI T - 1) := by omega
      subst hk
      obtain ⟨f3, g1, g2⟩ := C3.1.kep
      obtain ⟨f4, g3, g4⟩ := C3.1.kpr (show tsI T - 1 < 3 by omega)
      refine bX1_restore_34 ⟨_, ⟨_, C3.1.x, rfl⟩, fun _ => ⟨_, ⟨_, C3.1.x, rfl⟩, _, ⟨_, C3.1.x, rfl⟩, _, ⟨_, C3.1.x, rfl⟩, 3, f3, A (4 + (tsI T - 1)), g1, vI, ?_, 21, f4, (CA (21 + 21 * (tsI T - 1) + 20)).1, g3, vp_in_nI (n := 20) (by decide) (by decide), ?_, c_as9 (i := 0) (j := 21 + 21 * (tsI T - 1) + 20) C3 (by decide) (by omega) (by omega) (fun τ2 C c1 hs c2 => ⟨_, rfl, _, ⟨_, c1.1.x, rfl⟩, ?_⟩)⟩, fun z => absurd (nI_le (Nat.le_refl _) (show tsQ T (tsI T - 1) < 2 ^ 31 by omega)) z⟩
      · show f3 (nI (tsI T - 1)).toNatClampNeg = _
        rw [cI]
        exact g2 _ (by omega)
      · exact g4 20 (by decide)
      · rw [show tsK (tsN T K (tsQ T (tsI T - 1)) (tsI T - 1) (tsQ T)) (21 + 21 * (tsI T - 1) + 20) = tsK T (21 + 21 * (tsI T - 1) + 20) from R.2 _ (by omega)] at hs
        exact kq z1 τ2 K C R hs c1 (K3.tr c2)
    | succ d ih =>
      intro k hk τ K C3 R K3
      have hkc : k < tsQ T (tsI T - 1) := by omega
      obtain ⟨f3, g1, g2⟩ := C3.1.kep
      obtain ⟨f4, g3, g4⟩ := C3.1.kpr (show tsI T - 1 < 3 by omega)
      obtain ⟨f5, g5, g6⟩ := C3.1.chg
      have ck := nI_clamp (show k < 2 ^ 31 by omega)
      refine bX1_restore_34 ⟨_, ⟨_, C3.1.x, rfl⟩, fun z => absurd z (nI_ge hkc (show tsQ T (tsI T - 1) < 2 ^ 31 by omega)), fun _ => ⟨_, ⟨_, C3.1.x, rfl⟩, 20, f5, (CA (1 + k)).1, g5, vp_in_nI (by omega) (by decide), ?_, _, ⟨_, C3.1.x, rfl⟩, _, ⟨_, C3.1.x, rfl⟩, 3, f3, A (4 + (tsI T - 1)), g1, vI, ?_, 21, f4, (CA (21 + 21 * (tsI T - 1) + k)).1, g3, vp_in_nI (by omega) (by decide), ?_, c_as9 (i := 1 + k) (j := 21 + 21 * (tsI T - 1) + k) C3 (by omega) (by omega) (by omega) (fun τ2 C c1 hs c2 => ⟨_, rfl, fun v1 e1 => ?_⟩)⟩⟩
      · rw [ck]
        exact g6 k (by omega)
      · show f3 (nI (tsI T - 1)).toNatClampNeg = _
        rw [cI]
        exact g2 _ (by omega)
      · rw [ck]
        exact g4 k (by omega)
      · rw [e1, nI_1]
        refine ih (k + 1) (by omega) τ2 (kUp K (1 + k) C) c1 ⟨fun j hj => ?_, fun x hx => ?_⟩ (K3.tr c2)
        · by_cases y : j = k
          · subst y
            rw [kUp_at]
            rw [show tsK (tsN T K (tsQ T (tsI T - 1)) (tsI T - 1) (tsQ T)) (21 + 21 * (tsI T - 1) + j) = tsK T (21 + 21 * (tsI T - 1) + j) from R.2 _ (by omega)] at hs
            exact hs
          · rw [kUp_ne (by omega)]
            exact R.1 j (by omega)
        · rw [kUp_ne (by omega)]
          exact R.2 x (by omega)
  exact Lp (tsQ T (tsI T - 1)) 0 (by omega) s2 (tsK T) C2 ⟨fun j hj => absurd hj (by omega), fun x _ => rfl⟩ (K1.tr K2)
