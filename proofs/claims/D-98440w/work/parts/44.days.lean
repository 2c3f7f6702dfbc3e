/-! Part B: a day through its visits -/
def stepDay (N W see v : Nat) (fw fm : Nat → Int32) (y : DY) (S : StT) : DY := match y with
  | (l, dr, wa, lo, s, c, d, k, e) => if so (fac N W fw fm v s c d k e) S.2.2 = true then (if S.2.1 = 0 then onDay N see v S.1 (l, dr, wa, lo, s, c, d, k, e) else if dv (nx l) % 16 < S.2.1 then onDay N see v S.1 (nx l, dr, wa, lo, s, c, d, k, e) else (nx l, dr, wa, lo, s, c, d, k, e)) else (l, dr, wa, lo, s, c, d, k, e)
def fallDay (fall : Nat) (y : DY) : DY := match y with
  | (l, dr, wa, lo, s, c, d, k, e) => (nx l, dr, wa, lo, s, c, d, (if dv (nx l) % 16 < fall then 1 - k else k), e)
def endDay (y : DY) : DY := match y with
  | (l, dr, wa, lo, s, c, d, k, _) => (l, dr, wa, lo, s, c, d, k, 0)
def visitDay (O : Nat → Nat) (fw fm : Nat → Int32) (H : Nat → List StT) (v : Nat) (y : DY) : DY := endDay ((H (fw v).toNatClampNeg).foldl (stepDay (O 0) (O 5) (O 6) v fw fm) (fallDay (O 4) y))
def runDay (O : Nat → Nat) (fw fm : Nat → Int32) (H : Nat → List StT) (seed : Int32) : Nat → DY
  | 0 => (seed, 0, 0, 0, 0, O 1, O 2, O 3, 0)
  | v + 1 => visitDay O fw fm H v (runDay O fw fm H seed v)
theorem k_drawn {G : GC} {σ : PS} {a st o v q : Nat} {S : StT} {l dr wa lo : Int32} {s c d k e : Nat} {Q : Option Value → PS → Prop} (hS : StpO σ q S) (hby : S.2.1 ≤ 16) (hD : DayO σ a st o v (l, dr, wa, lo, s, c, d, k, e)) (h0 : S.2.1 = 0 → Q (some (.int 1)) σ) (h1 : S.2.1 ≠ 0 → ∀ τ, DayO τ a st o v (nx l, dr, wa, lo, s, c, d, k, e) → Fr (DayD a st) σ τ → Q (some (.int (if dv (nx l) % 16 < S.2.1 then 1 else 0))) τ) : CallS_isDrawn G 4 q [.ref a] σ Q := by
  obtain ⟨tv, -, hq⟩ := hS
  have z0 : nI S.2.1 = 0 ↔ S.2.1 = 0 := nI_eq (b := 0) (by omega) (by decide)
  refine ⟨_, _, kOf_in S.1, hq, eX19_isDrawn (kOf_in S.1) (bX19_isDrawn_0 (kOf_in S.1) ⟨nI S.2.1, ⟨_, hq, rfl⟩, fun z => h0 (z0.mp z), fun z => ⟨⟨_, hD.1⟩, k_draw (m := 16) (by decide) (by decide) hD.1 ⟨_, rfl, ?_⟩⟩⟩)⟩
  have h2 := h1 (fun w => z (z0.mpr w)) _ (hD.up5 (l' := nx l) (dr' := dr) (wa' := wa) (lo' := lo)) (Fr.rf.up (Or.inl ⟨rfl, rfl⟩))
  have hm : dv (nx l) % 16 < 2 ^ 31 := Nat.lt_trans (Nat.mod_lt _ (by decide)) (by decide)
  have hk5 : kOf S.1 ≠ 5 := by have := (kOf_in S.1).1; omega
  refine ⟨nI S.2.1, ⟨_, (up_k hk5).trans hq, rfl⟩, fun w => ?_, fun w => ?_⟩
  · have w2 := (nI_leI (by omega) hm).mp w
    rw [if_neg (by omega)] at h2
    exact h2
  · have w2 : ¬ S.2.1 ≤ dv (nx l) % 16 := fun y => w ((nI_leI (by omega) hm).mpr y)
    rw [if_pos (by omega)] at h2
    exact h2
/-- a habit; steps that may be -/
def stOK (S : StT) : Prop := S.1 ≤ 7 ∧ S.2.1 ≤ 16
def HabO (σ : PS) (h : Nat) (L : List StT) : Prop := ∃ ar, σ 14 h = some (.inl [.ref ar, .int (nI L.length)]) ∧ L.length ≤ 8 ∧ ∃ f, σ 106 ar = some (.inr (8, .inr (.inr f))) ∧ ∀ i S, L[i]? = some S → stOK S ∧ ∃ q, f i = some q ∧ StpO σ q S
def HabQ (σ : PS) (u : Option Nat) (L : List StT) : Prop := (u = none ∧ L = []) ∨ ∃ z, u = some z ∧ HabO σ z L
theorem HabO.kept {σ τ : PS} {h : Nat} {L : List StT} (f : ∀ κ, 14 ≤ κ → κ ≤ 25 → Kp κ σ τ) (g : Kp 106 σ τ) (hh : HabO σ h L) : HabO τ h L := by
  obtain ⟨ar, h1, h2, F, h3, h4⟩ := hh
  refine ⟨ar, f 14 (by decide) (by decide) _ _ h1, h2, F, g _ _ h3, fun i S hi => ?_⟩
  obtain ⟨h5, q, h6, h7⟩ := h4 i S hi
  exact ⟨h5, q, h6, h7.kept (fun κ a b => f κ (by omega) b)⟩
theorem HabQ.kept {σ τ : PS} {u : Option Nat} {L : List StT} (f : ∀ κ, 14 ≤ κ → κ ≤ 25 → Kp κ σ τ) (g : Kp 106 σ τ) (hh : HabQ σ u L) : HabQ τ u L := by
  rcases hh with h | ⟨z, h1, h2⟩
  · exact Or.inl h
  · exact Or.inr ⟨z, h1, h2.kept f g⟩
def dyB (v : Nat) (y : DY) : Prop := y.2.2.2.2.1 ≤ v ∧ y.2.2.2.2.2.1 + y.2.2.2.2.2.2.1 ≤ 12 ∧ y.2.2.2.2.2.2.2.1 < 2 ∧ y.2.2.2.2.2.2.2.2 < 2
theorem dyB.mk {v : Nat} {l dr wa lo : Int32} {s c d k e : Nat} (h1 : s ≤ v) (h2 : c + d ≤ 12) (h3 : k < 2) (h4 : e < 2) : dyB v (l, dr, wa, lo, s, c, d, k, e) := ⟨h1, h2, h3, h4⟩
theorem onDay_ok {N see v act : Nat} {y : DY} (hN : N ≤ 12) (h : dyB (v + 1) y) : dyB (v + 1) (onDay N see v act y) := by
  obtain ⟨l, dr, wa, lo, s, c, d, k, e⟩ := y
  obtain ⟨h1, h2, h3, h4⟩ := h
  have h2 : c + d ≤ 12 := h2
  have h3 : k < 2 := h3
  have h4 : e < 2 := h4
  have h1 : s ≤ v + 1 := h1
  match act with
  | 0 => by_cases q : c + d < N
         · simp only [onDay, if_pos q]; exact .mk h1 (by omega) h3 h4
         · simp only [onDay, if_neg q]; exact .mk h1 h2 h3 h4
  | 1 => by_cases q : c + d = 0
         · simp only [onDay, if_pos q]; exact .mk h1 h2 h3 h4
         · by_cases q2 : dv (nx l) % (c + d) < d
           · simp only [onDay, if_neg q, if_pos q2]; exact .mk h1 (by omega) h3 h4
           · simp only [onDay, if_neg q, if_neg q2]; exact .mk h1 (by omega) h3 h4
  | 2 => by_cases q : d = 0
         · simp only [onDay, if_pos q]; exact .mk h1 h2 h3 h4
         · by_cases q2 : dv (nx l) % 16 < see
           · simp only [onDay, if_neg q, if_pos q2]; exact .mk h1 h2 h3 (by omega)
           · simp only [onDay, if_neg q, if_neg q2]; exact .mk h1 h2 h3 h4
  | 3 => by_cases q : c + d = 0
         · simp only [onDay, if_pos q]; exact .mk h1 h2 h3 h4
         · simp only [onDay, if_neg q]; exact .mk (Nat.le_refl _) (by omega) h3 h4
  | 4 => exact .mk h1 (by omega) h3 h4
  | 5 => exact .mk h1 h2 (by omega) h4
  | 6 => exact .mk h1 h2 (by omega) h4
  | a + 7 => exact .mk h1 h2 (by omega) h4
theorem stepDay_ok {N W see v : Nat} {fw fm : (Nat → Int32)} {y : DY} {S : StT} (hN : N ≤ 12) (h : dyB (v + 1) y) : dyB (v + 1) (stepDay N W see v fw fm y S) := by
  obtain ⟨l, dr, wa, lo, s, c, d, k, e⟩ := y
  have h' : ∀ l', dyB (v + 1) (l', dr, wa, lo, s, c, d, k, e) := fun l' => h
  simp only [stepDay]
  by_cases q : so (fac N W fw fm v s c d k e) S.2.2 = true
  · rw [if_pos q]
    by_cases q2 : S.2.1 = 0
    · rw [if_pos q2]
      exact onDay_ok hN h
    · rw [if_neg q2]
      by_cases q3 : dv (nx l) % 16 < S.2.1
      · rw [if_pos q3]
        exact onDay_ok hN (h' _)
      · rw [if_neg q3]
        exact h' _
  · rw [if_neg q]
    exact h
theorem stepsDay_ok {N W see v : Nat} {fw fm : (Nat → Int32)} (hN : N ≤ 12) (L : List StT) : ∀ {y : DY}, dyB (v + 1) y → dyB (v + 1) (L.foldl (stepDay N W see v fw fm) y) := by
  induction L with
  | nil => exact fun h => h
  | cons S L ih => exact fun h => ih (stepDay_ok hN h)
theorem visitDay_ok {O : Nat → Nat} {v : Nat} {fw fm : (Nat → Int32)} {H : Nat → List StT} {y : DY} (hN : O 0 ≤ 12) (h : dyB v y) : dyB (v + 1) (visitDay O fw fm H v y) := by
  have h1 : dyB (v + 1) (fallDay (O 4) y) := by
    obtain ⟨l, dr, wa, lo, s, c, d, k, e⟩ := y
    obtain ⟨h1, h2, h3, h4⟩ := h
    have h1 : s ≤ v := h1
    have h3 : k < 2 := h3
    refine .mk (by omega) h2 ?_ h4
    split <;> omega
  have h2 := stepsDay_ok (W := O 5) (see := O 6) (fw := fw) (fm := fm) hN (H (fw v).toNatClampNeg) h1
  unfold visitDay
  revert h2
  generalize (H (fw v).toNatClampNeg).foldl (stepDay (O 0) (O 5) (O 6) v fw fm) (fallDay (O 4) y) = z
  obtain ⟨l, dr, wa, lo, s, c, d, k, e⟩ := z
  exact fun h2 => .mk h2.1 h2.2.1 h2.2.2.1 (by decide)
theorem runDay_ok {O : Nat → Nat} {fw fm : (Nat → Int32)} {H : Nat → List StT} {seed : Int32} (hN : O 0 ≤ 12) (hc : O 1 + O 2 ≤ 12) (hk : O 3 < 2) : ∀ v, dyB v (runDay O fw fm H seed v)
  | 0 => .mk (Nat.le_refl _) hc hk (by decide)
  | v + 1 => visitDay_ok hN (runDay_ok hN hc hk v)
