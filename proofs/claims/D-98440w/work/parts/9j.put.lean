/-! Part B: the component's state anew -/
/-- the fields of the component's object -/
def cx (A : Nat → Nat) (CA : Nat → Nat × Nat × Nat) (E : Nat × Nat × Option Nat × Nat × Nat × Nat × Nat) (f l c i : Int32) : List Value := [.ref (A 1), .ref (CA 0).1, .ref (A 2), .ref (A 3), .ref (A 7), .ref (A 8), .ref (A 9), .ref (A 10), .ref (A 15), .ref (A 17), .ref E.1, va_rf E.2.2.1, .ref E.2.2.2.1, .int f, .int l, .int c, .int i]
theorem CI.fx {σ : PS} {A : Nat → Nat} {CA : Nat → Nat × Nat × Nat} {E : Nat × Nat × Option Nat × Nat × Nat × Nat × Nat} {T : TS} (h : CI σ A CA E T) : σ 1 (A 0) = some (.inl (cx A CA E (nI (tsF T)) (tsL T) (nI (tsC T)) (nI (tsI T)))) := h.1.1
def D1 (A : Nat → Nat) (κ a : Nat) : Prop := κ = 1 ∧ a = A 0
def D2 (A : Nat → Nat) (κ a : Nat) : Prop := (κ = 1 ∧ a = A 0) ∨ (κ = 105 ∧ a = A 9)
def D9 (A : Nat → Nat) (CA : Nat → Nat × Nat × Nat) (κ a : Nat) : Prop := (κ = 1 ∧ a = A 0) ∨ (κ = 105 ∧ a = A 9) ∨ CalD (CA 0).1 (CA 0).2.1 (CA 0).2.2 κ a
theorem D9_own {A : Nat → Nat} {CA : Nat → Nat × Nat × Nat} {κ a : Nat} (h : D9 A CA κ a) : own A CA κ a := by
  rcases h with h | ⟨h1, h2⟩ | ⟨h1, h2⟩ | ⟨h1, h2⟩
  · exact Or.inl h
  · exact Or.inr (Or.inr (Or.inr (Or.inr (Or.inl ⟨h1, Or.inl h2⟩))))
  · exact Or.inr (Or.inr (Or.inr (Or.inl ⟨h1, 0, by decide, h2⟩)))
  · exact Or.inr (Or.inr (Or.inl ⟨h1, Or.inr (Or.inr ⟨0, by decide, h2⟩)⟩))
theorem D1_2 {A : Nat → Nat} {κ a : Nat} (h : D1 A κ a) : D2 A κ a := Or.inl h
theorem D2_9 {A : Nat → Nat} {CA : Nat → Nat × Nat × Nat} {κ a : Nat} (h : D2 A κ a) : D9 A CA κ a := h.elim Or.inl (fun z => Or.inr (Or.inl z))
theorem D9_no {A : Nat → Nat} {CA : Nat → Nat × Nat × Nat} {κ a : Nat} (h1 : κ ≠ 1) (h2 : κ ≠ 105) (h3 : κ ≠ 2) (h4 : κ ≠ 100) : ¬ D9 A CA κ a := by
  unfold D9 CalD
  omega
theorem CI.put {σ τ : PS} {A : Nat → Nat} {CA : Nat → Nat × Nat × Nat} {E : Nat × Nat × Option Nat × Nat × Nat × Nat × Nat} {T : TS} {E' : Nat × Nat × Option Nat × Nat × Nat × Nat × Nat} {T' : TS} (h : CI σ A CA E T) (k : KpD (D9 A CA) σ τ)
    (x1 : τ 1 (A 0) = some (.inl (cx A CA E' (nI (tsF T')) (tsL T') (nI (tsC T')) (nI (tsI T')))))
    (off : OffO τ E'.1 E'.2.1 (tsO T') (tsP T') ∧ ¬ own A CA 100 E'.2.1)
    (rul : HabQ τ E'.2.2.1 (tsH T' 6) ∧ ∀ y, E'.2.2.1 = some y → ∃ vs, τ 14 y = some (.inl vs))
    (hab : ∃ hf, τ 105 (A 9) = some (.inr (6, .inr (.inr hf))) ∧ (∀ p, p < 6 → HabQ τ (hf p) (tsH T' p)) ∧ ∀ i y, hf i = some y → ∃ vs, τ 14 y = some (.inl vs))
    (bk : BkA τ E'.2.2.2.1 E'.2.2.2.2.1 E'.2.2.2.2.2.1 E'.2.2.2.2.2.2 (tsB T') ∧ ¬ own A CA 100 E'.2.2.2.2.1 ∧ ¬ own A CA 100 E'.2.2.2.2.2.1 ∧ ¬ own A CA 100 E'.2.2.2.2.2.2)
    (cal : ∀ i, i < 84 → CalO τ (CA i).1 (CA i).2.1 (CA i).2.2 (tsK T' i).1 (tsK T' i).2.1 (tsK T' i).2.2)
    (hT : tsT T' = tsT T) (hF : tsF T' ≤ tsF T) (hI : tsI T' ≤ tsI T) (hQ : tsQ T' = tsQ T) (r0 : tsR0 T' = tsR0 T) (r1 : tsR1 T' = tsR1 T) (ok : tsOK T') : CI τ A CA E' T' ∧ KpD (own A CA) σ τ := by
  obtain ⟨⟨a1, -, -, -, -, ⟨ft, d1, d2⟩, -, ⟨⟨f1, i1, i2⟩, ⟨f2, i3, i4⟩, i5⟩, ⟨f4, j1, j2⟩, ⟨f5, k1, k2, k3⟩, l⟩, s, -⟩ := h
  have kk : ∀ κ a e, σ κ a = some e → κ ≠ 1 → κ ≠ 105 → κ ≠ 2 → κ ≠ 100 → τ κ a = some e := fun κ a e hh n1 n2 n3 n4 => k κ a e hh (D9_no n1 n2 n3 n4)
  have n7 : ¬ D9 A CA 100 (A 7) := fun w => by
    rcases w with w | w | w | ⟨w, w2⟩
    · exact absurd w.1 (by decide)
    · exact absurd w.1 (by decide)
    · exact absurd w.1 (by decide)
    · have := l.2.2.2.1 0 (by decide)
      omega
  have n8 : ¬ D9 A CA 100 (A 8) := fun w => by
    rcases w with w | w | w | ⟨w, w2⟩
    · exact absurd w.1 (by decide)
    · exact absurd w.1 (by decide)
    · exact absurd w.1 (by decide)
    · have := l.2.2.2.1 0 (by decide)
      omega
  have n18 : ¬ D9 A CA 105 (A 18) := fun w => by
    rcases w with w | w | w | ⟨w, w2⟩
    · exact absurd w.1 (by decide)
    · exact l.1 w.2.symm
    · exact absurd w.1 (by decide)
    · exact absurd w (by decide)
  refine ⟨⟨⟨x1, off, rul, hab, bk, ⟨ft, kk _ _ _ d1 (by decide) (by decide) (by decide) (by decide), fun i hi => ?_⟩, cal, ⟨⟨f1, kk _ _ _ i1 (by decide) (by decide) (by decide) (by decide), i2⟩, ⟨f2, kk _ _ _ i3 (by decide) (by decide) (by decide) (by decide), i4⟩, fun i hi => ?_⟩, ⟨f4, k _ _ _ j1 n7, fun i hi => ?_⟩, ⟨f5, k _ _ _ k1 n8, by rw [r0]; exact k2, by rw [r1]; exact k3⟩, l⟩, ?_, ok⟩, k.mono (fun κ a d => D9_own d)⟩
  · rw [hT]
    exact d2 i (by omega)
  · obtain ⟨f, q1, q2⟩ := i5 i hi
    exact ⟨f, kk _ _ _ q1 (by decide) (by decide) (by decide) (by decide), q2⟩
  · rw [hQ]
    exact j2 i (by omega)
  · obtain ⟨z, ⟨v1, v2, v3, v4, v5, v6, l2, y1, y2, y3⟩, ⟨w1, w2, w3, w4, w5, w6, w7, gg, y4, y5⟩⟩ := s
    exact ⟨z.mv (fun κ x e hk hh => kk _ _ _ hh (by omega) (by omega) (by omega) (by omega)), ⟨v1, v2, v3, v4, v5, v6, l2, kk _ _ _ y1 (by decide) (by decide) (by decide) (by decide), kk _ _ _ y2 (by decide) (by decide) (by decide) (by decide), y3⟩, ⟨w1, w2, w3, w4, w5, w6, w7, gg, kk _ _ _ y4 (by decide) (by decide) (by decide) (by decide), k _ _ _ y5 n18⟩⟩
theorem own_D9 {A : Nat → Nat} {CA : Nat → Nat × Nat × Nat} {p : Nat} (h : ¬ own A CA 100 p) : ¬ D9 A CA 100 p := fun w => h (D9_own w)
theorem CI.off9 {σ τ : PS} {A : Nat → Nat} {CA : Nat → Nat × Nat × Nat} {E : Nat × Nat × Option Nat × Nat × Nat × Nat × Nat} {T : TS} (h : CI σ A CA E T) (k : KpD (D9 A CA) σ τ) : OffO τ E.1 E.2.1 (tsO T) (tsP T) ∧ ¬ own A CA 100 E.2.1 := by
  obtain ⟨⟨q1, fp, q2, q3⟩, a2'⟩ := h.1.2.1
  exact ⟨⟨k _ _ _ q1 (D9_no (by decide) (by decide) (by decide) (by decide)), fp, k _ _ _ q2 (own_D9 a2'), q3⟩, a2'⟩
theorem HabQ.k9 {σ τ : PS} {A : Nat → Nat} {CA : Nat → Nat × Nat × Nat} {u : Option Nat} {L : List StT} (h : HabQ σ u L) (k : KpD (D9 A CA) σ τ) : HabQ τ u L := h.kept (fun κ q1 q2 a e hh => k κ a e hh (D9_no (by omega) (by omega) (by omega) (by omega))) (fun a e hh => k 106 a e hh (D9_no (by decide) (by decide) (by decide) (by decide)))
theorem k9_14 {σ τ : PS} {A : Nat → Nat} {CA : Nat → Nat × Nat × Nat} {y : Nat} (k : KpD (D9 A CA) σ τ) (h : ∃ vs, σ 14 y = some (.inl vs)) : ∃ vs, τ 14 y = some (.inl vs) := by
  obtain ⟨vs, hv⟩ := h
  exact ⟨vs, k _ _ _ hv (D9_no (by decide) (by decide) (by decide) (by decide))⟩
theorem CI.rul9 {σ τ : PS} {A : Nat → Nat} {CA : Nat → Nat × Nat × Nat} {E : Nat × Nat × Option Nat × Nat × Nat × Nat × Nat} {T : TS} (h : CI σ A CA E T) (k : KpD (D9 A CA) σ τ) : HabQ τ E.2.2.1 (tsH T 6) ∧ ∀ y, E.2.2.1 = some y → ∃ vs, τ 14 y = some (.inl vs) := ⟨h.1.2.2.1.1.k9 k, fun y hy => k9_14 k (h.1.2.2.1.2 y hy)⟩
theorem CI.hab9 {σ τ : PS} {A : Nat → Nat} {CA : Nat → Nat × Nat × Nat} {E : Nat × Nat × Option Nat × Nat × Nat × Nat × Nat} {T : TS} (h : CI σ A CA E T) (k : KpD (D9 A CA) σ τ) (k1 : ∀ e, σ 105 (A 9) = some e → τ 105 (A 9) = some e) : ∃ hf, τ 105 (A 9) = some (.inr (6, .inr (.inr hf))) ∧ (∀ p, p < 6 → HabQ τ (hf p) (tsH T p)) ∧ ∀ i y, hf i = some y → ∃ vs, τ 14 y = some (.inl vs) := by
  obtain ⟨hf, b1, b2, b3⟩ := h.1.2.2.2.1
  exact ⟨hf, k1 _ b1, fun p hp => (b2 p hp).k9 k, fun i y hy => k9_14 k (b3 i y hy)⟩
theorem CI.bk9 {σ τ : PS} {A : Nat → Nat} {CA : Nat → Nat × Nat × Nat} {E : Nat × Nat × Option Nat × Nat × Nat × Nat × Nat} {T : TS} (h : CI σ A CA E T) (k : KpD (D9 A CA) σ τ) : BkA τ E.2.2.2.1 E.2.2.2.2.1 E.2.2.2.2.2.1 E.2.2.2.2.2.2 (tsB T) ∧ ¬ own A CA 100 E.2.2.2.2.1 ∧ ¬ own A CA 100 E.2.2.2.2.2.1 ∧ ¬ own A CA 100 E.2.2.2.2.2.2 := by
  obtain ⟨⟨g1, g2, g3, c1, c2, c3, c4, c5, c6⟩, c7⟩ := h.1.2.2.2.2.1
  exact ⟨⟨g1, g2, g3, k _ _ _ c1 (D9_no (by decide) (by decide) (by decide) (by decide)), c2, k _ _ _ c3 (own_D9 c7.1), k _ _ _ c4 (own_D9 c7.2.1), k _ _ _ c5 (own_D9 c7.2.2), c6⟩, c7⟩
theorem CI.cal9 {σ τ : PS} {A : Nat → Nat} {CA : Nat → Nat × Nat × Nat} {E : Nat × Nat × Option Nat × Nat × Nat × Nat × Nat} {T : TS} (h : CI σ A CA E T) (k : KpD (D9 A CA) σ τ) : ∀ i, 0 < i → i < 84 → CalO τ (CA i).1 (CA i).2.1 (CA i).2.2 (tsK T i).1 (tsK T i).2.1 (tsK T i).2.2 := fun i h0 hi => by
  obtain ⟨q1, q2, q3, q4⟩ := h.1.2.2.2.2.2.2.1 i hi
  have ap := h.1.2.2.2.2.2.2.2.2.2.2.2.2.2.2 i 0 hi (by decide) (by omega)
  have ap2 := h.1.2.2.2.2.2.2.2.2.2.2.2.2.2.2 0 i (by decide) hi (by omega)
  refine ⟨k _ _ _ q1 (fun w => ?_), k _ _ _ q2 (fun w => ?_), k _ _ _ q3 (fun w => ?_), q4⟩
  · unfold D9 CalD at w
    omega
  · unfold D9 CalD at w
    omega
  · unfold D9 CalD at w
    omega
theorem CI.cal2 {σ τ : PS} {A : Nat → Nat} {CA : Nat → Nat × Nat × Nat} {E : Nat × Nat × Option Nat × Nat × Nat × Nat × Nat} {T : TS} (h : CI σ A CA E T) (k : KpD (D2 A) σ τ) : ∀ i, i < 84 → CalO τ (CA i).1 (CA i).2.1 (CA i).2.2 (tsK T i).1 (tsK T i).2.1 (tsK T i).2.2 := fun i hi => by
  obtain ⟨q1, q2, q3, q4⟩ := h.1.2.2.2.2.2.2.1 i hi
  refine ⟨k _ _ _ q1 (fun w => ?_), k _ _ _ q2 (fun w => ?_), k _ _ _ q3 (fun w => ?_), q4⟩
  · unfold D2 at w
    omega
  · unfold D2 at w
    omega
  · unfold D2 at w
    omega
theorem CI.nown {σ : PS} {A : Nat → Nat} {CA : Nat → Nat × Nat × Nat} {E : Nat × Nat × Option Nat × Nat × Nat × Nat × Nat} {T : TS} (h : CI σ A CA E T) {p : Nat} (hp : ∀ κ, σ κ p = none) : ¬ own A CA 100 p := fun w => by
  have hq := hp 100
  rcases w with w | w | ⟨-, w | w | ⟨i, hi, w⟩⟩ | w | w | w | w | w | w
  · exact absurd w.1 (by decide)
  · exact absurd w.1 (by decide)
  · obtain ⟨f4, j1, j2⟩ := h.1.2.2.2.2.2.2.2.2.1
    rw [w, j1] at hq
    cases hq
  · obtain ⟨f5, k1, k2⟩ := h.1.2.2.2.2.2.2.2.2.2.1
    rw [w, k1] at hq
    cases hq
  · obtain ⟨q1, q2, q3, q4⟩ := h.1.2.2.2.2.2.2.1 i hi
    rcases w with w | w
    · rw [w, q2] at hq
      cases hq
    · rw [w, q3] at hq
      cases hq
  · exact absurd w.1 (by decide)
  · exact absurd w.1 (by decide)
  · unfold FlW FlD at w
    omega
  · exact absurd w.1 (by decide)
  · exact absurd w.1 (by decide)
  · exact absurd w.1 (by decide)
/-- a reader on the tape -/
theorem k_reader {G : GC} {σ : PS} {Q : Option Value → PS → Prop} {X : String → Nat → PS → Prop} {b n : Nat} {A : Nat → Nat} {CA : Nat → Nat × Nat × Nat} {E : Nat × Nat × Option Nat × Nat × Nat × Nat × Nat} {t : Nat → Nat} {f l c i : Int32} (hb : 1 ≤ b) (hx : σ 1 (A 0) = some (.inl (cx A CA E f l c i))) (ht : ∃ ft, σ 102 (A 1) = some (.inr (600, .inl ft)) ∧ ∀ i, i < n → ft i &&& 255 = nI (t i)) (hn : n ≤ 600) (h8 : ∀ i, i < n → t i < 256) (kq : ∀ τ r, τ 1 (A 0) = some (.inl (cx A CA E 0 (-1) c i)) → RdO τ r (A 1) t n 0 0 → (∀ κ, σ κ r = none) → KpD (D1 A) σ τ → Q (some (.ref r)) τ) : Call G mX1_reader 5 b [.ref (A 0), .int (nI n)] σ Q X := by
  obtain ⟨ft, t1, t2⟩ := ht
  refine eX1_reader (bX1_reader_0 ⟨_, hx, by simp [cx], fun s1 e1 => ?_⟩)
  subst e1
  refine ⟨_, up_eq, by simp [cx], fun s2 e2 => ⟨hb, fun r hr s3 e3 => ?_⟩⟩
  rw [up_up] at e2
  have hrA : r ≠ A 0 := fun w => by
    have := hr 1
    rw [e2, w, up_eq] at this
    cases this
  have hr0 : ∀ κ, σ κ r = none := fun κ => by
    have := hr κ
    rw [e2, up_a hrA] at this
    exact this
  have x3 : s3 1 (A 0) = some (.inl (cx A CA E 0 (-1) c i)) := by
    rw [e3, up_k (by decide), e2, up_eq]
    rfl
  refine ⟨A 1, ⟨_, x3, rfl⟩, eX11_init (bX11_init_0 ⟨[.null, .int 0, .int 0, .int 0], by rw [e3]; exact up_eq, by simp, fun s4 e4 => ?_⟩)⟩
  subst e4
  refine ⟨_, up_eq, by simp, fun s5 e5 => ⟨rfl, ?_⟩⟩
  rw [up_up] at e5
  subst e5
  refine kq _ r ((up_k (by decide)).trans x3) ⟨up_eq, ⟨ft, ?_, t2⟩, hn, h8, Nat.zero_le _, Nat.zero_le _⟩ hr0 ?_
  · rw [up_k (by decide), e3, up_k (by decide), e2, up_k (by decide)]
    exact t1
  · rw [e3, e2]
    exact ((KpD.rf.up ⟨rfl, rfl⟩).upf hr0).upf hr0
/-- what was wrong is told -/
theorem k_faulty {G : GC} {σ : PS} {Q : Option Value → PS → Prop} {X : String → Nat → PS → Prop} {b q why where9 : Nat} {A : Nat → Nat} {CA : Nat → Nat × Nat × Nat} {E : Nat × Nat × Option Nat × Nat × Nat × Nat × Nat} {f l c i : Int32} (hx : σ 1 (A 0) = some (.inl (cx A CA E f l c i))) (hw : WrO σ q why where9) (kq : ∀ τ, τ 1 (A 0) = some (.inl (cx A CA E f (nI where9) c i)) → KpD (D1 A) σ τ → Q (some (.int (nI why - 10))) τ) : Call G mX1_faulty 3 b [.ref (A 0), .ref q] σ Q X := by
  obtain ⟨v0, v1, v2, v3, v4, v5, w1⟩ := hw
  refine eX1_faulty (bX1_faulty_0 ⟨_, ⟨_, w1, rfl⟩, _, hx, by simp [cx], fun s1 e1 => ?_⟩)
  subst e1
  exact ⟨_, ⟨_, (up_k (by decide)).trans w1, rfl⟩, kq _ up_eq (KpD.rf.up ⟨rfl, rfl⟩)⟩
