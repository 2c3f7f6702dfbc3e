/-! Part B: feeding, on both sides -/
def byN (w : Int32) : Nat := w.toBitVec.toNat % 256
theorem byN_lt (w : Int32) : byN w < 256 := Nat.mod_lt _ (by decide)
theorem and255 (w : Int32) : w &&& 255 = nI (byN w) := by
  apply Int32.toBitVec_inj.mp
  apply BitVec.eq_of_toNat_eq
  rw [Int32.toBitVec_and, BitVec.toNat_and]
  show w.toBitVec.toNat &&& 255 = (BitVec.ofNat 32 (byN w)).toNat
  rw [BitVec.toNat_ofNat, show (255 : Nat) = 2 ^ 8 - 1 from rfl, Nat.and_two_pow_sub_one_eq_mod]
  have := byN_lt w
  unfold byN at *
  omega
theorem nar255 (z : Int32) : vp_nar .byte (z.toInt8.toInt32) &&& 255 = z &&& 255 := by
  rw [pk_vb]
  apply Int32.toBitVec_inj.mp
  apply BitVec.eq_of_getLsbD_eq
  intro i hi
  rw [Int32.toBitVec_and, Int32.toBitVec_and, BitVec.getLsbD_and, BitVec.getLsbD_and]
  by_cases h : i < 8
  · congr 1
    show (BitVec.signExtend 32 (BitVec.signExtend 8 z.toBitVec)).getLsbD i = z.toBitVec.getLsbD i
    rw [BitVec.getLsbD_signExtend, BitVec.getLsbD_signExtend]
    simp [h, hi]
  · have e : (Int32.toBitVec 255).getLsbD i = false := by
      have : ∀ i, i < 32 → ¬ i < 8 → (Int32.toBitVec 255).getLsbD i = false := by decide
      exact this i hi h
    rw [e, Bool.and_false, Bool.and_false]
/-- another tape, other calendars -/
def tsW (T : TS) (K : Nat → CL) (t : Nat → Nat) (f : Nat) (l : Int32) (c i : Nat) (q : Nat → Nat) : TS := (tsO T, tsP T, K, tsH T, tsB T, t, f, l, c, i, q, tsR0 T, tsR1 T)
def wr (A : Nat → Nat) (CA : Nat → Nat × Nat × Nat) (κ a : Nat) : Prop := (κ = 1 ∧ a = A 0) ∨ (κ = 102 ∧ a = A 1) ∨ (κ = 2 ∧ ∃ i, i < 84 ∧ a = (CA i).1) ∨ (κ = 100 ∧ (a = A 7 ∨ ∃ i, i < 84 ∧ (a = (CA i).2.1 ∨ a = (CA i).2.2)))
theorem wr_own {A : Nat → Nat} {CA : Nat → Nat × Nat × Nat} {κ a : Nat} (h : wr A CA κ a) : own A CA κ a := by
  unfold wr at h
  unfold own
  rcases h with h | h | h | ⟨h1, h2 | h2⟩
  · exact Or.inl h
  · exact Or.inr (Or.inl h)
  · exact Or.inr (Or.inr (Or.inr (Or.inl h)))
  · exact Or.inr (Or.inr (Or.inl ⟨h1, Or.inl h2⟩))
  · exact Or.inr (Or.inr (Or.inl ⟨h1, Or.inr (Or.inr h2)⟩))
theorem wr_not {A : Nat → Nat} {CA : Nat → Nat × Nat × Nat} {κ a : Nat} (h1 : κ ≠ 1) (h2 : κ ≠ 102) (h3 : κ ≠ 2) (h4 : κ ≠ 100) : ¬ wr A CA κ a := by
  unfold wr
  rintro (h | h | h | h)
  · exact h1 h.1
  · exact h2 h.1
  · exact h3 h.1
  · exact h4 h.1
theorem CI.w {σ τ : PS} {A : Nat → Nat} {CA : Nat → Nat × Nat × Nat} {E : Nat × Nat × Option Nat × Nat × Nat × Nat × Nat} {T : TS} (h : CI σ A CA E T) {K : Nat → CL} {t : Nat → Nat} {f : Nat} {l : Int32} {c i : Nat} {q : Nat → Nat} (k : KpD (wr A CA) σ τ)
    (x : τ 1 (A 0) = some (.inl [.ref (A 1), .ref (CA 0).1, .ref (A 2), .ref (A 3), .ref (A 7), .ref (A 8), .ref (A 9), .ref (A 10), .ref (A 15), .ref (A 17), .ref E.1, va_rf E.2.2.1, .ref E.2.2.2.1, .int (nI f), .int l, .int (nI c), .int (nI i)]))
    (tp : ∃ ft, τ 102 (A 1) = some (.inr (600, .inl ft)) ∧ ∀ i, i < f → ft i &&& 255 = nI (t i))
    (cal : ∀ i, i < 84 → CalO τ (CA i).1 (CA i).2.1 (CA i).2.2 (K i).1 (K i).2.1 (K i).2.2)
    (kq : ∃ g, τ 100 (A 7) = some (.inr (3, .inl g)) ∧ ∀ j, j < i → g j = nI (q j)) (ok : tsOK (tsW T K t f l c i q)) : CI τ A CA E (tsW T K t f l c i q) := by
  obtain ⟨⟨a1, ⟨a2, a2'⟩, ⟨a3, a3'⟩, b, ⟨c1, c7⟩, d, e1, i3, -, ⟨f5, k1, k2, k3⟩, l3⟩, s, -⟩ := h
  have kk : ∀ κ a e, σ κ a = some e → κ ≠ 1 → κ ≠ 102 → κ ≠ 2 → κ ≠ 100 → τ κ a = some e := fun κ a e hh n1 n2 n3 n4 => k κ a e hh (wr_not n1 n2 n3 n4)
  have ne : ∀ a e, σ 100 a = some e → ¬ own A CA 100 a → τ 100 a = some e := fun a e hh hn => k 100 a e hh (fun w => hn (wr_own w))
  have k8 : τ 100 (A 8) = some (.inr (2, .inl f5)) := k 100 _ _ k1 (by
    have q1 := l3.2.2.1
    have q2 := l3.2.2.2.1
    unfold wr
    rintro (w | w | w | ⟨_, w | ⟨j, hj, w | w⟩⟩)
    · exact absurd w.1 (by decide)
    · exact absurd w.1 (by decide)
    · exact absurd w.1 (by decide)
    · exact q1 w.symm
    · exact (q2 j hj).2.2.1 w
    · exact (q2 j hj).2.2.2 w)
  have k14 : ∀ κ, 14 ≤ κ → κ ≤ 25 → Kp κ σ τ := fun κ q1 q2 a e hh => kk κ a e hh (by omega) (by omega) (by omega) (by omega)
  have k106 : Kp 106 σ τ := fun a e hh => kk 106 a e hh (by decide) (by decide) (by decide) (by decide)
  refine ⟨⟨x, ⟨?_, a2'⟩, ⟨a3.kept k14 k106, fun y hy => ?_⟩, ?_, ⟨?_, c7⟩, tp, cal, ?_, kq, ⟨f5, k8, k2, k3⟩, l3⟩, ?_, ok⟩
  · obtain ⟨q1, fp, q2, q3⟩ := a2
    exact ⟨kk _ _ _ q1 (by decide) (by decide) (by decide) (by decide), fp, ne _ _ q2 a2', q3⟩
  · obtain ⟨vs, hv⟩ := a3' y hy
    exact ⟨vs, kk _ _ _ hv (by decide) (by decide) (by decide) (by decide)⟩
  · obtain ⟨hf, b1, b2, b3⟩ := b
    refine ⟨hf, kk _ _ _ b1 (by decide) (by decide) (by decide) (by decide), fun p hp => (b2 p hp).kept k14 k106, fun i y hy => ?_⟩
    obtain ⟨vs, hv⟩ := b3 i y hy
    exact ⟨vs, kk _ _ _ hv (by decide) (by decide) (by decide) (by decide)⟩
  · obtain ⟨g1, g2, g3, c1, c2, c3, c4, c5, c6⟩ := c1
    exact ⟨g1, g2, g3, kk _ _ _ c1 (by decide) (by decide) (by decide) (by decide), c2, ne _ _ c3 c7.1, ne _ _ c4 c7.2.1, ne _ _ c5 c7.2.2, c6⟩
  · obtain ⟨⟨f1, i1, i2⟩, ⟨f2, i3, i4⟩, i5⟩ := i3
    refine ⟨⟨f1, kk _ _ _ i1 (by decide) (by decide) (by decide) (by decide), i2⟩, ⟨f2, kk _ _ _ i3 (by decide) (by decide) (by decide) (by decide), i4⟩, fun i hi => ?_⟩
    obtain ⟨f, q1, q2⟩ := i5 i hi
    exact ⟨f, kk _ _ _ q1 (by decide) (by decide) (by decide) (by decide), q2⟩
  · obtain ⟨z, ⟨v1, v2, v3, v4, v5, v6, l2, y1, y2, y3⟩, ⟨w1, w2, w3, w4, w5, w6, w7, gg, y4, y5⟩⟩ := s
    exact ⟨z.mv (fun κ x e hk hh => kk _ _ _ hh (by omega) (by omega) (by omega) (by omega)), ⟨v1, v2, v3, v4, v5, v6, l2, kk _ _ _ y1 (by decide) (by decide) (by decide) (by decide), kk _ _ _ y2 (by decide) (by decide) (by decide) (by decide), y3⟩, ⟨w1, w2, w3, w4, w5, w6, w7, gg, kk _ _ _ y4 (by decide) (by decide) (by decide) (by decide), kk _ _ _ y5 (by decide) (by decide) (by decide) (by decide)⟩⟩
theorem CP.mono {σ τ : PS} {A : Nat → Nat} {CA : Nat → Nat × Nat × Nat} {E : Nat × Nat × Option Nat × Nat × Nat × Nat × Nat} {T : TS} (h : CP σ A CA E T) (k : ∀ κ a e, σ κ a = some e → τ κ a = some e) : CP τ A CA E T := h.mv (fun κ a e hh _ => k κ a e hh)
theorem CI.mono {σ τ : PS} {A : Nat → Nat} {CA : Nat → Nat × Nat × Nat} {E : Nat × Nat × Option Nat × Nat × Nat × Nat × Nat} {T : TS} (h : CI σ A CA E T) (k : ∀ κ a e, σ κ a = some e → τ κ a = some e) : CI τ A CA E T := by
  obtain ⟨c, s, o⟩ := h
  refine ⟨c.mono k, ?_, o⟩
  obtain ⟨z, ⟨v1, v2, v3, v4, v5, v6, l2, y1, y2, y3⟩, ⟨w1, w2, w3, w4, w5, w6, w7, gg, y4, y5⟩⟩ := s
  exact ⟨z.mv (fun κ x e hk hh => k _ _ _ hh), ⟨v1, v2, v3, v4, v5, v6, l2, k _ _ _ y1, k _ _ _ y2, y3⟩, ⟨w1, w2, w3, w4, w5, w6, w7, gg, k _ _ _ y4, k _ _ _ y5⟩⟩
theorem MI.w {F F' : Nat → Int32} {L : Nat → Int64} {I I' : Nat → Nat → Int32} {J : Nat → Nat → Int64} {T : TS} (h : MI F L I J T) {K : Nat → CL} {t : Nat → Nat} {f : Nat} {l : Int32} {c i : Nat} {q : Nat → Nat}
    (hF : ∀ j, j ≠ 0 → j ≠ 2 → j ≠ 8 → j ≠ 19 → j ≠ 62 → j ≠ 64 → F' j = F j) (hI : ∀ a, a ≠ 9 → a ≠ 14 → a ≠ 15 → a ≠ 61 → a ≠ 63 → I' a = I a)
    (f19 : F' 19 = nI (K 0).1) (who : ∀ j, j < (K 0).1 → I' 14 j = (K 0).2.1 j ∧ I' 15 j = (K 0).2.2 j) (tp : F' 2 = nI f ∧ (∀ j, j < f → I' 9 j = nI (t j)) ∧ F' 8 = l)
    (ps : F' 62 = nI c ∧ ∀ k, k < c → pastR I' k (K (1 + k))) (im : F' 64 = nI i ∧ ∀ j, j < i → imgR I' j K (q j)) (ok : tsOK (tsW T K t f l c i q)) : MI F' L I' J (tsW T K t f l c i q) := by
  obtain ⟨a, ⟨b1, b2⟩, c3, d, e0, -, -, -, ⟨r1, r2⟩, -⟩ := h
  have n1 : ∀ a, a ≠ 9 → a ≠ 14 → a ≠ 15 → a ≠ 61 → a ≠ 63 → I' a = I a := hI
  refine ⟨⟨fun j hj => by rw [n1 11 (by decide) (by decide) (by decide) (by decide) (by decide)]; exact a.1 j hj, who⟩, ⟨(hF 18 (by decide) (by decide) (by decide) (by decide) (by decide) (by decide)).trans b1, f19⟩, fun p hp => (c3 p hp).cong (n1 27 (by decide) (by decide) (by decide) (by decide) (by decide)) (n1 26 (by decide) (by decide) (by decide) (by decide) (by decide)) (n1 24 (by decide) (by decide) (by decide) (by decide) (by decide)) (n1 25 (by decide) (by decide) (by decide) (by decide) (by decide)), d.keep (hF 32 (by decide) (by decide) (by decide) (by decide) (by decide) (by decide)) (n1 31 (by decide) (by decide) (by decide) (by decide) (by decide)), e0.oth (hF 35 (by decide) (by decide) (by decide) (by decide) (by decide) (by decide)) (hF 36 (by decide) (by decide) (by decide) (by decide) (by decide) (by decide)) rfl rfl (n1 33 (by decide) (by decide) (by decide) (by decide) (by decide)) (n1 34 (by decide) (by decide) (by decide) (by decide) (by decide)) rfl rfl rfl, tp, ps, im, ⟨?_, ?_⟩, ok⟩
  · rw [n1 1 (by decide) (by decide) (by decide) (by decide) (by decide)]
    exact r1
  · rw [n1 1 (by decide) (by decide) (by decide) (by decide) (by decide)]
    exact r2
def fdW (x1 x2 x3 x4 x5 : Int32) (j : Nat) : Int32 := if j = 0 then x1 else if j = 1 then x2 else if j = 2 then x3 else if j = 3 then x4 else x5
def fdT (T : TS) (x1 x2 x3 x4 x5 : Int32) (i : Nat) : Nat := if tsF T ≤ i then byN (fdW x1 x2 x3 x4 x5 ((i - tsF T) / 4) >>> (nI (24 - 8 * ((i - tsF T) % 4)) &&& 31)) else tsT T i
def fdS (T : TS) (x1 x2 x3 x4 x5 : Int32) (n : Nat) : TS := tsW T (tsK T) (fdT T x1 x2 x3 x4 x5) n (tsL T) (tsC T) (tsI T) (tsQ T)
theorem fdT_lt {T : TS} {x1 x2 x3 x4 x5 : Int32} (h : tsOK T) {i : Nat} (hi : i < tsF T + 20) : fdT T x1 x2 x3 x4 x5 i < 256 := by
  unfold fdT
  split
  · exact byN_lt _
  · exact h.2.2.2.2.2.1 i (by omega)
theorem fdS_ok {T : TS} {x1 x2 x3 x4 x5 : Int32} {n : Nat} (h : tsOK T) (hn : n ≤ tsF T + 20) (hn6 : n ≤ 600) : tsOK (fdS T x1 x2 x3 x4 x5 n) :=
  ⟨h.1, h.2.1, h.2.2.1, h.2.2.2.1, hn6, fun i hi => fdT_lt h (Nat.lt_of_lt_of_le hi hn), h.2.2.2.2.2.2⟩
theorem sh4 {k : Nat} (hk : k < 20) : (24 : Int32) - 8 * (nI k - nI (k / 4) * 4) = nI (24 - 8 * (k % 4)) := by
  rw [show (4 : Int32) = nI 4 from rfl, pk_mul, pk_sub (by omega), show k - k / 4 * 4 = k % 4 by omega, show (8 : Int32) = nI 8 from rfl, pk_mul, show (24 : Int32) = nI 24 from rfl, pk_sub (by omega)]
theorem dv4 {k : Nat} (hk : k < 20) : nI k / 4 = nI (k / 4) := by
  rw [show (4 : Int32) = nI 4 from rfl, pk_div (by omega) (by decide) (by decide)]
theorem CI.num {σ τ : PS} {A : Nat → Nat} {CA : Nat → Nat × Nat × Nat} {E : Nat × Nat × Option Nat × Nat × Nat × Nat × Nat} {T : TS} {f : Nat} {l : Int32} {t : Nat → Nat} (h : CI σ A CA E T) (k : KpD (fun κ a => (κ = 1 ∧ a = A 0) ∨ (κ = 102 ∧ a = A 1)) σ τ)
    (x : τ 1 (A 0) = some (.inl [.ref (A 1), .ref (CA 0).1, .ref (A 2), .ref (A 3), .ref (A 7), .ref (A 8), .ref (A 9), .ref (A 10), .ref (A 15), .ref (A 17), .ref E.1, va_rf E.2.2.1, .ref E.2.2.2.1, .int (nI f), .int l, .int (nI (tsC T)), .int (nI (tsI T))]))
    (tp : ∃ ft, τ 102 (A 1) = some (.inr (600, .inl ft)) ∧ ∀ i, i < f → ft i &&& 255 = nI (t i)) (ok : tsOK (tsW T (tsK T) t f l (tsC T) (tsI T) (tsQ T))) : CI τ A CA E (tsW T (tsK T) t f l (tsC T) (tsI T) (tsQ T)) := by
  have k9 : ∀ κ a e, σ κ a = some e → κ ≠ 1 → κ ≠ 102 → τ κ a = some e := fun κ a e hh n1 n2 => k κ a e hh (by omega)
  refine h.w (k.mono (fun κ a d => d.elim (fun w => Or.inl w) (fun w => Or.inr (Or.inl w)))) x tp (fun i hi => (h.1.cal hi).kept (fun a e hh => k9 2 a e hh (by decide) (by decide)) (fun a e hh => k9 100 a e hh (by decide) (by decide))) ?_ ok
  obtain ⟨g, g1, g2⟩ := h.1.2.2.2.2.2.2.2.2.1
  exact ⟨g, k9 _ _ _ g1 (by decide) (by decide), g2⟩
theorem CI.fd {σ τ : PS} {A : Nat → Nat} {CA : Nat → Nat × Nat × Nat} {E : Nat × Nat × Option Nat × Nat × Nat × Nat × Nat} {T : TS} {x1 x2 x3 x4 x5 : Int32} {n m : Nat} (h : CI σ A CA E (fdS T x1 x2 x3 x4 x5 n)) (k : KpD (fun κ a => (κ = 1 ∧ a = A 0) ∨ (κ = 102 ∧ a = A 1)) σ τ)
    (x : τ 1 (A 0) = some (.inl [.ref (A 1), .ref (CA 0).1, .ref (A 2), .ref (A 3), .ref (A 7), .ref (A 8), .ref (A 9), .ref (A 10), .ref (A 15), .ref (A 17), .ref E.1, va_rf E.2.2.1, .ref E.2.2.2.1, .int (nI m), .int (tsL T), .int (nI (tsC T)), .int (nI (tsI T))]))
    (tp : ∃ ft, τ 102 (A 1) = some (.inr (600, .inl ft)) ∧ ∀ i, i < m → ft i &&& 255 = nI (fdT T x1 x2 x3 x4 x5 i)) (ok : tsOK (fdS T x1 x2 x3 x4 x5 m)) : CI τ A CA E (fdS T x1 x2 x3 x4 x5 m) :=
  CI.num (T := fdS T x1 x2 x3 x4 x5 n) (t := fdT T x1 x2 x3 x4 x5) (f := m) (l := tsL T) h k x tp ok
theorem c_feed {G : GC} {σ : PS} {Q : Option Value → PS → Prop} {X : String → Nat → PS → Prop} {b : Nat} {A : Nat → Nat} {CA : Nat → Nat × Nat × Nat} {E : Nat × Nat × Option Nat × Nat × Nat × Nat × Nat} {T : TS} {x1 x2 x3 x4 x5 : Int32} (hC : CI σ A CA E T) (hb : 1 ≤ b) (k0 : ¬ tsF T + 20 ≤ 600 → ∀ τ, CI τ A CA E T → KpD (own A CA) σ τ → Q (some (.int (-1))) τ) (kq : tsF T + 20 ≤ 600 → ∀ τ, CI τ A CA E (fdS T x1 x2 x3 x4 x5 (tsF T + 20)) → KpD (own A CA) σ τ → Q (some (.int (nI (tsF T + 20)))) τ) : Call G mX1_feed 3 b [.ref (A 0), .int x1, .int x2, .int x3, .int x4, .int x5] σ Q X := by
  have hF := hC.2.2.2.2.2.2.1
  have e20 : nI (tsF T) + 20 = nI (tsF T + 20) := nI_add (tsF T) 20
  refine eX1_feed (bX1_feed_0 ⟨_, ⟨_, hC.1.x, rfl⟩, ?_⟩)
  rw [e20, show ((nI (tsF T + 20) ≤ 600) = (tsF T + 20 ≤ 600)) from propext (nI_leI (b := 600) (by omega) (by decide))]
  refine ⟨fun h6 => ⟨hb, fun q hq s1 e1 => ?_⟩, fun h6 => k0 h6 σ hC KpD.rf⟩
  subst e1
  refine ⟨5, _, up_eq, by decide, fun s2 e2 => ?_⟩
  subst e2
  refine ⟨5, _, up_eq, by decide, fun s3 e3 => ?_⟩
  subst e3
  refine ⟨5, _, up_eq, by decide, fun s4 e4 => ?_⟩
  subst e4
  refine ⟨5, _, up_eq, by decide, fun s5 e5 => ?_⟩
  subst e5
  refine ⟨5, _, up_eq, by decide, fun s6 e6 => ?_⟩
  subst e6
  have S : ∀ (s : PS) (g : Nat → Int32), (∀ κ a e, σ κ a = some e → s κ a = some e) → s 100 q = some (.inr (5, .inl g)) → (∀ j, j < 5 → g j = fdW x1 x2 x3 x4 x5 j) → At G mX1_feed 3 Q X (b - 1) 45 [(0, .ref (A 0)), (6, .ref q), (7, .int 0)] [] s := by
    intro s g ks hg gj
    have C0 : CI s A CA E (fdS T x1 x2 x3 x4 x5 (tsF T + 0)) := (hC.mono ks).num KpD.rf (hC.mono ks).1.x (by
      obtain ⟨ft, d1, d2⟩ := (hC.mono ks).1.2.2.2.2.2.1
      refine ⟨ft, d1, fun i hi => ?_⟩
      rw [d2 i hi]
      unfold fdT
      rw [if_neg (by omega)]) (fdS_ok hC.2.2 (by omega) (by omega))
    have nq : ∀ κ e, σ κ q = some e → False := fun κ e hh => by
      rw [hq] at hh
      cases hh
    have Lp : ∀ d k, k + d = 20 → ∀ τ, CI τ A CA E (fdS T x1 x2 x3 x4 x5 (tsF T + k)) → τ 100 q = some (.inr (5, .inl g)) → KpD (own A CA) σ τ → At G mX1_feed 3 Q X (b - 1) 45 [(0, .ref (A 0)), (6, .ref q), (7, .int (nI k))] [] τ := by
      intro d
      induction d with
      | zero =>
        intro k hk τ C hg' K
        have hk : k = 20 := by omega
        subst hk
        exact bX1_feed_45 ⟨fun _ => ⟨_, ⟨_, C.1.x, rfl⟩, kq h6 τ C K⟩, fun z => absurd (nI_le (a := 20) (Nat.le_refl _) (by decide)) z⟩
      | succ d ih =>
        intro k hk τ C hg' K
        have hx := C.1.x
        obtain ⟨ft, d1, d2⟩ := C.1.2.2.2.2.2.1
        refine bX1_feed_45 ⟨fun z => absurd z (nI_ge (b := 20) (by omega) (by decide)), fun _ => ⟨_, ⟨_, hx, rfl⟩, _, ⟨_, hx, rfl⟩, _, hx, by simp, fun s1 e1 => ?_⟩⟩
        subst e1
        rw [dv4 (by omega)]
        refine ⟨5, g, ?_, vp_in_nI (by omega) (by decide), fun w ew w1 ew1 => ?_⟩
        · exact (up_ne (Or.inl (by decide))).trans hg'
        rw [sh4 (by omega)] at ew
        rw [nI_clamp (by omega), gj _ (by omega), ew] at ew1
        refine ⟨600, ft, (up_ne (Or.inl (by decide))).trans d1, vp_in_nI (show tsF T + k < 600 by omega) (by decide), fun s2 e2 v7 e7 => ?_⟩
        rw [e7, nI_1]
        subst e2
        have kp : ∀ e1 e2, KpD (fun κ a => (κ = 1 ∧ a = A 0) ∨ (κ = 102 ∧ a = A 1)) τ (up (up τ 1 (A 0) e1) 102 (A 1) e2) := fun _ _ => (KpD.rf.up (Or.inl ⟨rfl, rfl⟩)).up (Or.inr ⟨rfl, rfl⟩)
        refine ih (k + 1) (by omega) _ (C.fd (kp _ _) ?_ ⟨_, up_eq, fun i hi => ?_⟩ (fdS_ok hC.2.2 (by omega) (by omega))) ?_ (K.tr ((kp _ _).mono (fun κ a d => d.elim (fun w => Or.inl w) (fun w => Or.inr (Or.inl w)))))
        · rw [up_ne (Or.inl (by decide)), up_eq]
          show some (Sum.inl _) = _
          rw [nI_1]
          rfl
        · have c9 : (nI (tsF T + k)).toNatClampNeg = tsF T + k := nI_clamp (by omega)
          show (if i = (nI (tsF T + k)).toNatClampNeg then _ else ft i) &&& 255 = _
          rw [c9]
          by_cases z : i = tsF T + k
          · subst z
            rw [if_pos rfl, nar255, ew1, and255]
            unfold fdT
            rw [if_pos (by omega), show tsF T + k - tsF T = k by omega]
          · rw [if_neg z]
            exact d2 i (show i < tsF T + k by omega)
        · exact (up_ne (Or.inl (by decide))).trans ((up_ne (Or.inl (by decide))).trans hg')
    exact Lp 20 0 (by omega) s C0 hg (fun κ a e hh _ => ks κ a e hh)
  refine S _ _ (fun κ a e hh => ?_) up_eq (fun j hj => ?_)
  · have na : a ≠ q := fun z => by
      subst z
      rw [hq] at hh
      cases hh
    rw [up_ne (Or.inr na), up_ne (Or.inr na), up_ne (Or.inr na), up_ne (Or.inr na), up_ne (Or.inr na), up_ne (Or.inr na)]
    exact hh
  · have : j = 0 ∨ j = 1 ∨ j = 2 ∨ j = 3 ∨ j = 4 := by omega
    rcases this with rfl | rfl | rfl | rfl | rfl <;> rfl
theorem MI.num {F F' : Nat → Int32} {L : Nat → Int64} {I I' : Nat → Nat → Int32} {J : Nat → Nat → Int64} {T : TS} {t : Nat → Nat} {f : Nat} {l : Int32} (h : MI F L I J T)
    (hF : ∀ j, j ≠ 0 → j ≠ 2 → j ≠ 8 → F' j = F j) (hI : ∀ a, a ≠ 9 → I' a = I a) (tp : F' 2 = nI f ∧ (∀ j, j < f → I' 9 j = nI (t j)) ∧ F' 8 = l) (ok : tsOK (tsW T (tsK T) t f l (tsC T) (tsI T) (tsQ T))) : MI F' L I' J (tsW T (tsK T) t f l (tsC T) (tsI T) (tsQ T)) := by
  have g61 := hI 61 (by decide)
  have g63 := hI 63 (by decide)
  refine h.w (fun j a b c _ _ _ => hF j a b c) (fun a b _ _ _ _ => hI a b) ((hF 19 (by decide) (by decide) (by decide)).trans h.2.1.2) (fun j hj => by rw [hI 14 (by decide), hI 15 (by decide)]; exact h.1.2 j hj) tp ⟨(hF 62 (by decide) (by decide) (by decide)).trans h.2.2.2.2.2.2.1.1, fun k hk => ?_⟩ ⟨(hF 64 (by decide) (by decide) (by decide)).trans h.2.2.2.2.2.2.2.1.1, fun j hj => ?_⟩ ok
  · unfold pastR
    rw [g61]
    exact h.2.2.2.2.2.2.1.2 k hk
  · unfold imgR
    rw [g63]
    exact h.2.2.2.2.2.2.2.1.2 j hj
theorem MI.fd {F F' : Nat → Int32} {L : Nat → Int64} {I I' : Nat → Nat → Int32} {J : Nat → Nat → Int64} {T : TS} {x1 x2 x3 x4 x5 : Int32} {n m : Nat} (h : MI F L I J (fdS T x1 x2 x3 x4 x5 n))
    (hF : ∀ j, j ≠ 0 → j ≠ 2 → j ≠ 8 → F' j = F j) (hI : ∀ a, a ≠ 9 → I' a = I a) (tp : F' 2 = nI m ∧ (∀ j, j < m → I' 9 j = nI (fdT T x1 x2 x3 x4 x5 j)) ∧ F' 8 = tsL T) (ok : tsOK (fdS T x1 x2 x3 x4 x5 m)) : MI F' L I' J (fdS T x1 x2 x3 x4 x5 m) :=
  MI.num (T := fdS T x1 x2 x3 x4 x5 n) (t := fdT T x1 x2 x3 x4 x5) (f := m) (l := tsL T) h hF hI tp ok
theorem m_feed {G : GC} {ad : Nat → Nat} {o : Nat} {F : Nat → Int32} {L : Nat → Int64} {I : Nat → Nat → Int32} {J : Nat → Nat → Int64} {Q : MPost} {T : TS} {x1 x2 x3 x4 x5 : Int32} (hM : MI F L I J T) (k0 : ¬ tsF T + 20 ≤ 600 → ∀ F' L' I' J', MI F' L' I' J' T → F' 0 = 0 → Q (some (.int (-1))) F' L' I' J') (kq : tsF T + 20 ≤ 600 → ∀ F' L' I' J', MI F' L' I' J' (fdS T x1 x2 x3 x4 x5 (tsF T + 20)) → F' 0 = 0 → Q (some (.int (nI (tsF T + 20)))) F' L' I' J') : CallM G mX9_feed 3 ad o [.ref o, .int x1, .int x2, .int x3, .int x4, .int x5] F L I J Q := by
  have hF := hM.ok.2.2.2.2.1
  refine eX9_feed (fun σ0 => bX9_feed_0 (fun F1 e1 => ?_))
  subst e1
  have e20 : nI (tsF T) + 20 = nI (tsF T + 20) := nI_add (tsF T) 20
  rw [fU_ne (by decide), hM.2.2.2.2.2.1.1, e20, show ((nI (tsF T + 20) ≤ 600) = (tsF T + 20 ≤ 600)) from propext (nI_leI (b := 600) (by omega) (by decide))]
  refine ⟨fun h6 => ?_, fun h6 => k0 h6 _ L I J hM.th fU_at⟩
  have hM0 : MI (fU F 0 0) L I J T := hM.th
  have M0 : MI (fU F 0 0) L I J (fdS T x1 x2 x3 x4 x5 (tsF T + 0)) := hM0.num (fun _ _ _ _ => rfl) (fun _ _ => rfl) ⟨hM0.2.2.2.2.2.1.1, fun j hj => (by
    rw [hM0.2.2.2.2.2.1.2.1 j hj]
    unfold fdT
    rw [if_neg (by omega)]), hM0.2.2.2.2.2.1.2.2⟩ (fdS_ok hM.ok (by omega) (by omega))
  have Lp : ∀ d k, k + d = 20 → ∀ F' I', MI F' L I' J (fdS T x1 x2 x3 x4 x5 (tsF T + k)) → F' 0 = 0 → AtM G mX9_feed 3 ad o σ0 Q 23 [(0, .ref o), (1, .int x1), (2, .int x2), (3, .int x3), (4, .int x4), (5, .int x5), (6, .int (nI k))] [] F' L I' J := by
    intro d
    induction d with
    | zero =>
      intro k hk F' I' M z
      have hk : k = 20 := by omega
      subst hk
      refine bX9_feed_23 ⟨fun _ => ?_, fun z => absurd (nI_le (a := 20) (Nat.le_refl _) (by decide)) z⟩
      have f2 : F' 2 = nI (tsF T + 20) := M.2.2.2.2.2.1.1
      rw [f2]
      exact kq h6 F' L I' J M z
    | succ d ih =>
      intro k hk F' I' M z
      have f2 : F' 2 = nI (tsF T + k) := M.2.2.2.2.2.1.1
      have W : AtM G mX9_feed 3 ad o σ0 Q 76 [(0, .ref o), (1, .int x1), (2, .int x2), (3, .int x3), (4, .int x4), (5, .int x5), (6, .int (nI k))] [.int (fdW x1 x2 x3 x4 x5 (k / 4))] F' L I' J := by
        refine bX9_feed_76 (fun w ew w1 ew1 => ?_)
        rw [dv4 (by omega), sh4 (by omega)] at ew
        rw [f2, nI_clamp (by omega)]
        refine ⟨vp_in_nI (by omega) (by decide), fun I1 e1 F1 e2 v6 e6 => ?_⟩
        rw [e6, nI_1]
        subst e1
        subst e2
        refine ih (k + 1) (by omega) _ _ (M.fd (fun j j0 j2 j8 => fU_ne j2) (fun a ha => gU_ne ha) ⟨?_, fun i hi => ?_, ?_⟩ (fdS_ok hM.ok (by omega) (by omega))) ?_
        · rw [fU_at, nI_1]
          rfl
        · rw [gU_at]
          by_cases y : i = tsF T + k
          · subst y
            rw [if_pos rfl, ew1, ew, and255]
            unfold fdT
            rw [if_pos (by omega), show tsF T + k - tsF T = k by omega]
          · rw [if_neg y]
            exact M.2.2.2.2.2.1.2.1 i (show i < tsF T + k by omega)
        · rw [fU_ne (by decide)]
          exact M.2.2.2.2.2.1.2.2
        · rw [fU_ne (by decide), z]
      have l : ∀ j : Nat, j < 21 → (nI j ≤ nI k ↔ j ≤ k) := fun j hj => nI_leI (by omega) (by omega)
      have e : ∀ j, fdW x1 x2 x3 x4 x5 j = if j = 0 then x1 else if j = 1 then x2 else if j = 2 then x3 else if j = 3 then x4 else x5 := fun _ => rfl
      rw [e] at W
      refine bX9_feed_23 ⟨fun y => absurd y (nI_ge (b := 20) (by omega) (by decide)), fun _ => ⟨fun q4 => ⟨fun q8 => ⟨fun q12 => ⟨fun q16 => ?_, fun q16 => ?_⟩, fun q12 => ?_⟩, fun q8 => ?_⟩, fun q4 => ?_⟩⟩
      · have q16 := (l 16 (by decide)).mp q16
        rw [if_neg (by omega), if_neg (by omega), if_neg (by omega), if_neg (by omega)] at W
        exact W
      · have q12 := (l 12 (by decide)).mp q12
        have q16 : ¬ 16 ≤ k := fun u => q16 ((l 16 (by decide)).mpr u)
        rw [if_neg (by omega), if_neg (by omega), if_neg (by omega), if_pos (by omega)] at W
        exact W
      · have q8 := (l 8 (by decide)).mp q8
        have q12 : ¬ 12 ≤ k := fun u => q12 ((l 12 (by decide)).mpr u)
        rw [if_neg (by omega), if_neg (by omega), if_pos (by omega)] at W
        exact W
      · have q4 := (l 4 (by decide)).mp q4
        have q8 : ¬ 8 ≤ k := fun u => q8 ((l 8 (by decide)).mpr u)
        rw [if_neg (by omega), if_pos (by omega)] at W
        exact W
      · have q4 : ¬ 4 ≤ k := fun u => q4 ((l 4 (by decide)).mpr u)
        rw [if_pos (by omega)] at W
        exact W
  exact Lp 20 0 (by omega) _ I M0 fU_at
