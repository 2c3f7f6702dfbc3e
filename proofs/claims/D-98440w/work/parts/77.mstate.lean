/-! Part B: the reference's whole state; refusals -/
def pastR (I : Nat → Nat → Int32) (k : Nat) (C : CL) : Prop := I 61 (49 * k + 48) = nI C.1 ∧ ∀ j, j < C.1 → I 61 (49 * k + j) = C.2.1 j ∧ I 61 (49 * k + 24 + j) = C.2.2 j
def imgR (I : Nat → Nat → Int32) (i : Nat) (K : Nat → CL) (kc : Nat) : Prop := I 63 (1030 * i + 1028) = nI (K (21 + 21 * i + 20)).1 ∧ I 63 (1030 * i + 1029) = nI kc ∧ (∀ j, j < (K (21 + 21 * i + 20)).1 → I 63 (1030 * i + j) = (K (21 + 21 * i + 20)).2.1 j ∧ I 63 (1030 * i + 24 + j) = (K (21 + 21 * i + 20)).2.2 j) ∧
  ∀ k, k < kc → I 63 (1030 * i + 48 + (49 * k + 48)) = nI (K (21 + 21 * i + k)).1 ∧ ∀ j, j < (K (21 + 21 * i + k)).1 → I 63 (1030 * i + 48 + (49 * k + j)) = (K (21 + 21 * i + k)).2.1 j ∧ I 63 (1030 * i + 48 + (49 * k + 24 + j)) = (K (21 + 21 * i + k)).2.2 j
def MI (F : Nat → Int32) (L : Nat → Int64) (I : Nat → Nat → Int32) (J : Nat → Nat → Int64) (T : TS) : Prop := MCx (tsO T) (tsK T 0).2.1 (tsK T 0).2.2 (tsK T 0).1 I ∧ (F 18 = nI (tsP T) ∧ F 19 = nI (tsK T 0).1) ∧ (∀ p, p < 7 → HabM I p (tsH T p)) ∧ BkM F I (tsB T) ∧ Idl F L I J ∧ (F 2 = nI (tsF T) ∧ (∀ i, i < tsF T → I 9 i = nI (tsT T i)) ∧ F 8 = tsL T) ∧ (F 62 = nI (tsC T) ∧ ∀ k, k < tsC T → pastR I k (tsK T (1 + k))) ∧ (F 64 = nI (tsI T) ∧ ∀ i, i < tsI T → imgR I i (tsK T) (tsQ T i)) ∧ (I 1 0 = tsR0 T ∧ I 1 1 = tsR1 T) ∧ tsOK T
def Fq (F F' : Nat → Int32) : Prop := ∀ j, j ≠ 0 → j ≠ 35 → j ≠ 36 → (j < 43 ∨ 60 < j) → F' j = F j
theorem Fq.rf {F : Nat → Int32} : Fq F F := fun _ _ _ _ _ => rfl
theorem Fq.tr {F F' F'' : Nat → Int32} (h : Fq F F') (h2 : Fq F' F'') : Fq F F'' := fun j a b c d => (h2 j a b c d).trans (h j a b c d)
theorem Fr9.q {F F' : Nat → Int32} (h : Fr9 F F') : Fq F F' := fun j _ b c d => h j b c (by omega)
theorem Fq.u {F F' : Nat → Int32} {k : Nat} {v : Int32} (h : Fq F F') (hk : k = 0 ∨ (43 ≤ k ∧ k ≤ 60)) : Fq F (fU F' k v) := fun j a b c d => by
  rw [fU_ne (by omega)]
  exact h j a b c d
theorem Idl.oth {F F' : Nat → Int32} {L L' : Nat → Int64} {I I' : Nat → Nat → Int32} {J J' : Nat → Nat → Int64} (h : Idl F L I J) (f1 : F' 35 = F 35) (f2 : F' 36 = F 36) (l1 : L' 41 = L 41) (l2 : L' 42 = L 42) (i1 : I' 33 = I 33) (i2 : I' 34 = I 34) (j1 : J' 37 = J 37) (j2 : J' 38 = J 38) (j3 : J' 39 = J 39) : Idl F' L' I' J' := by
  obtain ⟨n, lv, P, D, wa, lo, h⟩ := h
  exact ⟨n, lv, P, D, wa, lo, h.oth f1 f2 l1 l2 i1 i2 j1 j2 j3⟩
theorem MI.q {F F' : Nat → Int32} {L L' : Nat → Int64} {I I' : Nat → Nat → Int32} {J J' : Nat → Nat → Int64} {T : TS} (h : MI F L I J T) (f : Fq F F') (g : Ir9 I I') (hI : Idl F' L' I' J') : MI F' L' I' J' T := by
  obtain ⟨a, ⟨b1, b2⟩, c, d, -, ⟨e1, e2, e3⟩, ⟨p1, p2⟩, ⟨q1, q2⟩, ⟨r1, r2⟩, s⟩ := h
  have g61 := g 61 (by decide) (by decide) (by decide) (by decide)
  have g63 := g 63 (by decide) (by decide) (by decide) (by decide)
  refine ⟨a.keep g, ⟨(f 18 (by decide) (by decide) (by decide) (by decide)).trans b1, (f 19 (by decide) (by decide) (by decide) (by decide)).trans b2⟩, fun p hp => (c p hp).keep g, d.keep (f 32 (by decide) (by decide) (by decide) (by decide)) (g 31 (by decide) (by decide) (by decide) (by decide)), hI, ⟨(f 2 (by decide) (by decide) (by decide) (by decide)).trans e1, fun i hi => by rw [g 9 (by decide) (by decide) (by decide) (by decide)]; exact e2 i hi, (f 8 (by decide) (by decide) (by decide) (by decide)).trans e3⟩, ⟨(f 62 (by decide) (by decide) (by decide) (by decide)).trans p1, fun k hk => ?_⟩, ⟨(f 64 (by decide) (by decide) (by decide) (by decide)).trans q1, fun i hi => ?_⟩, ⟨by rw [g 1 (by decide) (by decide) (by decide) (by decide)]; exact r1, by rw [g 1 (by decide) (by decide) (by decide) (by decide)]; exact r2⟩, s⟩
  · unfold pastR
    rw [g61]
    exact p2 k hk
  · unfold imgR
    rw [g63]
    exact q2 i hi
theorem MI.r {F : Nat → Int32} {L : Nat → Int64} {I : Nat → Nat → Int32} {J : Nat → Nat → Int64} {T : TS} {c : Int32} (h : MI F L I J T) : MI (fU F 0 c) L (aU I 1 0 (I 1 0 + 1)) J (bu0 T) ∧ MI (fU F 0 c) L (aU I 1 1 (I 1 1 + 1)) J (bu1 T) := by
  obtain ⟨a, ⟨b1, b2⟩, c, d, e0, ⟨e1, e2, e3⟩, ⟨p1, p2⟩, ⟨q1, q2⟩, ⟨r1, r2⟩, s⟩ := h
  have ne : ∀ i v a, a ≠ 1 → aU I 1 i v a = I a := fun i v a ha => gU_ne ha
  have hc : ∀ i v, ∀ p, p < 7 → HabM (aU I 1 i v) p (tsH T p) := fun i v p hp => (c p hp).cong (ne _ _ _ (by decide)) (ne _ _ _ (by decide)) (ne _ _ _ (by decide)) (ne _ _ _ (by decide))
  have ha : ∀ i v, MCx (tsO T) (tsK T 0).2.1 (tsK T 0).2.2 (tsK T 0).1 (aU I 1 i v) := fun i v => ⟨fun j hj => by rw [ne _ _ _ (by decide)]; exact a.1 j hj, fun j hj => by rw [ne _ _ _ (by decide), ne _ _ _ (by decide)]; exact a.2 j hj⟩
  have hp : ∀ i v k, k < tsC T → pastR (aU I 1 i v) k (tsK T (1 + k)) := fun i v k hk => by
    unfold pastR
    rw [ne _ _ _ (by decide)]
    exact p2 k hk
  have hq : ∀ i v k, k < tsI T → imgR (aU I 1 i v) k (tsK T) (tsQ T k) := fun i v k hk => by
    unfold imgR
    rw [ne _ _ _ (by decide)]
    exact q2 k hk
  have hi : ∀ i v c, Idl (fU F 0 c) L (aU I 1 i v) J := fun i v c => e0.oth (fU_ne (by decide)) (fU_ne (by decide)) rfl rfl (ne _ _ _ (by decide)) (ne _ _ _ (by decide)) rfl rfl rfl
  constructor
  · refine ⟨ha _ _, ⟨b1, b2⟩, hc _ _, d.keep (fU_ne (by decide)) (ne _ _ _ (by decide)), hi _ _ _, ⟨e1, fun i hi => by rw [ne _ _ _ (by decide)]; exact e2 i hi, e3⟩, ⟨p1, hp _ _⟩, ⟨q1, hq _ _⟩, ⟨?_, ?_⟩, s.b0⟩
    · rw [gU_at, if_pos rfl, r1]; rfl
    · rw [gU_at, if_neg (by decide)]; exact r2
  · refine ⟨ha _ _, ⟨b1, b2⟩, hc _ _, d.keep (fU_ne (by decide)) (ne _ _ _ (by decide)), hi _ _ _, ⟨e1, fun i hi => by rw [ne _ _ _ (by decide)]; exact e2 i hi, e3⟩, ⟨p1, hp _ _⟩, ⟨q1, hq _ _⟩, ⟨?_, ?_⟩, s.b1⟩
    · rw [gU_at, if_neg (by decide)]; exact r1
    · rw [gU_at, if_pos rfl, r2]; rfl
theorem MI.th {F : Nat → Int32} {L : Nat → Int64} {I : Nat → Nat → Int32} {J : Nat → Nat → Int64} {T : TS} {c : Int32} (h : MI F L I J T) : MI (fU F 0 c) L I J T :=
  h.q (Fq.rf.u (Or.inl rfl)) Ir9.rf (h.2.2.2.2.1.oth (fU_ne (by decide)) (fU_ne (by decide)) rfl rfl rfl rfl rfl rfl rfl)
theorem w_within {G : GC} {x lo hi : Int32} {P : Option Value → Prop} (h1 : lo ≤ x → x ≤ hi → P (some (.int 1))) (h0 : ¬ (lo ≤ x ∧ x ≤ hi) → P (some (.int 0))) : CallP G mX9_within 3 [.int x, .int lo, .int hi] P := by
  intro σ
  exact eX9_within (bX9_within_0 ⟨fun z => ⟨rfl, h0 (fun w => absurd w.1 (Int32.not_le.mpr z))⟩, fun z => ⟨fun y => ⟨rfl, h0 (fun w => absurd w.2 (Int32.not_le.mpr y))⟩, fun y => ⟨rfl, h1 (Int32.not_lt.mp z) (Int32.not_lt.mp y)⟩⟩⟩)
theorem w_in {G : GC} {x hi : Int32} {n : Nat} {P : Option Value → Prop} (hh : hi = nI n) (hn : n < 2 ^ 30) (h1 : ∀ j, j < n + 1 → x = nI j → P (some (.int 1))) (h0 : ¬ inN x (n + 1) → P (some (.int 0))) : CallP G mX9_within 3 [.int x, .int 0, .int hi] P := by
  subst hh
  refine w_within (fun l1 l2 => ?_) (fun h => h0 (fun ⟨j, hj, e⟩ => h ⟨by rw [e]; exact nI_pos' (by omega), by rw [e]; exact nI_le (by omega) (by omega)⟩))
  obtain ⟨j, hj, rfl⟩ := nI_of (Int32.not_lt.mpr l1)
  exact h1 j (by have := (nI_leI hj (by omega)).mp l2; omega) rfl
theorem w_inP {G : GC} {x : Int32} {n : Nat} {P : Option Value → Prop} (hn : n < 2 ^ 30) (h1 : ∀ j, j < n → x = nI j → P (some (.int 1))) (h0 : ¬ inN x n → P (some (.int 0))) : CallP G mX9_within 3 [.int x, .int 0, .int (nI n - 1)] P := by
  cases n with
  | zero =>
    refine w_within (fun l1 l2 => ?_) (fun _ => h0 (fun ⟨j, hj, _⟩ => absurd hj (by omega)))
    rw [fa_le9] at l1 l2
    have e1 : (nI 0 - 1 : Int32).toInt = -1 := by decide
    have e0 : (0 : Int32).toInt = 0 := rfl
    omega
  | succ n => exact w_in (by rw [nI_pred]) (by omega) h1 h0
theorem w_mayY {G : GC} {ad : Nat → Nat} {o : Nat} {F : Nat → Int32} {L : Nat → Int64} {I : Nat → Nat → Int32} {J : Nat → Nat → Int64} {Q : MPost} {c kd : Int32} (h0 : F 0 = 0) (k : Q (some (.int 1)) F L I J) : CallM G mX9_may 3 ad o [.ref o, .int 1, .int c, .int kd] F L I J Q :=
  eX9_may (fun σ0 => bX9_may_0 (iN (by decide) (bX9_may_26 ⟨fun z => absurd h0 z, fun _ => k⟩)))
theorem w_may0 {G : GC} {ad : Nat → Nat} {o : Nat} {F : Nat → Int32} {L : Nat → Int64} {I : Nat → Nat → Int32} {J : Nat → Nat → Int64} {Q : MPost} {T : TS} {c : Int32} (hM : MI F L I J T) (h0 : F 0 = 0) (hc : c ≠ 0) (k : ∀ F' I', MI F' L I' J (bu0 T) → F' 0 = c → Q (some (.int 0)) F' L I' J) : CallM G mX9_may 3 ad o [.ref o, .int 0, .int c, .int 0] F L I J Q := by
  refine eX9_may (fun σ0 => bX9_may_0 (iY rfl (iY h0 (fun F1 e1 => ⟨vp_in_nI (n := 0) (by decide) (by decide), fun w ew => ⟨vp_in_nI (n := 0) (by decide) (by decide), fun I1 e2 => bX9_may_26 ⟨fun _ => ?_, fun z => ?_⟩⟩⟩))))
  · subst e1
    subst e2
    subst ew
    exact k _ _ hM.r.1 fU_at
  · rw [e1, fU_at] at z
    exact absurd z hc
theorem w_may1 {G : GC} {ad : Nat → Nat} {o : Nat} {F : Nat → Int32} {L : Nat → Int64} {I : Nat → Nat → Int32} {J : Nat → Nat → Int64} {Q : MPost} {T : TS} {c : Int32} (hM : MI F L I J T) (h0 : F 0 = 0) (hc : c ≠ 0) (k : ∀ F' I', MI F' L I' J (bu1 T) → F' 0 = c → Q (some (.int 0)) F' L I' J) : CallM G mX9_may 3 ad o [.ref o, .int 0, .int c, .int 1] F L I J Q := by
  refine eX9_may (fun σ0 => bX9_may_0 (iY rfl (iY h0 (fun F1 e1 => ⟨vp_in_nI (n := 1) (by decide) (by decide), fun w ew => ⟨vp_in_nI (n := 1) (by decide) (by decide), fun I1 e2 => bX9_may_26 ⟨fun _ => ?_, fun z => ?_⟩⟩⟩))))
  · subst e1
    subst e2
    subst ew
    exact k _ _ hM.r.2 fU_at
  · rw [e1, fU_at] at z
    exact absurd z hc
theorem w_isVisit {G : GC} {ad : Nat → Nat} {o : Nat} {F : Nat → Int32} {L : Nat → Int64} {I : Nat → Nat → Int32} {J : Nat → Nat → Int64} {Q : MPost} {T : TS} {x : Int32} (hM : MI F L I J T) (h0 : F 0 = 0) (k1 : ∀ v, v < (tsK T 0).1 → x = nI v → Q (some (.int 1)) F L I J) (k0 : ¬ inN x (tsK T 0).1 → ∀ F' I', MI F' L I' J (bu0 T) → F' 0 = 1 → Q (some (.int 0)) F' L I' J) : CallM G mX9_isVisit 4 ad o [.ref o, .int x, .int 1] F L I J Q := by
  refine eX9_isVisit (fun σ0 => bX9_isVisit_0 ?_)
  rw [hM.2.1.2]
  have hn := n24 hM.2.2.2.2.2.2.2.2.2
  exact w_inP (by omega) (fun j hj e => ⟨_, rfl, w_mayY h0 ⟨_, rfl, Or.inr rfl, k1 j hj e⟩⟩) (fun h => ⟨_, rfl, w_may0 hM h0 (by decide) (fun F' I' q1 q2 => ⟨_, rfl, Or.inl rfl, k0 h F' I' q1 q2⟩)⟩)
theorem w_isPerson {G : GC} {ad : Nat → Nat} {o : Nat} {F : Nat → Int32} {L : Nat → Int64} {I : Nat → Nat → Int32} {J : Nat → Nat → Int64} {Q : MPost} {T : TS} {x : Int32} (hM : MI F L I J T) (h0 : F 0 = 0) (k1 : ∀ v, v < tsP T → x = nI v → Q (some (.int 1)) F L I J) (k0 : ¬ inN x (tsP T) → ∀ F' I', MI F' L I' J (bu0 T) → F' 0 = 1 → Q (some (.int 0)) F' L I' J) : CallM G mX9_isPerson 4 ad o [.ref o, .int x, .int 1] F L I J Q := by
  refine eX9_isPerson (fun σ0 => bX9_isPerson_0 ?_)
  rw [hM.2.1.1]
  have hn := hM.2.2.2.2.2.2.2.2.2.2.1
  exact w_inP (by omega) (fun j hj e => ⟨_, rfl, w_mayY h0 ⟨_, rfl, Or.inr rfl, k1 j hj e⟩⟩) (fun h => ⟨_, rfl, w_may0 hM h0 (by decide) (fun F' I' q1 q2 => ⟨_, rfl, Or.inl rfl, k0 h F' I' q1 q2⟩)⟩)
theorem w_isPart {G : GC} {ad : Nat → Nat} {o : Nat} {F : Nat → Int32} {L : Nat → Int64} {I : Nat → Nat → Int32} {J : Nat → Nat → Int64} {Q : MPost} {T : TS} {x : Int32} (hM : MI F L I J T) (h0 : F 0 = 0) (k1 : ∀ v, v < 2 → x = nI v → Q (some (.int 1)) F L I J) (k0 : ¬ inN x 2 → ∀ F' I', MI F' L I' J (bu1 T) → F' 0 = 1 → Q (some (.int 0)) F' L I' J) : CallM G mX9_isPart 4 ad o [.ref o, .int x] F L I J Q := by
  refine eX9_isPart (fun σ0 => bX9_isPart_0 ?_)
  exact w_in (n := 1) rfl (by decide) (fun j hj e => ⟨_, rfl, w_mayY h0 ⟨_, rfl, Or.inr rfl, k1 j hj e⟩⟩) (fun h => ⟨_, rfl, w_may1 hM h0 (by decide) (fun F' I' q1 q2 => ⟨_, rfl, Or.inl rfl, k0 h F' I' q1 q2⟩)⟩)
/-- told plainly -/
theorem m_plain {G : GC} {ad : Nat → Nat} {o : Nat} {F : Nat → Int32} {L : Nat → Int64} {I : Nat → Nat → Int32} {J : Nat → Nat → Int64} {Q : MPost} {T : TS} (hM : MI F L I J T) (k : ∀ F', MI F' L I J T → F' 0 = F 0 → OpM F' I (tsH0 T) → F' 49 = 0 → Q none F' L I J) : CallM G mX9_plain 3 ad o [.ref o] F L I J Q :=
  w_plain hM.1 hM.2.2.1 (fun F' h1 h2 h3 h4 h5 h6 => k F' (hM.q (fun j a b c d => h6 j (by omega)) Ir9.rf (hM.2.2.2.2.1.oth (h6 35 (by decide)) (h6 36 (by decide)) rfl rfl rfl rfl rfl rfl rfl)) (h6 0 (by decide)) h1 h4)
/-- to behind visits -/
theorem m_goes {G : GC} {ad : Nat → Nat} {o : Nat} {F : Nat → Int32} {L : Nat → Int64} {I : Nat → Nat → Int32} {J : Nat → Nat → Int64} {Q : MPost} {T : TS} {h : HW} {to : Int32} {v : Nat} (hM : MI F L I J T) (hOp : OpM F I h) (g : GoOK (tsO T) h (tsK T 0).2.1 (tsK T 0).1) (hv : v ≤ (tsK T 0).1) (hto : ∀ i, i ≤ 24 → (to < nI i ↔ v ≤ i))
    (k : ∀ F' L' I' J' n' lv', MI F' L' I' J' T → F' 0 = F 0 → OpM F' I' h → FlM F' L' I' J' n' lv' (rn9 T h v).1 (fun _ => 0) (rn9 T h v).2.1 (rn9 T h v).2.2.1 (rn9 T h v).2.2.2 → (∀ i, i < n' → gd v (lv' i)) → TrA (tsO T) h (tsK T 0).2.1 (tsK T 0).2.2 v J' → Q none F' L' I' J') : CallM G mX9_goes 7 ad o [.ref o, .int to] F L I J Q := by
  obtain ⟨a, b, c, d, e, f, g1, g2, g3⟩ := g
  exact w_mgoes hM.2.2.2.2.1 hM.1 hOp a b c d e f g1 g2 g3 hv hto (fun F' L' I' J' n' lv' q1 q2 q3 q4 q5 => k F' L' I' J' n' lv' (hM.q q3.q q4 q1.idl) (q3 0 (by decide) (by decide) (by decide)) (hOp.keep q3 q4) q1 q2 q5)
theorem m_goesAll {G : GC} {ad : Nat → Nat} {o : Nat} {F : Nat → Int32} {L : Nat → Int64} {I : Nat → Nat → Int32} {J : Nat → Nat → Int64} {Q : MPost} {T : TS} {h : HW} (hM : MI F L I J T) (hOp : OpM F I h) (g : GoOK (tsO T) h (tsK T 0).2.1 (tsK T 0).1)
    (k : ∀ F' L' I' J' n' lv', MI F' L' I' J' T → F' 0 = F 0 → OpM F' I' h → FlM F' L' I' J' n' lv' (rn9 T h (tsK T 0).1).1 (fun _ => 0) (rn9 T h (tsK T 0).1).2.1 (rn9 T h (tsK T 0).1).2.2.1 (rn9 T h (tsK T 0).1).2.2.2 → (∀ i, i < n' → gd (tsK T 0).1 (lv' i)) → TrA (tsO T) h (tsK T 0).2.1 (tsK T 0).2.2 (tsK T 0).1 J' → Q none F' L' I' J') : CallM G mX9_goesAll 8 ad o [.ref o] F L I J Q :=
  w_goesAll hM.2.2.2.2.1 hM.1 hOp g hM.2.1.2 (fun F' L' I' J' n' lv' q1 q2 q3 q4 q5 => k F' L' I' J' n' lv' (hM.q q3.q q4 q1.idl) (q3 0 (by decide) (by decide) (by decide)) (hOp.keep q3 q4) q1 q2 q5)
theorem MI.f51 {F F' : Nat → Int32} {L : Nat → Int64} {I : Nat → Nat → Int32} {J : Nat → Nat → Int64} {T : TS} (h : MI F L I J T) (f : ∀ j, (j < 51 ∨ 55 < j) → F' j = F j) : MI F' L I J T :=
  h.q (fun j _ _ _ d => f j (by omega)) Ir9.rf (h.2.2.2.2.1.oth (f 35 (by decide)) (f 36 (by decide)) rfl rfl rfl rfl rfl rfl rfl)
theorem MI.ok {F : Nat → Int32} {L : Nat → Int64} {I : Nat → Nat → Int32} {J : Nat → Nat → Int64} {T : TS} (h : MI F L I J T) : tsOK T := h.2.2.2.2.2.2.2.2.2
theorem least1 {G : GC} {up part : Nat} {P : Option Value → Prop} (hu : up < 2 ^ 63) (hp : part < 2) (k : P (some (.long (lN (fr up 1099511627776 part))))) : CallP G mX9_least 3 [.long (lN up), .long 1099511627776, .int (nI part)] P := w_least hu (by decide) (by decide) hp k
