/-! Part B: teaching, on both sides -/
def tsHb (T : TS) (H : Nat → List StT) : TS := (tsO T, tsP T, tsK T, H, tsB T, tsT T, tsF T, tsL T, tsC T, tsI T, tsQ T, tsR0 T, tsR1 T)
def hbU (H : Nat → List StT) (p : Nat) (l : List StT) : Nat → List StT := fun x => if x = p then l else H x
theorem tsHb_ok {T : TS} (h : tsOK T) {p : Nat} {l : List StT} (hl : (∀ Z, Z ∈ l → stOK Z) ∧ l.length ≤ 8) : tsOK (tsHb T (hbU (tsH T) p l)) := by
  refine ⟨h.1, h.2.1, h.2.2.1, fun x hx => ?_, h.2.2.2.2⟩
  show (∀ Z, Z ∈ (if x = p then l else tsH T x) → stOK Z) ∧ (if x = p then l else tsH T x).length ≤ 8
  split
  · exact hl
  · exact h.2.2.2.1 x hx
theorem CI.h {σ τ : PS} {A : Nat → Nat} {CA : Nat → Nat × Nat × Nat} {E : Nat × Nat × Option Nat × Nat × Nat × Nat × Nat} {T : TS} {H : Nat → List StT} {hf : Nat → Option Nat} (h : CI σ A CA E T) (k : KpD (fun κ a => κ = 105 ∧ a = A 9) σ τ) (x : τ 105 (A 9) = some (.inr (6, .inr (.inr hf)))) (hq : ∀ p, p < 6 → HabQ τ (hf p) (H p)) (ht : ∀ i y, hf i = some y → ∃ vs, τ 14 y = some (.inl vs)) (h6 : H 6 = tsH T 6) (ok : tsOK (tsHb T H)) : CI τ A CA E (tsHb T H) ∧ KpD (own A CA) σ τ := by
  have kw : KpD (own A CA) σ τ := k.mono (fun κ a d => Or.inr (Or.inr (Or.inr (Or.inr (Or.inl ⟨d.1, Or.inl d.2⟩)))))
  obtain ⟨⟨a1, ⟨a2, a2'⟩, ⟨a3, a3'⟩, b, ⟨c1, c7⟩, ⟨ft, d1, d2⟩, e1, ⟨⟨f1, i1, i2⟩, ⟨f2, i3, i4⟩, i5⟩, ⟨f4, j1, j2⟩, ⟨f5, k1, k2⟩, l3⟩, s, -⟩ := h
  have kk : ∀ κ a e, σ κ a = some e → κ ≠ 105 → τ κ a = some e := fun κ a e hh n1 => k κ a e hh (fun w => n1 w.1)
  have k14 : ∀ κ, 14 ≤ κ → κ ≤ 25 → Kp κ σ τ := fun κ q1 q2 a e hh => kk κ a e hh (by omega)
  have k106 : Kp 106 σ τ := fun a e hh => kk 106 a e hh (by decide)
  have k7 : Kp 7 σ τ := fun a e hh => kk 7 a e hh (by decide)
  have k2' : Kp 2 σ τ := fun a e hh => kk 2 a e hh (by decide)
  have k100 : Kp 100 σ τ := fun a e hh => kk 100 a e hh (by decide)
  refine ⟨⟨⟨kk _ _ _ a1 (by decide), ⟨a2.kept k7 k100, a2'⟩, ⟨?_, fun y hy => ?_⟩, ⟨hf, x, hq, ht⟩, ⟨?_, c7⟩, ⟨ft, kk _ _ _ d1 (by decide), d2⟩, fun i hi => (e1 i hi).kept k2' k100, ⟨⟨f1, kk _ _ _ i1 (by decide), i2⟩, ⟨f2, kk _ _ _ i3 (by decide), i4⟩, fun i hi => ?_⟩, ⟨f4, kk _ _ _ j1 (by decide), j2⟩, ⟨f5, kk _ _ _ k1 (by decide), k2⟩, l3⟩, ?_, ok⟩, kw⟩
  · show HabQ τ E.2.2.1 (H 6)
    rw [h6]
    exact a3.kept k14 k106
  · obtain ⟨vs, hv⟩ := a3' y hy
    exact ⟨vs, kk _ _ _ hv (by decide)⟩
  · obtain ⟨g1, g2, g3, c1, c2, c3, c4, c5, c6⟩ := c1
    exact ⟨g1, g2, g3, kk _ _ _ c1 (by decide), c2, kk _ _ _ c3 (by decide), kk _ _ _ c4 (by decide), kk _ _ _ c5 (by decide), c6⟩
  · obtain ⟨f, q1, q2⟩ := i5 i hi
    exact ⟨f, kk _ _ _ q1 (by decide), q2⟩
  · obtain ⟨z, ⟨v1, v2, v3, v4, v5, v6, l2, y1, y2, y3⟩, ⟨w1, w2, w3, w4, w5, w6, w7, gg, y4, y5⟩⟩ := s
    exact ⟨z.mv (fun κ x e hk hh => kk _ _ _ hh (by omega)), ⟨v1, v2, v3, v4, v5, v6, l2, kk _ _ _ y1 (by decide), kk _ _ _ y2 (by decide), y3⟩, ⟨w1, w2, w3, w4, w5, w6, w7, gg, kk _ _ _ y4 (by decide), k _ _ _ y5 (fun w => l3.1 w.2.symm)⟩⟩
def teS (T : TS) (p o : Nat) : TS := tsHb T (hbU (tsH T) p (tsH T o))
theorem c_teach {G : GC} {σ : PS} {Q : Option Value → PS → Prop} {X : String → Nat → PS → Prop} {b : Nat} {A : Nat → Nat} {CA : Nat → Nat × Nat × Nat} {E : Nat × Nat × Option Nat × Nat × Nat × Nat × Nat} {T : TS} {x y : Int32} (hC : CI σ A CA E T) (hb : 2 ≤ b) (kq : ∀ p o, p < tsP T → x = nI p → o < tsP T → y = nI o → ∀ τ, CI τ A CA E (teS T p o) → KpD (own A CA) σ τ → Q (some (.int (nI (tsH T o).length))) τ) (k0 : ¬ (inN x (tsP T) ∧ inN y (tsP T)) → ∀ τ q, CI τ A CA E (bu0 T) → KpD (own A CA) σ τ → X "java/util/NoSuchElementException" q τ) : Call G mX1_teach 12 b [.ref (A 0), .int x, .int y] σ Q X := by
  have hP6 := hC.2.2.2.1
  refine eX1_teach (bX1_teach_0 ⟨1, by omega, ⟨_, hC.1.x⟩, c_personOf hC (Nat.le_refl _) (fun p hp hx => ⟨rfl, 1, by omega, ⟨_, hC.1.x⟩, c_personOf hC (Nat.le_refl _) (fun q hq hy => ⟨rfl, ?_⟩) (fun n => k0 (fun w => n w.2))⟩) (fun n => k0 (fun w => n w.1))⟩)
  subst hx
  subst hy
  obtain ⟨hf, b1, b2, b3⟩ := hC.1.2.2.2.1
  have hx := hC.1.x
  have cp := nI_clamp (show p < 2 ^ 31 by omega)
  have cq := nI_clamp (show q < 2 ^ 31 by omega)
  refine ⟨_, ⟨_, hx, rfl⟩, _, ⟨_, hx, rfl⟩, 6, hf, b1, vp_in_nI (by omega) (by decide), 6, hf, b1, ?_, vp_in_nI (by omega) (by decide), fun s6 e6 => ?_⟩
  · intro y hy
    exact b3 _ y hy
  rw [cp, cq] at e6
  have n2 : ∀ κ a e, σ κ a = some e → (κ ≠ 105 ∨ a ≠ A 9) → s6 κ a = some e := fun κ a e hh na => by
    rw [e6, up_ne na]
    exact hh
  have x9 : s6 105 (A 9) = some (.inr (6, .inr (.inr (va_up hf p (hf q))))) := by rw [e6, up_eq]
  have upa : ∀ j, va_up hf p (hf q) j = if j = p then hf q else hf j := fun j => rfl
  obtain ⟨C2, K2⟩ := hC.h (τ := s6) (H := hbU (tsH T) p (tsH T q)) (hf := va_up hf p (hf q)) (by rw [e6]; exact KpD.rf.up ⟨rfl, rfl⟩) x9 (fun j hj => by
    have kp := fun (u : Option Nat) (l : List StT) (hh : HabQ σ u l) => (show HabQ s6 u l from hh.kept (fun κ q1 q2 a e h9 => n2 κ a e h9 (Or.inl (by omega))) (fun a e h9 => n2 106 a e h9 (Or.inl (by decide))))
    rw [upa]
    show HabQ s6 _ (if j = p then tsH T q else tsH T j)
    by_cases z : j = p
    · rw [if_pos z, if_pos z]
      exact kp _ _ (b2 q (by omega))
    · rw [if_neg z, if_neg z]
      exact kp _ _ (b2 j hj)) (fun i y hy => by
    rw [upa] at hy
    have : ∃ i', hf i' = some y := by
      by_cases z : i = p
      · rw [if_pos z] at hy
        exact ⟨q, hy⟩
      · rw [if_neg z] at hy
        exact ⟨i, hy⟩
    obtain ⟨i', hi'⟩ := this
    obtain ⟨vs, hv⟩ := b3 i' y hi'
    exact ⟨vs, n2 _ _ _ hv (Or.inl (by decide))⟩) (if_neg (by omega)) (tsHb_ok hC.2.2 (hC.2.2.2.2.2.1 q (by omega)))
  have kk := kq p q hp rfl hq rfl s6 C2 K2
  have hh := b2 q (by omega)
  have hx6 : s6 1 (A 0) = σ 1 (A 0) := by
    rw [e6, up_ne (Or.inl (by decide))]
  have pp := upa p
  rw [if_pos rfl] at pp
  refine ⟨_, ⟨_, hx6.trans hx, rfl⟩, 6, _, x9, vp_in_nI (by omega) (by decide), fun z => ?_, fun z hz => ⟨_, ⟨_, hx6.trans hx, rfl⟩, 6, _, x9, vp_in_nI (by omega) (by decide), z, hz, ?_⟩⟩
  · rw [cp, pp] at z
    rcases hh with ⟨_, e⟩ | ⟨y, e, _⟩
    · rw [e] at kk
      exact kk
    · rw [e] at z
      cases z
  · rw [cp, pp] at hz
    rcases hh with ⟨e, _⟩ | ⟨y, e, hO⟩
    · rw [e] at hz
      cases hz
    · rw [e] at hz
      cases hz
      obtain ⟨ar, o1, -⟩ := hO
      exact ⟨_, ⟨_, n2 _ _ _ o1 (Or.inl (by decide)), rfl⟩, kk⟩
theorem HabM.reg {I I' : Nat → Nat → Int32} {p q : Nat} {l : List StT} (h : HabM I q l) (e27 : I' 27 p = I 27 q) (e26 : ∀ j, j < 32 → I' 26 (32 * p + j) = I 26 (32 * q + j)) (e24 : ∀ j, j < 150 → I' 24 (150 * p + j) = I 24 (150 * q + j) ∧ I' 25 (150 * p + j) = I 25 (150 * q + j)) : HabM I' p l := by
  obtain ⟨h1, h2, fr, h3⟩ := h
  refine ⟨e27.trans h1, h2, fr, fun s S hs => ?_⟩
  have hs8 : s < 8 := Nat.lt_of_lt_of_le (List.getElem?_eq_some_iff.mp hs).1 h2
  obtain ⟨g1, g2, g3, g4, g5, g6, g7, g8⟩ := h3 s S hs
  have f0 := e26 (4 * s) (by omega)
  have f1 := e26 (4 * s + 1) (by omega)
  have f2 := e26 (4 * s + 2) (by omega)
  have f3 := e26 (4 * s + 3) (by omega)
  rw [← Nat.add_assoc, ← Nat.add_assoc] at f1 f2 f3
  refine ⟨g1, f0.trans g2, f1.trans g3, f2.trans g4, f3.trans g5, g6, fun i c hc => ?_, g8⟩
  have hi : i < S.2.2.length := (List.getElem?_eq_some_iff.mp hc).1
  have a := g7 i c hc
  have b := e24 (fr s + i) (by omega)
  rw [Nat.add_assoc] at a ⊢
  exact ⟨b.1.trans a.1, b.2.trans a.2⟩
theorem MI.h {F F' : Nat → Int32} {L : Nat → Int64} {I I' : Nat → Nat → Int32} {J : Nat → Nat → Int64} {T : TS} {H : Nat → List StT} (h : MI F L I J T) (hF : ∀ j, j ≠ 0 → j ≠ 28 → j ≠ 29 → F' j = F j) (hI : ∀ a, a ≠ 24 → a ≠ 25 → a ≠ 26 → a ≠ 27 → I' a = I a) (hb : ∀ p, p < 7 → HabM I' p (H p)) (ok : tsOK (tsHb T H)) : MI F' L I' J (tsHb T H) := by
  obtain ⟨a, ⟨b1, b2⟩, -, d, e0, ⟨t1, t2, t3⟩, ⟨p1, p2⟩, ⟨q1, q2⟩, ⟨r1, r2⟩, -⟩ := h
  have n1 : ∀ a, a ≠ 24 → a ≠ 25 → a ≠ 26 → a ≠ 27 → I' a = I a := hI
  have f1 : ∀ j, j ≠ 0 → j ≠ 28 → j ≠ 29 → F' j = F j := hF
  refine ⟨⟨fun j hj => ?_, fun j hj => ?_⟩, ⟨(f1 18 (by decide) (by decide) (by decide)).trans b1, (f1 19 (by decide) (by decide) (by decide)).trans b2⟩, hb, d.keep (f1 32 (by decide) (by decide) (by decide)) (n1 31 (by decide) (by decide) (by decide) (by decide)), e0.oth (f1 35 (by decide) (by decide) (by decide)) (f1 36 (by decide) (by decide) (by decide)) rfl rfl (n1 33 (by decide) (by decide) (by decide) (by decide)) (n1 34 (by decide) (by decide) (by decide) (by decide)) rfl rfl rfl, ⟨(f1 2 (by decide) (by decide) (by decide)).trans t1, fun j hj => ?_, (f1 8 (by decide) (by decide) (by decide)).trans t3⟩, ⟨(f1 62 (by decide) (by decide) (by decide)).trans p1, fun k hk => ?_⟩, ⟨(f1 64 (by decide) (by decide) (by decide)).trans q1, fun k hk => ?_⟩, ⟨?_, ?_⟩, ok⟩
  · rw [n1 11 (by decide) (by decide) (by decide) (by decide)]
    exact a.1 j hj
  · rw [n1 14 (by decide) (by decide) (by decide) (by decide), n1 15 (by decide) (by decide) (by decide) (by decide)]
    exact a.2 j hj
  · rw [n1 9 (by decide) (by decide) (by decide) (by decide)]
    exact t2 j hj
  · have q := p2 k hk
    unfold pastR at *
    rw [n1 61 (by decide) (by decide) (by decide) (by decide)]
    exact q
  · have q := q2 k hk
    unfold imgR at *
    rw [n1 63 (by decide) (by decide) (by decide) (by decide)]
    exact q
  · rw [n1 1 (by decide) (by decide) (by decide) (by decide)]
    exact r1
  · rw [n1 1 (by decide) (by decide) (by decide) (by decide)]
    exact r2
theorem m_teach {G : GC} {ad : Nat → Nat} {o : Nat} {F : Nat → Int32} {L : Nat → Int64} {I : Nat → Nat → Int32} {J : Nat → Nat → Int64} {Q : MPost} {T : TS} {x y : Int32} (hM : MI F L I J T) (kq : ∀ p o, p < tsP T → x = nI p → o < tsP T → y = nI o → ∀ F' L' I' J', MI F' L' I' J' (teS T p o) → F' 0 = 0 → Q (some (.int (nI (tsH T o).length))) F' L' I' J') (k0 : ¬ (inN x (tsP T) ∧ inN y (tsP T)) → ∀ F' L' I' J', MI F' L' I' J' (bu0 T) → F' 0 = 1 → Q (some (.int 0)) F' L' I' J') : CallM G mX9_teach 5 ad o [.ref o, .int x, .int y] F L I J Q := by
  have hP6 := hM.ok.2.1
  refine eX9_teach (fun σ0 => bX9_teach_0 (fun F1 e1 => ?_))
  subst e1
  refine w_isPerson hM.th fU_at (fun p hp hx => ⟨_, rfl, fun z => absurd z (by decide), fun _ => ?_⟩) (fun h F' I' q1 q2 => ⟨_, rfl, fun _ => k0 (fun w => h w.1) F' L I' J q1 q2, fun z => absurd rfl z⟩)
  refine w_isPerson hM.th fU_at (fun q hq hy => ⟨_, rfl, fun _ => ?_, fun z => absurd z (by decide)⟩) (fun h F' I' q1 q2 => ⟨_, rfl, fun z => absurd rfl z, fun _ => k0 (fun w => h w.2) F' L I' J q1 q2⟩)
  have M0 : MI (fU F 0 0) L I J T := hM.th
  have cp := nI_clamp (show p < 2 ^ 31 by omega)
  have cq := nI_clamp (show q < 2 ^ 31 by omega)
  subst hx
  subst hy
  refine ⟨vp_in_nI (by omega) (by decide), vp_in_nI (by omega) (by decide), fun I1 e1 => ?_⟩
  rw [cp, cq] at e1
  have kk := kq p q hp rfl hq rfl
  have i27 : ∀ j, I1 27 j = if j = p then I 27 q else I 27 j := fun j => by rw [e1, gU_at]
  have n27 : ∀ a, a ≠ 27 → I1 a = I a := fun a ha => by rw [e1, gU_ne ha]
  have hl : ∀ j, j < 7 → I 27 j = nI (tsH T j).length := fun j hj => (hM.2.2.1 j hj).1
  have L2 : ∀ I2 : Nat → Nat → Int32, (∀ a, a ≠ 26 → I2 a = I1 a) → (∀ j, j < 32 → I2 26 (32 * p + j) = I 26 (32 * q + j)) → (∀ x, (x < 32 * p ∨ 32 * p + 32 ≤ x) → I2 26 x = I 26 x) → ∀ d i, i + d = 150 → ∀ I' : Nat → Nat → Int32, (∀ a, a ≠ 24 → a ≠ 25 → I' a = I2 a) → (∀ j, j < i → I' 24 (150 * p + j) = I 24 (150 * q + j) ∧ I' 25 (150 * p + j) = I 25 (150 * q + j)) → (∀ x, (x < 150 * p ∨ 150 * p + i ≤ x) → I' 24 x = I 24 x ∧ I' 25 x = I 25 x) → AtM G mX9_teach 5 ad o σ0 Q 75 [(0, .ref o), (1, .int (nI p)), (2, .int (nI q)), (3, .int (nI i))] [] (fU F 0 0) L I' J := by
    intro I2 a1 a2 a3 d
    induction d with
    | zero =>
      intro i hi I' h1 h2 h3
      have hi : i = 150 := by omega
      subst hi
      refine bX9_teach_75 ⟨fun _ => ⟨vp_in_nI (by omega) (by decide), ?_⟩, fun z => absurd (nI_le (a := 150) (Nat.le_refl _) (by decide)) z⟩
      rw [cp, h1 27 (by decide) (by decide), a1 27 (by decide), i27, if_pos rfl, hl q (by omega)]
      refine kk _ L I' J (M0.h (fun j _ _ _ => rfl) (fun a b c d e => by rw [h1 a b c, a1 a d, n27 a e]) (fun j hj => ?_) (tsHb_ok hM.ok (hM.ok.2.2.2.1 q (by omega)))) fU_at
      show HabM I' j (if j = p then tsH T q else tsH T j)
      by_cases z : j = p
      · subst z
        rw [if_pos rfl]
        refine (hM.2.2.1 q (by omega)).reg ?_ (fun x hx => ?_) (fun x hx => h2 x hx)
        · rw [h1 27 (by decide) (by decide), a1 27 (by decide), i27, if_pos rfl]
        · rw [h1 26 (by decide) (by decide)]
          exact a2 x hx
      · rw [if_neg z]
        refine (hM.2.2.1 j hj).reg ?_ (fun x hx => ?_) (fun x hx => h3 _ (by omega))
        · rw [h1 27 (by decide) (by decide), a1 27 (by decide), i27, if_neg z]
        · rw [h1 26 (by decide) (by decide)]
          exact a3 _ (by omega)
    | succ d ih =>
      intro i hi I' h1 h2 h3
      refine bX9_teach_75 ⟨fun z => absurd z (nI_ge (b := 150) (by omega) (by decide)), fun _ => ?_⟩
      rw [show (150 : Int32) = nI 150 from rfl, pk_mul, pk_mul, nI_add, nI_add, nI_clamp (show 150 * p + i < 2 ^ 31 by omega), nI_clamp (show 150 * q + i < 2 ^ 31 by omega)]
      have v1 := vp_in_nI (show 150 * q + i < 1050 by omega) (by decide)
      have v2 := vp_in_nI (show 150 * p + i < 1050 by omega) (by decide)
      refine ⟨v1, v2, fun I3 e3 => ⟨v1, v2, fun I4 e4 v3 ev => ?_⟩⟩
      rw [ev, nI_1]
      have r := h3 (150 * q + i) (by omega)
      rw [r.1] at e3
      have r2 : I3 25 (150 * q + i) = I 25 (150 * q + i) := by rw [e3, gU_ne (by decide), r.2]
      rw [r2] at e4
      have g24 : ∀ x, I4 24 x = if x = 150 * p + i then I 24 (150 * q + i) else I' 24 x := fun x => by rw [e4, gU_ne (by decide), e3, gU_at]
      have g25 : ∀ x, I4 25 x = if x = 150 * p + i then I 25 (150 * q + i) else I' 25 x := fun x => by rw [e4, gU_at, e3, gU_ne (by decide)]
      refine ih (i + 1) (by omega) I4 (fun a h4 h5 => by rw [e4, gU_ne h5, e3, gU_ne h4, h1 a h4 h5]) (fun j hj => ?_) (fun x hx => ?_)
      · rw [g24, g25]
        by_cases y : j = i
        · subst y
          rw [if_pos rfl, if_pos rfl]
          exact ⟨rfl, rfl⟩
        · rw [if_neg (by omega), if_neg (by omega)]
          exact h2 j (by omega)
      · rw [g24, g25, if_neg (by omega), if_neg (by omega)]
        exact h3 x (by omega)
  have L1 : ∀ d i, i + d = 32 → ∀ I' : Nat → Nat → Int32, (∀ a, a ≠ 26 → I' a = I1 a) → (∀ j, j < i → I' 26 (32 * p + j) = I 26 (32 * q + j)) → (∀ x, (x < 32 * p ∨ 32 * p + i ≤ x) → I' 26 x = I 26 x) → AtM G mX9_teach 5 ad o σ0 Q 39 [(0, .ref o), (1, .int (nI p)), (2, .int (nI q)), (3, .int (nI i))] [] (fU F 0 0) L I' J := by
    intro d
    induction d with
    | zero =>
      intro i hi I' h1 h2 h3
      have hi : i = 32 := by omega
      subst hi
      refine bX9_teach_39 ⟨fun _ => ?_, fun z => absurd (nI_le (a := 32) (Nat.le_refl _) (by decide)) z⟩
      exact L2 I' h1 h2 h3 150 0 (by omega) I' (fun _ _ _ => rfl) (fun j hj => absurd hj (by omega)) (fun x _ => by rw [h1 24 (by decide), h1 25 (by decide), n27 24 (by decide), n27 25 (by decide)]; exact ⟨rfl, rfl⟩)
    | succ d ih =>
      intro i hi I' h1 h2 h3
      refine bX9_teach_39 ⟨fun z => absurd z (nI_ge (b := 32) (by omega) (by decide)), fun _ => ?_⟩
      rw [show (32 : Int32) = nI 32 from rfl, pk_mul, pk_mul, nI_add, nI_add, nI_clamp (show 32 * p + i < 2 ^ 31 by omega), nI_clamp (show 32 * q + i < 2 ^ 31 by omega), h3 (32 * q + i) (by omega)]
      refine ⟨vp_in_nI (by omega) (by decide), vp_in_nI (by omega) (by decide), fun I3 e3 v3 ev => ?_⟩
      rw [ev, nI_1]
      have g26 : ∀ x, I3 26 x = if x = 32 * p + i then I 26 (32 * q + i) else I' 26 x := fun x => by rw [e3, gU_at]
      refine ih (i + 1) (by omega) I3 (fun a ha => by rw [e3, gU_ne ha, h1 a ha]) (fun j hj => ?_) (fun x hx => ?_)
      · rw [g26]
        by_cases y : j = i
        · subst y
          rw [if_pos rfl]
        · rw [if_neg (by omega)]
          exact h2 j (by omega)
      · rw [g26, if_neg (by omega)]
        exact h3 x (by omega)
  exact L1 32 0 (by omega) I1 (fun _ _ => rfl) (fun j hj => absurd hj (by omega)) (fun x _ => by rw [n27 26 (by decide)])
