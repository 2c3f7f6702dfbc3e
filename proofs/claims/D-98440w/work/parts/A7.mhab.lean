/-! Part B: the reference reads habits -/
def Fz (F F' : Nat → Int32) : Prop := ∀ j, j ≠ 2 → j ≠ 3 → j ≠ 4 → j ≠ 5 → j ≠ 6 → j ≠ 7 → j ≠ 8 → j ≠ 28 → j ≠ 29 → F' j = F j
theorem w_begins {G : GC} {ad : Nat → Nat} {o : Nat} {F : Nat → Int32} {L : Nat → Int64} {I : Nat → Nat → Int32} {J : Nat → Nat → Int64} {Q : MPost} {t : Nat → Nat} {n : Nat} (ht : ∀ i, i < n → I 9 i = nI (t i)) (hn : n ≤ 600) (h8 : ∀ i, i < n → t i < 256) (k : ∀ F', RS F' I t n 0 none → F' 7 = 0 → F' 2 = 0 → F' 8 = -1 → (∀ j, j ≠ 2 → j ≠ 3 → j ≠ 4 → j ≠ 5 → j ≠ 7 → j ≠ 8 → F' j = F j) → Q none F' L I J) : CallM G mX9_begins 3 ad o [.ref o, .int (nI n)] F L I J Q := by
  refine eX9_begins (fun σ0 => bX9_begins_0 (fun F1 e1 F2 e2 F3 e3 F4' e4 F5 e5 F6' e6 => ?_))
  have at9 : ∀ j, F6' j = if j = 7 then 0 else if j = 5 then -1 else if j = 4 then 0 else if j = 3 then nI n else if j = 8 then -1 else if j = 2 then 0 else F j := fun j => by
    rw [e6, e5, e4, e3, e2, e1]
    unfold fU
    rfl
  refine k F6' ⟨by rw [at9]; rfl, by rw [at9]; rfl, fun _ => by rw [at9]; rfl, (fun w p z => by cases z), ht, hn, h8, Nat.zero_le _⟩ (by rw [at9]; rfl) (by rw [at9]; rfl) (by rw [at9]; rfl) (fun j a b c d e f => ?_)
  rw [at9, if_neg e, if_neg d, if_neg c, if_neg b, if_neg f, if_neg a]
theorem w_resultY {G : GC} {ad : Nat → Nat} {o : Nat} {F : Nat → Int32} {L : Nat → Int64} {I : Nat → Nat → Int32} {J : Nat → Nat → Int64} {Q : MPost} {x : Int32} (h : F 5 = -1) (k : Q (some (.int x)) (fU F 8 (-1)) L I J) : CallM G mX9_result 4 ad o [.ref o, .int x] F L I J Q := by
  refine eX9_result (fun σ0 => bX9_result_0 (fun F1 e1 => ?_))
  rw [h] at e1
  subst e1
  exact w_fineY ((fU_ne (by decide)).trans h) ⟨_, rfl, fun z => absurd z (by decide), fun _ => k⟩
theorem w_resultN {G : GC} {ad : Nat → Nat} {o : Nat} {F : Nat → Int32} {L : Nat → Int64} {I : Nat → Nat → Int32} {J : Nat → Nat → Int64} {Q : MPost} {t : Nat → Nat} {n a w p : Nat} {x : Int32} (h : RS F I t n a (some (w, p))) (k : Q (some (.int (nI w - 10))) (fU F 8 (nI p)) L I J) : CallM G mX9_result 4 ad o [.ref o, .int x] F L I J Q := by
  refine eX9_result (fun σ0 => bX9_result_0 (fun F1 e1 => ?_))
  have z := h.2.2.2.1 w p rfl
  rw [z.1] at e1
  subst e1
  refine w_fineN (fun y => h.bad ((fU_ne (by decide)).symm.trans y)) ⟨_, rfl, fun _ => ?_, fun y => absurd rfl y⟩
  rw [fU_ne (by decide), z.2.1]
  exact k
theorem m_107 {G : GC} {ad : Nat → Nat} {o : Nat} {F : Nat → Int32} {L : Nat → Int64} {I : Nat → Nat → Int32} {J : Nat → Nat → Int64} {σ0 : PS} {Q : MPost} {p m : Nat} {x : Int32} {I0 : Nat → Nat → Int32} (hp : p < 7) (hm : m ≤ 150) (h28 : F 28 = nI m) (k : ∀ I', (∀ a, a ≠ 24 → a ≠ 25 → I' a = I0 a) → (∀ j, j < m → I' 24 (150 * p + j) = I0 20 j ∧ I' 25 (150 * p + j) = I0 21 j) → (∀ y, (y < 150 * p ∨ 150 * p + 150 ≤ y) → I' 24 y = I0 24 y ∧ I' 25 y = I0 25 y) → Q (some (.int x)) F L I' J) : ∀ d i I', i + d = m → (∀ a, a ≠ 24 → a ≠ 25 → I' a = I0 a) → (∀ j, j < i → I' 24 (150 * p + j) = I0 20 j ∧ I' 25 (150 * p + j) = I0 21 j) → (∀ y, (y < 150 * p ∨ 150 * p + 150 ≤ y) → I' 24 y = I0 24 y ∧ I' 25 y = I0 25 y) → AtM G mX9_readHabit 152 ad o σ0 Q 107 [(0, .ref o), (2, .int (nI p)), (3, .int x), (4, .int (nI i))] [] F L I' J := by
  intro d
  induction d with
  | zero =>
    intro i I' hi h1 h2 h3
    have hi : i = m := by omega
    subst hi
    refine bX9_readHabit_107 ⟨fun _ => k I' h1 h2 h3, fun z => ?_⟩
    rw [h28] at z
    exact absurd (nI_le (Nat.le_refl _) (by omega)) z
  | succ d ih =>
    intro i I' hi h1 h2 h3
    refine bX9_readHabit_107 ⟨fun z => ?_, fun _ => ?_⟩
    · rw [h28] at z
      exact absurd z (nI_ge (by omega) (by omega))
    · rw [show (150 : Int32) = nI 150 from rfl, pk_mul, nI_add, nI_clamp (show 150 * p + i < 2 ^ 31 by omega), nI_clamp (show i < 2 ^ 31 by omega)]
      have v1 := vp_in_nI (show i < 150 by omega) (by decide)
      have v2 := vp_in_nI (show 150 * p + i < 1050 by omega) (by decide)
      refine ⟨v1, v2, fun I3 e3 => ⟨v1, v2, fun I4 e4 v3 ev => ?_⟩⟩
      rw [ev, nI_1]
      rw [h1 20 (by decide) (by decide)] at e3
      have r2 : I3 21 i = I0 21 i := by rw [e3, gU_ne (by decide), h1 21 (by decide) (by decide)]
      rw [r2] at e4
      have g24 : ∀ x, I4 24 x = if x = 150 * p + i then I0 20 i else I' 24 x := fun x => by rw [e4, gU_ne (by decide), e3, gU_at]
      have g25 : ∀ x, I4 25 x = if x = 150 * p + i then I0 21 i else I' 25 x := fun x => by rw [e4, gU_at, e3, gU_ne (by decide)]
      refine ih (i + 1) I4 (by omega) (fun a h4 h5 => by rw [e4, gU_ne h5, e3, gU_ne h4, h1 a h4 h5]) (fun j hj => ?_) (fun y hy => ?_)
      · rw [g24, g25]
        by_cases z : j = i
        · subst z
          rw [if_pos rfl, if_pos rfl]
          exact ⟨rfl, rfl⟩
        · rw [if_neg (by omega), if_neg (by omega)]
          exact h2 j (by omega)
      · rw [g24, g25, if_neg (by omega), if_neg (by omega)]
        exact h3 y hy
theorem m_68 {G : GC} {ad : Nat → Nat} {o : Nat} {F : Nat → Int32} {L : Nat → Int64} {I : Nat → Nat → Int32} {J : Nat → Nat → Int64} {σ0 : PS} {Q : MPost} {p m c : Nat} {x : Int32} {I0 : Nat → Nat → Int32} (hp : p < 7) (hm : m ≤ 8) (hc : c ≤ 150) (h29 : F 29 = nI m) (h28 : F 28 = nI c) (k : ∀ I', (∀ a, a ≠ 24 → a ≠ 25 → a ≠ 26 → I' a = I0 a) → (∀ j, j < 4 * m → I' 26 (32 * p + j) = I0 22 j) → (∀ y, (y < 32 * p ∨ 32 * p + 32 ≤ y) → I' 26 y = I0 26 y) → (∀ j, j < c → I' 24 (150 * p + j) = I0 20 j ∧ I' 25 (150 * p + j) = I0 21 j) → (∀ y, (y < 150 * p ∨ 150 * p + 150 ≤ y) → I' 24 y = I0 24 y ∧ I' 25 y = I0 25 y) → Q (some (.int x)) F L I' J) : ∀ d i I', i + d = 4 * m → (∀ a, a ≠ 26 → I' a = I0 a) → (∀ j, j < i → I' 26 (32 * p + j) = I0 22 j) → (∀ y, (y < 32 * p ∨ 32 * p + 32 ≤ y) → I' 26 y = I0 26 y) → AtM G mX9_readHabit 152 ad o σ0 Q 68 [(0, .ref o), (2, .int (nI p)), (3, .int x), (4, .int (nI i))] [] F L I' J := by
  intro d
  induction d with
  | zero =>
    intro i I' hi h1 h2 h3
    have hi : i = 4 * m := by omega
    subst hi
    refine bX9_readHabit_68 ⟨fun _ => ?_, fun z => ?_⟩
    · refine m_107 (I := I') (m := c) (I0 := I') hp hc h28 (fun I2 g1 g2 g3 => k I2 (fun a a1 a2 a3 => (g1 a a1 a2).trans (h1 a a3)) (fun j hj => by rw [g1 26 (by decide) (by decide)]; exact h2 j hj) (fun y hy => by rw [g1 26 (by decide) (by decide)]; exact h3 y hy) (fun j hj => ?_) (fun y hy => ?_)) c 0 I' (by omega) (fun _ _ _ => rfl) (fun j hj => absurd hj (Nat.not_lt_zero j)) (fun _ _ => ⟨rfl, rfl⟩)
      · rw [← h1 20 (by decide), ← h1 21 (by decide)]
        exact g2 j hj
      · rw [← h1 24 (by decide), ← h1 25 (by decide)]
        exact g3 y hy
    · rw [h29, mul4'] at z
      exact absurd (nI_le (Nat.le_refl _) (by omega)) z
  | succ d ih =>
    intro i I' hi h1 h2 h3
    refine bX9_readHabit_68 ⟨fun z => ?_, fun _ => ?_⟩
    · rw [h29, mul4'] at z
      exact absurd z (nI_ge (by omega) (by omega))
    · rw [show (32 : Int32) = nI 32 from rfl, pk_mul, nI_add, nI_clamp (show 32 * p + i < 2 ^ 31 by omega), nI_clamp (show i < 2 ^ 31 by omega)]
      refine ⟨vp_in_nI (show i < 32 by omega) (by decide), vp_in_nI (show 32 * p + i < 224 by omega) (by decide), fun I3 e3 v3 ev => ?_⟩
      rw [ev, nI_1]
      rw [h1 22 (by decide)] at e3
      have g26 : ∀ x, I3 26 x = if x = 32 * p + i then I0 22 i else I' 26 x := fun x => by rw [e3, gU_at]
      refine ih (i + 1) I3 (by omega) (fun a h4 => by rw [e3, gU_ne h4, h1 a h4]) (fun j hj => ?_) (fun y hy => ?_)
      · rw [g26]
        by_cases z : j = i
        · subst z
          rw [if_pos rfl]
        · rw [if_neg (by omega)]
          exact h2 j (by omega)
      · rw [g26, if_neg (by omega)]
        exact h3 y hy
theorem m_readHabit {G : GC} {ad : Nat → Nat} {o : Nat} {F : Nat → Int32} {L : Nat → Int64} {I : Nat → Nat → Int32} {J : Nat → Nat → Int64} {Q : MPost} {t : Nat → Nat} {n p : Nat} (hp : p < 7) (ht : ∀ i, i < n → I 9 i = nI (t i)) (hn : n ≤ 150) (h8 : ∀ i, i < n → t i < 256)
    (ks : ∀ L' a', pHab t n (n + 1) [] 0 = .inr (L', a') → ∀ F' I', Fz F F' → F' 2 = 0 → F' 8 = -1 → (∀ a, a ≠ 20 → a ≠ 21 → a ≠ 22 → a ≠ 24 → a ≠ 25 → a ≠ 26 → a ≠ 27 → I' a = I a) → HabM I' p L' → (∀ q l, q < 7 → q ≠ p → HabM I q l → HabM I' q l) → Q (some (.int (nI L'.length))) F' L I' J)
    (kx : ∀ w u, pHab t n (n + 1) [] 0 = .inl (w, u) → ∀ F' I', Fz F F' → F' 2 = 0 → F' 8 = nI u → (∀ a, a ≠ 20 → a ≠ 21 → a ≠ 22 → I' a = I a) → Q (some (.int (nI w - 10))) F' L I' J) : CallM G mX9_readHabit 152 ad o [.ref o, .int (nI n), .int (nI p)] F L I J Q := by
  refine eX9_readHabit (fun σ0 => bX9_readHabit_0 (w_begins ht (by omega) h8 (fun F1 H1 h7 h2 h8' fz => ⟨rfl, fun F2 e2 F3 e3 => ?_⟩)))
  have f3 : ∀ j, j ≠ 28 → j ≠ 29 → F3 j = F1 j := fun j a b => by rw [e3, fU_ne b, e2, fU_ne a]
  have fz3 : Fz F F3 ∧ F3 2 = 0 ∧ F3 8 = -1 := ⟨fun j a b c d _ e f g h => (f3 j g h).trans (fz j a b c d e f), (f3 2 (by decide) (by decide)).trans h2, (f3 8 (by decide) (by decide)).trans h8'⟩
  have H3 : HS F3 I t n 0 [] [] := by
    obtain ⟨q1, q2, q3, q5, q6⟩ := H1
    refine ⟨⟨⟨(f3 3 (by decide) (by decide)).trans q1, (f3 4 (by decide) (by decide)).trans q2, fun z => (f3 5 (by decide) (by decide)).trans (q3 z), (fun w p z => by cases z), q6⟩, (f3 7 (by decide) (by decide)).trans h7, by rw [e3, fU_ne (by decide), e2, fU_at]; rfl, fun i q hi => by simp at hi, Nat.le_refl _⟩, by rw [e3, fU_at]; rfl, by decide, fun _ => 0, fun s S hs => by simp at hs⟩
  have out : ∀ w u, pHab t n (n + 1) [] 0 = .inl (w, u) → ∀ F' I' a', RS F' I' t n a' (some (w, u)) → Fh F3 F' → Ih I I' → AtM G mX9_readHabit 152 ad o σ0 Q 36 [(0, .ref o), (2, .int (nI p))] [] F' L I' J := fun w u e F' I' a' HX fh ih => by
    refine bX9_readHabit_36 (w_resultN HX ⟨_, rfl, fun z => absurd ((fU_ne (by decide)).symm.trans z) HX.bad, fun _ => ?_⟩)
    exact kx w u e _ I' (fun j a b c d e' f g h i => (fU_ne g).trans ((fh j c d e' f h i).trans (fz3.1 j a b c d e' f g h i))) ((fU_ne (by decide)).trans ((fh 2 (by decide) (by decide) (by decide) (by decide) (by decide) (by decide)).trans fz3.2.1)) fU_at (fun a x y z => ih a x y z)
  have Lp : ∀ f a l (L' : List StT) F' I', n + 1 ≤ f + a → HS F' I' t n a l L' → Fh F3 F' → Ih I I' → pHab t n f L' a = pHab t n (n + 1) [] 0 → AtM G mX9_readHabit 152 ad o σ0 Q 15 [(0, .ref o), (2, .int (nI p))] [] F' L I' J := by
    intro f
    induction f with
    | zero =>
      intro a l L' F' I' hf H
      have := H.1.le
      omega
    | succ f ihf =>
      intro a l L' F' I' hf H fh ih e
      refine bX9_readHabit_15 (w_fineY H.1.f5 ⟨_, rfl, fun z => absurd z (by decide), fun _ => w_isMore H.1.1 (fun hl F1 H1 f1 => ⟨_, rfl, fun z => absurd z (by decide), fun _ => ?_⟩) (fun hl F1 H1 f1 => ⟨_, rfl, fun _ => ?_, fun z => absurd rfl z⟩)⟩)
      · have hs := sk_b (t := t) H.1.le
        have hll := H.1.2.2.2.2
        have H1' := H.at f1 H1 (by omega)
        rw [pHab_s hl] at e
        have es : pStep t n (sk t n a) L'.length = pStep t n a L'.length := by
          unfold pStep
          rw [sk_sk H.1.le]
        refine m_step hn H1' (fun S a' h4 F2 I2 l2 x1 x2 x3 => ⟨rfl, ?_⟩) (fun x u h4 F2 I2 a' x1 x2 x3 => ⟨rfl, ?_⟩)
        · rw [es] at h4
          have g := pStep_ge H.1.le _ _ h4
          rw [h4, bnd_r] at e
          exact ihf a' l2 _ F2 I2 (by omega) x1 ((fh.tr f1.c.h).tr x2) (ih.tr x3) e
        · rw [es] at h4
          rw [h4, bnd_l] at e
          exact bX9_readHabit_15 (w_fineN x1.bad ⟨_, rfl, fun _ => out x u e.symm F2 I2 a' x1 ((fh.tr f1.c.h).tr x2) (ih.tr x3), fun z => absurd rfl z⟩)
      · rw [pHab_e hl] at e
        have hs := sk_b (t := t) H.1.le
        have hll := H.1.2.2.2.2
        obtain ⟨HC, h29, hL8, hS⟩ := H.at f1 H1 (by omega)
        have fh1 := fh.tr f1.c.h
        have lc := HC.2.2.2.2
        have lc2 := HC.le
        have f8 : ∀ j, j ≠ 8 → fU F1 8 (-1) j = F1 j := fun j hj => fU_ne hj
        refine bX9_readHabit_36 (w_resultY HC.f5 ⟨_, rfl, fun _ => ?_, fun z => absurd ((f8 5 (by decide)).trans HC.f5) z⟩)
        rw [f8 29 (by decide), h29, nI_clamp (show p < 2 ^ 31 by omega)]
        refine ⟨vp_in_nI hp (by decide), fun I2 e2 => ?_⟩
        have n27 : ∀ a, a ≠ 27 → I2 a = I' a := fun a ha => by rw [e2, gU_ne ha]
        have i27 : ∀ j, I2 27 j = if j = p then nI L'.length else I' 27 j := fun j => by rw [e2, gU_at]
        refine m_68 (I := I2) (m := L'.length) (c := l.length) (I0 := I2) hp hL8 (by omega) ((f8 29 (by decide)).trans h29) ((f8 28 (by decide)).trans HC.2.2.1) (fun I3 g1 g2 g3 g4 g5 => ?_) (4 * L'.length) 0 I2 (by omega) (fun _ _ => rfl) (fun j hj => absurd hj (Nat.not_lt_zero j)) (fun _ _ => rfl)
        refine ks L' _ e.symm _ I3 (fun j a b c d e' f g h i => (fU_ne g).trans ((fh1 j c d e' f h i).trans (fz3.1 j a b c d e' f g h i))) ((f8 2 (by decide)).trans ((fh1 2 (by decide) (by decide) (by decide) (by decide) (by decide) (by decide)).trans fz3.2.1)) fU_at (fun a x0 x1 x2 x3 x4 x5 x6 => (g1 a x3 x4 x5).trans ((n27 a x6).trans (ih a x0 x1 x2))) ?_ ?_
        · obtain ⟨fr, hS⟩ := hS
          refine ⟨by rw [g1 27 (by decide) (by decide) (by decide), i27, if_pos rfl], hL8, fr, fun s S hs => ?_⟩
          have hsl := (List.getElem?_eq_some_iff.mp hs).1
          obtain ⟨a1, a2, a3, a4, a5, a6, a7, a8⟩ := hS s S hs
          have c26 : ∀ j, j < 4 * L'.length → I3 26 (32 * p + j) = I' 22 j := fun j hj => (g2 j hj).trans (by rw [n27 22 (by decide)])
          have q0 := c26 (4 * s) (by omega)
          have q1 := c26 (4 * s + 1) (by omega)
          have q2 := c26 (4 * s + 2) (by omega)
          have q3 := c26 (4 * s + 3) (by omega)
          rw [← Nat.add_assoc] at q1 q2 q3
          refine ⟨a1, q0.trans a2, q1.trans a3, q2.trans a4, q3.trans a5, by omega, fun i q hq => ?_, a8⟩
          have hi := (List.getElem?_eq_some_iff.mp hq).1
          have g := g4 (fr s + i) (by omega)
          rw [Nat.add_assoc]
          rw [g.1, g.2, n27 20 (by decide), n27 21 (by decide)]
          exact HC.2.2.2.1 _ q (a7 i q hq)
        · intro q l' hq hne hM
          refine hM.reg ?_ (fun j hj => ?_) (fun j hj => ?_)
          · rw [g1 27 (by decide) (by decide) (by decide), i27, if_neg hne, ih 27 (by decide) (by decide) (by decide)]
          · rw [g3 _ (by omega), n27 26 (by decide), ih 26 (by decide) (by decide) (by decide)]
          · have g := g5 (150 * q + j) (by omega)
            rw [g.1, g.2, n27 24 (by decide), n27 25 (by decide), ih 24 (by decide) (by decide) (by decide), ih 25 (by decide) (by decide) (by decide)]
            exact ⟨rfl, rfl⟩
  exact Lp (n + 1) 0 [] [] F3 I (by omega) H3 Fh.rf Ih.rf rfl
