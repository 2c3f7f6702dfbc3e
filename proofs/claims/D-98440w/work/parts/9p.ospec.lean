/-! Part B: an office's text -/
abbrev OF : Type := (Nat → Nat) × Nat × CL
def oU (O : Nat → Nat) (i v : Nat) : Nat → Nat := fun j => if j = i then v else O j
def pCost (t : Nat → Nat) (n : Nat) : Nat → Nat → (Nat → Nat) → Nat → PR (Nat → Nat)
  | 0, _, O, a => .inr (O, a)
  | j + 1, i, O, a => bnd (nm t n 0 100 a) (fun v a1 => pCost t n j (i + 1) (oU O i v) a1)
def pArg (t : Nat → Nat) (n k : Nat) (S : OF) (a : Nat) : PR OF := match k with
  | 0 => bnd (nm t n 1 13 a) (fun v a1 => .inr ((oU S.1 0 v, S.2), a1))
  | 1 => .inr ((S.1, S.2.1 + 1, S.2.2), a)
  | 2 => bnd (nm t n 0 S.2.1 a) (fun p a1 => bnd (nm t n 0 481 a1) (fun m a2 => .inr ((S.1, S.2.1, cmC S.2.2 (nI p) (nI m)), a2)))
  | 3 => bnd (nm t n 0 (S.1 0 + 1) a) (fun c a1 => bnd (nm t n 0 (S.1 0 - c + 1) a1) (fun d a2 => .inr ((oU (oU S.1 1 c) 2 d, S.2), a2)))
  | 4 => bnd (nm t n 0 2 a) (fun v a1 => .inr ((oU S.1 3 v, S.2), a1))
  | 5 => bnd (nm t n 0 17 a) (fun v a1 => .inr ((oU S.1 4 v, S.2), a1))
  | 6 => bnd (nm t n 1 100 a) (fun v a1 => .inr ((oU S.1 5 v, S.2), a1))
  | 7 => bnd (nm t n 0 17 a) (fun v a1 => .inr ((oU S.1 6 v, S.2), a1))
  | _ => bnd (pCost t n 5 7 S.1 a) (fun O a1 => .inr ((O, S.2), a1))
def pEnd (t : Nat → Nat) (n : Nat) (S : OF) (a : Nat) : PR OF := bnd (sgU t n 59 a) (fun _ a2 => .inr (S, a2))
def full (k m : Nat) (S : OF) : Prop := m = 60 ∨ (k = 1 ∧ S.2.1 = 6) ∨ (k = 2 ∧ S.2.2.1 = 24)
def pClause (t : Nat → Nat) (n a m : Nat) (S : OF) : PR OF := match idx (wd t n (sk t n a)) ofW 0 with
  | none => .inl (1, sk t n a)
  | some k => if m = 60 ∨ (k = 1 ∧ S.2.1 = 6) ∨ (k = 2 ∧ S.2.2.1 = 24) then .inl (3, sk t n a) else if k = 0 ∧ 0 < m then .inl (4, sk t n a) else
    bnd (pArg t n k S (sk t n a + (wd t n (sk t n a)).length)) (pEnd t n)
def pOff (t : Nat → Nat) (n : Nat) : Nat → Nat → OF → Nat → PR OF
  | 0, _, S, a => .inr (S, a)
  | f + 1, m, S, a => if sk t n a < n then bnd (pClause t n a m S) (fun S' a1 => pOff t n f (m + 1) S' a1) else .inr (S, sk t n a)
def of0 : OF := (o0, 0, (0, (fun _ => 0), fun _ => 0))
def ofR (T : TS) (n : Nat) : PR OF := pOff (tsT T) n (n + 1) 0 of0 0
theorem pCl_n {t : Nat → Nat} {n a m : Nat} {S : OF} (h : idx (wd t n (sk t n a)) ofW 0 = none) : pClause t n a m S = .inl (1, sk t n a) := by
  unfold pClause
  rw [h]
theorem pCl_3 {t : Nat → Nat} {n a m k : Nat} {S : OF} (h : idx (wd t n (sk t n a)) ofW 0 = some k) (h3 : full k m S) : pClause t n a m S = .inl (3, sk t n a) := by
  unfold pClause
  rw [h]
  exact if_pos h3
theorem pCl_4 {t : Nat → Nat} {n a m k : Nat} {S : OF} (h : idx (wd t n (sk t n a)) ofW 0 = some k) (h3 : ¬ full k m S) (h4 : k = 0 ∧ 0 < m) : pClause t n a m S = .inl (4, sk t n a) := by
  unfold pClause
  rw [h]
  exact (if_neg h3).trans (if_pos h4)
theorem pCl_k {t : Nat → Nat} {n a m k : Nat} {S : OF} (h : idx (wd t n (sk t n a)) ofW 0 = some k) (h3 : ¬ full k m S) (h4 : ¬ (k = 0 ∧ 0 < m)) : pClause t n a m S = bnd (pArg t n k S (sk t n a + (wd t n (sk t n a)).length)) (pEnd t n) := by
  unfold pClause
  rw [h]
  exact (if_neg h3).trans (if_neg h4)
theorem pOff_e {t : Nat → Nat} {n f m a : Nat} {S : OF} (h : ¬ sk t n a < n) : pOff t n (f + 1) m S a = .inr (S, sk t n a) := by rw [pOff, if_neg h]
theorem pOff_s {t : Nat → Nat} {n f m a : Nat} {S : OF} (h : sk t n a < n) : pOff t n (f + 1) m S a = bnd (pClause t n a m S) (fun S' a1 => pOff t n f (m + 1) S' a1) := by rw [pOff, if_pos h]
theorem pEnd_y {t : Nat → Nat} {n a : Nat} {S : OF} (h : sg t n 59 a) : pEnd t n S a = .inr (S, sk t n a + 1) := by
  unfold pEnd
  rw [sgU_y h, bnd_r]
theorem pEnd_n {t : Nat → Nat} {n a : Nat} {S : OF} (h : ¬ sg t n 59 a) : pEnd t n S a = .inl (1, sk t n a) := by
  unfold pEnd
  rw [sgU_n h, bnd_l]
theorem pCost_b {t : Nat → Nat} {n : Nat} : ∀ j i O a, a ≤ n → ∀ O' a', pCost t n j i O a = .inr (O', a') → a ≤ a' ∧ a' ≤ n ∧ (∀ x, (x < i ∨ i + j ≤ x) → O' x = O x) ∧ ∀ x, i ≤ x → x < i + j → O' x ≤ 99
  | 0, i, O, a, h, O', a', e => by
    cases e
    exact ⟨Nat.le_refl _, h, fun x _ => rfl, fun x h1 h2 => by omega⟩
  | j + 1, i, O, a, h, O', a', e => by
    obtain ⟨v, a1, h1, h2⟩ := bnd_ok e
    have g := nm_gd h h1
    have s := sk_b (t := t) h
    obtain ⟨r1, r2, r3, r4⟩ := pCost_b j (i + 1) _ a1 g.2.1 _ _ h2
    refine ⟨by omega, r2, fun x hx => ?_, fun x h3 h4 => ?_⟩
    · rw [r3 x (by omega)]
      exact if_neg (by omega)
    · by_cases z : x = i
      · rw [r3 x (by omega), z]
        show (if i = i then v else O i) ≤ 99
        rw [if_pos rfl]
        have := g.2.2.2
        omega
      · exact r4 x (by omega) (by omega)
/-- an office that may be -/
def ofOK (m : Nat) (S : OF) : Prop := offOK S.1 ∧ S.2.1 ≤ 6 ∧ clOK S.2.2 ∧ (m = 0 → S.1 1 = 0 ∧ S.1 2 = 0)
theorem of0_ok : ofOK 0 of0 := by
  refine ⟨⟨by decide, by decide, by decide, by decide, by decide, by decide, by decide, fun i h1 h2 => ?_⟩, by decide, ⟨by decide, fun i hi => absurd hi (Nat.not_lt_zero i)⟩, fun _ => ⟨rfl, rfl⟩⟩
  show o0 i ≤ 99
  match i, h1, h2 with
  | 7, _, _ => decide
  | 8, _, _ => decide
  | 9, _, _ => decide
  | 10, _, _ => decide
  | 11, _, _ => decide
theorem oU_at {O : Nat → Nat} {i v : Nat} : oU O i v i = v := if_pos rfl
theorem oU_ne {O : Nat → Nat} {i j v : Nat} (h : j ≠ i) : oU O i v j = O j := if_neg h
theorem pArg_ok {t : Nat → Nat} {n k m a a' : Nat} {S S' : OF} (ha : a ≤ n) (hk : k < 9) (hS : ofOK m S) (h3 : ¬ full k m S) (h4 : ¬ (k = 0 ∧ 0 < m)) (e : pArg t n k S a = .inr (S', a')) : a ≤ a' ∧ a' ≤ n ∧ ofOK (m + 1) S' := by
  obtain ⟨⟨o1, o2, o3, o4, o5, o6, o7, o8⟩, hP, hC, hm⟩ := hS
  have s := sk_b (t := t) ha
  have one : ∀ lo hi i, (∀ v, lo ≤ v → v < hi → offOK (oU S.1 i v)) → bnd (nm t n lo hi a) (fun v a1 => (.inr ((oU S.1 i v, S.2), a1) : PR OF)) = .inr (S', a') → a ≤ a' ∧ a' ≤ n ∧ ofOK (m + 1) S' := by
    intro lo hi i f h
    obtain ⟨v, a1, h1, h2⟩ := bnd_ok h
    cases h2
    have g := nm_gd ha h1
    exact ⟨by omega, g.2.1, f v g.2.2.1 g.2.2.2, hP, hC, fun q => absurd q (by omega)⟩
  have o9 : ∀ i v, i < 7 → ∀ x, 7 ≤ x → x < 12 → oU S.1 i v x ≤ 99 := fun i v hi x h1 h2 => by
    rw [oU_ne (by omega)]
    exact o8 x h1 h2
  have ne : ∀ {i j v : Nat}, j ≠ i → oU S.1 i v j = S.1 j := fun h => oU_ne h
  match k, hk, e with
  | 0, _, e =>
    have z := hm (by omega)
    refine one 1 13 0 (fun v h1 h2 => ⟨?_, ?_, ?_, ?_, ?_, ?_, ?_, o9 0 v (by decide)⟩) e
    · rw [oU_at]
      omega
    · rw [oU_at]
      omega
    · rw [oU_at, ne (by decide), ne (by decide)]
      omega
    · rw [ne (by decide)]
      exact o4
    · rw [ne (by decide)]
      exact o5
    · rw [ne (by decide)]
      exact o6
    · rw [ne (by decide)]
      exact o7
  | 1, _, e =>
    cases e
    have : ¬ S.2.1 = 6 := fun w => h3 (Or.inr (Or.inl ⟨rfl, w⟩))
    exact ⟨Nat.le_refl _, ha, ⟨o1, o2, o3, o4, o5, o6, o7, o8⟩, by show S.2.1 + 1 ≤ 6; omega, hC, fun q => absurd q (by omega)⟩
  | 2, _, e =>
    obtain ⟨p, a1, h1, h2⟩ := bnd_ok e
    obtain ⟨mi, a2, h5, h6⟩ := bnd_ok h2
    cases h6
    have g1 := nm_gd ha h1
    have g2 := nm_gd g1.2.1 h5
    have s1 := sk_b (t := t) g1.2.1
    have : ¬ S.2.2.1 = 24 := fun w => h3 (Or.inr (Or.inr ⟨rfl, w⟩))
    exact ⟨by omega, g2.2.1, ⟨o1, o2, o3, o4, o5, o6, o7, o8⟩, hP, cmC_ok hC (by have := hC.1; omega) ⟨p, by have := g1.2.2.2; omega, rfl⟩, fun q => absurd q (by omega)⟩
  | 3, _, e =>
    obtain ⟨c, a1, h1, h2⟩ := bnd_ok e
    obtain ⟨d, a2, h5, h6⟩ := bnd_ok h2
    cases h6
    have g1 := nm_gd ha h1
    have g2 := nm_gd g1.2.1 h5
    have s1 := sk_b (t := t) g1.2.1
    have v : ∀ j, j ≠ 1 → j ≠ 2 → oU (oU S.1 1 c) 2 d j = S.1 j := fun j z1 z2 => by rw [oU_ne z2, oU_ne z1]
    have v1 : oU (oU S.1 1 c) 2 d 1 = c := by rw [oU_ne (by decide), oU_at]
    have v2 : oU (oU S.1 1 c) 2 d 2 = d := oU_at
    have key : offOK (oU (oU S.1 1 c) 2 d) := by
      refine ⟨?_, ?_, ?_, ?_, ?_, ?_, ?_, fun x z1 z2 => ?_⟩
      · rw [v 0 (by decide) (by decide)]
        exact o1
      · rw [v 0 (by decide) (by decide)]
        exact o2
      · rw [v 0 (by decide) (by decide), v1, v2]
        have := g1.2.2.2
        have := g2.2.2.2
        omega
      · rw [v 3 (by decide) (by decide)]
        exact o4
      · rw [v 4 (by decide) (by decide)]
        exact o5
      · rw [v 5 (by decide) (by decide)]
        exact o6
      · rw [v 6 (by decide) (by decide)]
        exact o7
      · rw [v x (by omega) (by omega)]
        exact o8 x z1 z2
    exact ⟨by omega, g2.2.1, key, hP, hC, fun q => absurd q (by omega)⟩
  | 4, _, e =>
    refine one 0 2 3 (fun v h1 h2 => ⟨?_, ?_, ?_, ?_, ?_, ?_, ?_, o9 3 v (by decide)⟩) e
    · rw [ne (by decide)]
      exact o1
    · rw [ne (by decide)]
      exact o2
    · rw [ne (by decide), ne (by decide), ne (by decide)]
      exact o3
    · rw [oU_at]
      omega
    · rw [ne (by decide)]
      exact o5
    · rw [ne (by decide)]
      exact o6
    · rw [ne (by decide)]
      exact o7
  | 5, _, e =>
    refine one 0 17 4 (fun v h1 h2 => ⟨?_, ?_, ?_, ?_, ?_, ?_, ?_, o9 4 v (by decide)⟩) e
    · rw [ne (by decide)]
      exact o1
    · rw [ne (by decide)]
      exact o2
    · rw [ne (by decide), ne (by decide), ne (by decide)]
      exact o3
    · rw [ne (by decide)]
      exact o4
    · rw [oU_at]
      omega
    · rw [ne (by decide)]
      exact o6
    · rw [ne (by decide)]
      exact o7
  | 6, _, e =>
    refine one 1 100 5 (fun v h1 h2 => ⟨?_, ?_, ?_, ?_, ?_, ?_, ?_, o9 5 v (by decide)⟩) e
    · rw [ne (by decide)]
      exact o1
    · rw [ne (by decide)]
      exact o2
    · rw [ne (by decide), ne (by decide), ne (by decide)]
      exact o3
    · rw [ne (by decide)]
      exact o4
    · rw [ne (by decide)]
      exact o5
    · rw [oU_at]
      omega
    · rw [ne (by decide)]
      exact o7
  | 7, _, e =>
    refine one 0 17 6 (fun v h1 h2 => ⟨?_, ?_, ?_, ?_, ?_, ?_, ?_, o9 6 v (by decide)⟩) e
    · rw [ne (by decide)]
      exact o1
    · rw [ne (by decide)]
      exact o2
    · rw [ne (by decide), ne (by decide), ne (by decide)]
      exact o3
    · rw [ne (by decide)]
      exact o4
    · rw [ne (by decide)]
      exact o5
    · rw [ne (by decide)]
      exact o6
    · rw [oU_at]
      omega
  | 8, _, e =>
    obtain ⟨O, a1, h1, h2⟩ := bnd_ok e
    cases h2
    obtain ⟨r1, r2, r3, r4⟩ := pCost_b 5 7 _ a ha _ _ h1
    refine ⟨r1, r2, ⟨?_, ?_, ?_, ?_, ?_, ?_, ?_, fun x z1 z2 => r4 x z1 z2⟩, hP, hC, fun q => absurd q (by omega)⟩
    · show O 0 ≤ 12
      rw [r3 0 (by omega)]
      exact o1
    · show 1 ≤ O 0
      rw [r3 0 (by omega)]
      exact o2
    · show O 1 + O 2 ≤ O 0
      rw [r3 0 (by omega), r3 1 (by omega), r3 2 (by omega)]
      exact o3
    · show O 3 < 2
      rw [r3 3 (by omega)]
      exact o4
    · show O 4 ≤ 16
      rw [r3 4 (by omega)]
      exact o5
    · show O 5 ≤ 99
      rw [r3 5 (by omega)]
      exact o6
    · show O 6 ≤ 16
      rw [r3 6 (by omega)]
      exact o7
theorem pClause_ok {t : Nat → Nat} {n m a a' : Nat} {S S' : OF} (ha : a ≤ n) (hS : ofOK m S) (e : pClause t n a m S = .inr (S', a')) : a + 1 ≤ a' ∧ a' ≤ n ∧ ofOK (m + 1) S' := by
  have s := sk_b (t := t) ha
  cases hi : idx (wd t n (sk t n a)) ofW 0 with
  | none =>
    rw [pCl_n hi] at e
    cases e
  | some k =>
    have hk : k < 9 := (idx_lt hi).1
    have lp := idx_pos ofW_pos hi
    have hl := wd_le (t := t) s.2.1
    by_cases h3 : full k m S
    · rw [pCl_3 hi h3] at e
      cases e
    · by_cases h4 : k = 0 ∧ 0 < m
      · rw [pCl_4 hi h3 h4] at e
        cases e
      · rw [pCl_k hi h3 h4] at e
        obtain ⟨S2, a1, h1, h2⟩ := bnd_ok e
        have g := pArg_ok hl hk hS h3 h4 h1
        have s1 := sk_b (t := t) g.2.1
        by_cases hs : sg t n 59 a1
        · rw [pEnd_y hs] at h2
          cases h2
          have := hs.1
          exact ⟨by omega, by omega, g.2.2⟩
        · rw [pEnd_n hs] at h2
          cases h2
theorem pOff_ok {t : Nat → Nat} {n : Nat} : ∀ (f m : Nat) (S : OF) (a : Nat), a ≤ n → ofOK m S → ∀ S' a', pOff t n f m S a = .inr (S', a') → a ≤ a' ∧ a' ≤ n ∧ ∃ m', ofOK m' S' := by
  intro f
  induction f with
  | zero =>
    intro m S a ha hS S' a' h
    cases h
    exact ⟨Nat.le_refl _, ha, m, hS⟩
  | succ f ih =>
    intro m S a ha hS S' a' h
    have s := sk_b (t := t) ha
    by_cases q : sk t n a < n
    · rw [pOff_s q] at h
      obtain ⟨S2, a1, h1, h2⟩ := bnd_ok h
      have g := pClause_ok ha hS h1
      have r := ih _ _ a1 g.2.1 g.2.2 _ _ h2
      exact ⟨by omega, r.2⟩
    · rw [pOff_e q] at h
      cases h
      exact ⟨s.1, s.2.1, m, hS⟩
