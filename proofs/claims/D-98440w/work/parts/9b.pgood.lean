/-! Part B: the parse goes on, and what it may cost -/
/-- from a on; a tests' (tf) or a sum's codes, not more than bytes read -/
def Gd (n : Nat) (tf : Bool) (v : Nat → PR CS) : Prop := ∀ a, a ≤ n → ∀ c a2, v a = .inr (c, a2) → a + c.length ≤ a2 ∧ a2 ≤ n ∧ WT c.length tf c
def Go (n : Nat) (tf : Bool) (op : Nat → Option (Nat × Nat)) : Prop := ∀ a, a ≤ n → ∀ x a1, op a = some (x, a1) → a + 1 ≤ a1 ∧ a1 ≤ n ∧ (((x = 2 ∨ x = 3 ∨ x = 4) ∧ tf = false) ∨ ((x = 9 ∨ x = 10) ∧ tf = true))
theorem bnd_ok {α β : Type} {x : PR α} {f : α → Nat → PR β} {r : β × Nat} (h : bnd x f = .inr r) : ∃ v a, x = .inr (v, a) ∧ f v a = .inr r := by
  cases x with
  | inl e => simp [bnd] at h
  | inr p =>
    obtain ⟨v, a⟩ := p
    exact ⟨v, a, rfl, h⟩
theorem WT.mono : ∀ {d e : Nat} {t : Bool} {cs : CS}, WT d t cs → d ≤ e → WT e t cs
  | 0, _, _, _, h, _ => h.elim
  | d + 1, 0, _, _, _, hl => absurd hl (by omega)
  | d + 1, e + 1, t, cs, h, hl => by
    rcases h with h | h | ⟨h0, c1, h1, h2⟩ | ⟨w, c1, c2, h0, h⟩
    · exact Or.inl h
    · exact Or.inr (Or.inl h)
    · exact Or.inr (Or.inr (Or.inl ⟨h0, c1, h1.mono (by omega), h2⟩))
    · refine Or.inr (Or.inr (Or.inr ⟨w, c1, c2, h0, ?_⟩))
      rcases h with ⟨q1, q2, q3, q4⟩ | ⟨q1, q2, q3, q4⟩ | ⟨q1, q2, q3, q4⟩
      · exact Or.inl ⟨q1, q2, q3.mono (by omega), q4.mono (by omega)⟩
      · exact Or.inr (Or.inl ⟨q1, q2, q3.mono (by omega), q4.mono (by omega)⟩)
      · exact Or.inr (Or.inr ⟨q1, q2, q3.mono (by omega), q4.mono (by omega)⟩)
theorem WT.two {tf t2 : Bool} {c1 c2 : CS} {x : Nat} (h1 : WT c1.length tf c1) (h2 : WT c2.length tf c2) (hx : ((x = 2 ∨ x = 3 ∨ x = 4) ∧ tf = false ∧ t2 = false) ∨ ((x = 5 ∨ x = 6 ∨ x = 7) ∧ tf = false ∧ t2 = true) ∨ ((x = 9 ∨ x = 10) ∧ tf = true ∧ t2 = true)) : WT (c1 ++ c2 ++ [(x, 0)]).length t2 (c1 ++ c2 ++ [(x, 0)]) := by
  have e : (c1 ++ c2 ++ [(x, (0 : Int32))]).length = c1.length + c2.length + 1 := by
    rw [List.length_append, List.length_append]
    rfl
  rw [e]
  refine Or.inr (Or.inr (Or.inr ⟨x, c1, c2, rfl, ?_⟩))
  rcases hx with ⟨q, rfl, rfl⟩ | ⟨q, rfl, rfl⟩ | ⟨q, rfl, rfl⟩
  · exact Or.inl ⟨q, rfl, h1.mono (by omega), h2.mono (by omega)⟩
  · exact Or.inr (Or.inl ⟨q, rfl, h1.mono (by omega), h2.mono (by omega)⟩)
  · exact Or.inr (Or.inr ⟨q, rfl, h1.mono (by omega), h2.mono (by omega)⟩)
theorem lpS_0 {t : Nat → Nat} {n a : Nat} {v : Nat → PR CS} {op : Nat → Option (Nat × Nat)} {c : CS} : lpS t n v op 0 c a = .inr (c, a) := rfl
theorem lpS_n {t : Nat → Nat} {n f a : Nat} {v : Nat → PR CS} {op : Nat → Option (Nat × Nat)} {c : CS} (h : op a = none) : lpS t n v op (f + 1) c a = .inr (c, sk t n a) := by rw [lpS, h]
theorem lpS_s {t : Nat → Nat} {n f a x a1 : Nat} {v : Nat → PR CS} {op : Nat → Option (Nat × Nat)} {c : CS} (h : op a = some (x, a1)) : lpS t n v op (f + 1) c a = bnd (v a1) (fun c2 a2 => lpS t n v op f (c ++ c2 ++ [(x, 0)]) a2) := by rw [lpS, h]
theorem lpS_gd {t : Nat → Nat} {n : Nat} {tf : Bool} {v : Nat → PR CS} {op : Nat → Option (Nat × Nat)} (hv : Gd n tf v) (ho : Go n tf op) : ∀ (f : Nat) (c : CS) (a : Nat), a ≤ n → WT c.length tf c → ∀ c' a', lpS t n v op f c a = .inr (c', a') → a + c'.length ≤ a' + c.length ∧ a' ≤ n ∧ c.length ≤ c'.length ∧ WT c'.length tf c' := by
  intro f
  induction f with
  | zero =>
    intro c a ha hw c' a' h
    rw [lpS_0] at h
    cases h
    exact ⟨Nat.le_refl _, ha, Nat.le_refl _, hw⟩
  | succ f ih =>
    intro c a ha hw c' a' h
    cases ho9 : op a with
    | none =>
      rw [lpS_n ho9] at h
      cases h
      have := sk_b (t := t) ha
      exact ⟨by omega, this.2.1, Nat.le_refl _, hw⟩
    | some y =>
      obtain ⟨x, a1⟩ := y
      rw [lpS_s ho9] at h
      obtain ⟨c2, a2, h1, h2⟩ := bnd_ok h
      obtain ⟨o1, o2, o3⟩ := ho a ha x a1 ho9
      obtain ⟨v1, v2, v3⟩ := hv a1 o2 c2 a2 h1
      obtain ⟨r1, r2, r3, r4⟩ := ih _ a2 v2 (WT.two (t2 := tf) hw v3 (by
        rcases o3 with ⟨z, z1⟩ | ⟨z, z1⟩
        · exact Or.inl ⟨z, z1, z1⟩
        · exact Or.inr (Or.inr ⟨z, z1, z1⟩))) c' a' h2
      simp only [List.length_append, List.length_cons, List.length_nil] at r1 r3
      exact ⟨by omega, r2, by omega, r4⟩
theorem loop_gd {t : Nat → Nat} {n : Nat} {tf : Bool} {v : Nat → PR CS} {op : Nat → Option (Nat × Nat)} (hv : Gd n tf v) (ho : Go n tf op) : Gd n tf (fun a => bnd (v a) (lpS t n v op (n + 1))) := by
  intro a ha c a2 h
  obtain ⟨c1, a1, h1, h2⟩ := bnd_ok h
  obtain ⟨v1, v2, v3⟩ := hv a ha c1 a1 h1
  obtain ⟨r1, r2, r3, r4⟩ := lpS_gd hv ho _ c1 a1 v2 v3 c a2 h2
  exact ⟨by omega, r2, r4⟩
theorem opM_go {t : Nat → Nat} {n : Nat} : Go n false (opM t n) := by
  intro a ha x a1 h
  unfold opM at h
  have := sk_b (t := t) ha
  split at h
  · rename_i q
    cases h
    have := q.1
    exact ⟨by omega, by omega, Or.inl ⟨Or.inr (Or.inr rfl), rfl⟩⟩
  · cases h
theorem opP_go {t : Nat → Nat} {n : Nat} : Go n false (opP t n) := by
  intro a ha x a1 h
  unfold opP at h
  have := sk_b (t := t) ha
  split at h
  · rename_i q
    cases h
    have := q.1
    exact ⟨by omega, by omega, Or.inl ⟨Or.inl rfl, rfl⟩⟩
  · split at h
    · rename_i q
      cases h
      have := q.1
      exact ⟨by omega, by omega, Or.inl ⟨Or.inr (Or.inl rfl), rfl⟩⟩
    · cases h
theorem wd_le {t : Nat → Nat} {n a : Nat} (h : a ≤ n) : a + (wd t n a).length ≤ n := by
  obtain ⟨w1, -⟩ := wd_at (t := t) (n := n) (a := a)
  cases e : (wd t n a).length with
  | zero => exact h
  | succ m =>
    have := (w1 m (by omega)).1
    omega
theorem opW_go {t : Nat → Nat} {n : Nat} {w : List Nat} {x : Nat} (hw : 0 < w.length) (hx : x = 9 ∨ x = 10) : Go n true (opW t n w x) := by
  intro a ha y a1 h
  unfold opW at h
  have := sk_b (t := t) ha
  split at h
  · rename_i q
    cases h
    have r := wd_le (t := t) this.2.1
    rw [q] at r
    exact ⟨by omega, r, Or.inr ⟨hx, rfl⟩⟩
  · cases h
theorem dgF_b {t : Nat → Nat} {n : Nat} : ∀ f v a, a ≤ n → a ≤ (dgF t n f v a).2 ∧ (dgF t n f v a).2 ≤ n
  | 0, v, a, h => ⟨Nat.le_refl _, h⟩
  | f + 1, v, a, h => by
    by_cases q : a < n ∧ digit (t a)
    · rw [dgF_s q]
      have := dgF_b (t := t) (n := n) f (10 * v + (t a - 48)) (a + 1) q.1
      exact ⟨by omega, this.2⟩
    · rw [dgF_e q]
      exact ⟨Nat.le_refl _, h⟩
theorem nm_gd {t : Nat → Nat} {n lo hi a v a1 : Nat} (ha : a ≤ n) (h : nm t n lo hi a = .inr (v, a1)) : sk t n a + 1 ≤ a1 ∧ a1 ≤ n ∧ lo ≤ v ∧ v < hi := by
  unfold nm at h
  have hs := sk_b (t := t) ha
  split at h
  · rename_i q
    split at h
    · rename_i r
      have e := Sum.inr.inj h
      rw [e] at r
      obtain ⟨f, hf⟩ : ∃ f, n - sk t n a = f + 1 := ⟨n - sk t n a - 1, by have := q.1; omega⟩
      rw [hf, dgF_s q] at e
      have b := dgF_b (t := t) (n := n) f (10 * 0 + (t (sk t n a) - 48)) (sk t n a + 1) q.1
      rw [e] at b
      exact ⟨b.1, b.2, r.1, r.2⟩
    · cases h
  · cases h
theorem nm_er {t : Nat → Nat} {n lo hi a w p : Nat} (ha : a ≤ n) (h : nm t n lo hi a = .inl (w, p)) : (w = 1 ∨ w = 2) ∧ p = sk t n a := by
  unfold nm at h
  split at h
  · split at h
    · cases h
    · cases h
      exact ⟨Or.inr rfl, rfl⟩
  · cases h
    exact ⟨Or.inl rfl, rfl⟩
theorem nm_sk {t : Nat → Nat} {n lo hi a : Nat} (ha : a ≤ n) : nm t n lo hi (sk t n a) = nm t n lo hi a := by
  unfold nm
  rw [sk_sk ha]
theorem idx_in {w : List Nat} : ∀ {ws : List (List Nat)} {i k : Nat}, idx w ws i = some k → i ≤ k ∧ ws[k - i]? = some w
  | [], i, k, h => by cases h
  | x :: l, i, k, h => by
    rw [idx] at h
    by_cases q : w = x
    · rw [if_pos q] at h
      cases h
      rw [Nat.sub_self]
      exact ⟨Nat.le_refl _, congrArg some q.symm⟩
    · rw [if_neg q] at h
      have r := idx_in h
      obtain ⟨m, hm⟩ : ∃ m, k - i = m + 1 := ⟨k - i - 1, by omega⟩
      rw [hm]
      refine ⟨by omega, ?_⟩
      rw [show m = k - (i + 1) by omega]
      exact r.2
theorem idx_lt {w : List Nat} {ws : List (List Nat)} {k : Nat} (h : idx w ws 0 = some k) : k < ws.length ∧ ws[k]? = some w := by
  have r := (idx_in h).2
  rw [Nat.sub_zero] at r
  exact ⟨(List.getElem?_eq_some_iff.mp r).1, r⟩
theorem idx_pos {w : List Nat} {ws : List (List Nat)} {k : Nat} (hp : ∀ x, x ∈ ws → 0 < x.length) (h : idx w ws 0 = some k) : 0 < w.length := hp _ (List.mem_of_getElem? (idx_lt h).2)
theorem kwW_pos : ∀ x, x ∈ kwW → 0 < x.length := by decide
theorem acW_pos : ∀ x, x ∈ acW → 0 < x.length := by decide
theorem ofW_pos : ∀ x, x ∈ ofW → 0 < x.length := by decide
theorem leaf_gd {t : Nat → Nat} {n : Nat} : Gd n false (leafV t n) := by
  intro a ha c a2 h
  unfold leafV at h
  have hs := sk_b (t := t) ha
  split at h
  · rename_i k hk
    cases h
    have r := wd_le (t := t) hs.2.1
    have p := idx_pos kwW_pos hk
    exact ⟨by show a + 1 ≤ _; omega, r, Or.inr (Or.inl ⟨rfl, k, (idx_lt hk).1, rfl⟩)⟩
  · obtain ⟨v, a1, h1, h2⟩ := bnd_ok h
    cases h2
    have r := nm_gd ha h1
    exact ⟨by show a + 1 ≤ _; omega, r.2.1, Or.inl ⟨rfl, _, rfl⟩⟩
theorem prod_gd {t : Nat → Nat} {n : Nat} {v : Nat → PR CS} (hv : Gd n false v) : Gd n false (prodOf t n v) := loop_gd hv opM_go
theorem sum_gd {t : Nat → Nat} {n : Nat} {v : Nat → PR CS} (hv : Gd n false v) : Gd n false (sumOf t n v) := loop_gd (prod_gd hv) opP_go
theorem all_gd {t : Nat → Nat} {n : Nat} {v : Nat → PR CS} (hv : Gd n true v) : Gd n true (allOf t n v) := loop_gd hv (opW_go (by decide) (Or.inl rfl))
theorem any_gd {t : Nat → Nat} {n : Nat} {v : Nat → PR CS} (hv : Gd n true v) : Gd n true (anyOf t n v) := loop_gd (all_gd hv) (opW_go (by decide) (Or.inr rfl))
theorem sgU_gd {t : Nat → Nat} {n c a a2 : Nat} {u : Unit} (h : sgU t n c a = .inr (u, a2)) : sg t n c a ∧ a2 = sk t n a + 1 ∧ a2 ≤ n := by
  unfold sgU at h
  split at h
  · rename_i q
    cases h
    exact ⟨q, rfl, q.1⟩
  · cases h
theorem val_gd {t : Nat → Nat} {n : Nat} : ∀ d, Gd n false (pVal t n d)
  | 0 => by
    intro a ha c a2 h
    rw [pVal] at h
    split at h
    · cases h
    · exact leaf_gd a ha c a2 h
  | d + 1 => by
    intro a ha c a2 h
    rw [pVal] at h
    have hs := sk_b (t := t) ha
    split at h
    · rename_i q
      obtain ⟨c1, a1, h1, h2⟩ := bnd_ok h
      obtain ⟨u, a3, h3, h4⟩ := bnd_ok h2
      cases h4
      obtain ⟨r1, r2, r3⟩ := sum_gd (val_gd d) _ q.1 _ _ h1
      have z := sgU_gd h3
      have y := sk_b (t := t) r2
      exact ⟨by omega, z.2.2, r3⟩
    · exact leaf_gd a ha c a2 h
theorem cmp_gd {t : Nat → Nat} {n d : Nat} : Gd n true (cmpV t n d) := by
  intro a ha c a2 h
  unfold cmpV at h
  obtain ⟨c1, a1, h1, h2⟩ := bnd_ok h
  obtain ⟨r1, r2, r3⟩ := sum_gd (val_gd d) _ ha c1 a1 h1
  have y := sk_b (t := t) r2
  split at h2
  · rename_i q
    have ql : sk t n a1 < n := by rcases q with q | q | q <;> exact q.1
    obtain ⟨c2, a3, h3, h4⟩ := bnd_ok h2
    cases h4
    obtain ⟨s1, s2, s3⟩ := sum_gd (val_gd d) _ ql c2 a2 h3
    refine ⟨?_, s2, WT.two (t2 := true) r3 s3 (Or.inr (Or.inl ⟨?_, rfl, rfl⟩))⟩
    · simp only [List.length_append, List.length_cons, List.length_nil]
      omega
    · split
      · exact Or.inl rfl
      · split
        · exact Or.inr (Or.inl rfl)
        · exact Or.inr (Or.inr rfl)
  · cases h2
theorem one_gd {t : Nat → Nat} {n : Nat} : ∀ d, Gd n true (pOne t n d)
  | 0 => by
    intro a ha c a2 h
    rw [pOne] at h
    split at h
    · cases h
    · exact cmp_gd a ha c a2 h
  | d + 1 => by
    intro a ha c a2 h
    rw [pOne] at h
    have hs := sk_b (t := t) ha
    split at h
    · rename_i q
      have hl := wd_le (t := t) hs.2.1
      rw [q] at hl
      have hl3 : sk t n a + 3 ≤ n := hl
      obtain ⟨c1, a1, h1, h2⟩ := bnd_ok h
      cases h2
      obtain ⟨r1, r2, r3⟩ := one_gd d _ hl3 c1 a2 h1
      have e : (c1 ++ [(8, (0 : Int32))]).length = c1.length + 1 := by simp
      rw [e]
      exact ⟨by omega, r2, Or.inr (Or.inr (Or.inl ⟨rfl, c1, r3, rfl⟩))⟩
    · split at h
      · rename_i q
        obtain ⟨c1, a1, h1, h2⟩ := bnd_ok h
        obtain ⟨u, a3, h3, h4⟩ := bnd_ok h2
        cases h4
        obtain ⟨r1, r2, r3⟩ := any_gd (one_gd d) _ q.1 _ _ h1
        have z := sgU_gd h3
        have y := sk_b (t := t) r2
        exact ⟨by omega, z.2.2, r3⟩
      · exact cmp_gd a ha c a2 h
theorem pAny_gd {t : Nat → Nat} {n : Nat} : Gd n true (pAny t n) := any_gd (one_gd 6)
/-- what it may cost -/
def bud {α : Type} (n a : Nat) (x : PR α) : Nat := match x with
  | .inr (_, a2) => a2 - a
  | .inl _ => n - a + 2
theorem bud_r {α : Type} {n a a2 : Nat} {v : α} : bud n a (.inr (v, a2)) = a2 - a := rfl
theorem bud_l {α : Type} {n a : Nat} {e : Nat × Nat} : bud (α := α) n a (.inl e) = n - a + 2 := rfl
