/-! Part B: the reference's reader of an office: words, rows -/
theorem w_putsN {G : GC} {ad : Nat → Nat} {o : Nat} {F : Nat → Int32} {L : Nat → Int64} {I : Nat → Nat → Int32} {J : Nat → Nat → Int64} {Q : MPost} {n : Nat} {p m : Int32} (hn : n < 24) (k : ∀ I', (∀ a, a ≠ 12 → a ≠ 13 → I' a = I a) → I' 12 = (co p m n (I 12) (I 13)).1 → I' 13 = (co p m n (I 12) (I 13)).2.1 → Q (some (.int (nI (co p m n (I 12) (I 13)).2.2))) F L I' J) : CallM G mX9_puts 3 ad o [.ref o, .ref (ad 12), .ref (ad 13), .int (nI n), .int p, .int m] F L I J Q := by
  have hk1 : (12 : Nat) < 65 ∧ mKind 12 = 2 := by decide
  have hk2 : (13 : Nat) < 65 ∧ mKind 13 = 2 := by decide
  have l1 : mLen 12 = 24 := by decide
  have l2 : mLen 13 = 24 := by decide
  refine eX9_puts (fun σ0 => bX9_puts_0 hk1 hk2 ?_)
  have up12 : ∀ (I' : Nat → Nat → Int32) i v, aU I' 12 i v 12 = upd (I' 12) i v := fun I' i v => rfl
  have up13 : ∀ (I' : Nat → Nat → Int32) i v, aU I' 13 i v 13 = upd (I' 13) i v := fun I' i v => rfl
  have Lp : ∀ i, i ≤ n → ∀ I', (∀ a, a ≠ 12 → a ≠ 13 → I' a = I a) → co p m i (I' 12) (I' 13) = co p m n (I 12) (I 13) → AtM G mX9_puts 3 ad o σ0 Q 3 [(1, .ref (ad 12)), (2, .ref (ad 13)), (4, .int p), (5, .int m), (6, .int (nI i))] [] F L I' J := by
    intro i
    induction i with
    | zero =>
      intro hi I' h1 h2
      refine bX9_puts_3 hk1 hk2 ⟨fun _ => ?_, fun z => absurd (by decide) z⟩
      rw [l1, l2]
      refine ⟨vp_in_nI (by decide) (by decide), fun I1 e1 => ⟨vp_in_nI (by decide) (by decide), fun I2 e2 => ?_⟩⟩
      rw [nI_clamp (by decide)] at e1 e2
      subst e1
      subst e2
      have kk := k (aU (aU I' 12 0 p) 13 0 m) (fun a h4 h5 => (gU_ne h5).trans ((gU_ne h4).trans (h1 a h4 h5)))
      rw [← h2] at kk
      exact kk rfl rfl
    | succ i ih =>
      intro hi I' h1 h2
      have p1 := vp_in_nI (show i < 24 by omega) (by decide)
      have p2 := vp_in_nI (show i + 1 < 24 by omega) (by decide)
      have c1 := nI_clamp (show i < 2 ^ 31 by omega)
      have c2 := nI_clamp (show i + 1 < 2 ^ 31 by omega)
      rw [co] at h2
      refine bX9_puts_3 hk1 hk2 ⟨fun z => absurd z (nI_nle (by omega) (by omega)), fun _ => ?_⟩
      rw [nI_pred, pk_m1, c1, c2, l1, l2]
      refine ⟨p1, fun z => ⟨p2, fun I1 e1 => ⟨p2, fun I2 e2 => ?_⟩⟩, fun z => ⟨p1, p2, fun I1 e1 => ⟨p1, p2, fun I2 e2 v6 e6 => ?_⟩⟩⟩
      · rw [if_pos z] at h2
        subst e1
        subst e2
        have kk := k (aU (aU I' 12 (i + 1) p) 13 (i + 1) m) (fun a h4 h5 => (gU_ne h5).trans ((gU_ne h4).trans (h1 a h4 h5)))
        rw [← h2] at kk
        exact kk rfl rfl
      · rw [if_neg z] at h2
        subst e1
        subst e2
        rw [e6]
        exact ih (by omega) _ (fun a h4 h5 => (gU_ne h5).trans ((gU_ne h4).trans (h1 a h4 h5))) h2
  exact Lp n (Nat.le_refl _) I (fun _ _ _ => rfl) rfl
theorem wd_of {t : Nat → Nat} {n s : Nat} {w : List Nat} (h : ∀ j, j < w.length → s + j < n ∧ w[j]? = some (t (s + j))) (hs : ∀ x, x ∈ w → small x) (he : ¬ (s + w.length < n ∧ small (t (s + w.length)))) : wd t n s = w := by
  obtain ⟨w1, w2⟩ := wd_at (t := t) (n := n) (a := s)
  have hl : (wd t n s).length = w.length := by
    by_cases c1 : (wd t n s).length < w.length
    · have g := h _ c1
      exact absurd ⟨g.1, hs _ (List.mem_of_getElem? g.2)⟩ w2
    · by_cases c2 : w.length < (wd t n s).length
      · have g := w1 _ c2
        exact absurd ⟨g.1, g.2.1⟩ he
      · omega
  exact wd_is.mpr ⟨hl, fun j hj => (h j hj).2⟩
theorem w_stands {G : GC} {ad : Nat → Nat} {o : Nat} {F : Nat → Int32} {L : Nat → Int64} {I : Nat → Nat → Int32} {J : Nat → Nat → Int64} {Q : MPost} {t : Nat → Nat} {n a i : Nat} {q : String × Nat × String × List Int32} {w : List Nat} (h : RS F I t n a none) (hi : strTab[i]? = some q) (hw : q.2.2.2 = w.map nI) (hs : ∀ x, x ∈ w → small x) (hl : w.length ≤ 20) (k1 : wd t n (sk t n a) = w → ∀ F', RS F' I t n (sk t n a) none → F4 F F' → Q (some (.int 1)) F' L I J) (k0 : ¬ wd t n (sk t n a) = w → ∀ F', RS F' I t n (sk t n a) none → F4 F F' → Q (some (.int 0)) F' L I J) : CallM G mX9_standsHere 7 ad o [.ref o, .ref (gk G i)] F L I J Q := by
  have ql : q.2.2.2.length = w.length := by rw [hw, List.length_map]
  refine eX9_standsHere (fun σ0 => bX9_standsHere_0 (w_here h (fun F' hR hF => ⟨_, rfl, ?_⟩)))
  have y1 := fun z => k1 z F' hR hF
  have y0 := fun z => k0 z F' hR hF
  have n6 := hR.2.2.2.2.2.1
  have hle := hR.2.2.2.2.2.2.2
  clear k1 k0
  revert hR y1 y0 hle
  generalize sk t n a = s
  intro hR y1 y0 hle
  have Lp : ∀ d j, j + d = w.length → (∀ x, x < j → s + x < n ∧ w[x]? = some (t (s + x))) → AtM G mX9_standsHere 7 ad o σ0 Q 7 [(0, .ref o), (1, .ref (gk G i)), (2, .int (nI j))] [] F' L I J := by
    intro d
    induction d with
    | zero =>
      intro j hj hx
      have hj : j = w.length := by omega
      subst hj
      refine bX9_standsHere_7 ⟨i, q, rfl, hi, fun _ => ⟨i, q, rfl, hi, fun x ex => ?_⟩, fun z => absurd (by rw [ql]; exact nI_le (Nat.le_refl _) (by omega)) z⟩
      rw [hR.2.1, ql, nI_add] at ex
      rw [hR.1, ex]
      refine ⟨fun z => ?_, fun z => ⟨i, q, rfl, hi, fun x2 ex2 => ?_⟩⟩
      · have z1 := (nI_leI (by omega) (by omega)).mp z
        exact y1 (wd_of hx hs (fun u => by
          have := u.1
          omega))
      · have z1 : s + w.length < n := Nat.lt_of_not_le (fun u => z (nI_le u (by omega)))
        rw [hR.2.1, ql, nI_add] at ex2
        obtain ⟨v1, v2, v3⟩ := hR.i9 z1
        rw [ex2, v2]
        refine ⟨v1, w_isSmall v3 ⟨_, rfl, fun u => ?_, fun u => ?_⟩⟩
        · exact y0 (fun e => by
            have r := (wd_at (t := t) (n := n) (a := s)).2
            rw [e] at r
            exact r ⟨z1, if_nI1 u⟩)
        · exact y1 (wd_of hx hs (fun v => if_nI u v.2))
    | succ d ih =>
      intro j hj hx
      have hjl : j < w.length := by omega
      have gd : q.2.2.2.getD j 0 = nI w[j] := by
        rw [hw]
        simp [List.getD, hjl]
      have hsm := hs _ (List.getElem_mem hjl)
      have no : (¬ (s + j < n ∧ w[j]? = some (t (s + j)))) → ¬ wd t n s = w := fun u e => by
        have r := (wd_at (t := t) (n := n) (a := s)).1 j (by rw [e]; exact hjl)
        rw [e] at r
        exact u ⟨r.1, r.2.2⟩
      refine bX9_standsHere_7 ⟨i, q, rfl, hi, fun z => absurd z (by rw [ql]; exact nI_ge hjl (by omega)), fun _ => ?_⟩
      rw [hR.1, hR.2.1, nI_add]
      refine ⟨fun z => ?_, fun z => ?_⟩
      · have z1 := (nI_leI (by omega) (by omega)).mp z
        exact y0 (no (fun u => by
          have := u.1
          omega))
      · have z1 : s + j < n := Nat.lt_of_not_le (fun u => z (nI_le u (by omega)))
        obtain ⟨v1, v2, v3⟩ := hR.i9 z1
        rw [v2]
        refine ⟨v1, i, q, j, rfl, hi, rfl, by rw [ql]; exact hjl, ?_⟩
        rw [gd]
        have e9 : nI (t (s + j)) = nI w[j] ↔ t (s + j) = w[j] := nI_eq (by omega) (by have := hsm.2; omega)
        have g9 : w[j]? = some w[j] := List.getElem?_eq_getElem hjl
        refine ⟨fun u v4 e4 => ?_, fun u => y0 (no (fun v => ?_))⟩
        · rw [e4, nI_1]
          refine ih (j + 1) (by omega) (fun x hx2 => ?_)
          by_cases y : x = j
          · subst y
            exact ⟨z1, by rw [g9, e9.mp u]⟩
          · exact hx x (by omega)
        · have v2' := v.2
          rw [g9] at v2'
          exact u (e9.mpr (Option.some.inj v2').symm)
  exact Lp w.length 0 (by omega) (fun x hx => absurd hx (Nat.not_lt_zero x))
/-- what clauseHere tells of a word -/
def cv (k : Nat) : Int32 := if k = 0 then -7 else nI (pkw (ofW.getD k []))
theorem cv_all : ∀ k, k < 9 → ¬ cv k = -1 ∧ (cv k = nI (pkw [112, 101, 114, 115, 111, 110]) ↔ k = 1) ∧ (cv k = nI (pkw [99, 111, 109, 101, 115]) ↔ k = 2) ∧ (cv k = -7 ↔ k = 0) := by decide
theorem w_clauseHere {G : GC} {ad : Nat → Nat} {o : Nat} {F : Nat → Int32} {L : Nat → Int64} {I : Nat → Nat → Int32} {J : Nat → Nat → Int64} {Q : MPost} {t : Nat → Nat} {n a : Nat} (h : RS F I t n a none) (ks : ∀ k, idx (wd t n (sk t n a)) ofW 0 = some k → ∀ F', RS F' I t n (sk t n a) none → F4 F F' → Q (some (.int (cv k))) F' L I J) (kn : idx (wd t n (sk t n a)) ofW 0 = none → ∀ F', RS F' I t n (sk t n a) none → F4 F F' → Q (some (.int (-1))) F' L I J) : CallM G mX9_clauseHere 8 ad o [.ref o] F L I J Q := by
  have ha := h.2.2.2.2.2.2.2
  refine eX9_clauseHere (fun σ0 => bX9_clauseHere_0 (w_stands (i := 33) (w := [109, 97, 99, 104, 105, 110, 101]) h rfl rfl (by decide) (by decide) (fun z F' hR hF => ⟨_, rfl, fun y => absurd y (by decide), fun _ => ks 0 (by rw [z]; rfl) F' hR hF⟩) (fun z F' hR hF => ⟨_, rfl, fun _ => w_word hR (fun F2 hR2 hF2 => ⟨_, rfl, ?_⟩), fun y => absurd rfl y⟩)))
  rw [sk_sk ha] at hR2 ⊢
  have ff := hF.tr hF2
  refine w_of (i := 34) (w := [99, 117, 112, 115]) rfl rfl (by decide) (by decide) ⟨_, rfl, fun y => by
    have e := (wq (t := t) (n := n) (a := sk t n a) (w := [99, 117, 112, 115]) (by decide) (by decide) (by decide)).mp y
    have kk := ks 3 (by rw [e]; rfl) F2 hR2 ff
    refine bX9_clauseHere_89 ?_
    rw [y]
    exact kk, fun y3 => ?_⟩
  refine w_of (i := 35) (w := [99, 97, 114, 100]) rfl rfl (by decide) (by decide) ⟨_, rfl, fun y => by
    have e := (wq (t := t) (n := n) (a := sk t n a) (w := [99, 97, 114, 100]) (by decide) (by decide) (by decide)).mp y
    have kk := ks 4 (by rw [e]; rfl) F2 hR2 ff
    refine bX9_clauseHere_89 ?_
    rw [y]
    exact kk, fun y4 => ?_⟩
  refine w_of (i := 36) (w := [102, 97, 108, 108]) rfl rfl (by decide) (by decide) ⟨_, rfl, fun y => by
    have e := (wq (t := t) (n := n) (a := sk t n a) (w := [102, 97, 108, 108]) (by decide) (by decide) (by decide)).mp y
    have kk := ks 5 (by rw [e]; rfl) F2 hR2 ff
    refine bX9_clauseHere_89 ?_
    rw [y]
    exact kk, fun y5 => ?_⟩
  refine w_of (i := 37) (w := [119, 97, 114, 109]) rfl rfl (by decide) (by decide) ⟨_, rfl, fun y => by
    have e := (wq (t := t) (n := n) (a := sk t n a) (w := [119, 97, 114, 109]) (by decide) (by decide) (by decide)).mp y
    have kk := ks 6 (by rw [e]; rfl) F2 hR2 ff
    refine bX9_clauseHere_89 ?_
    rw [y]
    exact kk, fun y6 => ?_⟩
  refine w_of (i := 38) (w := [115, 101, 101]) rfl rfl (by decide) (by decide) ⟨_, rfl, fun y => by
    have e := (wq (t := t) (n := n) (a := sk t n a) (w := [115, 101, 101]) (by decide) (by decide) (by decide)).mp y
    have kk := ks 7 (by rw [e]; rfl) F2 hR2 ff
    refine bX9_clauseHere_89 ?_
    rw [y]
    exact kk, fun y7 => ?_⟩
  refine w_of (i := 39) (w := [99, 111, 115, 116]) rfl rfl (by decide) (by decide) ⟨_, rfl, fun y => by
    have e := (wq (t := t) (n := n) (a := sk t n a) (w := [99, 111, 115, 116]) (by decide) (by decide) (by decide)).mp y
    have kk := ks 8 (by rw [e]; rfl) F2 hR2 ff
    refine bX9_clauseHere_89 ?_
    rw [y]
    exact kk, fun y8 => ?_⟩
  refine w_of (i := 40) (w := [112, 101, 114, 115, 111, 110]) rfl rfl (by decide) (by decide) ⟨_, rfl, fun y => by
    have e := (wq (t := t) (n := n) (a := sk t n a) (w := [112, 101, 114, 115, 111, 110]) (by decide) (by decide) (by decide)).mp y
    have kk := ks 1 (by rw [e]; rfl) F2 hR2 ff
    refine bX9_clauseHere_89 ?_
    rw [y]
    exact kk, fun y1 => ?_⟩
  refine w_of (i := 41) (w := [99, 111, 109, 101, 115]) rfl rfl (by decide) (by decide) ⟨_, rfl, fun y2 => ?_, fun y => by
    have e := (wq (t := t) (n := n) (a := sk t n a) (w := [99, 111, 109, 101, 115]) (by decide) (by decide) (by decide)).mp y
    have kk := ks 2 (by rw [e]; rfl) F2 hR2 ff
    refine bX9_clauseHere_89 ?_
    rw [y]
    exact kk⟩
  refine kn ?_ F2 hR2 ff
  have no : ∀ w : List Nat, (∀ x, x ∈ w → small x) → 0 < w.length → w.length ≤ 6 → ¬ nI (wv (wd t n (sk t n a))) = nI (pkw w) → ¬ wd t n (sk t n a) = w := fun w a1 a2 a3 a4 e => a4 ((wq a1 a2 a3).mpr e)
  show idx _ [_, _, _, _, _, _, _, _, _] 0 = none
  rw [idx, if_neg z, idx, if_neg (no _ (by decide) (by decide) (by decide) y1), idx, if_neg (no _ (by decide) (by decide) (by decide) y2), idx, if_neg (no _ (by decide) (by decide) (by decide) y3), idx, if_neg (no _ (by decide) (by decide) (by decide) y4), idx, if_neg (no _ (by decide) (by decide) (by decide) y5), idx, if_neg (no _ (by decide) (by decide) (by decide) y6), idx, if_neg (no _ (by decide) (by decide) (by decide) y7), idx, if_neg (no _ (by decide) (by decide) (by decide) y8)]
  rfl
theorem w_clears {G : GC} {ad : Nat → Nat} {o : Nat} {F : Nat → Int32} {L : Nat → Int64} {I : Nat → Nat → Int32} {J : Nat → Nat → Int64} {Q : MPost} (k : ∀ F' I', (∀ j, j ≠ 16 → j ≠ 17 → F' j = F j) → F' 16 = 0 → F' 17 = 0 → (∀ a, a ≠ 10 → I' a = I a) → (∀ i, i < 12 → I' 10 i = nI (o0 i)) → Q none F' L I' J) : CallM G mX9_clears 3 ad o [.ref o] F L I J Q := by
  refine eX9_clears (fun σ0 => bX9_clears_0 (fun F1 e1 F2 e2 I1 i1 I2 i2 I3 i3 I4 i4 I5 i5 I6 i6 I7 i7 I8 i8 I9 i9 I10 i10 I11 i11 I12 i12 => ?_))
  have at9 : ∀ j, I12 10 j = if j = 11 then 2 else if j = 10 then 3 else if j = 9 then 1 else if j = 8 then 1 else if j = 7 then 9 else if j = 6 then 12 else if j = 5 then 30 else if j = 4 then 0 else if j = 3 then 0 else if j = 2 then 0 else if j = 1 then 0 else if j = 0 then 8 else I 10 j := fun j => by
    rw [i12, gU_at, i11, gU_at, i10, gU_at, i9, gU_at, i8, gU_at, i7, gU_at, i6, gU_at, i5, gU_at, i4, gU_at, i3, gU_at, i2, gU_at, i1, gU_at]
  refine k F2 I12 (fun j a b => by rw [e2, fU_ne b, e1, fU_ne a]) (by rw [e2, fU_ne (by decide), e1, fU_at]) (by rw [e2, fU_at]) (fun a ha => by rw [i12, gU_ne ha, i11, gU_ne ha, i10, gU_ne ha, i9, gU_ne ha, i8, gU_ne ha, i7, gU_ne ha, i6, gU_ne ha, i5, gU_ne ha, i4, gU_ne ha, i3, gU_ne ha, i2, gU_ne ha, i1, gU_ne ha]) (fun i hi => ?_)
  rw [at9]
  match i, hi with
  | 0, _ => rfl
  | 1, _ => rfl
  | 2, _ => rfl
  | 3, _ => rfl
  | 4, _ => rfl
  | 5, _ => rfl
  | 6, _ => rfl
  | 7, _ => rfl
  | 8, _ => rfl
  | 9, _ => rfl
  | 10, _ => rfl
  | 11, _ => rfl
theorem w_sets {G : GC} {ad : Nat → Nat} {o : Nat} {F : Nat → Int32} {L : Nat → Int64} {I : Nat → Nat → Int32} {J : Nat → Nat → Int64} {Q : MPost} (k : ∀ F' I', (∀ j, j ≠ 18 → j ≠ 19 → j ≠ 32 → j ≠ 62 → j ≠ 64 → F' j = F j) → F' 18 = F 16 → F' 19 = F 17 → F' 32 = 0 → F' 62 = 0 → F' 64 = 0 → (∀ a, a ≠ 11 → a ≠ 14 → a ≠ 15 → a ≠ 27 → I' a = I a) → (∀ i, i < 12 → I' 11 i = I 10 i) → (∀ i, i < 24 → I' 14 i = I 12 i ∧ I' 15 i = I 13 i) → (∀ p, p < 7 → I' 27 p = 0) → Q none F' L I' J) : CallM G mX9_sets 4 ad o [.ref o] F L I J Q := by
  refine eX9_sets (fun σ0 => bX9_sets_0 (w_copies (m := 12) ⟨by decide, rfl⟩ ⟨by decide, rfl⟩ (by decide) (by decide) (by decide) (by decide) (by decide) (fun I1 a1 a2 _ => ⟨rfl, fun F1 e1 F2 e2 => w_copies (m := 24) ⟨by decide, rfl⟩ ⟨by decide, rfl⟩ (by decide) (by decide) (by decide) (by decide) (by decide) (fun I2 b1 b2 _ => ⟨rfl, w_copies (m := 24) ⟨by decide, rfl⟩ ⟨by decide, rfl⟩ (by decide) (by decide) (by decide) (by decide) (by decide) (fun I3 c1 c2 _ => ⟨rfl, ?_⟩)⟩)⟩)))
  have Lp : ∀ d i I', i + d = 7 → (∀ a, a ≠ 27 → I' a = I3 a) → (∀ j, j < i → I' 27 j = 0) → AtM G mX9_sets 4 ad o σ0 Q 60 [(0, .ref o), (1, .int (nI i))] [] F2 L I' J := by
    intro d
    induction d with
    | zero =>
      intro i I' hi h1 h2
      have hi : i = 7 := by omega
      subst hi
      refine bX9_sets_60 ⟨fun _ F3 e3 F4' e4 F5 e5 => ?_, fun z => absurd (by decide) z⟩
      refine k F5 I' (fun j x1 x2 x3 x4 x5 => by rw [e5, fU_ne x5, e4, fU_ne x4, e3, fU_ne x3, e2, fU_ne x2, e1, fU_ne x1]) (by rw [e5, fU_ne (by decide), e4, fU_ne (by decide), e3, fU_ne (by decide), e2, fU_ne (by decide), e1, fU_at]) (by rw [e5, fU_ne (by decide), e4, fU_ne (by decide), e3, fU_ne (by decide), e2, fU_at, e1, fU_ne (by decide)]) (by rw [e5, fU_ne (by decide), e4, fU_ne (by decide), e3, fU_at]) (by rw [e5, fU_ne (by decide), e4, fU_at]) (by rw [e5, fU_at]) (fun a x1 x2 x3 x4 => by rw [h1 a x4, c1 a x3, b1 a x2, a1 a x1]) (fun j hj => ?_) (fun j hj => ⟨?_, ?_⟩) h2
      · rw [h1 11 (by decide), c1 11 (by decide), b1 11 (by decide)]
        exact a2 j hj
      · rw [h1 14 (by decide), c1 14 (by decide), b2 j hj, a1 12 (by decide)]
      · rw [h1 15 (by decide), c2 j hj, b1 13 (by decide), a1 13 (by decide)]
    | succ d ih =>
      intro i I' hi h1 h2
      refine bX9_sets_60 ⟨fun z => absurd z (nI_nlt (a := 6) (by omega) (by decide)), fun _ => ⟨vp_in_nI (by omega) (by decide), fun I4 e4 v1 ev => ?_⟩⟩
      rw [nI_clamp (by omega)] at e4
      rw [ev, nI_1]
      refine ih (i + 1) I4 (by omega) (fun a ha => by rw [e4, gU_ne ha, h1 a ha]) (fun j hj => ?_)
      rw [e4, gU_at]
      by_cases z : j = i
      · exact if_pos z
      · rw [if_neg z]
        exact h2 j (by omega)
  exact Lp 7 0 I3 (by omega) (fun _ _ => rfl) (fun j hj => absurd hj (Nat.not_lt_zero j))
