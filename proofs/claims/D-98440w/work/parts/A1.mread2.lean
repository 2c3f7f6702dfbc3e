/-! Part B: the reference's reader: words, numbers, signs -/
theorem RS.i9 {F : Nat → Int32} {I : Nat → Nat → Int32} {t : Nat → Nat} {n a k : Nat} {e : Option (Nat × Nat)} (h : RS F I t n a e) (hk : k < n) : vp_in (nI k) 600 ∧ I 9 (nI k).toNatClampNeg = nI (t k) ∧ t k < 256 := by
  have n6 := h.2.2.2.2.2.1
  exact ⟨vp_in_nI (by omega) (by decide), by rw [nI_clamp (by omega)]; exact h.2.2.2.2.1 k hk, h.2.2.2.2.2.2.1 k hk⟩
theorem w_word {G : GC} {ad : Nat → Nat} {o : Nat} {F : Nat → Int32} {L : Nat → Int64} {I : Nat → Nat → Int32} {J : Nat → Nat → Int64} {Q : MPost} {t : Nat → Nat} {n a : Nat} {e : Option (Nat × Nat)} (h : RS F I t n a e) (k : ∀ F', RS F' I t n (sk t n a) e → F4 F F' → Q (some (.int (nI (wv (wd t n (sk t n a)))))) F' L I J) : CallM G mX9_word 4 ad o [.ref o] F L I J Q := by
  refine eX9_word (fun σ0 => bX9_word_0 (w_here h (fun F' hR hF => ⟨_, rfl, ?_⟩)))
  have kk := k F' hR hF
  have n6 := hR.2.2.2.2.2.1
  have hl := hR.2.2.2.2.2.2.2
  revert hR kk
  generalize sk t n a = s at *
  intro hR kk
  obtain ⟨w1, w2⟩ := wd_at (t := t) (n := n) (a := s)
  have wl := wd_le (t := t) hl
  dsimp only
  rw [hR.2.1]
  have E : ∀ x : Int32, x = nI (if (wd t n s).length ≤ 6 then pkw (wd t n s) else 0) → ((nI (wd t n s).length ≤ 6) → Q (some (.int x)) F' L I J) ∧ ((¬ nI (wd t n s).length ≤ 6) → Q (some (.int 0)) F' L I J) := by
    intro x hx
    have z6 : nI (wd t n s).length ≤ 6 ↔ (wd t n s).length ≤ 6 := nI_leI (b := 6) (by omega) (by decide)
    unfold wv at kk
    refine ⟨fun z => ?_, fun z => ?_⟩
    · rw [hx]
      exact kk
    · rw [if_neg (fun w => z (z6.mpr w))] at kk
      exact kk
  have Lp : ∀ d j, j + d = (wd t n s).length → AtM G mX9_word 4 ad o σ0 Q 14 [(0, .ref o), (1, .int (nI (if j ≤ 6 then pkw ((wd t n s).take j) else 0))), (2, .int (nI j)), (3, .int (nI (s + j)))] [] F' L I J := by
    intro d
    induction d with
    | zero =>
      intro j hj
      have hj : j = (wd t n s).length := by omega
      subst hj
      rw [List.take_length]
      refine bX9_word_14 ⟨fun _ => E _ rfl, fun z => ?_⟩
      rw [hR.1] at z
      have z1 : s + (wd t n s).length < n := Nat.lt_of_not_le (fun u => z (nI_le u (by omega)))
      obtain ⟨v1, v2, v3⟩ := hR.i9 z1
      refine ⟨v1, ?_⟩
      rw [v2]
      exact w_isSmall v3 ⟨_, rfl, fun _ => E _ rfl, fun y => absurd ⟨z1, if_nI1 y⟩ w2⟩
    | succ d ih =>
      intro j hj
      obtain ⟨x1, x2, x3⟩ := w1 j (by omega)
      obtain ⟨v1, v2, v3⟩ := hR.i9 x1
      have tk : (wd t n s).take (j + 1) = (wd t n s).take j ++ [t (s + j)] := by
        rw [List.take_succ_eq_append_getElem (by omega)]
        rw [List.getElem?_eq_getElem (by omega)] at x3
        rw [Option.some.inj x3]
      refine bX9_word_14 ⟨fun z => ?_, fun _ => ⟨v1, ?_⟩⟩
      · rw [hR.1] at z
        exact absurd z (nI_ge x1 (by omega))
      · rw [v2]
        refine w_isSmall v3 ⟨_, rfl, fun y => absurd x2 (if_nI y), fun _ => ⟨fun z v5 e5 v6 e6 => ?_, fun z => ⟨v1, fun x hx y hy v5 e5 v6 e6 => ?_⟩⟩⟩
        · have z6 : 6 ≤ j := (nI_leI (a := 6) (by decide) (by omega)).mp z
          have r := ih (j + 1) (by omega)
          rw [if_neg (show ¬ j + 1 ≤ 6 by omega)] at r
          rw [e5, e6, nI_1, nI_1]
          exact r
        · have z6 : ¬ 6 ≤ j := fun u => z ((nI_leI (a := 6) (by decide) (by omega)).mpr u)
          have hm : pkw ((wd t n s).take j) < 2 ^ 25 := by
            have r := pkR_lt ((wd t n s).take j).reverse (fun x hx => wd_sm x (List.mem_of_mem_take (List.mem_reverse.mp hx)))
            rw [List.length_reverse, List.length_take, Nat.min_eq_left (by omega)] at r
            have : 32 ^ j ≤ 32 ^ 5 := Nat.pow_le_pow_right (by decide) (by omega)
            have e : 32 ^ 5 = 2 ^ 25 := by decide
            unfold pkw
            omega
          have r := ih (j + 1) (by omega)
          rw [if_pos (show j + 1 ≤ 6 by omega), tk, pkw_app] at r
          rw [hx, if_pos (show j ≤ 6 by omega), pk5 hm x2] at hy
          rw [hy, e5, e6, nI_1, nI_1]
          exact r
  have r := Lp (wd t n s).length 0 (by omega)
  exact r
theorem w_pass {G : GC} {ad : Nat → Nat} {o : Nat} {F : Nat → Int32} {L : Nat → Int64} {I : Nat → Nat → Int32} {J : Nat → Nat → Int64} {Q : MPost} {t : Nat → Nat} {n a : Nat} {e : Option (Nat × Nat)} (h : RS F I t n a e) (k : ∀ F', RS F' I t n (a + (wd t n a).length) e → F4 F F' → Q none F' L I J) : CallM G mX9_pass 4 ad o [.ref o] F L I J Q := by
  obtain ⟨w1, w2⟩ := wd_at (t := t) (n := n) (a := a)
  have wl := wd_le (t := t) h.2.2.2.2.2.2.2
  refine eX9_pass (fun σ0 => ?_)
  have Lp : ∀ d j F', j + d = (wd t n a).length → RS F' I t n (a + j) e → F4 F F' → AtM G mX9_pass 4 ad o σ0 Q 0 [(0, .ref o)] [] F' L I J := by
    intro d
    induction d with
    | zero =>
      intro j F' hj hR hF
      have hj : j = (wd t n a).length := by omega
      subst hj
      have n6 := hR.2.2.2.2.2.1
      refine bX9_pass_0 ⟨fun _ => k F' hR hF, fun z => ?_⟩
      rw [hR.1, hR.2.1] at z
      have z1 : a + (wd t n a).length < n := Nat.lt_of_not_le (fun u => z (nI_le u (by omega)))
      obtain ⟨v1, v2, v3⟩ := hR.i9 z1
      rw [hR.2.1, v2]
      exact ⟨v1, w_isSmall v3 ⟨_, rfl, fun _ => k F' hR hF, fun y => absurd ⟨z1, if_nI1 y⟩ w2⟩⟩
    | succ d ih =>
      intro j F' hj hR hF
      have n6 := hR.2.2.2.2.2.1
      obtain ⟨x1, x2, x3⟩ := w1 j (by omega)
      obtain ⟨v1, v2, v3⟩ := hR.i9 x1
      refine bX9_pass_0 ⟨fun z => ?_, fun _ => ?_⟩
      · rw [hR.1, hR.2.1] at z
        exact absurd z (nI_ge x1 (by omega))
      · rw [hR.2.1, v2]
        refine ⟨v1, w_isSmall v3 ⟨_, rfl, fun y => absurd x2 (if_nI y), fun _ F1 e1 => ?_⟩⟩
        rw [nI_1] at e1
        subst e1
        exact ih (j + 1) _ (by omega) (hR.at F4.rf.u fU_at (by omega)) hF.u
  exact Lp (wd t n a).length 0 F (by omega) h F4.rf
/-- but for where it stands, what was wrong -/
def F6 (F F' : Nat → Int32) : Prop := ∀ j, j ≠ 4 → j ≠ 5 → j ≠ 6 → F' j = F j
theorem F6.rf {F : Nat → Int32} : F6 F F := fun _ _ _ _ => rfl
theorem F6.tr {F F' F'' : Nat → Int32} (h : F6 F F') (h2 : F6 F' F'') : F6 F F'' := fun j a b c => (h2 j a b c).trans (h j a b c)
theorem F4.six {F F' : Nat → Int32} (h : F4 F F') : F6 F F' := fun j a _ _ => h j a
theorem w_wrong {G : GC} {ad : Nat → Nat} {o : Nat} {F : Nat → Int32} {L : Nat → Int64} {I : Nat → Nat → Int32} {J : Nat → Nat → Int64} {Q : MPost} {t : Nat → Nat} {n a w p : Nat} {x y : Int32} (h : RS F I t n a none) (hx : x = nI w) (hy : y = nI p) (hp : p ≤ n) (k : ∀ F', RS F' I t n a (some (w, p)) → F6 F F' → F' 4 = F 4 → Q none F' L I J) : CallM G mX9_wrong 3 ad o [.ref o, .int x, .int y] F L I J Q := by
  subst hx
  subst hy
  obtain ⟨h1, h2, h3, h5, h6, h7, h8, h9⟩ := h
  refine eX9_wrong (fun σ0 => bX9_wrong_0 ⟨fun _ F1 e1 F2 e2 => ?_, fun z => absurd (h3 rfl) z⟩)
  subst e1
  have n5 : ∀ j, j ≠ 5 → j ≠ 6 → F2 j = F j := fun j a b => by rw [e2, fU_ne b, fU_ne a]
  refine k F2 ⟨(n5 3 (by decide) (by decide)).trans h1, (n5 4 (by decide) (by decide)).trans h2, (fun z => by cases z), fun w' p' z => ?_, h6, h7, h8, h9⟩ (fun j _ b c => n5 j b c) (n5 4 (by decide) (by decide))
  cases z
  exact ⟨by rw [e2, fU_ne (by decide), fU_at], by rw [e2, fU_at], by omega⟩
theorem w_wrongN {G : GC} {ad : Nat → Nat} {o : Nat} {F : Nat → Int32} {L : Nat → Int64} {I : Nat → Nat → Int32} {J : Nat → Nat → Int64} {Q : MPost} {x y : Int32} (h : ¬ F 5 = -1) (k : Q none F L I J) : CallM G mX9_wrong 3 ad o [.ref o, .int x, .int y] F L I J Q :=
  eX9_wrong (fun σ0 => bX9_wrong_0 ⟨fun z => absurd z h, fun _ => k⟩)
/-- digits as the reference counts them -/
theorem w_number {G : GC} {ad : Nat → Nat} {o : Nat} {F : Nat → Int32} {L : Nat → Int64} {I : Nat → Nat → Int32} {J : Nat → Nat → Int64} {Q : MPost} {t : Nat → Nat} {n a lo hi : Nat} {x y : Int32} (h : RS F I t n a none) (hx : x = nI lo) (hlo : lo ≤ 1000) (hhi : hi ≤ 1000) (hy : ∀ v, v < 2 ^ 30 → (nI v ≤ y ↔ v < hi)) (k : ∀ v a', nm t n lo hi a = .inr (v, a') → ∀ F', RS F' I t n a' none → F4 F F' → Q (some (.int (nI v))) F' L I J) (kx : ∀ w p, nm t n lo hi a = .inl (w, p) → ∀ F' a', RS F' I t n a' (some (w, p)) → F6 F F' → Q (some (.int 0)) F' L I J) : CallM G mX9_readNumber 4 ad o [.ref o, .int x, .int y] F L I J Q := by
  subst hx
  have ha := h.2.2.2.2.2.2.2
  have hs := sk_b (t := t) ha
  have ht := h.2.2.2.2.2.2.1
  have n6 := h.2.2.2.2.2.1
  refine eX9_readNumber (fun σ0 => bX9_readNumber_0 (w_fineY (h.2.2.1 rfl) ⟨_, rfl, fun _ => w_here h (fun F' hR hF => ⟨_, rfl, w_isDigit (hv_lt ht) ⟨_, rfl, fun z => ?_, fun z => ?_⟩⟩), fun z => absurd z (by decide)⟩))
  · have z1 := if_nI1 z
    have hl : sk t n a < n := Classical.byContradiction (fun w => by
      have e : hv t n (sk t n a) = 0 := if_neg w
      rw [e] at z1
      exact absurd z1.1 (by decide))
    have z2 : sk t n a < n ∧ digit (t (sk t n a)) := ⟨hl, by rw [show hv t n (sk t n a) = t (sk t n a) from if_pos hl] at z1; exact z1⟩
    unfold nm at k kx
    rw [if_pos z2] at k kx
    rw [hR.2.1]
    revert k kx
    generalize hRR : dgF t n (n - sk t n a) 0 (sk t n a) = RR
    intro k kx
    have E : ∀ v c i F1, i ≤ n → RR = (v, i) → c = min v 10000 ∨ (1000 < c ∧ c < 200000 ∧ 1000 < v) → RS F1 I t n i none → F4 F F1 → AtM G mX9_readNumber 4 ad o σ0 Q 114 [(0, .ref o), (1, .int (nI lo)), (2, .int y), (4, .int (nI (sk t n a))), (5, .int (nI c))] [] F1 L I J := by
      intro v c i F1 h2 h3 hc hU hG
      subst h3
      have c30 : c < 2 ^ 30 := by omega
      have l1 : nI c < nI lo ↔ c < lo := nI_ltI (by omega) (by omega)
      have y1 := hy c c30
      have bad : ¬ (lo ≤ v ∧ v < hi) → CallM G mX9_wrong 3 ad o [.ref o, .int 2, .int (nI (sk t n a))] F1 L I J (mqV (fun F1 L1 I1 J1 => Q (some (.int 0)) F1 L1 I1 J1)) := fun hn => by
        rw [if_neg (show ¬ (lo ≤ (v, i).1 ∧ (v, i).1 < hi) from hn)] at kx
        exact w_wrong (w := 2) hU rfl rfl hs.2.1 (fun F2 hU2 hG2 _ => ⟨rfl, kx _ _ rfl F2 _ hU2 (hG.six.tr hG2)⟩)
      refine bX9_readNumber_114 ⟨fun z => bad (fun w => ?_), fun z => ⟨fun w => ?_, fun w => bad (fun w2 => ?_)⟩⟩
      · have := l1.mp z
        omega
      · have z3 : ¬ c < lo := fun u => z (l1.mpr u)
        have w3 := y1.mp w
        have ok : lo ≤ v ∧ v < hi := by omega
        have cv : c = v := by omega
        rw [if_pos (show lo ≤ (v, i).1 ∧ (v, i).1 < hi from ok)] at k
        rw [cv]
        exact k v i rfl F1 hU hG
      · have w3 : ¬ c < hi := fun u => w (y1.mpr u)
        omega
    have Lp : ∀ d v c i F1, n - i = d → i ≤ n → dgF t n d v i = RR → (c = min v 10000 ∨ (1000 < c ∧ c < 200000 ∧ 1000 < v)) → RS F1 I t n i none → F4 F F1 → AtM G mX9_readNumber 4 ad o σ0 Q 41 [(0, .ref o), (1, .int (nI lo)), (2, .int y), (4, .int (nI (sk t n a))), (5, .int (nI c))] [] F1 L I J := by
      intro d
      induction d with
      | zero =>
        intro v c i F1 hd h2 h3 hc hU hG
        have nd : ¬ (i < n ∧ digit (t i)) := fun w => by
          have := w.1
          omega
        rw [dgF_e nd] at h3
        refine bX9_readNumber_41 ⟨fun _ => E v c i F1 h2 h3.symm hc hU hG, fun z => ?_⟩
        rw [hU.1, hU.2.1] at z
        exact absurd (nI_le (by omega) (by omega)) z
      | succ d ih =>
        intro v c i F1 hd h2 h3 hc hU hG
        have il : i < n := by omega
        obtain ⟨v1, v2, v3⟩ := hU.i9 il
        refine bX9_readNumber_41 ⟨fun z => ?_, fun _ => ?_⟩
        · rw [hU.1, hU.2.1] at z
          exact absurd z (nI_ge il (by omega))
        · rw [hU.2.1, v2]
          refine ⟨v1, w_isDigit v3 ⟨_, rfl, fun z => ?_, fun z => ⟨fun u => ⟨v1, fun w ew v5 e5 F2 e2 => ?_⟩, fun u F2 e2 => ?_⟩⟩⟩
          · have nd : ¬ (i < n ∧ digit (t i)) := fun w => if_nI z w.2
            rw [dgF_e nd] at h3
            exact E v c i F1 h2 h3.symm hc hU hG
          · have dg : i < n ∧ digit (t i) := ⟨il, if_nI1 z⟩
            have d1 := dg.2.1
            have d2 := dg.2.2
            rw [dgF_s dg] at h3
            have c30 : c < 2 ^ 30 := by omega
            have u1 : c ≤ 9999 := (nI_leI (b := 9999) (by omega) (by decide)).mp u
            rw [show (10 : Int32) = nI 10 from rfl, pk_mul, nI_add] at ew
            rw [ew, show (48 : Int32) = nI 48 from rfl, pk_sub (by omega)] at e5
            rw [nI_1] at e2
            subst e2
            rw [e5]
            exact ih (10 * v + (t i - 48)) (10 * c + t i - 48) (i + 1) _ (by omega) il h3 (by omega) (hU.at F4.rf.u fU_at il) hG.u
          · have dg : i < n ∧ digit (t i) := ⟨il, if_nI1 z⟩
            rw [dgF_s dg] at h3
            have c30 : c < 2 ^ 30 := by omega
            have u1 : ¬ c ≤ 9999 := fun w => u ((nI_leI (b := 9999) (by omega) (by decide)).mpr w)
            rw [nI_1] at e2
            subst e2
            exact ih (10 * v + (t i - 48)) 10000 (i + 1) _ (by omega) il h3 (by omega) (hU.at F4.rf.u fU_at il) hG.u
    exact Lp (n - sk t n a) 0 0 (sk t n a) F' rfl hs.2.1 hRR (Or.inl rfl) hR hF
  · have z1 := if_nI z
    have z2 : ¬ (sk t n a < n ∧ digit (t (sk t n a))) := fun w => z1 (by rw [show hv t n (sk t n a) = t (sk t n a) from if_pos w.1]; exact w.2)
    unfold nm at kx
    rw [if_neg z2] at kx
    rw [hR.2.1]
    exact w_wrong (w := 1) hR rfl rfl hs.2.1 (fun F2 hU2 hG2 _ => ⟨rfl, kx _ _ rfl F2 _ hU2 (hF.six.tr hG2)⟩)
theorem w_numberN {G : GC} {ad : Nat → Nat} {o : Nat} {F : Nat → Int32} {L : Nat → Int64} {I : Nat → Nat → Int32} {J : Nat → Nat → Int64} {Q : MPost} {x y : Int32} (h : ¬ F 5 = -1) (k : Q (some (.int 0)) F L I J) : CallM G mX9_readNumber 4 ad o [.ref o, .int x, .int y] F L I J Q :=
  eX9_readNumber (fun σ0 => bX9_readNumber_0 (w_fineN h ⟨_, rfl, fun z => absurd rfl z, fun _ => k⟩))
theorem w_sign {G : GC} {ad : Nat → Nat} {o : Nat} {F : Nat → Int32} {L : Nat → Int64} {I : Nat → Nat → Int32} {J : Nat → Nat → Int64} {Q : MPost} {t : Nat → Nat} {n a c : Nat} {x : Int32} (h : RS F I t n a none) (hx : x = nI c) (hc : c < 256) (h0 : c ≠ 0) (k : sg t n c a → ∀ F', RS F' I t n (sk t n a + 1) none → F4 F F' → Q none F' L I J) (kx : ¬ sg t n c a → ∀ F' a', RS F' I t n a' (some (1, sk t n a)) → F6 F F' → Q none F' L I J) : CallM G mX9_sign 4 ad o [.ref o, .int x] F L I J Q := by
  subst hx
  have ha := h.2.2.2.2.2.2.2
  have hs := sk_b (t := t) ha
  have ht := h.2.2.2.2.2.2.1
  refine eX9_sign (fun σ0 => bX9_sign_0 (w_fineY (h.2.2.1 rfl) ⟨_, rfl, fun z => absurd z (by decide), fun _ => w_here h (fun F' hR hF => ⟨_, rfl, fun z => ?_, fun z => ?_⟩)⟩))
  · have z1 := (hv_is ht hc h0).mp z
    refine bX9_sign_24 (w_fineY (hR.2.2.1 rfl) ⟨_, rfl, fun z => absurd z (by decide), fun _ F1 e1 => ?_⟩)
    rw [hR.2.1, nI_1] at e1
    subst e1
    exact k z1 _ (hR.at F4.rf.u fU_at z1.1) hF.u
  · have z1 : ¬ sg t n c a := fun w => z ((hv_is ht hc h0).mpr w)
    rw [hR.2.1]
    refine w_wrong (w := 1) hR rfl rfl hs.2.1 (fun F2 hU2 hG2 _ => ⟨rfl, bX9_sign_24 (w_fineN hU2.bad ⟨_, rfl, fun _ => kx z1 F2 _ hU2 (hF.six.tr hG2), fun z => absurd rfl z⟩)⟩)
theorem w_signN {G : GC} {ad : Nat → Nat} {o : Nat} {F : Nat → Int32} {L : Nat → Int64} {I : Nat → Nat → Int32} {J : Nat → Nat → Int64} {Q : MPost} {x : Int32} (h : ¬ F 5 = -1) (k : Q none F L I J) : CallM G mX9_sign 4 ad o [.ref o, .int x] F L I J Q :=
  eX9_sign (fun σ0 => bX9_sign_0 (w_fineN h ⟨_, rfl, fun _ => bX9_sign_24 (w_fineN h ⟨_, rfl, fun _ => k, fun z => absurd rfl z⟩), fun z => absurd rfl z⟩))
theorem w_isMore {G : GC} {ad : Nat → Nat} {o : Nat} {F : Nat → Int32} {L : Nat → Int64} {I : Nat → Nat → Int32} {J : Nat → Nat → Int64} {Q : MPost} {t : Nat → Nat} {n a : Nat} (h : RS F I t n a none) (k1 : sk t n a < n → ∀ F', RS F' I t n (sk t n a) none → F4 F F' → Q (some (.int 1)) F' L I J) (k0 : ¬ sk t n a < n → ∀ F', RS F' I t n (sk t n a) none → F4 F F' → Q (some (.int 0)) F' L I J) : CallM G mX9_isMore 4 ad o [.ref o] F L I J Q := by
  have n6 := h.2.2.2.2.2.1
  refine eX9_isMore (fun σ0 => bX9_isMore_0 (w_here h (fun F' hR hF => ⟨_, rfl, fun z => ?_, fun z => ?_⟩)))
  · rw [hR.1, hR.2.1] at z
    have z1 := (nI_leI (by omega) (by have := hR.2.2.2.2.2.2.2; omega)).mp z
    exact k0 (by omega) F' hR hF
  · rw [hR.1, hR.2.1] at z
    have z1 : sk t n a < n := Nat.lt_of_not_le (fun u => z (nI_le u (by have := hR.2.2.2.2.2.2.2; omega)))
    exact k1 z1 F' hR hF
