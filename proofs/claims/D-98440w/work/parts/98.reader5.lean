/-! Part B: the component's reader: words -/
theorem wdF_at {t : Nat → Nat} {n : Nat} : ∀ f a, n - a ≤ f → (∀ j, j < (wdF t n f a).length → a + j < n ∧ small (t (a + j)) ∧ (wdF t n f a)[j]? = some (t (a + j))) ∧ ¬ (a + (wdF t n f a).length < n ∧ small (t (a + (wdF t n f a).length)))
  | 0, a, h => ⟨fun j hj => absurd hj (Nat.not_lt_zero j), fun w => by
      have : a + 0 < n := w.1
      omega⟩
  | f + 1, a, h => by
    rw [wdF]
    by_cases q : a < n ∧ small (t a)
    · rw [if_pos q]
      obtain ⟨h1, h2⟩ := wdF_at (t := t) (n := n) f (a + 1) (by omega)
      refine ⟨fun j hj => ?_, ?_⟩
      · cases j with
        | zero => exact ⟨q.1, q.2, rfl⟩
        | succ j =>
          have r := h1 j (by simpa using hj)
          rw [show a + (j + 1) = a + 1 + j by omega]
          exact r
      · rw [List.length_cons, show ∀ m, a + (m + 1) = a + 1 + m from fun m => by omega]
        exact h2
    · rw [if_neg q]
      exact ⟨fun j hj => absurd hj (Nat.not_lt_zero j), q⟩
theorem wd_at {t : Nat → Nat} {n a : Nat} : (∀ j, j < (wd t n a).length → a + j < n ∧ small (t (a + j)) ∧ (wd t n a)[j]? = some (t (a + j))) ∧ ¬ (a + (wd t n a).length < n ∧ small (t (a + (wd t n a).length))) := wdF_at _ _ (Nat.le_refl _)
theorem wd_is {t : Nat → Nat} {n a : Nat} {w : List Nat} : wd t n a = w ↔ (wd t n a).length = w.length ∧ ∀ j, j < w.length → w[j]? = some (t (a + j)) := by
  constructor
  · intro e
    refine ⟨by rw [e], fun j hj => ?_⟩
    rw [← e] at hj ⊢
    exact (wd_at.1 j hj).2.2
  · rintro ⟨e, h⟩
    apply List.ext_getElem?
    intro j
    by_cases q : j < w.length
    · rw [(wd_at.1 j (by omega)).2.2, h j q]
    · rw [List.getElem?_eq_none (by omega), List.getElem?_eq_none (by omega)]
theorem k_isWord {G : GC} {σ : PS} {Q : Option Value → PS → Prop} {X : String → Nat → PS → Prop} {b r tb n a o i : Nat} {t : Nat → Nat} {q : String × Nat × String × List Int32} {w : List Nat} (h : RdO σ r tb t n a o) (hi : strTab[i]? = some q) (hw : q.2.2.2 = w.map nI) (hw2 : ∀ x, x ∈ w → x < 256) (hw3 : w.length ≤ 20) (k : ∀ τ, RdO τ r tb t n (sk t n a) o → Fr (RdD r) σ τ → Q (some (.int (if wd t n (sk t n a) = w then 1 else 0))) τ) : Call G mX11_isWord 7 b [.ref r, .ref (gk G i)] σ Q X := by
  have hn := h.2.2.1
  have ht := h.2.2.2.1
  have hs := sk_b (t := t) h.2.2.2.2.1
  have hl : q.2.2.2.length = w.length := by rw [hw, List.length_map]
  refine eX11_isWord (bX11_isWord_0 ⟨⟨_, h.1⟩, k_place h (fun τ hO hF => ⟨_, rfl, ?_⟩)⟩)
  have kk := k τ hO hF
  clear k
  revert hs hO kk
  generalize sk t n a = s
  intro hs hO kk
  obtain ⟨w1, w2⟩ := wd_at (t := t) (n := n) (a := s)
  have L2 : (wd t n s).length = w.length → ∀ d j, j + d = w.length → (∀ x, x < j → w[x]? = some (t (s + x))) → At G mX11_isWord 7 Q X b 39 [(0, .ref r), (1, .ref (gk G i)), (2, .int (nI s)), (3, .int (nI w.length)), (4, .int (nI j))] [] τ := by
    intro el d
    induction d with
    | zero =>
      intro j hj hx
      have hj : j = w.length := by omega
      subst hj
      rw [if_pos (wd_is.mpr ⟨el, hx⟩)] at kk
      exact bX11_isWord_39 ⟨fun _ => kk, fun z => absurd (nI_le (Nat.le_refl _) (by omega)) z⟩
    | succ d ih =>
      intro j hj hx
      have hjl : j < w.length := by omega
      have w4 := w1 j (by omega)
      refine bX11_isWord_39 ⟨fun z => absurd z (nI_ge hjl (by omega)), fun _ => ?_⟩
      rw [nI_add]
      refine ⟨⟨_, hO.1⟩, k_byteAt hO (by omega) ⟨_, rfl, i, q, j, rfl, hi, rfl, by omega, ?_⟩⟩
      have gd : q.2.2.2.getD j 0 = nI w[j] := by
        rw [hw]
        simp [List.getD, hjl]
      rw [gd, bt_lt w4.1]
      have hwj := hw2 _ (List.getElem_mem hjl)
      have htj := ht _ w4.1
      have e9 : nI (t (s + j)) = nI w[j] ↔ t (s + j) = w[j] := nI_eq (by omega) (by omega)
      have g9 : w[j]? = some w[j] := List.getElem?_eq_getElem hjl
      refine ⟨fun z v4 e4 => ?_, fun z => ?_⟩
      · rw [e4, nI_1]
        refine ih (j + 1) (by omega) (fun x hx2 => ?_)
        by_cases y : x = j
        · subst y
          rw [g9, e9.mp z]
        · exact hx x (by omega)
      · rw [if_neg (fun e => by
          have r := (wd_is.mp e).2 j hjl
          rw [g9] at r
          exact z (e9.mpr (Option.some.inj r).symm))] at kk
        exact kk
  have L1 : ∀ d j, j + d = (wd t n s).length → At G mX11_isWord 7 Q X b 7 [(0, .ref r), (1, .ref (gk G i)), (2, .int (nI s)), (3, .int (nI j))] [] τ := by
    have lw : (wd t n s).length ≤ n := by
      cases e : (wd t n s).length with
      | zero => exact Nat.zero_le _
      | succ m =>
        have := (w1 m (by omega)).1
        omega
    intro d
    induction d with
    | zero =>
      intro j hj
      have hj : j = (wd t n s).length := by omega
      refine bX11_isWord_7 ?_
      rw [nI_add]
      refine ⟨⟨_, hO.1⟩, k_byteAt hO (by omega) ⟨_, rfl, k_isSmall ht ⟨_, rfl, fun _ => ⟨i, q, rfl, hi, fun z => ?_, fun z => ?_⟩, fun z => ?_⟩⟩⟩
      · rw [hl] at z
        have z1 := (nI_eq (by omega) (by omega)).mp z
        rw [z1]
        exact L2 (by omega) w.length 0 (by omega) (fun x hx => absurd hx (by omega))
      · rw [hl] at z
        rw [if_neg (fun e => z (by rw [hj, e]))] at kk
        exact kk
      · rw [← hj] at w2
        exact absurd (if_neg w2) z
    | succ d ih =>
      intro j hj
      have w4 := w1 j (by omega)
      refine bX11_isWord_7 ?_
      rw [nI_add]
      refine ⟨⟨_, hO.1⟩, k_byteAt hO (by omega) ⟨_, rfl, k_isSmall ht ⟨_, rfl, fun z => absurd ⟨w4.1, w4.2.1⟩ (if_nI z), fun _ v3 e3 => ?_⟩⟩⟩
      rw [e3, nI_1]
      exact ih (j + 1) (by omega)
  exact L1 (wd t n s).length 0 (by omega)
