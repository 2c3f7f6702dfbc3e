/-! Part B: the reference's tests: codes run on its stack -/
def opm (w : Nat) (u v : Int32) : Int32 := match w with
  | 2 => u + v
  | 3 => u - v
  | 4 => u * v
  | 5 => if u < v then 1 else 0
  | 6 => if v < u then 1 else 0
  | 7 => if u = v then 1 else 0
  | 9 => if u + v = 2 then 1 else 0
  | _ => if u + v ≤ 0 then 0 else 1
theorem w_both {G : GC} {w : Nat} {u v : Int32} {P : Option Value → Prop} (hw : sgOK w) (k : P (some (.int (opm w u v)))) : CallP G mX9_both 3 [.int (nI w), .int u, .int v] P := by
  intro σ
  refine eX9_both (bX9_both_0 ?_)
  have b0 : ∀ {P' : Option Value → Prop}, P' (some (.int 0)) → At G mX9_both 3 (fun a s => s = σ ∧ P' a) (fun _ _ _ => False) 0 119 [] [.int 0] σ := fun h => bX9_both_119 ⟨fun _ => ⟨rfl, h⟩, fun q => absurd rfl q⟩
  have b1 : ∀ {P' : Option Value → Prop}, P' (some (.int 1)) → At G mX9_both 3 (fun a s => s = σ ∧ P' a) (fun _ _ _ => False) 0 119 [] [.int 1] σ := fun h => bX9_both_119 ⟨fun q => absurd q (by decide), fun _ => ⟨rfl, h⟩⟩
  rcases hw with rfl | rfl | rfl | rfl | rfl | rfl | rfl | rfl
  · exact ⟨fun q => absurd q (by decide), fun _ => ⟨fun q => absurd rfl q, fun _ => ⟨rfl, k⟩⟩⟩
  · exact ⟨fun q => absurd q (by decide), fun _ => ⟨fun _ => ⟨fun q => absurd rfl q, fun _ => ⟨rfl, k⟩⟩, fun q => absurd q (by decide)⟩⟩
  · exact ⟨fun q => absurd q (by decide), fun _ => ⟨fun _ => ⟨fun _ => ⟨rfl, k⟩, fun q => absurd q (by decide)⟩, fun q => absurd q (by decide)⟩⟩
  · refine ⟨fun _ => ⟨fun q => absurd rfl q, fun _ => ⟨fun q => b0 ?_, fun q => b1 ?_⟩⟩, fun q => absurd (by decide) q⟩
    · rw [show opm 5 u v = 0 from if_neg (by rw [fa_lt9]; rw [fa_le9] at q; omega)] at k; exact k
    · rw [show opm 5 u v = 1 from if_pos (by rw [fa_lt9]; rw [fa_le9] at q; omega)] at k; exact k
  · refine ⟨fun _ => ⟨fun _ => ⟨fun q => absurd rfl q, fun _ => ⟨fun q => b0 ?_, fun q => b1 ?_⟩⟩, fun q => absurd q (by decide)⟩, fun q => absurd (by decide) q⟩
    · rw [show opm 6 u v = 0 from if_neg (by rw [fa_lt9]; rw [fa_le9] at q; omega)] at k; exact k
    · rw [show opm 6 u v = 1 from if_pos (by rw [fa_lt9]; rw [fa_le9] at q; omega)] at k; exact k
  · refine ⟨fun _ => ⟨fun _ => ⟨fun _ => ⟨fun q => absurd rfl q, fun _ => ⟨fun q => b0 ?_, fun q => b1 ?_⟩⟩, fun q => absurd q (by decide)⟩, fun q => absurd q (by decide)⟩, fun q => absurd (by decide) q⟩
    · rw [show opm 7 u v = 0 from if_neg q] at k; exact k
    · rw [show opm 7 u v = 1 from if_pos q] at k; exact k
  · refine ⟨fun _ => ⟨fun _ => ⟨fun _ => ⟨fun _ => ⟨fun q => absurd rfl q, fun _ => ⟨fun q => b0 ?_, fun q => b1 ?_⟩⟩, fun q => absurd q (by decide)⟩, fun q => absurd q (by decide)⟩, fun q => absurd q (by decide)⟩, fun q => absurd (by decide) q⟩
    · rw [show opm 9 u v = 0 from if_neg q] at k; exact k
    · rw [show opm 9 u v = 1 from if_pos q] at k; exact k
  · refine ⟨fun _ => ⟨fun _ => ⟨fun _ => ⟨fun _ => ⟨fun _ => ⟨fun q => b0 ?_, fun q => b1 ?_⟩, fun q => absurd q (by decide)⟩, fun q => absurd q (by decide)⟩, fun q => absurd q (by decide)⟩, fun q => absurd q (by decide)⟩, fun q => absurd (by decide) q⟩
    · rw [show opm 10 u v = 0 from if_pos q] at k; exact k
    · rw [show opm 10 u v = 1 from if_neg q] at k; exact k
/-- codes of a term, of a test -/
def WT : Nat → Bool → List (Nat × Int32) → Prop
  | 0, _, _ => False
  | d + 1, t, cs => (t = false ∧ ∃ n, cs = [(0, n)]) ∨ (t = false ∧ ∃ i, i < 8 ∧ cs = [(1, nI i)]) ∨ (t = true ∧ ∃ c1, WT d true c1 ∧ cs = c1 ++ [(8, 0)]) ∨
    ∃ w c1 c2, cs = c1 ++ c2 ++ [(w, 0)] ∧ (((w = 2 ∨ w = 3 ∨ w = 4) ∧ t = false ∧ WT d false c1 ∧ WT d false c2) ∨ ((w = 5 ∨ w = 6 ∨ w = 7) ∧ t = true ∧ WT d false c1 ∧ WT d false c2) ∨ ((w = 9 ∨ w = 10) ∧ t = true ∧ WT d true c1 ∧ WT d true c2))
theorem op_same {w : Nat} {u v : Int32} (h : w ≠ 9 ∧ w ≠ 10 ∨ (u = 0 ∨ u = 1) ∧ (v = 0 ∨ v = 1)) (hw : sgOK w) : opm w u v = opv w u v := by
  rcases hw with rfl | rfl | rfl | rfl | rfl | rfl | rfl | rfl
  · rfl
  · rfl
  · rfl
  · rfl
  · rfl
  · rfl
  · rcases h with h | ⟨rfl | rfl, rfl | rfl⟩
    · exact absurd rfl h.1
    all_goals decide
  · rcases h with h | ⟨rfl | rfl, rfl | rfl⟩
    · exact absurd rfl h.2
    all_goals decide
theorem op_bit {w : Nat} {u v : Int32} (h : (w = 5 ∨ w = 6 ∨ w = 7) ∨ (w = 9 ∨ w = 10) ∧ (u = 0 ∨ u = 1) ∧ (v = 0 ∨ v = 1)) : opv w u v = 0 ∨ opv w u v = 1 := by
  rcases h with (rfl | rfl | rfl) | ⟨rfl | rfl, rfl | rfl, rfl | rfl⟩
  · simp only [opv]; split <;> simp
  · simp only [opv]; split <;> simp
  · simp only [opv]; split <;> simp
  all_goals decide
def aS (I : Nat → Nat → Int32) (k : Nat) (A : Nat → Int32) : Nat → Nat → Int32 := fun j => if j = k then A else I j
theorem aU_aS (I : Nat → Nat → Int32) (k i : Nat) (A : Nat → Int32) (v : Int32) : aU (aS I k A) k i v = aS I k (fun j => if j = i then v else A j) := by
  funext a b
  unfold aU aS
  by_cases h : a = k <;> simp [h]
theorem aS_self (I : Nat → Nat → Int32) (k : Nat) : aS I k (I k) = I := by
  funext a b
  unfold aS
  by_cases h : a = k
  · subst h; simp
  · simp [h]
theorem aS_eq {I : Nat → Nat → Int32} {k : Nat} {A : Nat → Int32} : aS I k A k = A := if_pos rfl
theorem aS_ne {I : Nat → Nat → Int32} {k j : Nat} {A : Nat → Int32} (h : j ≠ k) : aS I k A j = I j := if_neg h
/-- the row of values on the reference's stack -/
def StkR (A : Nat → Int32) (st : List Int32) : Prop := ∀ i x, st.reverse[i]? = some x → A i = x
theorem StkR.push {A : Nat → Int32} {st : List Int32} {x : Int32} (h : StkR A st) : StkR (fun j => if j = st.length then x else A j) (x :: st) := by
  intro i y hi
  rw [List.reverse_cons] at hi
  by_cases c : i < st.length
  · rw [List.getElem?_append_left (by simpa using c)] at hi
    show (if i = st.length then x else A i) = y
    rw [if_neg (by omega)]
    exact h i y hi
  · have hl : i < (st.reverse ++ [x]).length := (List.getElem?_eq_some_iff.mp hi).1
    simp at hl
    have e : i = st.length := by omega
    subst e
    rw [List.getElem?_append_right (by simp)] at hi
    simp at hi
    simp [hi]
theorem StkR.top {A : Nat → Int32} {st : List Int32} {x : Int32} (h : StkR A (x :: st)) : A st.length = x := by
  apply h
  rw [List.reverse_cons, List.getElem?_append_right (by simp)]
  simp
theorem StkR.tail {A : Nat → Int32} {st : List Int32} {x : Int32} (h : StkR A (x :: st)) : StkR A st := by
  intro i y hi
  apply h
  have hl := (List.getElem?_eq_some_iff.mp hi).1
  rw [List.reverse_cons, List.getElem?_append_left hl]
  exact hi
/-- codes lie at a place -/
def CodesAt (I : Nat → Nat → Int32) (p : Nat) (cs : List (Nat × Int32)) : Prop := ∀ i q, cs[i]? = some q → I 24 (p + i) = nI q.1 ∧ I 25 (p + i) = q.2
theorem CodesAt.left {I : Nat → Nat → Int32} {p : Nat} {a b : List (Nat × Int32)} (h : CodesAt I p (a ++ b)) : CodesAt I p a := fun i q hi => h i q (by rw [List.getElem?_append_left (List.getElem?_eq_some_iff.mp hi).1]; exact hi)
theorem CodesAt.right {I : Nat → Nat → Int32} {p : Nat} {a b : List (Nat × Int32)} (h : CodesAt I p (a ++ b)) : CodesAt I (p + a.length) b := fun i q hi => by
  have := h (a.length + i) q (by rw [List.getElem?_append_right (by omega)]; simpa using hi)
  rw [Nat.add_assoc]
  exact this
theorem CodesAt.last {I : Nat → Nat → Int32} {p : Nat} {a : List (Nat × Int32)} {q : Nat × Int32} (h : CodesAt I p (a ++ [q])) : I 24 (p + a.length) = nI q.1 ∧ I 25 (p + a.length) = q.2 := h a.length q (by simp)
theorem WT.pos : ∀ {d : Nat} {t : Bool} {cs : List (Nat × Int32)}, WT d t cs → 0 < cs.length
  | 0, _, _, h => h.elim
  | d + 1, t, cs, h => by
    rcases h with ⟨_, n, rfl⟩ | ⟨_, i, _, rfl⟩ | ⟨_, c1, _, rfl⟩ | ⟨w, c1, c2, rfl, _⟩ <;> simp <;> omega
theorem w_run {G : GC} {ad : Nat → Nat} {o : Nat} {F : Nat → Int32} {L : Nat → Int64} {I : Nat → Nat → Int32} {J : Nat → Nat → Int64} {σ0 : PS} {Q : MPost} {hb x4 : Int32} {E : Nat} (Fc : Nat → Int32) (hF : ∀ i, i < 8 → I 56 i = Fc i) (hE : 150 * hb + x4 = nI E) (hE2 : E ≤ 1050) : ∀ (d : Nat) (t : Bool) (cs : List (Nat × Int32)), WT d t cs → ∀ (p : Nat) (st : List Int32) (A : Nat → Int32), CodesAt I p cs → p + cs.length ≤ E → st.length + cs.length ≤ 150 → StkR A st →
    (∀ x A', (∀ s', rn Fc cs s' = x :: s') → (t = true → x = 0 ∨ x = 1) → StkR A' (x :: st) → AtM G mX9_isSo 4 ad o σ0 Q 53 [(0, .ref o), (1, .int hb), (4, .int x4), (5, .int (nI (st.length + 1))), (6, .int (nI (p + cs.length)))] [] F L (aS I 23 A') J) →
    AtM G mX9_isSo 4 ad o σ0 Q 53 [(0, .ref o), (1, .int hb), (4, .int x4), (5, .int (nI st.length)), (6, .int (nI p))] [] F L (aS I 23 A) J := by
  intro d
  induction d with
  | zero => intro t cs h; exact h.elim
  | succ d ih =>
    intro t cs h p st A hc hp hs hA k
    rcases h with ⟨ht, n, rfl⟩ | ⟨ht, i, hi, rfl⟩ | ⟨ht, c1, h1, rfl⟩ | ⟨w, c1, c2, rfl, hw⟩
    · obtain ⟨g1, g2⟩ := hc 0 _ rfl
      have g1 : I 24 (p + 0) = 0 := g1
      simp at hp hs
      refine bX9_isSo_53 ⟨fun q => ?_, fun _ => ⟨vp_in_nI (by omega) (by decide), fun v7 h7 => ?_⟩⟩
      · rw [hE] at q; exact absurd q (nI_ge (by omega) (by omega))
      · rw [aS_ne (by decide), nI_clamp (by omega)] at h7
        rw [h7]
        rw [show p = p + 0 from rfl, g1]
        refine ⟨fun q => absurd q (by decide), fun _ => ⟨fun q => absurd rfl q, fun _ => ⟨vp_in_nI (by omega) (by decide), vp_in_nI (by omega) (by decide), fun I1 hI1 v5 h5 v6 h6 => ?_⟩⟩⟩
        rw [aU_aS, aS_ne (by decide), nI_clamp (show st.length < 2 ^ 31 by omega), nI_clamp (show p + 0 < 2 ^ 31 by omega), g2] at hI1
        rw [hI1, h5, h6, nI_1, nI_1]
        exact k n _ (fun s' => rfl) (fun z => by rw [ht] at z; cases z) hA.push
    · obtain ⟨g1, g2⟩ := hc 0 _ rfl
      have g1 : I 24 (p + 0) = 1 := g1
      simp at hp hs
      refine bX9_isSo_53 ⟨fun q => ?_, fun _ => ⟨vp_in_nI (by omega) (by decide), fun v7 h7 => ?_⟩⟩
      · rw [hE] at q; exact absurd q (nI_ge (by omega) (by omega))
      · rw [aS_ne (by decide), nI_clamp (by omega)] at h7
        rw [h7]
        rw [show p = p + 0 from rfl, g1]
        refine ⟨fun q => absurd q (by decide), fun _ => ⟨fun _ => ?_, fun q => absurd q (by decide)⟩⟩
        refine ⟨vp_in_nI (by omega) (by decide), ?_⟩
        rw [aS_ne (by decide), nI_clamp (show p + 0 < 2 ^ 31 by omega), g2]
        refine ⟨vp_in_nI hi (by decide), vp_in_nI (by omega) (by decide), fun I1 hI1 v5 h5 v6 h6 => ?_⟩
        rw [aU_aS, aS_ne (by decide), nI_clamp (show st.length < 2 ^ 31 by omega), nI_clamp (show i < 2 ^ 31 by omega), hF i hi] at hI1
        rw [hI1, h5, h6, nI_1, nI_1]
        refine k (Fc i) _ (fun s' => ?_) (fun z => by rw [ht] at z; cases z) hA.push
        simp [rn, rn1, nI_clamp (show i < 2 ^ 31 by omega)]
    · simp at hp hs
      refine ih true c1 h1 p st A hc.left (by omega) (by omega) hA (fun x A' hx hb' hA' => ?_)
      obtain ⟨g1, g2⟩ := hc.last
      have top := hA'.top
      refine bX9_isSo_53 ⟨fun q => ?_, fun _ => ⟨vp_in_nI (by omega) (by decide), fun v7 h7 => ?_⟩⟩
      · rw [hE] at q; exact absurd q (nI_ge (by omega) (by omega))
      · rw [aS_ne (by decide), nI_clamp (by omega), g1] at h7
        rw [h7]
        rw [show nI (st.length + 1) - 1 = nI st.length from nI_pred _, nI_clamp (show st.length < 2 ^ 31 by omega), aS_eq, top]
        refine ⟨fun _ => ⟨fun q => absurd rfl q, fun _ => ⟨vp_in_nI (by omega) (by decide), fun w hw => ⟨vp_in_nI (by omega) (by decide), fun I1 hI1 v6 h6 => ?_⟩⟩⟩, fun q => absurd (by decide) q⟩
        rw [aU_aS] at hI1
        rw [hI1, h6, nI_1, hw]
        have e : p + c1.length + 1 = p + (c1 ++ [(8, (0 : Int32))]).length := by simp; omega
        rw [e]
        refine k (1 - x) _ (fun s' => ?_) (fun _ => ?_) hA'.tail.push
        · rw [rn_app, hx]; rfl
        · rcases hb' rfl with rfl | rfl
          · exact Or.inr rfl
          · exact Or.inl rfl
    · have hh : ∃ t1, WT d t1 c1 ∧ WT d t1 c2 ∧ sgOK w ∧ (t1 = true ↔ (w = 9 ∨ w = 10)) ∧ (t = true ↔ ¬ (w = 2 ∨ w = 3 ∨ w = 4)) := by
        rcases hw with ⟨a1, rfl, a3, a4⟩ | ⟨a1, rfl, a3, a4⟩ | ⟨a1, rfl, a3, a4⟩
        · refine ⟨false, a3, a4, ?_, ?_, ?_⟩
          · unfold sgOK; omega
          · rcases a1 with rfl | rfl | rfl <;> decide
          · rcases a1 with rfl | rfl | rfl <;> decide
        · refine ⟨false, a3, a4, ?_, ?_, ?_⟩
          · unfold sgOK; omega
          · rcases a1 with rfl | rfl | rfl <;> decide
          · rcases a1 with rfl | rfl | rfl <;> decide
        · refine ⟨true, a3, a4, ?_, ?_, ?_⟩
          · unfold sgOK; omega
          · rcases a1 with rfl | rfl <;> decide
          · rcases a1 with rfl | rfl <;> decide
      obtain ⟨t1, w1, w2, hsg, ht1, ht⟩ := hh
      simp at hp hs
      refine ih t1 c1 w1 p st A hc.left.left (by omega) (by omega) hA (fun x A1 hx hbx hA1 => ?_)
      have hr := hc.left.right
      refine ih t1 c2 w2 (p + c1.length) (x :: st) A1 hr (by omega) (by simp; omega) hA1 (fun y A2 hy hby hA2 => ?_)
      have hl := hc.last
      rw [List.length_append] at hl
      obtain ⟨g1, g2⟩ := hl
      have pos1 := w1.pos
      have pos2 := w2.pos
      have top2 := hA2.top
      have top1 := hA2.tail.top
      simp only [List.length_cons] at top2 ⊢
      have hw9 : 2 ≤ w ∧ w ≤ 10 ∧ w ≠ 8 := by unfold sgOK at hsg; omega
      rw [Nat.add_assoc p]
      refine bX9_isSo_53 ⟨fun q => ?_, fun _ => ⟨vp_in_nI (by omega) (by decide), fun v7 h7 => ?_⟩⟩
      · rw [hE] at q; exact absurd q (nI_ge (by omega) (by omega))
      · rw [aS_ne (by decide), nI_clamp (by omega), g1] at h7
        rw [h7]
        refine ⟨fun _ => ⟨fun _ v5 h5 => ?_, fun q => absurd ((nI_eq (b := 8) (by omega) (by decide)).mp q) hw9.2.2⟩, fun q => absurd (nI_lt (a := 1) (by omega) (by omega)) q⟩
        rw [pk_m1] at h5
        rw [h5, show nI (st.length + 1) - 1 = nI st.length from nI_pred _, nI_clamp (show st.length < 2 ^ 31 by omega), nI_clamp (show st.length + 1 < 2 ^ 31 by omega), aS_eq, top1, top2]
        refine ⟨vp_in_nI (by omega) (by decide), vp_in_nI (by omega) (by decide), w_both hsg ⟨_, rfl, vp_in_nI (by omega) (by decide), fun I1 hI1 v6 h6 => ?_⟩⟩
        rw [aU_aS] at hI1
        have hop : opm w x y = opv w x y := by
          refine op_same ?_ hsg
          by_cases z : w = 9 ∨ w = 10
          · exact Or.inr ⟨hbx (ht1.mpr z), hby (ht1.mpr z)⟩
          · exact Or.inl ⟨fun q => z (Or.inl q), fun q => z (Or.inr q)⟩
        rw [hI1, h6, nI_1, hop]
        have e : p + (c1.length + c2.length) + 1 = p + (c1 ++ c2 ++ [(w, (0 : Int32))]).length := by simp; omega
        rw [e]
        refine k (opv w x y) _ (fun s' => ?_) (fun z => ?_) hA2.tail.tail.push
        · rw [rn_app, rn_app, hx, hy]
          rcases hsg with rfl | rfl | rfl | rfl | rfl | rfl | rfl | rfl <;> rfl
        · have z := ht.mp z
          refine op_bit ?_
          by_cases z9 : w = 9 ∨ w = 10
          · exact Or.inr ⟨z9, hbx (ht1.mpr z9), hby (ht1.mpr z9)⟩
          · refine Or.inl ?_
            omega
