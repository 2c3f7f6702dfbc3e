/-! Part B: the component's reader: words taken -/
theorem k_takes {G : GC} {σ : PS} {Q : Option Value → PS → Prop} {X : String → Nat → PS → Prop} {b r tb n a o i : Nat} {t : Nat → Nat} {q : String × Nat × String × List Int32} {w : List Nat} (h : RdO σ r tb t n a o) (hi : strTab[i]? = some q) (hw : q.2.2.2 = w.map nI) (hw2 : ∀ x, x ∈ w → x < 256) (hw3 : w.length ≤ 20) (hw0 : 0 < w.length) (k1 : wd t n (sk t n a) = w → ∀ τ, RdO τ r tb t n (sk t n a + w.length) o → Fr (RdD r) σ τ → Q (some (.int 1)) τ) (k0 : ¬ wd t n (sk t n a) = w → ∀ τ, RdO τ r tb t n (sk t n a) o → Fr (RdD r) σ τ → Q (some (.int 0)) τ) : Call G mX11_takes 8 b [.ref r, .ref (gk G i)] σ Q X := by
  refine eX11_takes (bX11_takes_0 ⟨⟨_, h.1⟩, k_isWord h hi hw hw2 hw3 (fun τ hO hF => ⟨_, rfl, fun z => ?_, fun z => ?_⟩)⟩)
  · have z1 := if_nI z
    rw [if_neg z1]
    exact ⟨Or.inl rfl, k0 z1 τ hO hF⟩
  · have z1 := if_nI1 z
    rw [if_pos z1]
    have hl : q.2.2.2.length = w.length := by rw [hw, List.length_map]
    have hle : sk t n a + w.length ≤ n := by
      have r := (wd_at (t := t) (n := n) (a := sk t n a)).1 (w.length - 1) (by rw [z1]; omega)
      have := r.1
      omega
    refine ⟨_, ⟨_, hO.1, rfl⟩, i, q, rfl, hi, fun w9 e9 => ⟨_, hO.1, by simp, fun s1 e1 => ⟨Or.inr rfl, ?_⟩⟩⟩
    rw [hl, nI_add] at e9
    rw [e9] at e1
    subst e1
    exact k1 z1 _ (hO.at hle hO.2.2.2.2.2) (hF.up ⟨rfl, rfl⟩)
theorem k_skipsWord {G : GC} {σ : PS} {Q : Option Value → PS → Prop} {X : String → Nat → PS → Prop} {b r tb n a o : Nat} {t : Nat → Nat} (h : RdO σ r tb t n a o) (k : ∀ τ, RdO τ r tb t n (a + (wd t n a).length) o → Fr (RdD r) σ τ → Q none τ) : Call G mX11_skipsWord 4 b [.ref r] σ Q X := by
  have hn := h.2.2.1
  have ht := h.2.2.2.1
  have ha := h.2.2.2.2.1
  obtain ⟨w1, w2⟩ := wd_at (t := t) (n := n) (a := a)
  refine eX11_skipsWord ?_
  have L : ∀ d j, j + d = (wd t n a).length → ∀ τ, RdO τ r tb t n (a + j) o → Fr (RdD r) σ τ → At G mX11_skipsWord 4 Q X b 0 [(0, .ref r)] [] τ := by
    intro d
    induction d with
    | zero =>
      intro j hj τ hO hF
      have hj : j = (wd t n a).length := by omega
      refine bX11_skipsWord_0 ⟨_, ⟨_, hO.1, rfl⟩, ⟨_, hO.1⟩, k_byteAt hO (by have := hO.2.2.2.2.1; omega) ⟨_, rfl, k_isSmall ht ⟨_, rfl, fun _ => ?_, fun z => ?_⟩⟩⟩
      · rw [hj] at hO
        exact k τ hO hF
      · rw [← hj] at w2
        exact absurd (if_neg w2) z
    | succ d ih =>
      intro j hj τ hO hF
      have w4 := w1 j (by omega)
      refine bX11_skipsWord_0 ⟨_, ⟨_, hO.1, rfl⟩, ⟨_, hO.1⟩, k_byteAt hO (by omega) ⟨_, rfl, k_isSmall ht ⟨_, rfl, fun z => absurd ⟨w4.1, w4.2.1⟩ (if_nI z), fun _ => ⟨_, ⟨_, hO.1, rfl⟩, _, hO.1, by simp, fun s1 e1 => ?_⟩⟩⟩⟩
      rw [nI_1] at e1
      subst e1
      exact ih (j + 1) (by omega) _ (hO.at (by omega) hO.2.2.2.2.2) (hF.up ⟨rfl, rfl⟩)
  exact L (wd t n a).length 0 (by omega) σ h Fr.rf
