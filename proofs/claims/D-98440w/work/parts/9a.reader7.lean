/-! Part B: the component's reader: which word -/
/-- the words ws, told from i on -/
def WsT (ws : List (List Nat)) (i : Nat) : Prop := ∀ j w, ws[j]? = some w → ∃ q, strTab[i + j]? = some q ∧ q.2.2.2 = w.map nI ∧ (∀ x, x ∈ w → x < 256) ∧ w.length ≤ 20 ∧ 0 < w.length
def WsO (G : GC) (σ : PS) (a i n : Nat) : Prop := ∃ f, σ 107 a = some (.inr (n, .inr (.inr f))) ∧ ∀ j, j < n → f j = some (gk G (i + j))
def ix9 (u : Option Nat) : Int32 := match u with
  | some k => nI k
  | none => -1
theorem k_which {G : GC} {σ : PS} {Q : Option Value → PS → Prop} {X : String → Nat → PS → Prop} {b r tb n a o i wa : Nat} {t : Nat → Nat} {ws : List (List Nat)} (h : RdO σ r tb t n a o) (hT : WsT ws i) (hW : WsO G σ wa i ws.length) (h0 : 0 < ws.length) (hl : ws.length ≤ 20) (k : ∀ τ, RdO τ r tb t n (sk t n a) o → Fr (RdD r) σ τ → Q (some (.int (ix9 (idx (wd t n (sk t n a)) ws 0)))) τ) : Call G mX11_which 8 b [.ref r, .ref wa] σ Q X := by
  obtain ⟨f, f1, f2⟩ := hW
  refine eX11_which (bX11_which_0 ?_)
  have L : ∀ d j, j + d = ws.length → idx (wd t n (sk t n a)) (ws.drop j) j = idx (wd t n (sk t n a)) ws 0 → ∀ a' τ, sk t n a' = sk t n a → (0 < j → a' = sk t n a) → RdO τ r tb t n a' o → Fr (RdD r) σ τ → At G mX11_which 8 Q X b 2 [(0, .ref r), (1, .ref wa), (2, .int (nI j))] [] τ := by
    intro d
    induction d with
    | zero =>
      intro j hj he a' τ hs hp hO hF
      have hj : j = ws.length := by omega
      have fτ := (hF 107 wa (fun w => absurd w.1 (by decide))).trans f1
      refine bX11_which_2 ⟨_, _, fτ, fun _ => ?_, fun z => absurd (nI_le (by omega) (by omega)) z⟩
      rw [hp (by omega)] at hO
      have kk := k τ hO hF
      rw [← he, List.drop_eq_nil_of_le (by omega)] at kk
      exact kk
    | succ d ih =>
      intro j hj he a' τ hs hp hO hF
      have hjl : j < ws.length := by omega
      have fτ := (hF 107 wa (fun w => absurd w.1 (by decide))).trans f1
      obtain ⟨q, q1, q2, q3, q4, q5⟩ := hT j ws[j] (List.getElem?_eq_getElem hjl)
      have hcl := nI_clamp (show j < 2 ^ 31 by omega)
      refine bX11_which_2 ⟨_, _, fτ, fun z => absurd z (nI_ge hjl (by omega)), fun _ => ⟨_, f, gk G (i + j), fτ, vp_in_nI hjl (by omega), by rw [hcl]; exact f2 j hjl, ⟨_, hO.1⟩, k_isWord hO q1 q2 q3 q4 (fun υ hU hG => ⟨_, rfl, fun z v2 e2 => ?_, fun z => ?_⟩)⟩⟩
      · have z1 := if_nI z
        rw [hs] at z1 hU
        rw [e2, nI_1]
        refine ih (j + 1) (by omega) ?_ (sk t n a) υ (sk_sk h.2.2.2.2.1) (fun _ => rfl) hU (hF.tr hG)
        rw [← he, List.drop_eq_getElem_cons hjl, idx, if_neg z1]
      · have z1 := if_nI1 z
        rw [hs] at z1 hU
        have kk := k υ hU (hF.tr hG)
        rw [← he, List.drop_eq_getElem_cons hjl, idx, if_pos z1] at kk
        exact kk
  exact L ws.length 0 (by omega) (by rw [List.drop_zero]) a σ rfl (fun q => absurd q (by decide)) h Fr.rf
