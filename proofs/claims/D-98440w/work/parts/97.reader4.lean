/-! Part B: the component's reader: numbers -/
theorem dgF_s {t : Nat → Nat} {n f v a : Nat} (h : a < n ∧ digit (t a)) : dgF t n (f + 1) v a = dgF t n f (10 * v + (t a - 48)) (a + 1) := if_pos h
theorem dgF_e {t : Nat → Nat} {n f v a : Nat} (h : ¬ (a < n ∧ digit (t a))) : dgF t n f v a = (v, a) := by
  cases f with
  | zero => rfl
  | succ f => exact if_neg h
theorem if_nI {c : Prop} {_ : Decidable c} (h : (if c then (1 : Int32) else 0) = 0) : ¬ c := fun w => by
  rw [if_pos w] at h
  exact absurd h (by decide)
theorem if_nI1 {c : Prop} {_ : Decidable c} (h : ¬ (if c then (1 : Int32) else 0) = 0) : c := Classical.byContradiction (fun w => h (if_neg w))
theorem k_number {G : GC} {σ : PS} {Q : Option Value → PS → Prop} {X : String → Nat → PS → Prop} {b r tb n a o lo hi : Nat} {t : Nat → Nat} {y : Int32} (h : RdO σ r tb t n a o) (hb : (∃ e, nm t n lo hi a = .inl e) → 1 ≤ b) (hlo : lo ≤ 1000) (hhi : hi ≤ 1000) (hy : ∀ v, v < 2 ^ 30 → (nI v ≤ y ↔ v < hi)) (k : ∀ v a', nm t n lo hi a = .inr (v, a') → ∀ τ, RdO τ r tb t n a' o → Fr (RdD r) σ τ → Q (some (.int (nI v))) τ) (kx : ∀ w p, nm t n lo hi a = .inl (w, p) → Thr X r σ w p) : Call G mX11_number 10 b [.ref r, .int (nI lo), .int y] σ Q X := by
  have hn := h.2.2.1
  have ha := h.2.2.2.2.1
  have ht := h.2.2.2.1
  have hs := sk_b (t := t) ha
  refine eX11_number (bX11_number_0 ⟨⟨_, h.1⟩, k_place h (fun τ hO hF => ⟨_, rfl, _, ⟨_, hO.1, rfl⟩, ⟨_, hO.1⟩, k_byteAt hO (by omega) ⟨_, rfl, k_isDigit ht ⟨_, rfl, fun z => ?_, fun z => ?_⟩⟩⟩)⟩)
  · have z1 := if_nI1 z
    unfold nm at k kx hb
    rw [if_pos z1] at k kx hb
    revert k kx hb
    generalize hR : dgF t n (n - sk t n a) 0 (sk t n a) = R
    intro hb k kx
    have B2 : ¬ (lo ≤ R.1 ∧ R.1 < hi) → 1 ≤ b := fun w => hb ⟨_, if_neg w⟩
    have T2 : ¬ (lo ≤ R.1 ∧ R.1 < hi) → ∀ υ, Fr (RdD r) σ υ → ∀ q, (∀ κ, υ κ q = none) → ∀ s1, s1 = up υ 12 q (.inl [.null, .null, .null, .null, .null, .int 0, .int 0, .int 0]) → Call G mX12_init 6 0 [.ref q, .int 2, .int (nI (sk t n a))] s1 (qV (fun s1_4 => ∃ fs : List Value, Ob s1_4 12 q fs ∧ X "CardCups$Wrong" q s1_4)) X := by
      intro hR2 υ hG q hq s1 e1
      subst e1
      rw [if_neg hR2] at kx
      refine k_wrong (why := 2) up_eq (fun υ2 w f => ⟨rfl, ?_⟩)
      obtain ⟨v0, v1, v2, v3, v4, v5, w1⟩ := id w
      exact ⟨_, w1, kx _ _ rfl q υ2 w (hG.kp.tr (fresh_kp hq f))⟩
    have E : ∀ v c i, i ≤ n → ¬ (i < n ∧ digit (t i)) → R = (v, i) → c = min v 1000000 → ∀ υ, RdO υ r tb t n i o → Fr (RdD r) σ υ → At G mX11_number 10 Q X b 35 [(0, .ref r), (1, .int (nI lo)), (2, .int y), (3, .int (nI (sk t n a))), (4, .int (nI c))] [] υ := by
      intro v c i h2 hd h3 hc υ hU hG
      subst h3
      have y1 := hy c (by omega)
      have l1 : nI c < nI lo ↔ c < lo := nI_ltI (by omega) (by omega)
      refine bX11_number_35 ⟨_, ⟨_, hU.1, rfl⟩, ⟨_, hU.1⟩, k_byteAt hU (by omega) ⟨_, rfl, k_isDigit ht ⟨_, rfl, fun _ => ⟨fun q => ?_, fun q => ⟨fun w => ?_, fun w => ?_⟩⟩, fun z => absurd (if_neg hd) z⟩⟩⟩
      · have n2 : ¬ (lo ≤ (v, i).1 ∧ (v, i).1 < hi) := fun w => by
          have q1 := l1.mp q
          have w1 : lo ≤ v := w.1
          omega
        exact ⟨B2 n2, T2 n2 υ hG⟩
      · have q1 : ¬ c < lo := fun u => q (l1.mpr u)
        have w1 := y1.mp w
        have ok : lo ≤ v ∧ v < hi := by omega
        have cv : c = v := by omega
        rw [if_pos (show lo ≤ (v, i).1 ∧ (v, i).1 < hi from ok)] at k
        rw [cv]
        exact k v i rfl υ hU hG
      · have n2 : ¬ (lo ≤ (v, i).1 ∧ (v, i).1 < hi) := fun w2 => by
          have w1 : ¬ c < hi := fun u => w (y1.mpr u)
          have w3 : v < hi := w2.2
          omega
        exact ⟨B2 n2, T2 n2 υ hG⟩
    have Lp : ∀ d v c i, n - i = d → i ≤ n → dgF t n d v i = R → c = min v 1000000 → ∀ υ, RdO υ r tb t n i o → Fr (RdD r) σ υ → At G mX11_number 10 Q X b 35 [(0, .ref r), (1, .int (nI lo)), (2, .int y), (3, .int (nI (sk t n a))), (4, .int (nI c))] [] υ := by
      intro d
      induction d with
      | zero =>
        intro v c i hd h2 h3 hc υ hU hG
        have nd : ¬ (i < n ∧ digit (t i)) := fun w => by
          have := w.1
          omega
        rw [dgF_e nd] at h3
        exact E v c i h2 nd h3.symm hc υ hU hG
      | succ d ih =>
        intro v c i hd h2 h3 hc υ hU hG
        by_cases dg : i < n ∧ digit (t i)
        · rw [dgF_s dg] at h3
          have d1 := dg.2.1
          have d2 := dg.2.2
          refine bX11_number_35 ⟨_, ⟨_, hU.1, rfl⟩, ⟨_, hU.1⟩, k_byteAt hU (by omega) ⟨_, rfl, k_isDigit ht ⟨_, rfl, fun z => absurd dg (if_nI z), fun _ => ⟨_, ⟨_, hU.1, rfl⟩, ⟨_, hU.1⟩, k_byteAt hU (by omega) ⟨_, rfl, fun w hw => ⟨_, ⟨_, hU.1, rfl⟩, _, hU.1, by simp, fun s1 e1 => ?_⟩⟩⟩⟩⟩⟩
          rw [bt_lt dg.1, show (10 : Int32) = nI 10 from rfl, pk_mul, nI_add, show (48 : Int32) = nI 48 from rfl, pk_sub (by omega), show (1000000 : Int32) = nI 1000000 from rfl] at hw
          rw [nI_1] at e1
          subst e1
          have hw2 : w = nI (min (10 * v + (t i - 48)) 1000000) := by
            rw [hw]
            by_cases u : 1000000 < 10 * c + t i - 48
            · rw [if_pos (nI_lt u (by omega))]
              congr 1
              omega
            · rw [if_neg (nI_nlt (by omega) (by omega))]
              congr 1
              omega
          rw [hw2]
          exact ih (10 * v + (t i - 48)) _ (i + 1) (by omega) (by omega) h3 rfl _ (hU.at (by omega) hU.2.2.2.2.2) (hG.up ⟨rfl, rfl⟩)
        · rw [dgF_e dg] at h3
          exact E v c i h2 dg h3.symm hc υ hU hG
    exact Lp (n - sk t n a) 0 0 (sk t n a) rfl hs.2.1 hR rfl τ hO hF
  · have z1 := if_nI z
    unfold nm at kx hb
    rw [if_neg z1] at kx hb
    refine ⟨hb ⟨_, rfl⟩, fun q hq s1 e1 => ?_⟩
    subst e1
    refine ⟨_, ⟨_, (up_ne (Or.inl (by decide))).trans hO.1, rfl⟩, k_wrong (why := 1) up_eq (fun υ w f => ⟨rfl, ?_⟩)⟩
    obtain ⟨v0, v1, v2, v3, v4, v5, w1⟩ := id w
    exact ⟨_, w1, kx _ _ rfl q υ w (hF.kp.tr (fresh_kp hq f))⟩
