/-! Part B: the component's reader -/
def bt (t : Nat → Nat) (n k : Nat) : Int32 := if k < n then nI (t k) else -1
/-- a reader r of the tape b, n bytes; at a, o opened -/
def RdO (σ : PS) (r b : Nat) (t : Nat → Nat) (n a o : Nat) : Prop := σ 11 r = some (.inl [.ref b, .int (nI n), .int (nI a), .int (nI o)]) ∧ (∃ ft, σ 102 b = some (.inr (600, .inl ft)) ∧ ∀ i, i < n → ft i &&& 255 = nI (t i)) ∧ n ≤ 600 ∧ (∀ i, i < n → t i < 256) ∧ a ≤ n ∧ o ≤ 6
theorem RdO.at {σ : PS} {r b n a a' o o' : Nat} {t : Nat → Nat} (h : RdO σ r b t n a o) (ha : a' ≤ n) (ho : o' ≤ 6) : RdO (up σ 11 r (.inl [.ref b, .int (nI n), .int (nI a'), .int (nI o')])) r b t n a' o' := by
  obtain ⟨h1, ⟨ft, h2, h3⟩, h4, h5, -, -⟩ := h
  exact ⟨up_eq, ⟨ft, (up_ne (Or.inl (by decide))).trans h2, h3⟩, h4, h5, ha, ho⟩
theorem bt_lt {t : Nat → Nat} {n k : Nat} (h : k < n) : bt t n k = nI (t k) := if_pos h
theorem bt_ge {t : Nat → Nat} {n k : Nat} (h : n ≤ k) : bt t n k = -1 := if_neg (by omega)
theorem bt_is {t : Nat → Nat} {n k c : Nat} (ht : ∀ i, i < n → t i < 256) (hc : c < 256) : bt t n k = nI c ↔ k < n ∧ t k = c := by
  unfold bt
  by_cases h : k < n
  · rw [if_pos h, nI_eq (by have := ht k h; omega) (by omega)]
    exact ⟨fun e => ⟨h, e⟩, fun e => e.2⟩
  · rw [if_neg h]
    exact ⟨fun e => absurd e.symm (m1_nI (by omega)), fun e => absurd e.1 h⟩
theorem k_byteAt {G : GC} {σ : PS} {r b n a o k : Nat} {t : Nat → Nat} {P : Option Value → Prop} (h : RdO σ r b t n a o) (hk : k < 2 ^ 30) (kq : P (some (.int (bt t n k)))) : CallO G mX11_byteAt 3 [.ref r, .int (nI k)] σ P := by
  obtain ⟨h1, ⟨ft, h2, h3⟩, h4, h5, h6, h7⟩ := h
  refine eX11_byteAt (bX11_byteAt_0 ⟨_, ⟨_, h1, rfl⟩, fun z => ⟨rfl, ?_⟩, fun z => ⟨_, ⟨_, h1, rfl⟩, 600, ft, h2, ?_, fun w hw => ⟨rfl, ?_⟩⟩⟩)
  · have z1 := (nI_leI (by omega) (by omega)).mp z
    rw [bt_ge z1] at kq
    exact kq
  · have z1 : k < n := Nat.lt_of_not_le (fun u => z (nI_le u (by omega)))
    exact vp_in_nI (by omega) (by decide)
  · have z1 : k < n := Nat.lt_of_not_le (fun u => z (nI_le u (by omega)))
    rw [nI_clamp (by omega), h3 k z1] at hw
    rw [bt_lt z1, ← hw] at kq
    exact kq
theorem sk_ge {t : Nat → Nat} {n : Nat} : ∀ f a, a ≤ n → n - a ≤ f → a ≤ skF t n f a ∧ skF t n f a ≤ n ∧ ¬ (skF t n f a < n ∧ t (skF t n f a) = 32)
  | 0, a, h1, h2 => by
    show a ≤ a ∧ a ≤ n ∧ ¬ (a < n ∧ t a = 32)
    exact ⟨Nat.le_refl _, h1, fun q => by
      have := q.1
      omega⟩
  | f + 1, a, h1, h2 => by
    rw [skF]
    by_cases q : a < n ∧ t a = 32
    · rw [if_pos q]
      have := sk_ge (t := t) (n := n) f (a + 1) (by omega) (by omega)
      exact ⟨by omega, this.2⟩
    · rw [if_neg q]
      exact ⟨Nat.le_refl _, h1, q⟩
theorem sk_at {t : Nat → Nat} {n a : Nat} (h : ¬ (a < n ∧ t a = 32)) : sk t n a = a := by
  unfold sk
  cases n - a with
  | zero => rfl
  | succ f => rw [skF, if_neg h]
theorem sk_s {t : Nat → Nat} {n a : Nat} (h : a < n ∧ t a = 32) : sk t n a = sk t n (a + 1) := by
  unfold sk
  rw [show n - a = n - (a + 1) + 1 by omega, skF, if_pos h]
theorem sk_b {t : Nat → Nat} {n a : Nat} (h : a ≤ n) : a ≤ sk t n a ∧ sk t n a ≤ n ∧ ¬ (sk t n a < n ∧ t (sk t n a) = 32) := sk_ge _ _ h (Nat.le_refl _)
theorem sk_sk {t : Nat → Nat} {n a : Nat} (h : a ≤ n) : sk t n (sk t n a) = sk t n a := sk_at (sk_b h).2.2
def RdD (r κ x : Nat) : Prop := κ = 11 ∧ x = r
theorem k_now {G : GC} {σ : PS} {Q : Option Value → PS → Prop} {X : String → Nat → PS → Prop} {b r tb n a o : Nat} {t : Nat → Nat} (h : RdO σ r tb t n a o) (k : ∀ τ, RdO τ r tb t n (sk t n a) o → Fr (RdD r) σ τ → Q (some (.int (bt t n (sk t n a)))) τ) : Call G mX11_now 4 b [.ref r] σ Q X := by
  refine eX11_now ?_
  have L : ∀ d a', n - a' = d → a' ≤ n → sk t n a' = sk t n a → ∀ τ, RdO τ r tb t n a' o → Fr (RdD r) σ τ → At G mX11_now 4 Q X b 0 [(0, .ref r)] [] τ := by
    intro d
    induction d with
    | zero =>
      intro a' hd hn hs τ hO hF
      have e : bt t n a' = -1 := bt_ge (by omega)
      have e2 : sk t n a' = a' := sk_at (fun q => absurd q.1 (by omega))
      refine bX11_now_0 ⟨_, ⟨_, hO.1, rfl⟩, ⟨_, hO.1⟩, k_byteAt hO (by have := hO.2.2.1; omega) ⟨_, rfl, fun _ => ⟨_, ⟨_, hO.1, rfl⟩, ⟨_, hO.1⟩, k_byteAt hO (by have := hO.2.2.1; omega) ⟨_, rfl, ?_⟩⟩, fun q => ?_⟩⟩
      · rw [e2] at hs
        rw [← hs] at k
        exact k τ hO hF
      · rw [e] at q
        exact absurd q (by decide)
    | succ d ih =>
      intro a' hd hn hs τ hO hF
      have hi := bt_is (k := a') (c := 32) hO.2.2.2.1 (by decide)
      refine bX11_now_0 ⟨_, ⟨_, hO.1, rfl⟩, ⟨_, hO.1⟩, k_byteAt hO (by have := hO.2.2.1; omega) ⟨_, rfl, fun q => ⟨_, ⟨_, hO.1, rfl⟩, ⟨_, hO.1⟩, k_byteAt hO (by have := hO.2.2.1; omega) ⟨_, rfl, ?_⟩⟩, fun q => ⟨_, ⟨_, hO.1, rfl⟩, _, hO.1, by simp, fun s1 e1 => ?_⟩⟩⟩
      · have e2 : sk t n a' = a' := sk_at (fun u => q (hi.mpr u))
        rw [e2] at hs
        rw [← hs] at k
        exact k τ hO hF
      · have q1 := hi.mp q
        rw [nI_1] at e1
        subst e1
        exact ih (a' + 1) (by omega) (by omega) (by rw [← sk_s q1]; exact hs) _ (hO.at (by omega) hO.2.2.2.2.2) (hF.up ⟨rfl, rfl⟩)
  exact L (n - a) a rfl h.2.2.2.2.1 rfl σ h Fr.rf
