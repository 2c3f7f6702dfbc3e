/-! Part B: the component's reader: signs, numbers -/
theorem k_sign {G : GC} {σ : PS} {Q : Option Value → PS → Prop} {X : String → Nat → PS → Prop} {b r tb n a o c : Nat} {t : Nat → Nat} (h : RdO σ r tb t n a o) (hb : ¬ sg t n c a → 1 ≤ b) (hc : c < 256) (k : sg t n c a → ∀ τ, RdO τ r tb t n (sk t n a + 1) o → Fr (RdD r) σ τ → Q none τ) (kx : ¬ sg t n c a → Thr X r σ 1 (sk t n a)) : Call G mX11_sign 10 b [.ref r, .int (nI c)] σ Q X := by
  refine eX11_sign (bX11_sign_0 ⟨⟨_, h.1⟩, k_now h (fun τ hO hF => ⟨_, rfl, ?_⟩)⟩)
  have hi := bt_is (k := sk t n a) hO.2.2.2.1 hc
  refine ⟨fun z => ⟨_, ⟨_, hO.1, rfl⟩, _, hO.1, by simp, fun s1 e1 => ?_⟩, fun z => ⟨hb (fun w => z (hi.mpr w)), fun q hq s1 e1 => ?_⟩⟩
  · have z1 := hi.mp z
    rw [nI_1] at e1
    subst e1
    exact k z1 _ (hO.at (by have := z1.1; omega) hO.2.2.2.2.2) (hF.up ⟨rfl, rfl⟩)
  · have z1 : ¬ sg t n c a := fun w => z (hi.mpr w)
    subst e1
    refine ⟨_, ⟨_, (up_ne (Or.inl (by decide))).trans hO.1, rfl⟩, k_wrong (why := 1) up_eq (fun υ w f => ⟨rfl, ?_⟩)⟩
    obtain ⟨v0, v1, v2, v3, v4, v5, w1⟩ := id w
    exact ⟨_, w1, kx z1 q υ w (hF.kp.tr (fresh_kp hq f))⟩
theorem k_takesSign {G : GC} {σ : PS} {Q : Option Value → PS → Prop} {X : String → Nat → PS → Prop} {b r tb n a o c : Nat} {t : Nat → Nat} (h : RdO σ r tb t n a o) (hc : c < 256) (k1 : sg t n c a → ∀ τ, RdO τ r tb t n (sk t n a + 1) o → Fr (RdD r) σ τ → Q (some (.int 1)) τ) (k0 : ¬ sg t n c a → ∀ τ, RdO τ r tb t n (sk t n a) o → Fr (RdD r) σ τ → Q (some (.int 0)) τ) : Call G mX11_takesSign 5 b [.ref r, .int (nI c)] σ Q X := by
  refine eX11_takesSign (bX11_takesSign_0 ⟨⟨_, h.1⟩, k_now h (fun τ hO hF => ⟨_, rfl, ?_⟩)⟩)
  have hi := bt_is (k := sk t n a) hO.2.2.2.1 hc
  refine ⟨fun z => ⟨fun _ => k0 (fun w => z (hi.mpr w)) τ hO hF, fun y => absurd rfl y⟩, fun z => ⟨fun y => absurd y (by decide), fun _ => ⟨_, ⟨_, hO.1, rfl⟩, _, hO.1, by simp, fun s1 e1 => ?_⟩⟩⟩
  have z1 := hi.mp z
  rw [nI_1] at e1
  subst e1
  exact k1 z1 _ (hO.at (by have := z1.1; omega) hO.2.2.2.2.2) (hF.up ⟨rfl, rfl⟩)
theorem k_opens {G : GC} {σ : PS} {Q : Option Value → PS → Prop} {X : String → Nat → PS → Prop} {b r tb n a o : Nat} {t : Nat → Nat} (h : RdO σ r tb t n a o) (hb : o = 6 → 1 ≤ b) (k : o ≠ 6 → ∀ τ, RdO τ r tb t n a (o + 1) → Fr (RdD r) σ τ → Q none τ) (kx : o = 6 → Thr X r σ 3 (sk t n a)) : Call G mX11_opens 10 b [.ref r] σ Q X := by
  have ho := h.2.2.2.2.2
  have z6 : nI o = 6 ↔ o = 6 := nI_eq (b := 6) (by omega) (by decide)
  refine eX11_opens (bX11_opens_0 ⟨_, ⟨_, h.1, rfl⟩, fun z => ⟨_, ⟨_, h.1, rfl⟩, _, h.1, by simp, fun s1 e1 => ?_⟩, fun z => ⟨hb (z6.mp z), fun q hq s1 e1 => ?_⟩⟩)
  · have z1 : o ≠ 6 := fun w => z (z6.mpr w)
    rw [nI_1] at e1
    subst e1
    exact k z1 _ (h.at h.2.2.2.2.1 (by omega)) (Fr.rf.up ⟨rfl, rfl⟩)
  · have nr : ∀ κ a e, σ κ a = some e → s1 κ a = some e := fun κ a e hh => by
      rw [e1, up_ne (by
        by_cases y : a = q
        · rw [y, hq] at hh
          cases hh
        · exact Or.inr y)]
      exact hh
    obtain ⟨h1, ⟨ft, h2, h3⟩, h4⟩ := id h
    have hs : RdO s1 r tb t n a o := ⟨nr _ _ _ h1, ⟨ft, nr _ _ _ h2, h3⟩, h4⟩
    have hqr : q ≠ r := fun e => by
      rw [← e, hq] at h1
      cases h1
    have x1 : s1 12 q = some (.inl [.null, .null, .null, .null, .null, .int 0, .int 0, .int 0]) := by rw [e1, up_eq]
    refine ⟨⟨_, hs.1⟩, k_place hs (fun τ hO hF => ⟨_, rfl, k_wrong (why := 3) ((hF 12 q (fun w => absurd w.1 (by decide))).trans x1) (fun υ w f => ⟨rfl, ?_⟩)⟩)⟩
    obtain ⟨v0, v1, v2, v3, v4, v5, w1⟩ := id w
    refine ⟨_, w1, kx (z6.mp z) q υ w (fun κ a e hh hn => ?_)⟩
    have hne : ¬ (κ = 12 ∧ a = q) := fun w => by
      rw [w.2, hq] at hh
      cases hh
    rw [f κ a hne, hF κ a hn]
    exact nr κ a e hh
theorem k_closes {G : GC} {σ : PS} {Q : Option Value → PS → Prop} {X : String → Nat → PS → Prop} {b r tb n a o : Nat} {t : Nat → Nat} (h : RdO σ r tb t n a (o + 1)) (k : ∀ τ, RdO τ r tb t n a o → Fr (RdD r) σ τ → Q none τ) : Call G mX11_closes 3 b [.ref r] σ Q X := by
  have ho := h.2.2.2.2.2
  refine eX11_closes (bX11_closes_0 ⟨_, ⟨_, h.1, rfl⟩, _, h.1, by simp, fun s1 e1 => ?_⟩)
  rw [nI_pred] at e1
  subst e1
  exact k _ (h.at h.2.2.2.2.1 (by omega)) (Fr.rf.up ⟨rfl, rfl⟩)
