/-! Part B: the component's book read -/
theorem lnM_gd {t : Nat → Nat} {n k a u a3 : Nat} (ha : a ≤ n) (h : lnM t n k a = .inr (u, a3)) : a + 1 ≤ a3 ∧ a3 ≤ n ∧ u ≤ 12 := by
  obtain ⟨v, a2, h1, h2⟩ := bnd_ok h
  obtain ⟨w, a4, h3, h4⟩ := bnd_ok h2
  cases h4
  have g1 := nm_gd ha h1
  have z := sgU_gd h3
  have s := sk_b (t := t) ha
  have y := sk_b (t := t) g1.2.1
  have : u < 13 := by
    have := g1.2.2.2
    split at this <;> omega
  exact ⟨by omega, z.2.2, by omega⟩
theorem lnW_gd {t : Nat → Nat} {n v a1 a3 : Nat} {q : Nat × Nat × Nat} (ha : a1 ≤ n) (h : lnW t n v a1 = .inr (q, a3)) : a1 + 1 ≤ a3 ∧ a3 ≤ n ∧ q.1 = v ∧ q.2.1 < 3 ∧ q.2.2 ≤ 12 := by
  have s := sk_b (t := t) ha
  unfold lnW at h
  split at h
  · cases h
  · rename_i k hk
    obtain ⟨u, a4, h1, h2⟩ := bnd_ok h
    cases h2
    have g := lnM_gd (wd_le (t := t) s.2.1) h1
    exact ⟨by omega, g.2.1, rfl, (idx_lt hk).1, g.2.2⟩
theorem pLine_gd {t : Nat → Nat} {n a m a3 : Nat} {q : Nat × Nat × Nat} (ha : a ≤ n) (h : pLine t n a m = .inr (q, a3)) : a + 1 ≤ a3 ∧ a3 ≤ n ∧ q.1 < 24 ∧ q.2.1 < 3 ∧ q.2.2 ≤ 12 ∧ m ≠ 10 := by
  obtain ⟨v, a1, h1, h2⟩ := bnd_ok h
  have g1 := nm_gd ha h1
  have s := sk_b (t := t) ha
  by_cases hm : m = 10
  · rw [if_pos hm] at h2
    cases h2
  · rw [if_neg hm] at h2
    have g2 := lnW_gd g1.2.1 h2
    exact ⟨by omega, g2.2.1, by rw [g2.2.2.1]; exact g1.2.2.2, g2.2.2.2.1, g2.2.2.2.2, hm⟩
theorem pLine_k {t : Nat → Nat} {n a m v a1 : Nat} (h : nm t n 0 24 a = .inr (v, a1)) (hm : m ≠ 10) : pLine t n a m = lnW t n v a1 := by
  unfold pLine
  rw [h, bnd_r, if_neg hm]
theorem BkA.app {τ : PS} {bk va wa ma v k u : Nat} {B : BK} {f g h : Nat → Int32} (hl : B.length < 10) (hB : ∀ i q, B[i]? = some q → f i = nI q.1 ∧ g i = nI q.2.1 ∧ h i = nI q.2.2 ∧ q.1 < 24 ∧ q.2.1 < 3 ∧ q.2.2 ≤ 12) (hL : BkL τ bk va wa ma (B.length + 1) (upd f B.length (nI v)) (upd g B.length (nI k)) (upd h B.length (nI u))) (hv : v < 24) (hk : k < 3) (hu : u ≤ 12) : BkA τ bk va wa ma (B ++ [(v, k, u)]) := by
  obtain ⟨q1, q2, q3, q4⟩ := hL
  have e : (B ++ [(v, k, u)]).length = B.length + 1 := by simp
  refine ⟨_, _, _, by rw [e]; exact q1, by omega, q2, q3, q4, fun i q hi => ?_⟩
  by_cases z : i = B.length
  · rw [z, List.getElem?_append_right (Nat.le_refl _), Nat.sub_self] at hi
    have e9 : (v, k, u) = q := Option.some.inj hi
    rw [← e9, z]
    exact ⟨pk_us, pk_us, pk_us, hv, hk, hu⟩
  · have il : i < B.length := by
      have := (List.getElem?_eq_some_iff.mp hi).1
      omega
    rw [List.getElem?_append_left il] at hi
    rw [pk_un z, pk_un z, pk_un z]
    exact hB i q hi
theorem k_line {G : GC} {σ : PS} {Q : Option Value → PS → Prop} {X : String → Nat → PS → Prop} {b r tb n a o bk va wa ma h0 : Nat} {t : Nat → Nat} {B : BK} (hO : RdO σ r tb t n a o) (hB : BkA σ bk va wa ma B) (hne : va ≠ wa ∧ va ≠ ma ∧ wa ≠ ma) (hb : (∃ e, pLine t n a B.length = .inl e) → 1 ≤ b)
    (ks : ∀ q a3, pLine t n a B.length = .inr (q, a3) → ∀ τ, RdO τ r tb t n a3 o → BkA τ bk va wa ma (B ++ [q]) → KpD (DB r bk va wa ma) σ τ → Q none τ) (kx : ∀ w p, pLine t n a B.length = .inl (w, p) → ThrD X (DB r bk va wa ma) σ w p) : Call G mX1_line 11 b [.ref h0, .ref r, .ref bk] σ Q X := by
  have ha := hO.2.2.2.2.1
  obtain ⟨f, g, h, B1, Bl, B2, B3, B4, B5⟩ := hB
  have rd : ∀ κ x, RdD r κ x → DB r bk va wa ma κ x := fun κ x d => Or.inl d
  have dw : DB r bk va wa ma 100 va := Or.inr (Or.inr ⟨rfl, Or.inl rfl⟩)
  refine eX1_line (bX1_line_0 ⟨⟨_, hO.1⟩, k_place hO (fun τ hO1 hF => ⟨_, rfl, ?_⟩)⟩)
  cases hn : nm t n 0 24 a with
  | inl e =>
    have e9 : pLine t n a B.length = .inl e := by
      unfold pLine
      rw [hn, bnd_l]
    refine ⟨1, hb ⟨_, e9⟩, ⟨_, hO1.1⟩, k_number (lo := 0) (hi := 24) hO1 (fun _ => Nat.le_refl _) (by decide) (by decide) y23 (fun v a' h1 => by
      rw [nm_sk ha, hn] at h1
      cases h1) (fun w p h1 => ?_)⟩
    rw [nm_sk ha, hn] at h1
    cases h1
    exact ((kx w p e9).ant (hF.kp.mono rd)).thr
  | inr p =>
    obtain ⟨v, a1⟩ := p
    have gv := nm_gd ha hn
    refine ⟨0, Nat.zero_le _, ⟨_, hO1.1⟩, k_number (lo := 0) (hi := 24) hO1 (fun w => by
      obtain ⟨e, h1⟩ := w
      rw [nm_sk ha, hn] at h1
      cases h1) (by decide) (by decide) y23 (fun v' a' h1 τ2 hO2 hF2 => ⟨_, rfl, ?_⟩) (fun w p h1 => by
      rw [nm_sk ha, hn] at h1
      cases h1)⟩
    rw [nm_sk ha, hn] at h1
    cases h1
    have k2 := hF.kp.tr hF2.kp
    have L2 : BkL τ2 bk va wa ma B.length f g h := BkL.kp (σ := σ) ⟨B1, B2, B3, B4⟩ k2
    refine ⟨_, ⟨_, L2.1, rfl⟩, fun z => ?_, fun z => ?_⟩
    · have hm : B.length ≠ 10 := fun w => z (by rw [w]; rfl)
      have e9 := pLine_k hn hm
      rw [e9] at hb ks kx
      have cm := nI_clamp (show B.length < 2 ^ 31 by omega)
      obtain ⟨q1, q2, q3, q4⟩ := id L2
      refine ⟨va, ⟨_, q1, rfl⟩, 10, f, q2, vp_in_nI (by omega) (by decide), fun s3 e3 => ?_⟩
      rw [cm] at e3
      have L3 : BkL s3 bk va wa ma B.length (upd f B.length (nI v)) g h := by
        rw [e3]
        exact ⟨(up_k (by decide)).trans q1, up_eq, (up_a hne.1.symm).trans q3, (up_a hne.2.1.symm).trans q4⟩
      have k3 : KpD (DB r bk va wa ma) σ s3 := by
        rw [e3]
        exact (k2.mono rd).up dw
      have hO3 : RdO s3 r tb t n a1 o := by
        rw [e3]
        exact hO2.u100 (by decide) (by decide)
      have ha1 := gv.2.1
      have go : ∀ k τ, ((k < 2 ∧ idx (wd t n (sk t n a1)) bkW 0 = some k ∧ RdO τ r tb t n (sk t n a1 + (wd t n (sk t n a1)).length) o) ∨ (k = 2 ∧ (idx (wd t n (sk t n a1)) bkW 0 = some 2 ∨ idx (wd t n (sk t n a1)) bkW 0 = none) ∧ RdO τ r tb t n (sk t n a1) o)) → KpD (RdD r) s3 τ → At G mX1_line 11 Q X (b - 0) 79 [(1, .ref r), (2, .ref bk), (5, .int (nI B.length))] [.int (nI k), .int (nI B.length), .ref wa] τ := fun k τ hc kk => by
        have kt := k3.tr (kk.mono rd)
        refine k_line79 (v := v) (k := k) (L3.kp kk) hne (by omega) ha1 hc (fun w => by have := hb w; omega) (fun k' u a3 h9 τ2 y1 y2 y3 => ?_) (fun w p h9 => (kx w p h9).ant kt)
        have g9 := lnW_gd ha1 h9
        exact ks _ a3 h9 τ2 y1 (BkA.app (by omega) B5 y2 gv.2.2.2 g9.2.2.2.1 g9.2.2.2.2) (kt.tr y3)
      refine ⟨wa, ⟨_, L3.1, rfl⟩, ⟨_, hO3.1⟩, k_takes (i := 30) (w := [99, 97, 114, 100]) hO3 rfl rfl (by decide) (by decide) (by decide) (fun hw τ4 hO4 hF4 => ⟨_, rfl, fun y => absurd y (by decide), fun _ => ?_⟩) (fun hw τ4 hO4 hF4 => ⟨_, rfl, fun _ => ?_, fun y => absurd rfl y⟩)⟩
      · refine go 0 τ4 (Or.inl ⟨by decide, ?_, ?_⟩) hF4.kp
        · rw [hw]
          rfl
        · rw [hw]
          exact hO4
      · refine ⟨⟨_, hO4.1⟩, k_takes (i := 31) (w := [119, 97, 114, 109]) hO4 rfl rfl (by decide) (by decide) (by decide) (fun hw2 τ5 hO5 hF5 => ⟨_, rfl, fun y => absurd y (by decide), fun _ => ?_⟩) (fun hw2 τ5 hO5 hF5 => ⟨_, rfl, fun _ => ?_, fun y => absurd rfl y⟩)⟩
        · rw [sk_sk ha1] at hw2 hO5
          refine go 1 τ5 (Or.inl ⟨by decide, ?_, ?_⟩) (hF4.kp.tr hF5.kp)
          · rw [hw2]
            rfl
          · rw [hw2]
            exact hO5
        · rw [sk_sk ha1] at hw2 hO5
          refine go 2 τ5 (Or.inr ⟨rfl, ?_, hO5⟩) (hF4.kp.tr hF5.kp)
          show idx _ [_, _, _] 0 = _ ∨ idx _ [_, _, _] 0 = _
          rw [idx3, if_neg hw, if_neg hw2]
          by_cases w3 : wd t n (sk t n a1) = [105, 110]
          · exact Or.inl (if_pos w3)
          · exact Or.inr (if_neg w3)
    · have hm : B.length = 10 := (nI_eq (b := 10) (by omega) (by decide)).mp z
      have e9 : pLine t n a B.length = .inl (3, sk t n a) := by
        unfold pLine
        rw [hn, bnd_r, if_pos hm]
      refine ⟨by
        have := hb ⟨_, e9⟩
        omega, fun q hq s1 e1 => ?_⟩
      subst e1
      exact k_thr (why := 3) rfl rfl hq (k2) ((kx _ _ e9).thr)
theorem pBook_e {t : Nat → Nat} {n f a : Nat} {l : BK} (h : ¬ sk t n a < n) : pBook t n (f + 1) l a = .inr (l, sk t n a) := by rw [pBook, if_neg h]
theorem pBook_s {t : Nat → Nat} {n f a : Nat} {l : BK} (h : sk t n a < n) : pBook t n (f + 1) l a = bnd (pLine t n a l.length) (fun q a1 => pBook t n f (l ++ [q]) a1) := by rw [pBook, if_pos h]
theorem pLine_sk {t : Nat → Nat} {n a m : Nat} (ha : a ≤ n) : pLine t n (sk t n a) m = pLine t n a m := by
  unfold pLine
  rw [nm_sk ha, sk_sk ha]
