/-! Part B: the component's reader of an office made, and it reads -/
theorem KpD.fz {σ s : PS} {κ0 h q : Nat} (k : KpD (fun κ x => κ = κ0 ∧ x = h) σ s) (hs : ∃ e, s κ0 h = some e) (hq : ∀ κ, s κ q = none) : ∀ κ, σ κ q = none := fun κ => by
  cases e : σ κ q with
  | none => rfl
  | some y =>
    by_cases z : κ = κ0 ∧ q = h
    · obtain ⟨y2, h2⟩ := hs
      rw [← z.2, hq] at h2
      cases h2
    · have := k κ q y e z
      rw [hq] at this
      cases this
def zz (h wa r of p cal w m tb : Nat) : Nat → Nat := fun j => match j with
  | 0 => h
  | 1 => wa
  | 2 => r
  | 3 => of
  | 4 => p
  | 5 => cal
  | 6 => w
  | 7 => m
  | _ => tb
theorem k_orinit {G : GC} {σ : PS} {Q : Option Value → PS → Prop} {X : String → Nat → PS → Prop} {b h r tb n : Nat} {t : Nat → Nat} (hb : 6 ≤ b) (h10 : σ 10 h = some (.inl [.null, .null, .null, .null, .int 0])) (hO : RdO σ r tb t n 0 0) (kq : ∀ τ wa of p cal w m, ORO G τ (zz h wa r of p cal w m tb) t n 0 0 of0 → (∀ κ, σ κ of = none) → (∀ κ, σ κ p = none) → (∀ κ, σ κ cal = none) → (∀ κ, σ κ w = none) → (∀ κ, σ κ m = none) → KpD (fun κ x => κ = 10 ∧ x = h) σ τ → Q none τ) : Call G mX10_init 5 b [.ref h, .ref r] σ Q X := by
  refine eX10_init (bX10_init_0 ⟨by omega, fun wa hwa s e => ?_⟩)
  subst e
  refine ⟨_, _, up_eq, vp_in_nI (n := 0) (by decide) (by decide), fun s e => ?_⟩
  rw [up_up] at e
  subst e
  refine ⟨_, _, up_eq, vp_in_nI (n := 1) (by decide) (by decide), fun s e => ?_⟩
  rw [up_up] at e
  subst e
  refine ⟨_, _, up_eq, vp_in_nI (n := 2) (by decide) (by decide), fun s e => ?_⟩
  rw [up_up] at e
  subst e
  refine ⟨_, _, up_eq, vp_in_nI (n := 3) (by decide) (by decide), fun s e => ?_⟩
  rw [up_up] at e
  subst e
  refine ⟨_, _, up_eq, vp_in_nI (n := 4) (by decide) (by decide), fun s e => ?_⟩
  rw [up_up] at e
  subst e
  refine ⟨_, _, up_eq, vp_in_nI (n := 5) (by decide) (by decide), fun s e => ?_⟩
  rw [up_up] at e
  subst e
  refine ⟨_, _, up_eq, vp_in_nI (n := 6) (by decide) (by decide), fun s e => ?_⟩
  rw [up_up] at e
  subst e
  refine ⟨_, _, up_eq, vp_in_nI (n := 7) (by decide) (by decide), fun s e => ?_⟩
  rw [up_up] at e
  subst e
  refine ⟨_, _, up_eq, vp_in_nI (n := 8) (by decide) (by decide), fun s e => ?_⟩
  rw [up_up] at e
  subst e
  refine ⟨_, (up_k (by decide)).trans h10, by simp, fun s1 e1 => ⟨by omega, fun of hof s2 e2 => ⟨1, by omega, ?_⟩⟩⟩
  have x1 : s1 10 h = some (.inl [.ref wa, .null, .null, .null, .int 0]) := by
    rw [e1, up_eq]
    rfl
  have K1 : KpD (fun κ x => κ = 10 ∧ x = h) σ s1 := by
    rw [e1]
    exact (KpD.rf.upf hwa).up ⟨rfl, rfl⟩
  have hof0 := K1.fz ⟨_, x1⟩ hof
  have wo : WsO G s1 wa 0 9 := by
    rw [e1]
    refine ⟨_, (up_k (by decide)).trans up_eq, fun j hj => ?_⟩
    match j, hj with
    | 0, _ => rfl
    | 1, _ => rfl
    | 2, _ => rfl
    | 3, _ => rfl
    | 4, _ => rfl
    | 5, _ => rfl
    | 6, _ => rfl
    | 7, _ => rfl
    | 8, _ => rfl
  have a2 := nw_al (κ0 := 7) (e0 := .inl [.null, .int 0, .int 0, .int 0, .int 0, .int 0, .int 0, .int 0, .int 0]) hof
  rw [← e2] at a2
  have K2 : KpD (fun κ x => κ = 10 ∧ x = h) σ s2 := by
    rw [e2]
    exact K1.upf hof0
  refine k_oinit (Nat.le_refl _) (by rw [e2]; exact up_eq) (fun τ3 p hof3 hp k3 => ⟨rfl, ?_⟩)
  have x3 : τ3 10 h = some (.inl [.ref wa, .null, .null, .null, .int 0]) := k3 _ _ _ (a2 _ _ _ x1) (fun w => absurd w.1 (by decide))
  have K3 : KpD (fun κ x => κ = 10 ∧ x = h) σ τ3 := K2.fd k3 (fun κ a d => Or.inr (by rw [d.2]; exact hof0 κ))
  have hp0 := K2.fz ⟨_, a2 _ _ _ x1⟩ hp
  have wo3 : WsO G τ3 wa 0 9 := by
    obtain ⟨f, g1, g2⟩ := wo
    exact ⟨f, k3 _ _ _ (a2 _ _ _ g1) (fun w => absurd w.1 (by decide)), g2⟩
  refine ⟨_, x3, by simp, fun s4 e4 => ⟨by omega, fun cal hcal s5 e5 => ⟨2, by omega, ?_⟩⟩⟩
  have x4 : s4 10 h = some (.inl [.ref wa, .null, .ref of, .null, .int 0]) := by
    rw [e4, up_eq]
    rfl
  have K4 : KpD (fun κ x => κ = 10 ∧ x = h) σ s4 := by
    rw [e4]
    exact K3.up ⟨rfl, rfl⟩
  have hcal0 := K4.fz ⟨_, x4⟩ hcal
  have a5 := nw_al (κ0 := 2) (e0 := .inl [.null, .null, .int 0]) hcal
  rw [← e5] at a5
  have K5 : KpD (fun κ x => κ = 10 ∧ x = h) σ s5 := by
    rw [e5]
    exact K4.upf hcal0
  have n4 : ∀ κ x, κ ≠ 10 → s4 κ x = τ3 κ x := fun κ x hn => by rw [e4, up_k hn]
  refine k_cal (by rw [e5]; exact up_eq) (Nat.le_refl _) (fun τ6 w m hc hw hm f6 => ⟨rfl, ?_⟩)
  have x5 := a5 _ _ _ x4
  have hw0 := K5.fz ⟨_, x5⟩ hw
  have hm0 := K5.fz ⟨_, x5⟩ hm
  have K6 : KpD (fun κ x => κ = 10 ∧ x = h) σ τ6 := K5.fd f6.kp (fun κ a d => Or.inr (by
    rcases d with ⟨-, d⟩ | ⟨-, d | d⟩
    · rw [d]
      exact hcal0 κ
    · rw [d]
      exact hw0 κ
    · rw [d]
      exact hm0 κ))
  have x6 : τ6 10 h = some (.inl [.ref wa, .null, .ref of, .null, .int 0]) := (f6 10 h (fun w => by
    unfold CalD at w
    omega)).trans x5
  obtain ⟨g1, fp, g2, g3⟩ := hof3
  have p5 : s5 100 p = some (.inr (5, .inl fp)) := a5 _ _ _ ((n4 _ _ (by decide)).trans g2)
  have pw : p ≠ w := fun z => by
    rw [z, hw] at p5
    cases p5
  have pm : p ≠ m := fun z => by
    rw [z, hm] at p5
    cases p5
  have y7 : τ6 7 of = _ := (f6 7 of (fun w => by
    unfold CalD at w
    omega)).trans (a5 _ _ _ ((n4 _ _ (by decide)).trans g1))
  have y100 : τ6 100 p = _ := (f6 100 p (fun w => by
    unfold CalD at w
    omega)).trans p5
  have wo6 : WsO G τ6 wa 0 9 := by
    obtain ⟨f, q1, q2⟩ := wo3
    exact ⟨f, (f6 107 wa (fun w => by
      unfold CalD at w
      omega)).trans (a5 _ _ _ ((n4 _ _ (by decide)).trans q1)), q2⟩
  refine ⟨_, x6, by simp, fun s7 e7 => ?_⟩
  subst e7
  refine ⟨_, up_eq, by simp, fun s8 e8 => ?_⟩
  rw [up_up] at e8
  have n8 : ∀ κ x, κ ≠ 10 → s8 κ x = τ6 κ x := fun κ x hn => by rw [e8, up_k hn]
  have K8 : KpD (fun κ x => κ = 10 ∧ x = h) σ s8 := by
    rw [e8]
    exact K6.up ⟨rfl, rfl⟩
  obtain ⟨c1, c2, c3, c4⟩ := hc
  refine kq s8 wa of p cal w m ⟨?_, ?_, ?_, ⟨(n8 _ _ (by decide)).trans y7, fp, (n8 _ _ (by decide)).trans y100, g3⟩, ⟨(n8 _ _ (by decide)).trans c1, (n8 _ _ (by decide)).trans c2, (n8 _ _ (by decide)).trans c3, c4⟩, pw, pm⟩ hof0 hp0 hcal0 hw0 hm0 K8
  · rw [e8]
    exact up_eq
  · obtain ⟨f, q1, q2⟩ := wo6
    exact ⟨f, (n8 _ _ (by decide)).trans q1, q2⟩
  · exact hO.a2 (fun κ a e z hh => K8 κ a e hh (fun w => by
      have := w.1
      omega))
theorem k_readsO {Q : Option Value → PS → Prop} {X : String → Nat → PS → Prop} {G : GC} {n : Nat} {Z : Nat → Nat} {t : Nat → Nat} : ∀ (f a m b : Nat) (S : OF) (σ : PS), n + 1 ≤ f + a → ORO G σ Z t n a m S → ofOK m S → m ≤ 60 → 1 ≤ b → (∀ S' a', pOff t n f m S a = .inr (S', a') → ∀ τ m', ORO G τ Z t n a' m' S' → KpD (DO Z) σ τ → Q none τ) → (∀ w p, pOff t n f m S a = .inl (w, p) → ThrD X (DO Z) σ w p) → At G mX10_reads 12 Q X b 0 [(0, .ref (Z 0))] [] σ := by
  intro f
  induction f with
  | zero =>
    intro a m b S σ hf H
    have := H.in.2.2.2.2.1
    omega
  | succ f ih =>
    intro a m b S σ hf H hS hm hb ks kx
    have ha := H.in.2.2.2.2.1
    have hs := sk_b (t := t) ha
    refine bX10_reads_0 ⟨Z 2, H.fg, ⟨_, H.in.1⟩, k_now H.in (fun τ hO hF => ⟨_, rfl, fun z => ?_, fun z => ?_⟩)⟩
    · have z1 : ¬ sk t n a < n := fun w => by
        rw [bt_lt w] at z
        exact m1_nI (by have := H.in.2.2.2.1 _ w; omega) z
      exact ks S _ (pOff_e z1) τ m (H.rd hF.kp hO) (hF.kp.mono rdDO)
    · have z1 : sk t n a < n := Classical.byContradiction (fun w => z (bt_ge (by omega)))
      have H1 := H.rd hF.kp hO
      have k1 := hF.kp.mono (rdDO (Z := Z))
      rw [pOff_s z1] at ks kx
      have e9 : pClause t n (sk t n a) m S = pClause t n a m S := by
        unfold pClause
        rw [sk_sk ha]
      by_cases hp : ∃ e, pClause t n a m S = .inl e
      · refine ⟨1, hb, ⟨_, H1.1⟩, k_clause H1 hS hm (fun _ => Nat.le_refl _) (fun S' a' h1 => ?_) (fun w p h1 => ?_)⟩
        · obtain ⟨e, he⟩ := hp
          rw [e9, he] at h1
          cases h1
        · rw [e9] at h1
          exact (kx w p (by rw [h1, bnd_l])).ant k1
      · refine ⟨0, Nat.zero_le _, ⟨_, H1.1⟩, k_clause H1 hS hm (fun w => absurd (by rw [e9] at w; exact w) hp) (fun S' a' h1 υ H2 k2 => ⟨rfl, ?_⟩) (fun w p h1 => ?_)⟩
        · rw [e9] at h1
          have g := pClause_ok ha hS h1
          have m60 : m ≠ 60 := fun w => by
            cases hi : idx (wd t n (sk t n a)) ofW 0 with
            | none =>
              rw [pCl_n hi] at h1
              cases h1
            | some k =>
              rw [pCl_3 hi (Or.inl w)] at h1
              cases h1
          rw [h1, bnd_r] at ks kx
          have kk := k1.tr k2
          exact ih a' (m + 1) _ S' υ (by omega) H2 g.2.2 (by omega) (by omega) (fun S3 a3 h3 τ3 m3 y1 y2 => ks S3 a3 h3 τ3 m3 y1 (kk.tr y2)) (fun w p h3 => (kx w p h3).ant kk)
        · rw [e9] at h1
          exact absurd ⟨_, h1⟩ hp
