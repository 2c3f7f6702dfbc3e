/-! Part B: the component's reader of habits: all steps -/
def st9 (k w : Nat) (c : CS) : StT := (k, w, c)
theorem stE_y {t : Nat → Nat} {n k w a2 : Nat} {c : CS} (h : sg t n 59 a2) : stE t n k w c a2 = .inr (st9 k w c, sk t n a2 + 1) := by
  unfold stE
  rw [sgU_y h]
  rfl
theorem stE_n {t : Nat → Nat} {n k w a2 : Nat} {c : CS} (h : ¬ sg t n 59 a2) : stE t n k w c a2 = .inl (1, sk t n a2) := by
  unfold stE
  rw [sgU_n h]
  rfl
/-- what is wrong, thrown -/
theorem k_thr {G : GC} {σ : PS} {X : String → Nat → PS → Prop} {q r why where9 : Nat} {σ0 : PS} {x y : Int32} (hx : x = nI why) (hy : y = nI where9) (hq : ∀ κ, σ κ q = none) (k0 : KpD (RdD r) σ0 σ) (kx : Thr X r σ0 why where9) : Call G mX12_init 6 0 [.ref q, .int x, .int y] (up σ 12 q (.inl [.null, .null, .null, .null, .null, .int 0, .int 0, .int 0])) (qV (fun s1 => ∃ fs : List Value, Ob s1 12 q fs ∧ X "CardCups$Wrong" q s1)) X := by
  subst hx
  subst hy
  refine k_wrong (why := why) up_eq (fun υ w f => ⟨rfl, ?_⟩)
  obtain ⟨v0, v1, v2, v3, v4, v5, w1⟩ := id w
  exact ⟨_, w1, kx q υ w (k0.tr (fresh_kp hq f))⟩
/-- behind a step -/
theorem k_stepE {G : GC} {σ : PS} {Q : Option Value → PS → Prop} {X : String → Nat → PS → Prop} {n f h r tb a2 b k w g ar : Nat} {t : Nat → Nat} {u : Option Nat} {c : CS} {L : List StT} {σ0 : PS} (hH : HRO G σ h r) (hO : RdO σ r tb t n a2 0) (hG : HabP σ g ar L) (hL : L.length ≠ 8) (hu : tstAt σ u c) (hk : k < 8) (hw : w ≤ 16) (hg : ∀ κ, σ0 κ g = none) (har : ∀ κ, σ0 κ ar = none) (k0 : KpD (RdD r) σ0 σ) (hb1 : ¬ sg t n 59 a2 → 1 ≤ b) (hb2 : sg t n 59 a2 → 1 + bud n (sk t n a2 + 1) (pHab t n f (L ++ [st9 k w c]) (sk t n a2 + 1)) ≤ b)
    (kk : sg t n 59 a2 → ∀ τ b', bud n (sk t n a2 + 1) (pHab t n f (L ++ [st9 k w c]) (sk t n a2 + 1)) ≤ b' → HRO G τ h r → RdO τ r tb t n (sk t n a2 + 1) 0 → HabP τ g ar (L ++ [st9 k w c]) → KpD (RdD r) σ0 τ → At G mX13_reads 151 Q X b' 8 [(0, .ref h), (1, .ref g)] [] τ) (kx : ¬ sg t n 59 a2 → Thr X r σ0 1 (sk t n a2)) : At G mX13_reads 151 Q X b 128 [(0, .ref h), (1, .ref g), (3, .int (nI k)), (4, .int (nI w))] [va_rf u] σ := by
  obtain ⟨G1, G2, fr, G3, G4⟩ := hG
  by_cases hs : sg t n 59 a2
  · refine bX13_reads_128 ⟨r, hH.fg, 0, Nat.zero_le _, ⟨_, hO.1⟩, k_sign (c := 59) hO (fun w => absurd hs w) (by decide) (fun _ τ hO1 hF => ⟨rfl, ?_⟩) (fun w => absurd hs w)⟩
    have kp1 := hF.kp
    have g1 : τ 14 g = some (.inl [.ref ar, .int (nI L.length)]) := (hF 14 g (fun w => absurd w.1 (by decide))).trans G1
    have hH1 := hH.kp kp1
    have hu1 := hu.kp kp1
    have g3 : τ 106 ar = some (.inr (8, .inr (.inr fr))) := (hF 106 ar (fun w => absurd w.1 (by decide))).trans G3
    refine ⟨ar, ⟨_, g1, rfl⟩, nI L.length, ⟨_, g1, rfl⟩, _, g1, by simp, fun s1 e1 => ?_⟩
    rw [nI_1] at e1
    have n1 : ∀ κ x, κ ≠ 14 → s1 κ x = τ κ x := fun κ x hn => by rw [e1, up_k hn]
    have x14 : s1 14 g = some (.inl [.ref ar, .int (nI (L.length + 1))]) := by rw [e1, up_eq]; rfl
    have k1 : KpD (RdD r) σ0 s1 := by
      rw [e1]
      exact (k0.tr kp1).upf hg
    have hb9 := hb2 hs
    refine ⟨1, by omega, k_step (k := k) (w := w) (u := u) (cs := c) (Nat.le_refl _) hk (hu1.kept (fun κ q1 q2 a e hh => (n1 κ a (by omega)).trans hh)) (fun q τ2 hS al hob => ⟨_, rfl, ?_⟩)⟩
    have y106 : τ2 106 ar = some (.inr (8, .inr (.inr fr))) := al _ _ _ ((n1 106 ar (by decide)).trans g3)
    obtain ⟨vs, hvs⟩ := hob
    refine ⟨8, fr, kOf k, vs, y106, kOf_in k, hvs, vp_in_nI (by omega) (by decide), fun s4 e4 => ?_⟩
    rw [nI_clamp (by omega)] at e4
    have n4 : ∀ κ x, κ ≠ 106 → s4 κ x = τ2 κ x := fun κ x hn => by rw [e4, up_k hn]
    have kt : ∀ κ x e, κ ≠ 14 → κ ≠ 106 → τ κ x = some e → s4 κ x = some e := fun κ x e z1 z2 hh => (n4 κ x z2).trans (al _ _ _ ((n1 κ x z1).trans hh))
    have ks : ∀ κ x e, κ ≠ 11 → κ ≠ 14 → κ ≠ 106 → σ κ x = some e → s4 κ x = some e := fun κ x e z0 z1 z2 hh => kt κ x e z1 z2 (kp1 κ x e hh (fun w => z0 w.1))
    have k4 : KpD (RdD r) σ0 s4 := by
      rw [e4]
      exact KpD.upf (fun κ x e hh hn => al _ _ _ (k1 κ x e hh hn)) har
    have lk : (L ++ [st9 k w c]).length = L.length + 1 := by simp
    refine kk hs s4 _ (by omega) (hH1.a2 (fun κ x e z hh => kt κ x e (by omega) (by omega) hh)) (hO1.a2 (fun κ x e z hh => kt κ x e (by omega) (by omega) hh)) ⟨?_, by omega, va_up fr L.length (some q), by rw [e4, up_eq], fun i S hi => ?_⟩ k4
    · rw [lk, n4 14 g (by decide)]
      exact al _ _ _ x14
    · rw [show va_up fr L.length (some q) i = if i = L.length then some q else fr i from rfl]
      by_cases z : i = L.length
      · rw [if_pos z]
        rw [z, List.getElem?_append_right (Nat.le_refl _), Nat.sub_self] at hi
        have e9 : st9 k w c = S := Option.some.inj hi
        rw [← e9]
        exact ⟨⟨by show k ≤ 7; omega, hw⟩, q, rfl, hS.kept (fun κ q1 q2 x e hh => (n4 κ x (by omega)).trans hh)⟩
      · rw [if_neg z]
        have il : i < L.length := by
          have := (List.getElem?_eq_some_iff.mp hi).1
          omega
        rw [List.getElem?_append_left il] at hi
        obtain ⟨s1', q', s2', s3'⟩ := G4 i S hi
        exact ⟨s1', q', s2', s3'.kept (fun κ q1 q2 x e hh => ks κ x e (by omega) (by omega) (by omega) hh)⟩
  · exact bX13_reads_128 ⟨r, hH.fg, 1, hb1 hs, ⟨_, hO.1⟩, k_sign (c := 59) hO (fun _ => Nat.le_refl _) (by decide) (fun w => absurd w hs) (fun _ => (kx hs).ant k0)⟩
theorem stF_y {t : Nat → Nat} {n a1 : Nat} (h : wd t n (sk t n a1) = [105, 102]) : stF t n a1 = pAny t n (sk t n a1 + 2) := if_pos h
theorem stF_n {t : Nat → Nat} {n a1 : Nat} (h : ¬ wd t n (sk t n a1) = [105, 102]) : stF t n a1 = .inr ([], sk t n a1) := if_neg h
theorem stB_y {t : Nat → Nat} {n a1 : Nat} (h : wd t n (sk t n a1) = [98, 121]) : stB t n a1 = nm t n 1 17 (sk t n a1 + 2) := if_pos h
theorem stB_n {t : Nat → Nat} {n a1 : Nat} (h : ¬ wd t n (sk t n a1) = [98, 121]) : stB t n a1 = .inr (0, sk t n a1) := if_neg h
theorem y16 : ∀ v, v < 2 ^ 30 → (nI v ≤ (16 : Int32) ↔ v < 17) := fun v hv => by
  rw [show (16 : Int32) = nI 16 from rfl, nI_leI (by omega) (by decide)]
  omega
/-- from a step's test on; b9: what is left ahead, for the rest -/
theorem k_stepF {G : GC} {σ : PS} {Q : Option Value → PS → Prop} {X : String → Nat → PS → Prop} {n f h r tb a1 b k w g ar : Nat} {t : Nat → Nat} {L : List StT} {σ0 : PS} (hH : HRO G σ h r) (hO : RdO σ r tb t n a1 0) (hG : HabP σ g ar L) (hL : L.length ≠ 8) (hk : k < 8) (hw : w ≤ 16) (hn : n ≤ 150) (hg : ∀ κ, σ0 κ g = none) (har : ∀ κ, σ0 κ ar = none) (k0 : KpD (RdD r) σ0 σ)
    (hb : 1 + bud n a1 (bnd (stF t n a1) (fun c a2 => bnd (stE t n k w c a2) (fun S a3 => pHab t n f (L ++ [S]) a3))) ≤ b)
    (kk : ∀ c a2, stF t n a1 = .inr (c, a2) → sg t n 59 a2 → ∀ τ b', bud n (sk t n a2 + 1) (pHab t n f (L ++ [st9 k w c]) (sk t n a2 + 1)) ≤ b' → HRO G τ h r → RdO τ r tb t n (sk t n a2 + 1) 0 → HabP τ g ar (L ++ [st9 k w c]) → KpD (RdD r) σ0 τ → At G mX13_reads 151 Q X b' 8 [(0, .ref h), (1, .ref g)] [] τ)
    (kx : ∀ x p, bnd (stF t n a1) (fun c a2 => stE t n k w c a2) = .inl (x, p) → Thr X r σ0 x p) :
    ∃ a_in_12 : Nat, Fg σ 13 h 2 (.ref a_in_12) ∧ ((∃ fs_16 : List Value, Ob σ 11 a_in_12 fs_16) ∧ Call G mX11_takes 8 0 [.ref a_in_12, .ref (gk G 26)] σ (qI (fun rx_14 s1_13 => ((rx_14 = 0) → At G mX13_reads 151 Q X b 128 [(0, .ref h), (1, .ref g), (3, .int (nI k)), (4, .int (nI w))] [va_rf none] s1_13) ∧ ((¬ rx_14 = 0) → ∃ bc : Nat, bc ≤ b ∧ (∃ fs : List Value, Ob s1_13 13 h fs) ∧ Call G mX13_any 150 bc [.ref h] s1_13 (qR (fun ra s1_15 => At G mX13_reads 151 Q X (b - bc) 128 [(0, .ref h), (1, .ref g), (3, .int (nI k)), (4, .int (nI w))] [va_rf (some ra)] s1_15)) X))) X) := by
  have ha := hO.2.2.2.2.1
  have hs := sk_b (t := t) ha
  have B := bud_b (n := n) (a := a1) (x := stF t n a1) (f := fun c a2 => bnd (stE t n k w c a2) (fun S a3 => pHab t n f (L ++ [S]) a3)) (fun c a2 h1 => by
    have := stF_ge ha c a2 h1
    exact ⟨by omega, this.2.1⟩) (fun c a2 h1 L' a3 h2 => by
    obtain ⟨S, a4, h3, h4⟩ := bnd_ok h2
    have g1 := stF_ge ha c a2 h1
    have g2 := stE_ge g1.2.1 _ _ h3
    have g3 := pHab_ge f _ a4 g2.2.2.1 _ _ h4
    omega)
  have E : ∀ c a2, stF t n a1 = .inr (c, a2) → (¬ sg t n 59 a2 → 1 + bud n a1 (stF t n a1) + 1 ≤ b) ∧ (sg t n 59 a2 → bud n a1 (stF t n a1) + (1 + bud n (sk t n a2 + 1) (pHab t n f (L ++ [st9 k w c]) (sk t n a2 + 1))) ≤ b) := fun c a2 h1 => by
    have g1 := stF_ge ha c a2 h1
    have hs2 := sk_b (t := t) g1.2.1
    have B2 := B.2 c a2 h1
    have B5 : bud n a1 (stF t n a1) = a2 - a1 := by rw [h1, bud_r]
    refine ⟨fun z => ?_, fun z => ?_⟩
    · rw [stE_n z, bnd_l, bud_l] at B2
      omega
    · rw [stE_y z, bnd_r] at B2
      have := bud_sh (n := n) (a := a2) (a' := sk t n a2 + 1) (x := pHab t n f (L ++ [st9 k w c]) (sk t n a2 + 1)) (by omega) z.1 (fun v a3 h3 => (pHab_ge f _ _ z.1 _ _ h3).1)
      omega
  have xE : ∀ c a2, stF t n a1 = .inr (c, a2) → ¬ sg t n 59 a2 → Thr X r σ0 1 (sk t n a2) := fun c a2 h1 z => kx _ _ (by
    rw [h1, bnd_r]
    exact stE_n z)
  refine ⟨r, hH.fg, ⟨_, hO.1⟩, k_takes (i := 26) (w := [105, 102]) hO rfl rfl (by decide) (by decide) (by decide) (fun z τ hO1 hF => ⟨_, rfl, fun y => absurd y (by decide), fun _ => ?_⟩) (fun z τ hO1 hF => ⟨_, rfl, fun _ => ?_, fun y => absurd rfl y⟩)⟩
  · have hO1' : RdO τ r tb t n (sk t n a1 + 2) 0 := hO1
    have e := stF_y z
    have hl := hO1'.2.2.2.2.1
    have B9 : bud n (sk t n a1 + 2) (pAny t n (sk t n a1 + 2)) ≤ bud n a1 (stF t n a1) := by
      rw [e]
      have := bud_sh (n := n) (a := a1) (a' := sk t n a1 + 2) (x := pAny t n (sk t n a1 + 2)) (by omega) hl (fun v a3 h3 => (pAny_gd.ge _ hl _ _ h3).1)
      omega
    have kt := k0.tr hF.kp
    have hH1 := hH.kp hF.kp
    refine ⟨bud n a1 (stF t n a1), by omega, hH1.ob, ?_⟩
    refine k_anys _ _ _ _ _ _ _ _ hH1 hO1' B9 (fun c a2 h1 u τ2 hO2 hT2 hK2 => ⟨_, rfl, ?_⟩) (fun w p h1 => (kx w p (by rw [e, h1, bnd_l])).ant kt)
    rw [← e] at h1
    have g1 := stF_ge ha c a2 h1
    obtain ⟨E1, E2⟩ := E c a2 h1
    exact k_stepE (c := c) (f := f) (hH1.kp hK2) hO2 ((hG.kp hF.kp).kp hK2) hL (Or.inr ⟨u, rfl, hT2.mono (by have := g1.1; have := g1.2.1; omega)⟩) hk hw hg har (kt.tr hK2) (fun z => by have := E1 z; omega) (fun z => by have := E2 z; omega) (fun z => kk c a2 h1 z) (fun z => xE c a2 h1 z)
  · have e := stF_n z
    obtain ⟨E1, E2⟩ := E [] _ e
    rw [e, bud_r] at E1 E2
    have ee : sk t n (sk t n a1) = sk t n a1 := sk_sk ha
    exact k_stepE (c := []) (f := f) (hH.kp hF.kp) hO1 (hG.kp hF.kp) hL (Or.inl ⟨rfl, rfl⟩) hk hw hg har (k0.tr hF.kp) (fun z => by have := E1 z; omega) (fun z => by have := E2 z; omega) (fun z => kk [] _ e z) (fun z => xE [] _ e z)
theorem k_readsL {G : GC} {n r h tb g ar : Nat} {t : Nat → Nat} {σ0 : PS} {Q : Option Value → PS → Prop} {X : String → Nat → PS → Prop} (hn : n ≤ 150) (hg : ∀ κ, σ0 κ g = none) (har : ∀ κ, σ0 κ ar = none) : ∀ (f a b : Nat) (L : List StT) (σ : PS), n + 1 ≤ f + a → HRO G σ h r → RdO σ r tb t n a 0 → HabP σ g ar L → KpD (RdD r) σ0 σ → bud n a (pHab t n f L a) ≤ b → (∀ L' a', pHab t n f L a = .inr (L', a') → ∀ τ, RdO τ r tb t n a' 0 → HabP τ g ar L' → KpD (RdD r) σ0 τ → Q (some (.ref g)) τ) → (∀ w p, pHab t n f L a = .inl (w, p) → Thr X r σ0 w p) → At G mX13_reads 151 Q X b 8 [(0, .ref h), (1, .ref g)] [] σ := by
  intro f
  induction f with
  | zero =>
    intro a b L σ hf hH hO
    have := hO.2.2.2.2.1
    omega
  | succ f ih =>
    intro a b L σ hf hH hO hG k0 hb ks kx
    have ha := hO.2.2.2.2.1
    have hs := sk_b (t := t) ha
    have hL8 := hG.2.1
    refine bX13_reads_8 ⟨r, hH.fg, ⟨_, hO.1⟩, k_now hO (fun τ hO1 hF => ⟨_, rfl, fun z => ?_, fun z => ?_⟩)⟩
    · have z1 : ¬ sk t n a < n := fun w => by
        rw [bt_lt w] at z
        exact m1_nI (by have := hO.2.2.2.1 _ w; omega) z
      exact ks L _ (pHab_e z1) τ hO1 (hG.kp hF.kp) (k0.tr hF.kp)
    · have z1 : sk t n a < n := Classical.byContradiction (fun w => z (bt_ge (by omega)))
      rw [pHab_s z1] at hb ks kx
      have hH1 := hH.kp hF.kp
      refine ⟨r, hH1.fg, ⟨_, hO1.1⟩, k_place hO1 (fun τ2 hO2 hF2 => ⟨_, rfl, ?_⟩)⟩
      rw [sk_sk ha] at hO2 ⊢
      have k2 := hF.kp.tr hF2.kp
      have hH2 := hH.kp k2
      obtain ⟨wa, wk, h1, h2, h3⟩ := id hH2
      refine ⟨r, hH2.fg, wa, ⟨_, h1, rfl⟩, ⟨_, hO2.1⟩, k_which hO2 acT h2 (by decide) (by decide) (fun τ3 hO3 hF3 => ⟨_, rfl, ?_⟩)⟩
      rw [sk_sk ha] at hO3 ⊢
      have k3 := k2.tr hF3.kp
      have hH3 := hH.kp k3
      have hG3 := hG.kp k3
      cases hi : idx (wd t n (sk t n a)) acW 0 with
      | none =>
        rw [pStep_n hi] at hb kx
        rw [bnd_l, bud_l] at hb
        refine ⟨fun z => absurd rfl z, fun _ => ⟨by omega, fun q hq s1 e1 => ?_⟩⟩
        subst e1
        exact k_thr (why := 1) rfl rfl hq (k0.tr k3) (kx _ _ rfl)
      | some k =>
        have hk : k < 8 := (idx_lt hi).1
        have lp := idx_pos acW_pos hi
        have hl := wd_le (t := t) hs.2.1
        refine ⟨fun _ => ⟨nI L.length, ⟨_, hG3.1, rfl⟩, fun y => ?_, fun y => ?_⟩, fun z => absurd z (m1_nI (by omega))⟩
        · have hL : L.length ≠ 8 := fun w => y (by rw [w]; rfl)
          rw [pStep_k hi hL] at hb ks kx
          refine ⟨r, hH3.fg, ⟨_, hO3.1⟩, k_skipsWord hO3 (fun τ4 hO4 hF4 => ⟨rfl, ?_⟩)⟩
          have k4 := k3.tr hF4.kp
          have hH4 := hH.kp k4
          obtain ⟨m, hm⟩ : ∃ m, m = sk t n a + (wd t n (sk t n a)).length := ⟨_, rfl⟩
          rw [← hm] at hl hO4 hb ks kx
          have hs4 := sk_b (t := t) hl
          -- budgets
          have BM := bud_sh (n := n) (a := a) (a' := m) (x := bnd (stW t n k m) (fun S a1 => pHab t n f (L ++ [S]) a1)) (by omega) hl (fun v a3 h3 => by
            obtain ⟨S, a4, h4, h5⟩ := bnd_ok h3
            have g1 := stW_ge hl _ _ h4
            have g2 := pHab_ge f _ a4 g1.2.1 _ _ h5
            omega)
          have EW : bnd (stW t n k m) (fun S a1 => pHab t n f (L ++ [S]) a1) = bnd (stB t n m) (fun q a1 => bnd (stF t n a1) (fun c a2 => bnd (stE t n k q c a2) (fun S a3 => pHab t n f (L ++ [S]) a3))) := by
            unfold stW
            cases stB t n m with
            | inl e => rfl
            | inr p =>
              obtain ⟨q, a1⟩ := p
              rw [bnd_r, bnd_r]
              cases stF t n a1 with
              | inl e => rfl
              | inr p => rfl
          have EX : ∀ q a1, stB t n m = .inr (q, a1) → ∀ x p, bnd (stF t n a1) (fun c a2 => stE t n k q c a2) = .inl (x, p) → stW t n k m = .inl (x, p) := fun q a1 h1 x p h2 => by
            unfold stW
            rw [h1, bnd_r]
            exact h2
          have BB := bud_b (n := n) (a := m) (x := stB t n m) (f := fun q a1 => bnd (stF t n a1) (fun c a2 => bnd (stE t n k q c a2) (fun S a3 => pHab t n f (L ++ [S]) a3))) (fun q a1 h1 => by
            have := stB_ge hl q a1 h1
            exact ⟨this.1, this.2.1⟩) (fun q a1 h1 L' a3 h2 => by
            obtain ⟨c, a2, h3, h4⟩ := bnd_ok h2
            obtain ⟨S, a4, h5, h6⟩ := bnd_ok h4
            have g1 := stB_ge hl q a1 h1
            have g2 := stF_ge g1.2.1 c a2 h3
            have g3 := stE_ge g2.2.1 _ _ h5
            have g4 := pHab_ge f _ a4 g3.2.2.1 _ _ h6
            omega)
          rw [EW] at BM hb
          -- what follows
          have KK : ∀ q a1, stB t n m = .inr (q, a1) → ∀ c a2, stF t n a1 = .inr (c, a2) → sg t n 59 a2 → ∀ τ b', bud n (sk t n a2 + 1) (pHab t n f (L ++ [st9 k q c]) (sk t n a2 + 1)) ≤ b' → HRO G τ h r → RdO τ r tb t n (sk t n a2 + 1) 0 → HabP τ g ar (L ++ [st9 k q c]) → KpD (RdD r) σ0 τ → At G mX13_reads 151 Q X b' 8 [(0, .ref h), (1, .ref g)] [] τ := fun q a1 h1 c a2 h2 h3 τ b' y1 y2 y3 y4 y5 => by
            have g1 := stB_ge hl q a1 h1
            have g2 := stF_ge g1.2.1 c a2 h2
            have hs9 := sk_b (t := t) g2.2.1
            have e9 : stW t n k m = .inr (st9 k q c, sk t n a2 + 1) := by
              unfold stW
              rw [h1, bnd_r, h2, bnd_r]
              exact stE_y h3
            rw [e9, bnd_r] at ks kx
            exact ih _ b' _ τ (by omega) y2 y3 y4 y5 y1 ks kx
          refine ⟨r, hH4.fg, ⟨_, hO4.1⟩, k_takes (i := 25) (w := [98, 121]) hO4 rfl rfl (by decide) (by decide) (by decide) (fun z τ5 hO5 hF5 => ⟨_, rfl, fun y => absurd y (by decide), fun _ => ?_⟩) (fun z τ5 hO5 hF5 => ⟨_, rfl, fun _ => ?_, fun y => absurd rfl y⟩)⟩
          · have hO5' : RdO τ5 r tb t n (sk t n m + 2) 0 := hO5
            have e := stB_y z
            have k5 := k4.tr hF5.kp
            have hH5 := hH.kp k5
            refine ⟨r, hH5.fg, bud n m (stB t n m), by omega, ⟨_, hO5'.1⟩, ?_⟩
            refine k_number (lo := 1) (hi := 17) hO5' (fun w => ?_) (by decide) (by decide) y16 (fun q a1 h1 τ6 hO6 hF6 => ⟨_, rfl, ?_⟩) (fun w p h1 => ?_)
            · obtain ⟨e9, h9⟩ := w
              rw [e, h9, bud_l]
              omega
            · rw [← e] at h1
              have B2 := BB.2 q a1 h1
              have B5 : bud n m (stB t n m) = a1 - m := by rw [h1, bud_r]
              have g1 := stB_ge hl q a1 h1
              have k6 := k5.tr hF6.kp
              exact k_stepF (f := f) (hH.kp k6) hO6 (hG.kp k6) hL hk g1.2.2 hn hg har (k0.tr k6) (by omega) (KK q a1 h1) (fun x p h2 => kx x p (by rw [EX q a1 h1 x p h2, bnd_l]))
            · rw [← e] at h1
              exact (kx w p (by
                unfold stW
                rw [h1, bnd_l, bnd_l])).ant (k0.tr k5)
          · have e := stB_n z
            have B2 := BB.2 0 _ e
            have k5 := k4.tr hF5.kp
            exact k_stepF (f := f) (w := 0) (hH.kp k5) hO5 (hG.kp k5) hL hk (Nat.zero_le _) hn hg har (k0.tr k5) (by omega) (KK 0 _ e) (fun x p h2 => kx x p (by rw [EX 0 _ e x p h2, bnd_l]))
        · have hL : L.length = 8 := (nI_eq (b := 8) (by omega) (by decide)).mp y
          rw [hL, pStep_8 hi] at hb kx
          rw [bnd_l, bud_l] at hb
          refine ⟨by omega, fun q hq s1 e1 => ?_⟩
          subst e1
          exact k_thr (why := 3) rfl rfl hq (k0.tr k3) (kx _ _ rfl)
/-- the reader reads: a habit -/
theorem k_reads {G : GC} {σ : PS} {Q : Option Value → PS → Prop} {X : String → Nat → PS → Prop} {b n r h tb a : Nat} {t : Nat → Nat} (hn : n ≤ 150) (hH : HRO G σ h r) (hO : RdO σ r tb t n a 0) (hb : 2 + bud n a (pHab t n (n + 1) [] a) ≤ b) (ks : ∀ L a', pHab t n (n + 1) [] a = .inr (L, a') → ∀ g τ, RdO τ r tb t n a' 0 → HabO τ g L → KpD (RdD r) σ τ → Q (some (.ref g)) τ) (kx : ∀ w p, pHab t n (n + 1) [] a = .inl (w, p) → Thr X r σ w p) : Call G mX13_reads 151 b [.ref h] σ Q X := by
  refine eX13_reads (bX13_reads_0 ⟨by omega, fun g hg s1 e1 => ⟨1, by omega, eX14_init (bX14_init_0 ⟨Nat.le_refl _, fun ar har s2 e2 => ⟨[.null, .int 0], ?_, by simp, fun s3 e3 => ⟨rfl, ?_⟩⟩⟩)⟩⟩)
  · rw [e2]
    show up s1 106 ar _ 14 g = _
    rw [up_k (by decide), e1, up_eq]
  · have hga : g ≠ ar := fun w => by
      have := har 14
      rw [← w, e1, up_eq] at this
      cases this
    have har0 : ∀ κ, σ κ ar = none := fun κ => by
      have := har κ
      rw [e1, up_a hga.symm] at this
      exact this
    have kx3 : KpD (RdD r) σ s3 := by
      rw [e3, e2, e1]
      exact ((KpD.rf.upf hg).upf har0).upf hg
    have al : ∀ κ a e, σ κ a = some e → s3 κ a = some e := fun κ a e hh => by
      rw [e3, e2, e1]
      exact ((KpD.rf (D := fun _ _ => False)).upf hg |>.upf har0 |>.upf hg) κ a e hh id
    refine k_readsL hn hg har0 (n + 1) a _ [] s3 (by omega) (hH.a2 (fun κ a e _ hh => al κ a e hh)) (hO.al al) ⟨by rw [e3, up_eq]; rfl, by simp, fun _ => none, ?_, fun i S hi => by simp at hi⟩ kx3 (by omega) (fun L a' h1 τ y1 y2 y3 => ks L a' h1 g τ y1 y2.o y3) kx
    rw [e3, up_k (by decide), e2, up_eq]
