/-! Part B: the component's reader of habits: values, tests -/
theorem pVal_0 {t : Nat → Nat} {n a : Nat} (h : sg t n 40 a) : pVal t n 0 a = .inl (3, sk t n a) := by rw [pVal, if_pos h]
theorem pVal_s {t : Nat → Nat} {n d a : Nat} (h : sg t n 40 a) : pVal t n (d + 1) a = bnd (sumOf t n (pVal t n d) (sk t n a + 1)) (fun c a1 => bnd (sgU t n 41 a1) (fun _ a2 => .inr (c, a2))) := by rw [pVal, if_pos h]
theorem pVal_n {t : Nat → Nat} {n d a : Nat} (h : ¬ sg t n 40 a) : pVal t n d a = leafV t n a := by cases d <;> rw [pVal, if_neg h]
theorem leaf_k {t : Nat → Nat} {n a k : Nat} (h : idx (wd t n (sk t n a)) kwW 0 = some k) : leafV t n a = .inr ([(1, nI k)], sk t n a + (wd t n (sk t n a)).length) := by
  unfold leafV
  rw [h]
theorem leaf_n {t : Nat → Nat} {n a : Nat} (h : idx (wd t n (sk t n a)) kwW 0 = none) : leafV t n a = bnd (nm t n 0 1000 a) (fun v a1 => .inr ([(0, nI v)], a1)) := by
  unfold leafV
  rw [h]
theorem sgU_y {t : Nat → Nat} {n c a : Nat} (h : sg t n c a) : sgU t n c a = .inr ((), sk t n a + 1) := if_pos h
theorem sgU_n {t : Nat → Nat} {n c a : Nat} (h : ¬ sg t n c a) : sgU t n c a = .inl (1, sk t n a) := if_neg h
theorem kwT : WsT kwW 17 := by
  intro j w h
  match j, h with
  | 0, h => cases h; exact ⟨_, rfl, rfl, by decide, by decide, by decide⟩
  | 1, h => cases h; exact ⟨_, rfl, rfl, by decide, by decide, by decide⟩
  | 2, h => cases h; exact ⟨_, rfl, rfl, by decide, by decide, by decide⟩
  | 3, h => cases h; exact ⟨_, rfl, rfl, by decide, by decide, by decide⟩
  | 4, h => cases h; exact ⟨_, rfl, rfl, by decide, by decide, by decide⟩
  | 5, h => cases h; exact ⟨_, rfl, rfl, by decide, by decide, by decide⟩
  | 6, h => cases h; exact ⟨_, rfl, rfl, by decide, by decide, by decide⟩
  | 7, h => cases h; exact ⟨_, rfl, rfl, by decide, by decide, by decide⟩
theorem acT : WsT acW 9 := by
  intro j w h
  match j, h with
  | 0, h => cases h; exact ⟨_, rfl, rfl, by decide, by decide, by decide⟩
  | 1, h => cases h; exact ⟨_, rfl, rfl, by decide, by decide, by decide⟩
  | 2, h => cases h; exact ⟨_, rfl, rfl, by decide, by decide, by decide⟩
  | 3, h => cases h; exact ⟨_, rfl, rfl, by decide, by decide, by decide⟩
  | 4, h => cases h; exact ⟨_, rfl, rfl, by decide, by decide, by decide⟩
  | 5, h => cases h; exact ⟨_, rfl, rfl, by decide, by decide, by decide⟩
  | 6, h => cases h; exact ⟨_, rfl, rfl, by decide, by decide, by decide⟩
  | 7, h => cases h; exact ⟨_, rfl, rfl, by decide, by decide, by decide⟩
theorem ofT : WsT ofW 0 := by
  intro j w h
  match j, h with
  | 0, h => cases h; exact ⟨_, rfl, rfl, by decide, by decide, by decide⟩
  | 1, h => cases h; exact ⟨_, rfl, rfl, by decide, by decide, by decide⟩
  | 2, h => cases h; exact ⟨_, rfl, rfl, by decide, by decide, by decide⟩
  | 3, h => cases h; exact ⟨_, rfl, rfl, by decide, by decide, by decide⟩
  | 4, h => cases h; exact ⟨_, rfl, rfl, by decide, by decide, by decide⟩
  | 5, h => cases h; exact ⟨_, rfl, rfl, by decide, by decide, by decide⟩
  | 6, h => cases h; exact ⟨_, rfl, rfl, by decide, by decide, by decide⟩
  | 7, h => cases h; exact ⟨_, rfl, rfl, by decide, by decide, by decide⟩
  | 8, h => cases h; exact ⟨_, rfl, rfl, by decide, by decide, by decide⟩
theorem y999 : ∀ v, v < 2 ^ 30 → (nI v ≤ (999 : Int32) ↔ v < 1000) := fun v hv => by
  rw [show (999 : Int32) = nI 999 from rfl, nI_leI (by omega) (by decide)]
  omega
/-- a figure, a fact -/
theorem k_leaf {G : GC} {σ : PS} {Q : Option Value → PS → Prop} {X : String → Nat → PS → Prop} {R n o h r tb a b : Nat} {t : Nat → Nat} (hR : 11 ≤ R) (hH : HRO G σ h r) (hO : RdO σ r tb t n (sk t n a) o) (ha : a ≤ n) (hb : bud n a (leafV t n a) ≤ b) (ks : ∀ cs a', leafV t n a = .inr (cs, a') → ∀ q τ, RdO τ r tb t n a' o → TermAt cs.length τ q cs → KpD (RdD r) σ τ → Q (some (.ref q)) τ) (kx : ∀ w p, leafV t n a = .inl (w, p) → Thr X r σ w p) :
    ∃ a_in_1 : Nat, Fg σ 13 h 2 (.ref a_in_1) ∧ (∃ a_known : Nat, Fg σ 13 h 1 (.ref a_known) ∧ (8 + 1 ≤ R ∧ (∃ fs_13 : List Value, Ob σ 11 a_in_1 fs_13) ∧ Call G mX11_which 8 0 [.ref a_in_1, .ref a_known] σ (qI (fun rx_3 s1_2 => ((¬ rx_3 = (-1)) → ∃ a_in_4 : Nat, Fg s1_2 13 h 2 (.ref a_in_4) ∧ (4 + 1 ≤ R ∧ (∃ fs : List Value, Ob s1_2 11 a_in_4 fs) ∧ Call G mX11_skipsWord 4 0 [.ref a_in_4] s1_2 (qV (fun s1_5 => 1 ≤ b ∧ (∀ q : Nat, (∀ κ, s1_5 κ q = none) → (∀ s1_6 : PS, s1_6 = up s1_5 17 q (.inl [.int 0]) → 4 + 1 ≤ R ∧ Call G mX17_init 4 0 [.ref q, .int rx_3] s1_6 (qV (fun s1_7 => Q (some (.ref q)) s1_7)) X)))) X)) ∧ ((rx_3 = (-1)) → 1 ≤ b ∧ (∀ q : Nat, (∀ κ, s1_2 κ q = none) → (∀ s1_8 : PS, s1_8 = up s1_2 16 q (.inl [.int 0]) → ∃ a_in_9 : Nat, Fg s1_8 13 h 2 (.ref a_in_9) ∧ (10 + 1 ≤ R ∧ ∃ bc : Nat, bc ≤ b - 1 ∧ (∃ fs : List Value, Ob s1_8 11 a_in_9 fs) ∧ Call G mX11_number 10 bc [.ref a_in_9, .int 0, .int 999] s1_8 (qI (fun rx_11 s1_10 => 4 + 1 ≤ R ∧ Call G mX16_init 4 0 [.ref q, .int rx_11] s1_10 (qV (fun s1_12 => Q (some (.ref q)) s1_12)) X)) X)))))) X)) := by
  obtain ⟨wa, wk, h1, h2, h3⟩ := id hH
  have hs := sk_b (t := t) ha
  refine ⟨r, ⟨_, h1, rfl⟩, wk, ⟨_, h1, rfl⟩, by omega, ⟨_, hO.1⟩, k_which hO kwT h3 (by decide) (by decide) (fun τ hO1 hF => ⟨_, rfl, ?_⟩)⟩
  rw [sk_sk ha] at hO1 ⊢
  have hH1 := hH.kp hF.kp
  cases hi : idx (wd t n (sk t n a)) kwW 0 with
  | some k =>
    have hk := idx_lt hi
    have hk8 : k < 8 := hk.1
    have lk := leaf_k hi
    have lp := idx_pos kwW_pos hi
    rw [lk, bud_r] at hb
    refine ⟨fun _ => ⟨r, hH1.fg, by omega, ⟨_, hO1.1⟩, k_skipsWord hO1 (fun υ hO2 hF2 => ⟨rfl, by omega, fun q hq s1 e1 => ⟨by omega, ?_⟩⟩)⟩, fun z => absurd z (m1_nI (by omega))⟩
    subst e1
    refine k_known9 (x := nI k) up_eq (fun υ2 h17 hF3 => ⟨rfl, ?_⟩)
    refine ks _ _ lk q υ2 ((hO2.al (nw_al hq)).fr hF3 (by decide) (by decide)) (Or.inr (Or.inl ⟨k, hk8, h17, rfl⟩)) ((hF.kp.tr hF2.kp).tr (nw_kp hq KpD.rf hF3))
  | none =>
    have ln := leaf_n hi
    have hb2 : 1 ≤ b ∧ ((∃ e, nm t n 0 1000 a = .inl e) → 1 ≤ b - 1) := by
      rw [ln] at hb
      cases hn : nm t n 0 1000 a with
      | inl e =>
        rw [hn, bnd_l, bud_l] at hb
        exact ⟨by omega, fun _ => by omega⟩
      | inr p =>
        obtain ⟨v, a1⟩ := p
        have g := nm_gd ha hn
        rw [hn, bnd_r, bud_r] at hb
        refine ⟨by omega, fun z => ?_⟩
        obtain ⟨e, he⟩ := z
        cases he
    refine ⟨fun z => absurd rfl z, fun _ => ⟨hb2.1, fun q hq s1 e1 => ?_⟩⟩
    subst e1
    have kn : KpD (RdD r) τ (up τ 16 q (.inl [.int 0])) := KpD.nw hq
    have hH2 := hH1.kp kn
    have hO2 : RdO (up τ 16 q (.inl [.int 0])) r tb t n (sk t n a) o := hO1.al (nw_al hq)
    refine ⟨r, hH2.fg, by omega, b - 1, Nat.le_refl _, ⟨_, hO2.1⟩, ?_⟩
    refine k_number (lo := 0) (hi := 1000) hO2 (fun z => hb2.2 (by rw [nm_sk ha] at z; exact z)) (by decide) (by decide) y999 (fun v a' hv υ hO3 hF3 => ⟨_, rfl, by omega, ?_⟩) (fun w p hw => ?_)
    · rw [nm_sk ha] at hv
      have h16 : υ 16 q = some (.inl [.int 0]) := (hF3 16 q (fun w => absurd w.1 (by decide))).trans up_eq
      refine k_told9 (x := nI v) h16 (fun υ2 h17 hF4 => ⟨rfl, ?_⟩)
      exact ks [(0, nI v)] a' (by rw [ln, hv, bnd_r]) q υ2 (hO3.fr hF4 (by decide) (by decide)) (Or.inl ⟨nI v, h17, rfl⟩) (hF.kp.tr (nw_kp hq hF3.kp hF4))
    · rw [nm_sk ha] at hw
      exact (kx w p (by rw [ln, hw, bnd_l])).ant (hF.kp.tr kn)
theorem bt_n {t : Nat → Nat} {n a c : Nat} (ht : ∀ i, i < n → t i < 256) (hc : c < 256) : bt t n (sk t n a) = nI c ↔ sg t n c a := bt_is ht hc
theorem k_value {G : GC} {R Rs n o d : Nat} {t : Nat → Nat} (ho : o + d = 6) (hR : 11 ≤ R) (hS : ∀ d', d = d' + 1 → Rs + 1 ≤ R ∧ PK G mX13_sum Rs n (o + 1) t (sumOf t n (pVal t n d'))) : PK G mX13_value R n o t (pVal t n d) := by
  intro σ h r tb a b Q X hH hO hb ks kx
  have ha := hO.2.2.2.2.1
  refine eX13_value (bX13_value_0 ⟨r, hH.fg, by omega, ⟨_, hO.1⟩, k_now hO (fun τ hO1 hF => ⟨_, rfl, fun z => ?_, fun z => ?_⟩)⟩)
  · have ns : ¬ sg t n 40 a := fun w => z ((bt_n hO.2.2.2.1 (by decide)).mpr w)
    rw [pVal_n ns] at hb ks kx
    exact k_leaf hR (hH.kp hF.kp) hO1 ha hb (fun cs a' e q υ y1 y2 y3 => ks cs a' e q υ y1 y2 (hF.kp.tr y3)) (fun w p e => (kx w p e).ant hF.kp)
  · have hs : sg t n 40 a := (bt_n (c := 40) hO.2.2.2.1 (by decide)).mp z
    have hH1 := hH.kp hF.kp
    cases d with
    | zero =>
      rw [pVal_0 hs] at hb kx
      rw [bud_l] at hb
      refine ⟨r, hH1.fg, by omega, 1, by omega, ⟨_, hO1.1⟩, k_opens hO1 (fun _ => Nat.le_refl _) (fun w => absurd ho (by omega)) (fun _ => ?_)⟩
      rw [sk_sk ha]
      exact (kx _ _ rfl).ant hF.kp
    | succ d =>
      obtain ⟨hRs, hP⟩ := hS d rfl
      have hv := sum_gd (t := t) (val_gd (t := t) (n := n) d)
      have vg := hv.ge _ hs.1
      rw [pVal_s hs] at hb ks kx
      obtain ⟨B1, B2⟩ := bud_b (n := n) (a := sk t n a + 1) (x := sumOf t n (pVal t n d) (sk t n a + 1)) (f := fun c a1 => bnd (sgU t n 41 a1) (fun _ a2 => .inr (c, a2))) vg (fun c a1 h1 c2 a2 h2 => by
        obtain ⟨u, a3, h3, h4⟩ := bnd_ok h2
        cases h4
        have z := sgU_gd h3
        have y := sk_b (t := t) (vg _ _ h1).2
        omega)
      have hs2 := sk_b (t := t) ha
      have B3 := bud_sh (n := n) (a := a) (a' := sk t n a + 1) (x := bnd (sumOf t n (pVal t n d) (sk t n a + 1)) (fun c a1 => bnd (sgU t n 41 a1) (fun _ a2 => .inr (c, a2)))) (by omega) hs.1 (fun w a3 h3 => by
        obtain ⟨c1, a1, h1, h2⟩ := bnd_ok h3
        obtain ⟨u, a4, h4, h5⟩ := bnd_ok h2
        cases h5
        have z := sgU_gd h4
        have g := vg _ _ h1
        have y := sk_b (t := t) g.2
        omega)
      refine ⟨r, hH1.fg, by omega, 0, Nat.zero_le _, ⟨_, hO1.1⟩, k_opens hO1 (fun w => absurd ho (by omega)) (fun _ τ2 hO2 hF2 => ⟨rfl, ?_⟩) (fun w => absurd ho (by omega))⟩
      have k2 := hF.kp.tr hF2.kp
      have hH2 := hH.kp k2
      refine ⟨r, hH2.fg, by omega, 0, Nat.zero_le _, ⟨_, hO2.1⟩, k_sign (c := 40) hO2 (fun w => absurd ((sgN ha).mpr hs) w) (by decide) (fun _ τ3 hO3 hF3 => ⟨rfl, ?_⟩) (fun w => absurd ((sgN ha).mpr hs) w)⟩
      rw [sk_sk ha] at hO3
      have k3 := k2.tr hF3.kp
      have hH3 := hH.kp k3
      refine ⟨Rs, hRs, bud n (sk t n a + 1) (sumOf t n (pVal t n d) (sk t n a + 1)), by omega, hH3.ob, ?_⟩
      refine hP _ _ _ _ _ _ _ _ hH3 hO3 (Nat.le_refl _) (fun cs a1 h1 q τ4 hO4 hT4 hK4 => ⟨_, rfl, ?_⟩) (fun w p e => (kx w p (by rw [e, bnd_l])).ant k3)
      have k4 := k3.tr hK4
      have hH4 := hH.kp k4
      have B4 := B2 cs a1 h1
      have g := vg cs a1 h1
      have B5 : bud n (sk t n a + 1) (sumOf t n (pVal t n d) (sk t n a + 1)) = a1 - (sk t n a + 1) := by rw [h1, bud_r]
      rw [h1, bnd_r] at ks kx
      refine ⟨r, hH4.fg, by omega, b - 0 - 0 - bud n (sk t n a + 1) (sumOf t n (pVal t n d) (sk t n a + 1)), Nat.le_refl _, ⟨_, hO4.1⟩, k_sign (c := 41) hO4 (fun w => ?_) (by decide) (fun w τ5 hO5 hF5 => ⟨rfl, ?_⟩) (fun w => ?_)⟩
      · rw [sgU_n w, bnd_l, bud_l] at B4
        omega
      · have k5 := k4.tr hF5.kp
        have hH5 := hH.kp k5
        refine ⟨r, hH5.fg, by omega, ⟨_, hO5.1⟩, k_closes hO5 (fun τ6 hO6 hF6 => ⟨rfl, ?_⟩)⟩
        exact ks cs _ (by rw [sgU_y w, bnd_r]) q τ6 hO6 (hT4.kp (hF5.kp.tr hF6.kp)) (k5.tr hF6.kp)
      · exact (kx _ _ (by rw [sgU_n w, bnd_l])).ant k4
/-- values, sums: with d opens left -/
theorem k_vals {G : GC} {n : Nat} {t : Nat → Nat} : ∀ d o, o + d = 6 → PK G mX13_value (11 + 3 * d) n o t (pVal t n d)
  | 0, o, h => k_value (Rs := 0) h (by omega) (fun d' e => by omega)
  | d + 1, o, h => k_value (Rs := 11 + 3 * d + 2) h (by omega) (fun d' e => by
    have e2 : d = d' := by omega
    subst e2
    exact ⟨by omega, k_sum (val_gd d) (k_vals d (o + 1) (by omega)) (by omega)⟩)
theorem k_sums {G : GC} {n o d : Nat} {t : Nat → Nat} (h : o + d = 6) : PK G mX13_sum (13 + 3 * d) n o t (sumOf t n (pVal t n d)) := by
  have := k_sum (val_gd d) (k_vals (G := G) (n := n) (t := t) d o h) (by omega)
  rw [show 13 + 3 * d = 11 + 3 * d + 2 by omega]
  exact this
theorem k_eachL {G : GC} {Rv n o : Nat} {t : Nat → Nat} {v : Nat → PR CS} (hv : Gd n true v) (hP : PK G mX13_one Rv n o t v) (h7 : 8 ≤ Rv) : ∀ f, LpK G mX13_each (Rv + 1) n o f t v (opW t n [97, 110, 100] 9) := by
  intro f
  induction f with
  | zero =>
    intro σ h r tb a b q c Q X hf hH hO
    have := hO.2.2.2.2.1
    omega
  | succ f ih =>
    intro σ h r tb a b q c Q X hf hH hO hT hb ks kx
    refine bX13_each_5 ⟨r, hH.fg, by omega, ⟨_, hO.1⟩, k_takes (i := 28) (w := [97, 110, 100]) hO rfl rfl (by decide) (by decide) (by decide) (fun hs τ hO1 hF => ⟨_, rfl, fun z => absurd z (by decide), fun _ => ?_⟩) (fun hs τ hO1 hF => ⟨_, rfl, fun _ => ?_, fun z => absurd rfl z⟩)⟩
    · exact lp_turn (x := 9) hP hv (opW_go (by decide) (Or.inl rfl)) ih (Nat.le_refl _) (by omega) hO.2.2.2.2.1 (by omega) (hH.kp hF.kp) hO1 (hT.kp hF.kp) (opW_y hs) (Or.inr (Or.inr (Or.inr (Or.inr (Or.inr (Or.inr (Or.inl rfl))))))) hb (fun cs a' e q' υ y1 y2 y3 => ks cs a' e q' υ y1 y2 (hF.kp.tr y3)) (fun w p e => (kx w p e).ant hF.kp)
    · exact ks c _ (lpS_n (opW_n hs)) q τ hO1 (hT.kp hF.kp) hF.kp
theorem k_each {G : GC} {Rv n o : Nat} {t : Nat → Nat} {v : Nat → PR CS} (hv : Gd n true v) (hP : PK G mX13_one Rv n o t v) (h7 : 8 ≤ Rv) : PK G mX13_each (Rv + 1) n o t (allOf t n v) := by
  intro σ h r tb a b Q X hH hO hb ks kx
  exact eX13_each (bX13_each_0 (lp_first hP hv (opW_go (by decide) (Or.inl rfl)) (k_eachL hv hP h7 _) (Nat.le_refl _) hH hO hb ks kx))
theorem k_anyL {G : GC} {Rv n o : Nat} {t : Nat → Nat} {v : Nat → PR CS} (hv : Gd n true v) (hP : PK G mX13_each Rv n o t v) (h7 : 8 ≤ Rv) {R : Nat} (hR : Rv + 1 ≤ R) : ∀ f, LpK G mX13_any R n o f t v (opW t n [111, 114] 10) := by
  intro f
  induction f with
  | zero =>
    intro σ h r tb a b q c Q X hf hH hO
    have := hO.2.2.2.2.1
    omega
  | succ f ih =>
    intro σ h r tb a b q c Q X hf hH hO hT hb ks kx
    refine bX13_any_5 ⟨r, hH.fg, by omega, ⟨_, hO.1⟩, k_takes (i := 29) (w := [111, 114]) hO rfl rfl (by decide) (by decide) (by decide) (fun hs τ hO1 hF => ⟨_, rfl, fun z => absurd z (by decide), fun _ => ?_⟩) (fun hs τ hO1 hF => ⟨_, rfl, fun _ => ?_, fun z => absurd rfl z⟩)⟩
    · exact lp_turn (x := 10) hP hv (opW_go (by decide) (Or.inr rfl)) ih hR (by omega) hO.2.2.2.2.1 (by omega) (hH.kp hF.kp) hO1 (hT.kp hF.kp) (opW_y hs) (Or.inr (Or.inr (Or.inr (Or.inr (Or.inr (Or.inr (Or.inr rfl))))))) hb (fun cs a' e q' υ y1 y2 y3 => ks cs a' e q' υ y1 y2 (hF.kp.tr y3)) (fun w p e => (kx w p e).ant hF.kp)
    · exact ks c _ (lpS_n (opW_n hs)) q τ hO1 (hT.kp hF.kp) hF.kp
theorem k_any {G : GC} {Rv n o : Nat} {t : Nat → Nat} {v : Nat → PR CS} (hv : Gd n true v) (hP : PK G mX13_one Rv n o t v) (h7 : 8 ≤ Rv) {R : Nat} (hR : Rv + 2 ≤ R) : PK G mX13_any R n o t (anyOf t n v) := by
  intro σ h r tb a b Q X hH hO hb ks kx
  exact eX13_any (bX13_any_0 (lp_first (k_each hv hP h7) (all_gd hv) (opW_go (by decide) (Or.inr rfl)) (k_anyL (all_gd hv) (k_each hv hP h7) (by omega) (by omega) _) (by omega) hH hO hb ks kx))
