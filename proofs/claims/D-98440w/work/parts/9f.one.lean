/-! Part B: the component's reader of habits: one test, all -/
theorem k_one {G : GC} {n o d : Nat} {t : Nat → Nat} (ho : o + d = 6) (ih : ∀ d', d = d' + 1 → PK G mX13_one (14 + 3 * d') n (o + 1) t (pOne t n d')) : PK G mX13_one (14 + 3 * d) n o t (pOne t n d) := by
  intro σ h r tb a b Q X hH hO hb ks kx
  have ha := hO.2.2.2.2.1
  have hs := sk_b (t := t) ha
  refine eX13_one (bX13_one_0 ⟨r, hH.fg, by omega, ⟨_, hO.1⟩, k_isWord (i := 27) (w := [110, 111, 116]) hO rfl rfl (by decide) (by decide) (fun τ hO1 hF => ⟨_, rfl, fun z => ?_, fun z => ?_⟩)⟩)
  · have z1 := if_nI z
    have hH1 := hH.kp hF.kp
    refine ⟨r, hH1.fg, by omega, ⟨_, hO1.1⟩, k_now hO1 (fun τ2 hO2 hF2 => ⟨_, rfl, fun y => ?_, fun y => ?_⟩)⟩
    · rw [sk_sk ha] at y hO2
      have y1 : ¬ sg t n 91 a := fun w => y ((bt_n hO.2.2.2.1 (by decide)).mpr w)
      rw [pOne_c z1 y1] at hb ks kx
      have kk := hF.kp.tr hF2.kp
      exact k_cmp ho (Nat.le_refl _) (hH.kp kk) hO2 ha hb (fun cs a' e q' υ y1 y2 y3 => ks cs a' e q' υ y1 y2 (kk.tr y3)) (fun w p e => (kx w p e).ant kk)
    · rw [sk_sk ha] at y hO2
      have y1 : sg t n 91 a := (bt_n (c := 91) hO.2.2.2.1 (by decide)).mp y
      have k2 := hF.kp.tr hF2.kp
      have hH2 := hH.kp k2
      cases d with
      | zero =>
        rw [pOne_0 (Or.inr y1)] at hb kx
        rw [bud_l] at hb
        refine ⟨r, hH2.fg, by omega, 1, by omega, ⟨_, hO2.1⟩, k_opens hO2 (fun _ => Nat.le_refl _) (fun w => absurd ho (by omega)) (fun _ => ?_)⟩
        rw [sk_sk ha]
        exact (kx _ _ rfl).ant k2
      | succ d =>
        have hP := k_any (R := 14 + 3 * d + 2) (one_gd d) (ih d rfl) (by omega) (Nat.le_refl _)
        have vg := (any_gd (t := t) (one_gd (t := t) (n := n) d)).ge _ y1.1
        rw [pOne_b z1 y1] at hb ks kx
        have fg : ∀ c a1, anyOf t n (pOne t n d) (sk t n a + 1) = .inr (c, a1) → ∀ c2 a2, bnd (sgU t n 93 a1) (fun _ a2 => (.inr (c, a2) : PR CS)) = .inr (c2, a2) → a1 ≤ a2 := fun c a1 h1 c2 a2 h2 => by
          obtain ⟨u, a3, h3, h4⟩ := bnd_ok h2
          cases h4
          have z := sgU_gd h3
          have y := sk_b (t := t) (vg _ _ h1).2
          omega
        obtain ⟨B1, B2⟩ := bud_b (n := n) (a := sk t n a + 1) (x := anyOf t n (pOne t n d) (sk t n a + 1)) (f := fun c a1 => bnd (sgU t n 93 a1) (fun _ a2 => .inr (c, a2))) vg fg
        have B3 := bud_sh (n := n) (a := a) (a' := sk t n a + 1) (x := bnd (anyOf t n (pOne t n d) (sk t n a + 1)) (fun c a1 => bnd (sgU t n 93 a1) (fun _ a2 => .inr (c, a2)))) (by omega) y1.1 (fun w a3 h3 => by
          obtain ⟨c1, a1, h1, h2⟩ := bnd_ok h3
          have g := vg _ _ h1
          have := fg c1 a1 h1 _ _ h2
          omega)
        refine ⟨r, hH2.fg, by omega, 0, Nat.zero_le _, ⟨_, hO2.1⟩, k_opens hO2 (fun w => absurd ho (by omega)) (fun _ τ3 hO3 hF3 => ⟨rfl, ?_⟩) (fun w => absurd ho (by omega))⟩
        have k3 := k2.tr hF3.kp
        have hH3 := hH.kp k3
        refine ⟨r, hH3.fg, by omega, 0, Nat.zero_le _, ⟨_, hO3.1⟩, k_sign (c := 91) hO3 (fun w => absurd ((sgN ha).mpr y1) w) (by decide) (fun _ τ4 hO4 hF4 => ⟨rfl, ?_⟩) (fun w => absurd ((sgN ha).mpr y1) w)⟩
        rw [sk_sk ha] at hO4
        have k4 := k3.tr hF4.kp
        have hH4 := hH.kp k4
        refine ⟨14 + 3 * d + 2, by omega, bud n (sk t n a + 1) (anyOf t n (pOne t n d) (sk t n a + 1)), by omega, hH4.ob, ?_⟩
        refine hP _ _ _ _ _ _ _ _ hH4 hO4 (Nat.le_refl _) (fun cs a1 h1 q τ5 hO5 hT5 hK5 => ⟨_, rfl, ?_⟩) (fun w p e => (kx w p (by rw [e, bnd_l])).ant k4)
        have k5 := k4.tr hK5
        have hH5 := hH.kp k5
        have B4 := B2 cs a1 h1
        have g := vg cs a1 h1
        have B5 : bud n (sk t n a + 1) (anyOf t n (pOne t n d) (sk t n a + 1)) = a1 - (sk t n a + 1) := by rw [h1, bud_r]
        rw [h1, bnd_r] at ks kx
        refine ⟨r, hH5.fg, by omega, b - 0 - 0 - bud n (sk t n a + 1) (anyOf t n (pOne t n d) (sk t n a + 1)), Nat.le_refl _, ⟨_, hO5.1⟩, k_sign (c := 93) hO5 (fun w => ?_) (by decide) (fun w τ6 hO6 hF6 => ⟨rfl, ?_⟩) (fun w => ?_)⟩
        · rw [sgU_n w, bnd_l, bud_l] at B4
          omega
        · have k6 := k5.tr hF6.kp
          have hH6 := hH.kp k6
          refine ⟨r, hH6.fg, by omega, ⟨_, hO6.1⟩, k_closes hO6 (fun τ7 hO7 hF7 => ⟨rfl, ?_⟩)⟩
          exact ks cs _ (by rw [sgU_y w, bnd_r]) q τ7 hO7 (hT5.kp (hF6.kp.tr hF7.kp)) (k6.tr hF7.kp)
        · exact (kx _ _ (by rw [sgU_n w, bnd_l])).ant k5
  · have z1 := if_nI1 z
    have hH1 := hH.kp hF.kp
    cases d with
    | zero =>
      rw [pOne_0 (Or.inl z1)] at hb kx
      rw [bud_l] at hb
      refine ⟨r, hH1.fg, by omega, 1, by omega, ⟨_, hO1.1⟩, k_opens hO1 (fun _ => Nat.le_refl _) (fun w => absurd ho (by omega)) (fun _ => ?_)⟩
      rw [sk_sk ha]
      exact (kx _ _ rfl).ant hF.kp
    | succ d =>
      have hl := wd_le (t := t) hs.2.1
      rw [z1] at hl
      have hl3 : sk t n a + 3 ≤ n := hl
      have vg := (one_gd (t := t) (n := n) d).ge _ hl3
      rw [pOne_n z1] at hb ks kx
      rw [bud_map] at hb
      have B3 := bud_sh (n := n) (a := a) (a' := sk t n a + 3) (x := pOne t n d (sk t n a + 3)) (by omega) hl3 (fun w a3 h3 => (vg _ _ h3).1)
      refine ⟨r, hH1.fg, by omega, 0, Nat.zero_le _, ⟨_, hO1.1⟩, k_opens hO1 (fun w => absurd ho (by omega)) (fun _ τ2 hO2 hF2 => ⟨rfl, ?_⟩) (fun w => absurd ho (by omega))⟩
      have k2 := hF.kp.tr hF2.kp
      have hH2 := hH.kp k2
      refine ⟨r, hH2.fg, by omega, ⟨_, hO2.1⟩, k_skipsWord hO2 (fun τ3 hO3 hF3 => ⟨rfl, by omega, fun q9 hq s1 e1 => ?_⟩)⟩
      rw [z1] at hO3
      have hO3' : RdO τ3 r tb t n (sk t n a + 3) (o + 1) := hO3
      subst e1
      have k3 := k2.tr hF3.kp
      have kn : KpD (RdD r) τ3 (up τ3 15 q9 (.inl [.null])) := KpD.nw hq
      have hH3 := hH.kp (k3.tr kn)
      refine ⟨14 + 3 * d, by omega, bud n (sk t n a + 3) (pOne t n d (sk t n a + 3)), by omega, hH3.ob, ?_⟩
      refine ih d rfl _ _ _ _ _ _ _ _ hH3 (hO3'.al (nw_al hq)) (Nat.le_refl _) (fun cs a1 h1 u τ4 hO4 hT4 hK4 => ⟨_, rfl, by omega, ?_⟩) (fun w p e => (kx w p (by rw [e, bnd_l])).ant (k3.tr kn))
      have h15 : τ4 15 q9 = some (.inl [.null]) := hK4 _ _ _ up_eq (fun w => absurd w.1 (by decide))
      refine k_not9 (u := u) h15 (fun τ5 h5 hF5 => ⟨rfl, ?_⟩)
      have kk := k3.tr (nw_kp hq hK4 hF5)
      have hO5 := hO4.fr hF5 (by decide) (by decide)
      have hH5 := hH.kp kk
      refine ⟨r, hH5.fg, by omega, ⟨_, hO5.1⟩, k_closes hO5 (fun τ6 hO6 hF6 => ⟨rfl, ?_⟩)⟩
      have hT6 := (TermAt.set hF5 (Or.inr ⟨rfl, h15⟩) hT4).kp hF6.kp
      have h6 : τ6 15 q9 = some (.inl [.ref u]) := (hF6 15 q9 (fun w => absurd w.1 (by decide))).trans h5
      refine ks _ a1 (by rw [h1, bnd_r]) q9 τ6 hO6 ?_ (kk.tr hF6.kp)
      have e : (cs ++ [(8, (0 : Int32))]).length = cs.length + 1 := by simp
      rw [e]
      exact Or.inr (Or.inr (Or.inl ⟨u, cs, h6, hT6, rfl⟩))
theorem k_ones {G : GC} {n : Nat} {t : Nat → Nat} : ∀ d o, o + d = 6 → PK G mX13_one (14 + 3 * d) n o t (pOne t n d)
  | 0, o, h => k_one h (fun d' e => by omega)
  | d + 1, o, h => k_one h (fun d' e => by
    have e2 : d = d' := by omega
    subst e2
    exact k_ones d (o + 1) (by omega))
theorem k_anys {G : GC} {n : Nat} {t : Nat → Nat} : PK G mX13_any 150 n 0 t (pAny t n) := k_any (one_gd 6) (k_ones 6 0 rfl) (by decide) (by decide)
