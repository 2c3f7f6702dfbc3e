/-! Part B: the reference's reader of habits: values -/
theorem wd_nil {t : Nat → Nat} {n a : Nat} (h : ¬ (a < n ∧ small (t a))) : wd t n a = [] := by
  unfold wd
  cases n - a with
  | zero => rfl
  | succ f => rw [wdF, if_neg h]
theorem mf_unit {G : GC} {ad : Nat → Nat} {o : Nat} {F : Nat → Int32} {L : Nat → Int64} {I : Nat → Nat → Int32} {J : Nat → Nat → Int64} {R : Nat} {Q : MPost} (hR : 4 ≤ R) (h : ¬ F 5 = -1) (k : Q none F L I J) : CallM G mX9_readUnit R ad o [.ref o] F L I J Q := eX9_readUnit (fun σ0 => bX9_readUnit_0 ⟨hR, w_fineN h ⟨_, rfl, fun z => absurd rfl z, fun _ => k⟩⟩)
theorem mf_sum {G : GC} {ad : Nat → Nat} {o : Nat} {F : Nat → Int32} {L : Nat → Int64} {I : Nat → Nat → Int32} {J : Nat → Nat → Int64} {R : Nat} {Q : MPost} (hR : 6 ≤ R) (h : ¬ F 5 = -1) (k : Q none F L I J) : CallM G mX9_readSum R ad o [.ref o] F L I J Q := eX9_readSum (fun σ0 => bX9_readSum_0 ⟨R - 1, by omega, eX9_readProduct (fun σ1 => bX9_readProduct_0 ⟨R - 2, by omega, mf_unit (by omega) h ⟨rfl, hd_product (by omega) h ⟨rfl, hd_sum (by omega) h k⟩⟩⟩)⟩)
theorem RC.o7 {F : Nat → Int32} {I : Nat → Nat → Int32} {t : Nat → Nat} {n a o : Nat} {l : CS} (h : RS F I t n a none) (h7 : F 7 = nI (o + 1)) (h28 : F 28 = nI l.length) (hE : EM I l) (hl : l.length ≤ a) : RC (fU F 7 (F 7 - 1)) I t n a o l ∧ Fc F (fU F 7 (F 7 - 1)) := by
  obtain ⟨y1, y2, y3⟩ := h.o7 (v := F 7 - 1)
  exact ⟨⟨y1, by rw [fU_at, h7, nI_pred], y3.trans h28, hE, hl⟩, y2⟩
theorem m_unit {G : GC} {R Rs n o d : Nat} {t : Nat → Nat} (hn : n ≤ 150) (ho : o + d = 6) (hR : 11 ≤ R) (hS : ∀ d', d = d' + 1 → Rs + 1 ≤ R ∧ PM G mX9_readSum Rs n (o + 1) t (sumOf t n (pVal t n d'))) : PM G mX9_readUnit R n o t (pVal t n d) := by
  intro ad o9 F L I J Q a l H ks kx
  have ha := H.le
  have hs := sk_b (t := t) ha
  have t8 := H.t8
  refine eX9_readUnit (fun σ0 => bX9_readUnit_0 ⟨by omega, w_fineY H.f5 ⟨_, rfl, fun _ => ⟨by omega, w_hereC H (fun F1 H1 f1 => ⟨_, rfl, fun z => ?_, fun z => ?_⟩)⟩, fun z => absurd z (by decide)⟩⟩)
  · have ns : ¬ sg t n 40 a := fun w => z ((hv_s t8 (c := 40) rfl (by decide) (by decide)).mpr w)
    rw [pVal_n ns] at ks kx
    have hl := H1.2.2.2.2
    refine ⟨by omega, w_hereC H1 (fun F2 H2 f2 => ⟨_, rfl, ?_⟩)⟩
    rw [sk_sk ha] at H2 ⊢
    have f12 := f1.tr f2
    refine ⟨by omega, w_isDigit (hv_lt t8) ⟨_, rfl, fun y => ⟨by omega, w_wordC H2 (fun F3 H3 f3 => ⟨_, rfl, by omega, ?_⟩)⟩, fun y => ⟨by omega, ?_⟩⟩⟩
    · rw [sk_sk ha] at H3 ⊢
      have f13 := f12.tr f3
      refine w_factOf ⟨_, rfl, ?_⟩
      cases hi : idx (wd t n (sk t n a)) kwW 0 with
      | some k =>
        have hk : k < 8 := (idx_lt hi).1
        have lk := leaf_k hi
        have lp := idx_pos kwW_pos hi
        have wl := wd_le (t := t) hs.2.1
        refine ⟨fun _ => ⟨by omega, w_fineY H3.f5 ⟨_, rfl, fun _ => ⟨by omega, w_pass H3.1 (fun F4' H4 f4 => ⟨rfl, by omega, ?_⟩)⟩, fun w => absurd w (by decide)⟩⟩, fun w => absurd w (m1_nI (by omega))⟩
        refine w_emit (x := 1) (o9 := o) H4 ((f4 7 (by decide)).trans H3.2.1) ((f4 28 (by decide)).trans H3.2.2.1) H3.2.2.2.1 (by omega) (by omega) rfl (fun F5 I5 H5 f5 i5 => ⟨rfl, ks _ _ lk F5 I5 H5 ((f13.tr f4).c.tr f5) i5⟩)
      | none =>
        have nd : ¬ (sk t n a < n ∧ digit (t (sk t n a))) := fun w => if_nI y (by rw [show hv t n (sk t n a) = t (sk t n a) from if_pos w.1]; exact w.2)
        have e : leafV t n a = .inl (1, sk t n a) := by
          rw [leaf_n hi]
          unfold nm
          rw [if_neg nd, bnd_l]
        refine ⟨fun w => absurd rfl w, fun _ => ⟨by omega, ?_⟩⟩
        rw [H3.1.2.1]
        exact w_wrong (w := 1) H3.1 rfl rfl hs.2.1 (fun F4' H4 f4 _ => ⟨rfl, by omega, w_fineN H4.bad ⟨_, rfl, fun w => absurd rfl w, fun _ => kx _ _ e F4' I _ H4 (f13.c.tr f4.c) Ic.rf⟩⟩)
    · have dg := if_nI1 y
      have hl2 : sk t n a < n := Classical.byContradiction (fun w => by
        rw [show hv t n (sk t n a) = 0 from if_neg w] at dg
        exact absurd dg.1 (by decide))
      rw [show hv t n (sk t n a) = t (sk t n a) from if_pos hl2] at dg
      have wn : wd t n (sk t n a) = [] := wd_nil (fun w => by
        have := dg.2
        have := w.2.1
        omega)
      have e := leaf_n (t := t) (n := n) (a := a) (by rw [wn]; rfl)
      refine w_number (lo := 0) (hi := 1000) H2.1 rfl (by decide) (by decide) y999 (fun v a' hv9 F3 H3 f3 => ⟨_, rfl, by omega, ?_⟩) (fun w p hw F3 a' H3 f3 => ⟨_, rfl, by omega, w_emitN H3.bad ⟨rfl, ?_⟩⟩)
      · rw [nm_sk ha] at hv9
        have g := nm_gd ha hv9
        refine w_emit (x := 0) (o9 := o) H3 ((f3 7 (by decide)).trans H2.2.1) ((f3 28 (by decide)).trans H2.2.2.1) H2.2.2.2.1 (by omega) (by omega) rfl (fun F5 I5 H5 f5 i5 => ⟨rfl, ks [(0, nI v)] a' (by rw [e, hv9, bnd_r]) F5 I5 H5 ((f12.tr f3).c.tr f5) i5⟩)
      · rw [nm_sk ha] at hw
        exact kx w p (by rw [e, hw, bnd_l]) F3 I a' H3 (f12.c.tr f3.c) Ic.rf
  · have hs4 : sg t n 40 a := (hv_s t8 (c := 40) rfl (by decide) (by decide)).mp z
    have hl := H1.2.2.2.2
    refine ⟨by omega, w_opens (b := 1) H1.1 H1.2.1 (by omega) rfl hs4.1 (fun h6 F2 H2 h7 h28 f2 => ⟨rfl, ?_⟩) (fun h6 F2 H2 f2 => ⟨rfl, 6, by omega, mf_sum (by omega) H2.bad ⟨rfl, by omega, w_signN H2.bad ⟨rfl, fun F3 e3 => ?_⟩⟩⟩)⟩
    · cases d with
      | zero => exact absurd ho (by omega)
      | succ d =>
        obtain ⟨hRs, hP⟩ := hS d rfl
        have vg := (sum_gd (t := t) (val_gd (t := t) (n := n) d))
        rw [pVal_s hs4] at ks kx
        have H2' : RC F2 I t n (sk t n a + 1) (o + 1) l := ⟨H2, h7, h28.trans H1.2.2.1, H1.2.2.2.1, by omega⟩
        have f12 := f1.c.tr f2
        refine ⟨Rs, hRs, hP _ _ _ _ _ _ _ _ _ H2' (fun cs a1 h1 F3 I3 H3 f3 i3 => ⟨rfl, by omega, ?_⟩) (fun w p h1 F3 I3 a' H3 f3 i3 => ⟨rfl, by omega, w_signN H3.bad ⟨rfl, fun F4' e4 => ?_⟩⟩)⟩
        · rw [h1, bnd_r] at ks kx
          have g := vg _ hs4.1 cs a1 h1
          have hl3 := H3.2.2.2.2
          have hs1 := sk_b (t := t) H3.le
          refine w_sign (c := 41) H3.1 rfl (by decide) (by decide) (fun w F4' H4 f4 => ⟨rfl, fun F5 e5 => ?_⟩) (fun w F4' a' H4 f4 => ⟨rfl, fun F5 e5 => ?_⟩)
          · obtain ⟨y1, y2⟩ := RC.o7 (o := o) (l := l ++ cs) H4 ((f4 7 (by decide)).trans H3.2.1) ((f4 28 (by decide)).trans H3.2.2.1) H3.2.2.2.1 (by omega)
            rw [← e5] at y1 y2
            exact ks cs _ (by rw [sgU_y w, bnd_r]) F5 I3 y1 (((f12.tr f3).tr f4.c).tr y2) i3
          · obtain ⟨y1, y2, -⟩ := H4.o7 (v := F4' 7 - 1)
            rw [← e5] at y1 y2
            exact kx _ _ (by rw [sgU_n w, bnd_l]) F5 I3 a' y1 (((f12.tr f3).tr f4.c).tr y2) i3
        · obtain ⟨y1, y2, -⟩ := H3.o7 (v := F3 7 - 1)
          rw [← e4] at y1 y2
          exact kx w p (by rw [h1, bnd_l]) F4' I3 a' y1 ((f12.tr f3).tr y2) i3
    · have d0 : d = 0 := by omega
      subst d0
      obtain ⟨y1, y2, -⟩ := H2.o7 (v := F2 7 - 1)
      rw [← e3] at y1 y2
      exact kx _ _ (pVal_0 hs4) F3 I _ y1 ((f1.c.tr f2).tr y2) Ic.rf
theorem m_vals {G : GC} {n : Nat} {t : Nat → Nat} (hn : n ≤ 150) : ∀ d o, o + d = 6 → PM G mX9_readUnit (11 + 3 * d) n o t (pVal t n d)
  | 0, o, h => m_unit (Rs := 0) hn h (by omega) (fun d' e => by omega)
  | d + 1, o, h => m_unit (Rs := 11 + 3 * d + 2) hn h (by omega) (fun d' e => by
    have e2 : d = d' := by omega
    subst e2
    exact ⟨by omega, m_sum hn (val_gd d) (m_vals hn d (o + 1) (by omega)) (by omega)⟩)
theorem m_sums {G : GC} {n o d : Nat} {t : Nat → Nat} (hn : n ≤ 150) (h : o + d = 6) : PM G mX9_readSum (13 + 3 * d) n o t (sumOf t n (pVal t n d)) := by
  have := m_sum hn (val_gd d) (m_vals (G := G) (n := n) (t := t) hn d o h) (by omega)
  rw [show 13 + 3 * d = 11 + 3 * d + 2 by omega]
  exact this
