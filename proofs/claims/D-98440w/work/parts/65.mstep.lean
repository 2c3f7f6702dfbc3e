/-! Part B: the reference's steps over its row, ends, the book, a visit's beginning -/
def Fct (fw fm : Nat → Int32) (v : Nat) (I : Nat → Nat → Int32) : Prop := I 56 4 = fm v ∧ I 56 6 = la fw fm v v ∧ I 56 7 = nI (cn fw (fw v) (v + 1))
set_option maxRecDepth 8000 in
theorem w_mstep {G : GC} {ad : Nat → Nat} {o : Nat} {F : Nat → Int32} {L : Nat → Int64} {I : Nat → Nat → Int32} {J : Nat → Nat → Int64} {Q : MPost} {n v wa lo pw hb jj see nn : Nat} {lv P D : Nat → Nat} {O : Nat → Nat} {fw fm : (Nat → Int32)} {l : List StT} {S : StT} (h : FlM F L I J n lv P (fun _ => 0) D wa lo) (hg : ∀ i, i < n → gd (v + 1) (lv i)) (hG : GP (v + 1) P) (hv : v < nn) (hnn : nn ≤ 24) (hMC : MCx O fw fm nn I) (hN0 : O 0 ≤ 12) (h44 : F 44 = nI see) (hsee : see ≤ 16) (hpw : fw v = nI pw) (hp : pw < 6) (hH : HabM I hb l) (hhb : hb < 7) (hS : l[jj]? = some S) (hfx : Fct fw fm v I)
    (k : ∀ F' L' I' J' n' lv', FlM F' L' I' J' n' lv' (sc (stepG (O 0) (O 5) see v fw fm P S) 16900) (fun _ => 0) (fun p => D p + if p = pw then sm (fun x => actD S.1 x (stepT (O 0) (O 5) v fw fm P S x)) 16900 else 0) (wa + sm (fun x => actW S.1 x (stepT (O 0) (O 5) v fw fm P S x)) 16900) (lo + sm (fun x => actL S.1 (stepT (O 0) (O 5) v fw fm P S x)) 16900) → (∀ i, i < n' → gd (v + 1) (lv' i)) → Fr9 F F' → Ir9 I I' → Fct fw fm v I' → J' 40 = J 40 → Q none F' L' I' J') : CallM G mX9_goesStep 6 ad o [.ref o, .int (nI hb), .int (nI jj), .int (nI v)] F L I J Q := by
  obtain ⟨hr, hs, -, hn⟩ := h.rw9
  have hHH := hH
  obtain ⟨-, h2, fr, h3⟩ := hHH
  obtain ⟨hst, b3, b4, -, -, -, -, -⟩ := h3 jj S hS
  have hjj : jj < 8 := Nat.lt_of_lt_of_le (List.getElem?_eq_some_iff.mp hS).1 h2
  have htt := stepG_tt (N := O 0) (W := O 5) (v := v) (fw := fw) (fm := fm) (P := P) hst.2 hsee
  have bd : ∀ i y, i ≤ n → scl (stepG (O 0) (O 5) see v fw fm P S) lv i y ≤ 2 ^ 40 := fun i y hi => Nat.le_trans (scl_le hr hs htt hi) hG.2
  have hTP := stepT_le (N := O 0) (W := O 5) (v := v) (fw := fw) (fm := fm) (P := P) hst.2
  have t0 : ∀ x, P x = 0 → stepT (O 0) (O 5) v fw fm P S x = 0 := fun x hx => by have := hTP x; omega
  refine eX9_goesStep (fun σ0 => bX9_goesStep_0 ?_)
  have ea : 32 * nI hb + 4 * nI jj = nI (32 * hb + 4 * jj) := by rw [show (32 : Int32) = nI 32 from rfl, show (4 : Int32) = nI 4 from rfl, pk_mul, pk_mul, nI_add]
  rw [ea, nI_1, nI_clamp (show 32 * hb + 4 * jj < 2 ^ 31 by omega), b3]
  refine ⟨vp_in_nI (by omega) (by decide), fun v4 e4 w ew => ?_⟩
  rw [ew, nI_clamp (show 32 * hb + 4 * jj + 1 < 2 ^ 31 by omega), b4]
  refine ⟨vp_in_nI (by omega) (by decide), fun v5 e5 => ?_⟩
  subst e4
  subst e5
  have Lp : ∀ d i, i + d = n → ∀ F' L' I' J', FlM F' L' I' J' n lv P (scl (stepG (O 0) (O 5) see v fw fm P S) lv i) (fun p => D p + if p = pw then sm (fun j => actD S.1 (lv j) (stepT (O 0) (O 5) v fw fm P S (lv j))) i else 0) (wa + sm (fun j => actW S.1 (lv j) (stepT (O 0) (O 5) v fw fm P S (lv j))) i) (lo + sm (fun j => actL S.1 (stepT (O 0) (O 5) v fw fm P S (lv j))) i) → Fr9 F F' → Ir9 I I' → Fct fw fm v I' → J' 40 = J 40 → AtM G mX9_goesStep 6 ad o σ0 Q 35 [(0, .ref o), (1, .int (nI hb)), (2, .int (nI jj)), (3, .int (nI v)), (4, .int (nI S.1)), (5, .int (nI S.2.1)), (6, .int (nI i))] [] F' L' I' J' := by
    intro d
    induction d with
    | zero =>
      intro i hi F' L' I' J' hM hF hI hfx hJ
      have hi : i = n := by omega
      subst hi
      refine bX9_goesStep_35 ⟨fun _ => w_takesNext hM (fun F2 I2 J2 n' lv' hM2 hnz hF2 hI2 hJ2 => ⟨rfl, k F2 L' I2 J2 n' lv' (hM2.cong (fun x _ => scl_end hr hs htt) (fun _ _ => rfl) (fun p _ => ?_) ?_ ?_) (fun j hj => (step_GP hG hN0 hst.2 hsee (by omega)).1 _ (by rw [← scl_end hr hs htt]; exact hnz j hj)) (hF.tr (Fr9.o35 hF2)) (hI.tr (Ir9.o33 hI2)) (by unfold Fct; rw [hI2 56 (by decide)]; exact hfx) (hJ2.trans hJ)⟩), fun z => absurd (by rw [hM.rw9.2.2.1]; exact nI_le (Nat.le_refl _) (by omega)) z⟩
      · rw [sml_end (P := P) (f := fun x => actD S.1 x (stepT (O 0) (O 5) v fw fm P S x)) hr hs (fun x z => by rw [t0 x z, actD_0])]
      · rw [sml_end (P := P) (f := fun x => actW S.1 x (stepT (O 0) (O 5) v fw fm P S x)) hr hs (fun x z => by rw [t0 x z, actW_0])]
      · rw [sml_end (P := P) (f := fun x => actL S.1 (stepT (O 0) (O 5) v fw fm P S x)) hr hs (fun x z => by rw [t0 x z, actL_0])]
    | succ d ih =>
      intro i hi F' L' I' J' hM hF hI hfx hJ
      have hin : i < n := by omega
      obtain ⟨hx, e33⟩ := hM.live hin
      have hgx := hg i hin
      have hqx := ix_lt hx
      have p1 := vp_in_nI (show i < 16900 by omega) (by decide)
      have p2 := vp_in_nI hqx (by decide)
      have ih1 := ih (i + 1) (by omega)
      simp only [sm_s] at ih1
      refine bX9_goesStep_35 ⟨fun z => absurd (by rw [hM.rw9.2.2.1] at z; exact z) (nI_ge hin (by omega)), fun _ => ⟨p1, fun v7 h7 => ?_⟩⟩
      rw [nI_clamp (by omega), e33] at h7
      subst h7
      refine ⟨p2, fun v8 h8 => ?_⟩
      have eJ : J' 37 (nI (ix (lv i))).toNatClampNeg = lN (P (lv i)) := by rw [nI_clamp (by omega)]; exact hM.2.1 _ hx
      rw [eJ] at h8
      subst h8
      have hMCI := hMC.keep hI
      refine w_stateOf hx (fun F1 hS1 hF1 => ⟨rfl, ?_⟩)
      have hFF1 : Fr9 F F1 := hF.tr (Fr9.o51 hF1)
      refine w_findFacts (fw := fw) (fm := fm) (by omega) hS1.1 hS1.2.1 hS1.2.2.1 hS1.2.2.2.1 hS1.2.2.2.2 hgx.1 (hMCI.1 0 (by decide)) (hMCI.1 5 (by decide)) hfx.1 hfx.2.1 hfx.2.2 (fun y hy => (hMCI.2 y (by omega)).2) (fun A hA => ⟨rfl, ?_⟩)
      have hI2 : Ir9 I (aS I' 56 A) := hI.tr (Ir9.s (Or.inl rfl))
      refine w_isSo (fac (O 0) (O 5) fw fm v (cS (lv i)) (cC (lv i)) (cD (lv i)) (cK (lv i)) (cE (lv i))) (fun y hy => by rw [aS_eq]; exact hA y hy) (hH.keep hI2) hhb hS (fun B => ?_)
      have hI3 : Ir9 I (aS (aS I' 56 A) 23 B) := hI2.tr (Ir9.s (Or.inr rfl))
      have hfx3 : Fct fw fm v (aS (aS I' 56 A) 23 B) := by
        refine ⟨?_, ?_, ?_⟩
        · rw [aS_ne (by decide), aS_eq, hA 4 (by decide)]; rfl
        · rw [aS_ne (by decide), aS_eq, hA 6 (by decide)]; rfl
        · rw [aS_ne (by decide), aS_eq, hA 7 (by decide)]; rfl
      have hM3 : FlM F1 L' (aS (aS I' 56 A) 23 B) J' n lv P (scl (stepG (O 0) (O 5) see v fw fm P S) lv i) (fun p => D p + if p = pw then sm (fun j => actD S.1 (lv j) (stepT (O 0) (O 5) v fw fm P S (lv j))) i else 0) (wa + sm (fun j => actW S.1 (lv j) (stepT (O 0) (O 5) v fw fm P S (lv j))) i) (lo + sm (fun j => actL S.1 (stepT (O 0) (O 5) v fw fm P S (lv j))) i) :=
        hM.oth (hF1 35 (by decide)) (hF1 36 (by decide)) rfl rfl (by rw [aS_ne (by decide), aS_ne (by decide)]) (by rw [aS_ne (by decide), aS_ne (by decide)]) rfl rfl rfl
      revert hI3 hfx3 hM3
      generalize aS (aS I' 56 A) 23 B = I3
      intro hI3 hfx3 hM3
      have hPx := hG.le (by omega) (lv i)
      have hT := hTP (lv i)
      have M106 : AtM G mX9_goesStep 6 ad o σ0 Q 106 [(0, .ref o), (1, .int (nI hb)), (2, .int (nI jj)), (3, .int (nI v)), (4, .int (nI S.1)), (5, .int (nI S.2.1)), (6, .int (nI i)), (7, .int (nI (ix (lv i)))), (8, .long (lN (P (lv i))))] [.long (lN (stepT (O 0) (O 5) v fw fm P S (lv i)))] F1 L' I3 J' := by
        refine bX9_goesStep_106 ?_
        rw [lN_sub hT]
        refine w_gives hM3 hx (by omega) (by have := bd i (lv i) (by omega); omega) (fun F2 I4 J2 hM4 hF2 hI4 hJ2 => ⟨rfl, ?_⟩)
        have tz : lN (stepT (O 0) (O 5) v fw fm P S (lv i)) ≤ 0 ↔ stepT (O 0) (O 5) v fw fm P S (lv i) ≤ 0 := pk_lLE (b := 0) (by omega) (by decide)
        have cc : ∀ y, scl (stepG (O 0) (O 5) see v fw fm P S) lv (i + 1) y = (scl (stepG (O 0) (O 5) see v fw fm P S) lv i y + ct [(lv i, P (lv i) - stepT (O 0) (O 5) v fw fm P S (lv i))] y) + ct (actG (O 0) see v S.1 (lv i) (stepT (O 0) (O 5) v fw fm P S (lv i))) y := by
          intro y
          rw [scl_s]
          show _ + ((if lv i = y then P (lv i) - stepT (O 0) (O 5) v fw fm P S (lv i) else 0) + ct (actG _ _ _ _ _ _) y) = (_ + ((if lv i = y then P (lv i) - stepT (O 0) (O 5) v fw fm P S (lv i) else 0) + 0)) + _
          omega
        have hfx4 : Fct fw fm v I4 := by unfold Fct; rw [hI4 56 (by decide)]; exact hfx3
        refine ⟨fun q v6 h6 => ?_, fun q => ?_⟩
        · have e0 : stepT (O 0) (O 5) v fw fm P S (lv i) = 0 := by have := tz.mp q; omega
          rw [h6, nI_1]
          refine ih1 F2 L' I4 J2 (hM4.cong (fun _ _ => rfl) (fun y _ => ?_) (fun y _ => ?_) ?_ ?_) (hFF1.tr (Fr9.o36 hF2)) (hI3.tr (Ir9.o34 hI4)) hfx4 (hJ2.trans hJ)
          · rw [cc, ct_zero (l := actG _ _ _ _ _ _) (by rw [actG_tt hsee, e0])]
            rfl
          · rw [e0, actD_0]
            rfl
          · rw [e0, actW_0]
            rfl
          · rw [e0, actL_0]
            rfl
        · have q2 : ¬ stepT (O 0) (O 5) v fw fm P S (lv i) ≤ 0 := fun y => q (tz.mpr y)
          have hMC4 := hMC.keep (hI3.tr (Ir9.o34 hI4))
          refine w_mdoes (pw := pw) (N0 := O 0) (see := see) hst.1 hM4 (hS1.k36 hF2) hgx (by omega) (by omega) (by omega) (fun y => ?_) (hMC4.1 0 (by decide)) hN0 (by rw [hF2 44 (by decide), hFF1 44 (by decide) (by decide) (by decide)]; exact h44) hsee (by rw [(hMC4.2 v hv).1]; exact hpw) hp (fun F3 L3 I5 J3 hM5 hF3 hI5 hJ3 => ⟨rfl, fun v6 h6 => ?_⟩)
          · have h1 := bd i y (by omega)
            have h2 := ct_le y [(lv i, P (lv i) - stepT (O 0) (O 5) v fw fm P S (lv i))]
            have h3 : tt [(lv i, P (lv i) - stepT (O 0) (O 5) v fw fm P S (lv i))] = P (lv i) - stepT (O 0) (O 5) v fw fm P S (lv i) := rfl
            show (scl (stepG (O 0) (O 5) see v fw fm P S) lv i y + ct [(lv i, P (lv i) - stepT (O 0) (O 5) v fw fm P S (lv i))] y) + _ ≤ 2 ^ 41
            omega
          · rw [h6, nI_1]
            refine ih1 F3 L3 I5 J3 (hM5.cong (fun _ _ => rfl) (fun y _ => ?_) (fun y _ => ?_) ?_ ?_) ((hFF1.tr (Fr9.o36 hF2)).tr (Fr9.o36 hF3)) ((hI3.tr (Ir9.o34 hI4)).tr (Ir9.o34 hI5)) (by unfold Fct; rw [hI5 56 (by decide)]; exact hfx4) (hJ3.trans (hJ2.trans hJ))
            · exact (cc y).symm
            · split <;> omega
            · omega
            · omega
      refine ⟨_, rfl, fun hx1 => ?_, fun hx1 => ?_⟩
      · have e1 : so (fac (O 0) (O 5) fw fm v (cS (lv i)) (cC (lv i)) (cD (lv i)) (cK (lv i)) (cE (lv i))) S.2.2 = true := by
          apply Classical.byContradiction
          intro y
          rw [if_neg y] at hx1
          exact hx1 rfl
        have e2 : stepT (O 0) (O 5) v fw fm P S (lv i) = dng S.2.1 (P (lv i)) := if_pos e1
        rw [e2] at M106
        have zb : nI S.2.1 = 0 ↔ S.2.1 = 0 := nI_eq (b := 0) (by have := hst.2; omega) (by decide)
        refine ⟨fun y => ?_, fun y => ?_⟩
        · have tb : P (lv i) * S.2.1 < 2 ^ 63 := by
            have : P (lv i) * S.2.1 ≤ 2 ^ 40 * 16 := Nat.mul_le_mul hPx hst.2
            omega
          rw [nI_l (by have := hst.2; omega), lN_mul, show (16 : Int64) = lN 16 from rfl, pk_lDiv tb (by decide) (by decide)]
          unfold dng at M106
          rw [if_neg (fun u => y (zb.mpr u))] at M106
          exact M106
        · unfold dng at M106
          rw [if_pos (zb.mp y)] at M106
          exact M106
      · have e1 : ¬ so (fac (O 0) (O 5) fw fm v (cS (lv i)) (cC (lv i)) (cD (lv i)) (cK (lv i)) (cE (lv i))) S.2.2 = true := by
          intro y
          rw [if_pos y] at hx1
          exact absurd hx1 (by decide)
        have e2 : stepT (O 0) (O 5) v fw fm P S (lv i) = 0 := if_neg e1
        rw [e2] at M106
        exact M106
  refine Lp n 0 (by omega) F L I J (h.cong (fun _ _ => rfl) (fun y _ => (scl_z _ _ y).symm) (fun y _ => ?_) (by rw [sm_z]; rfl) (by rw [sm_z]; rfl)) Fr9.rf Ir9.rf hfx rfl
  rw [sm_z]
  split <;> rfl
set_option maxRecDepth 8000 in
theorem w_mends {G : GC} {ad : Nat → Nat} {o : Nat} {F : Nat → Int32} {L : Nat → Int64} {I : Nat → Nat → Int32} {J : Nat → Nat → Int64} {Q : MPost} {n v wa lo fill : Nat} {lv P D : Nat → Nat} (h : FlM F L I J n lv P (fun _ => 0) D wa lo) (hg : ∀ i, i < n → gd (v + 1) (lv i)) (hG : GP (v + 1) P) (hv : v < 24) (h45 : F 45 = nI fill) (hfill : fill ≤ 12)
    (k : ∀ F' L' I' J' n' lv', FlM F' L' I' J' n' lv' (sc (endG fill v P) 16900) (fun _ => 0) D (wa + sm (endW fill P) 16900) lo → (∀ i, i < n' → gd (v + 1) (lv' i)) → Fr9 F F' → Ir9 I I' → J' 40 = J 40 → Q none F' L' I' J') : CallM G mX9_ends 5 ad o [.ref o, .int (nI v)] F L I J Q := by
  obtain ⟨hr, hs, -, hn⟩ := h.rw9
  have htt := endG_tt (fill := fill) (v := v) (P := P)
  have bd : ∀ i y, i ≤ n → scl (endG fill v P) lv i y ≤ 2 ^ 40 := fun i y hi => Nat.le_trans (scl_le hr hs htt hi) hG.2
  have W0 : ∀ x, P x = 0 → endW fill P x = 0 := fun x hx => by
    unfold endW
    split
    · rw [hx, Nat.zero_mul]
    · rfl
  refine eX9_ends (fun σ0 => bX9_ends_0 ?_)
  have Lp : ∀ d i, i + d = n → ∀ F' L' I' J', FlM F' L' I' J' n lv P (scl (endG fill v P) lv i) D (wa + sm (fun j => endW fill P (lv j)) i) lo → Fr9 F F' → Ir9 I I' → J' 40 = J 40 → AtM G mX9_ends 5 ad o σ0 Q 2 [(0, .ref o), (1, .int (nI v)), (2, .int (nI i))] [] F' L' I' J' := by
    intro d
    induction d with
    | zero =>
      intro i hi F' L' I' J' hM hF hI hJ
      have hi : i = n := by omega
      subst hi
      refine bX9_ends_2 ⟨fun _ => w_takesNext hM (fun F2 I2 J2 n' lv' hM2 hnz hF2 hI2 hJ2 => ⟨rfl, k F2 L' I2 J2 n' lv' (hM2.cong (fun x _ => scl_end hr hs htt) (fun _ _ => rfl) (fun p _ => rfl) ?_ rfl) (fun j hj => (end_GP hG hv).1 _ (by rw [← scl_end hr hs htt]; exact hnz j hj)) (hF.tr (Fr9.o35 hF2)) (hI.tr (Ir9.o33 hI2)) (hJ2.trans hJ)⟩), fun z => absurd (by rw [hM.rw9.2.2.1]; exact nI_le (Nat.le_refl _) (by omega)) z⟩
      rw [sml_end (P := P) (f := endW fill P) hr hs W0]
    | succ d ih =>
      intro i hi F' L' I' J' hM hF hI hJ
      have hin : i < n := by omega
      obtain ⟨hx, e33⟩ := hM.live hin
      have hgx := hg i hin
      have hqx := ix_lt hx
      have p1 := vp_in_nI (show i < 16900 by omega) (by decide)
      have p2 := vp_in_nI hqx (by decide)
      have ih1 := ih (i + 1) (by omega)
      simp only [sm_s] at ih1
      have hs1 := hgx.1
      have hc1 := hgx.2
      have k2 := cK_lt (lv i)
      refine bX9_ends_2 ⟨fun z => absurd (by rw [hM.rw9.2.2.1] at z; exact z) (nI_ge hin (by omega)), fun _ => ⟨p1, fun v7 h7 => ?_⟩⟩
      rw [nI_clamp (by omega), e33] at h7
      subst h7
      have hPx := hG.le (by omega) (lv i)
      refine w_stateOf hx (fun F1 hS1 hF1 => ⟨rfl, fun F2 h2 => ?_⟩)
      have hS2 : StF F2 (cS (lv i)) (cC (lv i)) (cD (lv i)) (cK (lv i)) 0 := by
        obtain ⟨g1, g2, g3, g4, g5⟩ := hS1
        subst h2
        refine ⟨?_, ?_, ?_, ?_, fU_at⟩
        · rw [fU_ne (by decide)]; exact g1
        · rw [fU_ne (by decide)]; exact g2
        · rw [fU_ne (by decide)]; exact g3
        · rw [fU_ne (by decide)]; exact g4
      have hF2 : ∀ j, (j < 51 ∨ 55 < j) → F2 j = F' j := fun j hj => by rw [h2, fU_ne (by omega)]; exact hF1 j hj
      have hFF2 : Fr9 F F2 := hF.tr (Fr9.o51 hF2)
      have hM2 : FlM F2 L' I' J' n lv P (scl (endG fill v P) lv i) D (wa + sm (fun j => endW fill P (lv j)) i) lo := hM.oth (hF2 35 (by decide)) (hF2 36 (by decide)) rfl rfl rfl rfl rfl rfl rfl
      have eJ : J' 37 (nI (ix (lv i))).toNatClampNeg = lN (P (lv i)) := by rw [nI_clamp (by omega)]; exact hM.2.1 _ hx
      have nb : ∀ y, scl (endG fill v P) lv i y ≤ 2 ^ 41 := fun y => by have := bd i y (by omega); omega
      have e45 : F2 45 = nI fill := by rw [hFF2 45 (by decide) (by decide) (by decide)]; exact h45
      have M64 : endB fill (lv i) = false → AtM G mX9_ends 5 ad o σ0 Q 64 [(0, .ref o), (1, .int (nI v)), (2, .int (nI i)), (3, .int (nI (ix (lv i))))] [] F2 L' I' J' := by
        intro hb
        refine bX9_ends_64 ?_
        rw [hS2.1, hS2.2.1, hS2.2.2.1, hS2.2.2.2.1, eJ]
        refine w_index (e := 0) ⟨_, rfl, p2, ?_⟩
        rw [← ix_cd (cC_lt _) (cD_lt _) k2 (by decide)]
        refine w_gives hM2 (cd_lt (n := 25) (by omega) (cC_lt _) (cD_lt _) k2 (by decide)) (by omega) (nb _) (fun F3 I3 J3 hM3 hF3 hI3 hJ3 => ⟨rfl, fun v2 e2 => ?_⟩)
        rw [e2, nI_1]
        refine ih1 F3 L' I3 J3 (hM3.cong (fun _ _ => rfl) (fun y _ => ?_) (fun _ _ => rfl) ?_ rfl) (hFF2.tr (Fr9.o36 hF3)) (hI.tr (Ir9.o34 hI3)) (hJ3.trans hJ)
        · rw [scl_s]
          unfold endG
          rw [hb]
          rfl
        · have : endW fill P (lv i) = 0 := by
            unfold endW
            rw [hb]
            rfl
          rw [this]
          rfl
      rw [e45, hS2.1, hS2.2.1, nI_add]
      have zf : nI fill ≤ 0 ↔ fill ≤ 0 := nI_leI (b := 0) (by omega) (by decide)
      refine ⟨fun z => M64 (by have := zf.mp z; simp [endB]; omega), fun z => ⟨fun y => M64 (by have := (nI_ltI (by omega) (by omega)).mp y; simp [endB]; omega), fun y => ⟨p2, ?_⟩⟩⟩
      have hge : ¬ cC (lv i) + cD (lv i) < fill := fun u => y ((nI_ltI (by omega) (by omega)).mpr u)
      have hf0 : ¬ fill ≤ 0 := fun u => z (zf.mpr u)
      have hb : endB fill (lv i) = true := by simp [endB]; omega
      rw [eJ]
      refine w_mstarts hM2 hS2 hv (by omega) hc1 k2 (by decide) hPx nb (fun F3 L3 I3 J3 hM3 hF3 hI3 hJ3 => ⟨rfl, fun v2 e2 => ?_⟩)
      rw [e2, nI_1]
      refine ih1 F3 L3 I3 J3 (hM3.cong (fun _ _ => rfl) (fun y _ => ?_) (fun _ _ => rfl) ?_ rfl) (hFF2.tr (Fr9.o36 hF3)) (hI.tr (Ir9.o34 hI3)) (hJ3.trans hJ)
      · rw [scl_s]
        unfold endG
        rw [if_pos hb, if_neg (by omega)]
      · have : endW fill P (lv i) = P (lv i) * cC (lv i) := by
          unfold endW
          rw [if_pos hb]
        rw [this]
        omega
  exact Lp n 0 (by omega) F L I J (h.cong (fun _ _ => rfl) (fun y _ => (scl_z _ _ y).symm) (fun y _ => rfl) (by rw [sm_z]; rfl) rfl) Fr9.rf Ir9.rf rfl
