/-! Part B: what the reference answers: the likeliest, often, since, days -/
theorem m_likeliest {G : GC} {ad : Nat → Nat} {o : Nat} {F : Nat → Int32} {L : Nat → Int64} {I : Nat → Nat → Int32} {J : Nat → Nat → Int64} {Q : MPost} {T : TS} {x : Int32} (hM : MI F L I J T) (kq : ∀ v, v < (tsK T 0).1 → x = nI v → ∀ F' L' I' J', MI F' L' I' J' T → F' 0 = 0 → Q (some (.int (lkS (atJ (rn9 T (tsH0 T) (v + 1)).1) 338).1)) F' L' I' J') (k0 : ¬ inN x (tsK T 0).1 → ∀ F' L' I' J', MI F' L' I' J' (bu0 T) → F' 0 = 1 → Q (some (.int 0)) F' L' I' J') : CallM G mX9_likeliest 8 ad o [.ref o, .int x] F L I J Q := by
  refine eX9_likeliest (fun σ0 => bX9_likeliest_0 (fun F1 e1 => ?_))
  subst e1
  refine w_isVisit hM.th fU_at (fun v hv hx => ⟨_, rfl, fun _ => m_plain hM.th (fun F2 M2 z2 O2 n2 => ⟨rfl, ?_⟩), fun z => absurd z (by decide)⟩) (fun h F' I' q1 q2 => ⟨_, rfl, fun z => absurd rfl z, fun _ => k0 h F' L I' J q1 q2⟩)
  have hn := n24 hM.ok
  subst hx
  refine m_goes M2 O2 (go0 M2.ok) hv (to_v (by omega)) (fun F3 L3 I3 J3 n3 lv3 M3 z3 O3 P3 g3 t3 => ⟨rfl, ?_⟩)
  have hG := (go_run (go0 hM.ok) (fm := (tsK T 0).2.2) (v + 1) hv).1
  have hf : ∀ j, atJ (rn9 T (tsH0 T) (v + 1)).1 j < 2 ^ 46 := fun j => qAt_le hG (by omega)
  have kk := kq v hv rfl F3 L3 I3 J3 M3 (by rw [z3, z2, fU_at])
  have Lk : ∀ c d, c < 13 → d < 13 → (AtM G mX9_likeliest 8 ad o σ0 Q 42 [(0, .ref o), (2, .int (lkS (atJ (rn9 T (tsH0 T) (v + 1)).1) (26 * c + 2 * (d + 1))).1), (3, .long (lN (lkS (atJ (rn9 T (tsH0 T) (v + 1)).1) (26 * c + 2 * (d + 1))).2)), (5, .int (nI c)), (6, .int (nI (d + 1)))] [] F3 L3 I3 J3) → ∀ e k, k + e = 2 → AtM G mX9_likeliest 8 ad o σ0 Q 52 [(0, .ref o), (2, .int (lkS (atJ (rn9 T (tsH0 T) (v + 1)).1) (26 * c + 2 * d + k)).1), (3, .long (lN (lkS (atJ (rn9 T (tsH0 T) (v + 1)).1) (26 * c + 2 * d + k)).2)), (5, .int (nI c)), (6, .int (nI d)), (7, .int (nI k))] [] F3 L3 I3 J3 := by
    intro c d hc hd nxt e
    induction e with
    | zero =>
      intro k hk
      have hk : k = 2 := by omega
      subst hk
      refine bX9_likeliest_52 ⟨fun _ v5 h5 => ?_, fun q => absurd (nI_le (a := 2) (b := 2) (by decide) (by decide)) q⟩
      rw [h5, nI_1]
      exact nxt
    | succ e ih =>
      intro k hk
      have ih1 := ih (k + 1) (by omega)
      rw [← Nat.add_assoc, lkS] at ih1
      have hj1 : (26 * c + 2 * d + k) / 26 = c := by omega
      have hj2 : (26 * c + 2 * d + k) % 26 = 2 * d + k := by omega
      have hfj := hf (26 * c + 2 * d + k)
      have hb2 := lkS_b hf (by decide) (26 * c + 2 * d + k)
      rw [hj1, hj2] at ih1
      have eat : atJ (rn9 T (tsH0 T) (v + 1)).1 (26 * c + 2 * d + k) = qAt c d k (rn9 T (tsH0 T) (v + 1)).1 := by
        unfold atJ
        rw [hj1, hj2, show (2 * d + k) / 2 = d by omega, show (2 * d + k) % 2 = k by omega]
      refine bX9_likeliest_52 ⟨fun q => absurd q (nI_ge (b := 2) (by omega) (by decide)), fun _ => w_mpartsOf P3 (by omega) (by omega) (by omega) ⟨_, rfl, ?_⟩⟩
      rw [← eat]
      have cmp : lN (lkS (atJ (rn9 T (tsH0 T) (v + 1)).1) (26 * c + 2 * d + k)).2 < lN (atJ (rn9 T (tsH0 T) (v + 1)).1 (26 * c + 2 * d + k)) ↔ (lkS (atJ (rn9 T (tsH0 T) (v + 1)).1) (26 * c + 2 * d + k)).2 < atJ (rn9 T (tsH0 T) (v + 1)).1 (26 * c + 2 * d + k) := pk_lLT (by omega) (by omega)
      refine ⟨fun z v2 h2 v6 h6 => ?_, fun z v6 h6 => ?_⟩
      · rw [if_pos (cmp.mp z)] at ih1
        rw [h2, h6, nI_1, show (100 : Int32) = nI 100 from rfl, show (2 : Int32) = nI 2 from rfl, pk_mul, pk_mul, nI_add, nI_add, show 100 * c + 2 * d + k = 100 * c + (2 * d + k) by omega]
        exact ih1
      · rw [if_neg (fun u => z (cmp.mpr u))] at ih1
        rw [h6, nI_1]
        exact ih1
  have Ld : ∀ c, c < 13 → (AtM G mX9_likeliest 8 ad o σ0 Q 32 [(0, .ref o), (2, .int (lkS (atJ (rn9 T (tsH0 T) (v + 1)).1) (26 * (c + 1))).1), (3, .long (lN (lkS (atJ (rn9 T (tsH0 T) (v + 1)).1) (26 * (c + 1))).2)), (5, .int (nI (c + 1)))] [] F3 L3 I3 J3) → ∀ e d, d + e = 13 → AtM G mX9_likeliest 8 ad o σ0 Q 42 [(0, .ref o), (2, .int (lkS (atJ (rn9 T (tsH0 T) (v + 1)).1) (26 * c + 2 * d)).1), (3, .long (lN (lkS (atJ (rn9 T (tsH0 T) (v + 1)).1) (26 * c + 2 * d)).2)), (5, .int (nI c)), (6, .int (nI d))] [] F3 L3 I3 J3 := by
    intro c hc nxt e
    induction e with
    | zero =>
      intro d hd
      have hd : d = 13 := by omega
      subst hd
      refine bX9_likeliest_42 ⟨fun _ v5 h5 => ?_, fun q => absurd (nI_lt (a := 12) (b := 13) (by decide) (by decide)) q⟩
      rw [h5, nI_1]
      exact nxt
    | succ e ih =>
      intro d hd
      exact bX9_likeliest_42 ⟨fun q => absurd q (nI_nlt (a := 12) (by omega) (by decide)), fun _ => Lk c d hc (by omega) (ih (d + 1) (by omega)) 2 0 (by omega)⟩
  have Lc : ∀ e c, c + e = 13 → AtM G mX9_likeliest 8 ad o σ0 Q 32 [(0, .ref o), (2, .int (lkS (atJ (rn9 T (tsH0 T) (v + 1)).1) (26 * c)).1), (3, .long (lN (lkS (atJ (rn9 T (tsH0 T) (v + 1)).1) (26 * c)).2)), (5, .int (nI c))] [] F3 L3 I3 J3 := by
    intro e
    induction e with
    | zero =>
      intro c hc
      have hc : c = 13 := by omega
      subst hc
      exact bX9_likeliest_32 ⟨fun _ => kk, fun q => absurd (nI_lt (a := 12) (b := 13) (by decide) (by decide)) q⟩
    | succ e ih =>
      intro c hc
      exact bX9_likeliest_32 ⟨fun q => absurd q (nI_nlt (a := 12) (by omega) (by decide)), fun _ => Ld c (by omega) (ih (c + 1) (by omega)) 13 0 (by omega)⟩
  exact Lc 13 0 (by omega)
theorem tr_at {T : TS} {J : Nat → Nat → Int64} {v : Nat} (h : tsOK T) (hA : TrA (tsO T) (tsH0 T) (tsK T 0).2.1 (tsK T 0).2.2 (tsK T 0).1 J) (hv : v < (tsK T 0).1) : J 40 v = lN (tr9 T (tsH0 T) (v + 1)) := hA v hv (vis_ne h hv)
theorem m_often {G : GC} {ad : Nat → Nat} {o : Nat} {F : Nat → Int32} {L : Nat → Int64} {I : Nat → Nat → Int32} {J : Nat → Nat → Int64} {Q : MPost} {T : TS} {z : Int32} (hM : MI F L I J T) (kq : ∀ p, p < 2 → z = nI p → ∀ F' L' I' J', MI F' L' I' J' T → F' 0 = 0 → Q (some (.long (lN (if (tsK T 0).1 = 0 then p else fr (ofS T (tsK T 0).1) (1099511627776 * (tsK T 0).1) p)))) F' L' I' J') (k1 : ¬ inN z 2 → ∀ F' L' I' J', MI F' L' I' J' (bu1 T) → F' 0 = 1 → Q (some (.long 0)) F' L' I' J') : CallM G mX9_often 9 ad o [.ref o, .int z] F L I J Q := by
  refine eX9_often (fun σ0 => bX9_often_0 (fun F1 e1 => ?_))
  subst e1
  refine w_isPart hM.th fU_at (fun p hp hz => ⟨_, rfl, fun _ => ?_, fun z => absurd z (by decide)⟩) (fun h F' I' q1 q2 => ⟨_, rfl, fun z => absurd rfl z, fun _ => k1 h F' L I' J q1 q2⟩)
  have hn := n24 hM.ok
  have z0 : nI (tsK T 0).1 = 0 ↔ (tsK T 0).1 = 0 := nI_eq (b := 0) (by omega) (by decide)
  subst hz
  rw [show fU F 0 0 19 = nI (tsK T 0).1 from hM.2.1.2]
  refine ⟨fun y => m_plain hM.th (fun F2 M2 z2 O2 n2 => ⟨rfl, m_goesAll M2 O2 (go0 M2.ok) (fun F3 L3 I3 J3 n3 lv3 M3 z3 O3 P3 g3 t3 => ⟨rfl, ?_⟩)⟩), fun y => ?_⟩
  · have y1 : ¬ (tsK T 0).1 = 0 := fun u => y (z0.mpr u)
    have kk := kq p hp rfl F3 L3 I3 J3 M3 (by rw [z3, z2, fU_at])
    rw [if_neg y1] at kk
    have h19 : F3 19 = nI (tsK T 0).1 := M3.2.1.2
    have Lp : ∀ d i, i + d = (tsK T 0).1 → AtM G mX9_often 9 ad o σ0 Q 38 [(0, .ref o), (1, .int (nI p)), (2, .long (lN (ofS T i))), (4, .int (nI i))] [] F3 L3 I3 J3 := by
      intro d
      induction d with
      | zero =>
        intro i hi
        have hi : i = (tsK T 0).1 := by omega
        have hle := ofS_le hM.ok (tsK T 0).1 (Nat.le_refl _)
        rw [hi]
        refine bX9_often_38 ⟨fun _ w hw => ?_, fun q => absurd (by rw [h19]; exact nI_le (Nat.le_refl _) (by omega)) q⟩
        rw [h19, nI_l (by omega), one9, lN_mul] at hw
        rw [hw]
        exact w_least (by omega) (by omega) (by omega) hp ⟨_, rfl, kk⟩
      | succ d ih =>
        intro i hi
        have ih1 := ih (i + 1) (by omega)
        rw [ofS] at ih1
        refine bX9_often_38 ⟨fun q => absurd (by rw [h19] at q; exact q) (nI_ge (by omega) (by omega)), fun _ => ⟨vp_in_nI (by omega) (by decide), fun w hw v4 h4 => ?_⟩⟩
        rw [nI_clamp (by omega), tr_at hM.ok t3 (by omega), lN_add] at hw
        rw [hw, h4, nI_1]
        exact ih1
    exact Lp (tsK T 0).1 0 (by omega)
  · have kk := kq p hp rfl (fU F 0 0) L I J hM.th fU_at
    rw [if_pos (z0.mp y)] at kk
    rw [nI_l (by omega)]
    exact kk
theorem m_since {G : GC} {ad : Nat → Nat} {o : Nat} {F : Nat → Int32} {L : Nat → Int64} {I : Nat → Nat → Int32} {J : Nat → Nat → Int64} {Q : MPost} {T : TS} (hM : MI F L I J T) (kq : ∀ F' L' I' J', MI F' L' I' J' T → F' 0 = 0 → Q (some (.int (siS (fun v => tr9 T (tsH0 T) (v + 1)) (tsK T 0).1 0))) F' L' I' J') : CallM G mX9_since 9 ad o [.ref o] F L I J Q := by
  refine eX9_since (fun σ0 => bX9_since_0 (fun F1 e1 => ?_))
  subst e1
  have hn := n24 hM.ok
  refine m_plain hM.th (fun F2 M2 z2 O2 n2 => ⟨rfl, m_goesAll M2 O2 (go0 M2.ok) (fun F3 L3 I3 J3 n3 lv3 M3 z3 O3 P3 g3 t3 => ⟨rfl, ?_⟩)⟩)
  have kk := kq F3 L3 I3 J3 M3 (by rw [z3, z2, fU_at])
  have h19 : F3 19 = nI (tsK T 0).1 := M3.2.1.2
  have Lp : ∀ d i, i + d = (tsK T 0).1 → siS (fun v => tr9 T (tsH0 T) (v + 1)) d i = siS (fun v => tr9 T (tsH0 T) (v + 1)) (tsK T 0).1 0 → AtM G mX9_since 9 ad o σ0 Q 15 [(0, .ref o), (1, .int (nI i))] [] F3 L3 I3 J3 := by
    intro d
    induction d with
    | zero =>
      intro i hi hs
      rw [← hs] at kk
      exact bX9_since_15 ⟨fun _ => kk, fun q => absurd (by rw [h19]; exact nI_le (by omega) (by omega)) q⟩
    | succ d ih =>
      intro i hi hs
      rw [siS] at hs
      have hle : tr9 T (tsH0 T) (i + 1) ≤ 2 ^ 40 := tr9_le (go0 hM.ok) (by omega)
      refine bX9_since_15 ⟨fun q => absurd (by rw [h19] at q; exact q) (nI_ge (by omega) (by omega)), fun _ => ⟨vp_in_nI (by omega) (by decide), fun w hw => ?_⟩⟩
      rw [nI_clamp (by omega), tr_at hM.ok t3 (by omega), show (2 : Int64) = lN 2 from rfl, lN_mul] at hw
      have cmp : (1099511627776 : Int64) ≤ lN (2 * tr9 T (tsH0 T) (i + 1)) ↔ 1099511627776 ≤ 2 * tr9 T (tsH0 T) (i + 1) := pk_lLE (a := 1099511627776) (by decide) (by omega)
      rw [hw]
      refine ⟨fun z v1 h1 => ?_, fun z => ?_⟩
      · rw [if_neg (by have := cmp.mp z; omega)] at hs
        rw [h1, nI_1]
        exact ih (i + 1) (by omega) hs
      · rw [if_pos (by
          have : ¬ _ := fun u => z (cmp.mpr u)
          omega)] at hs
        rw [← hs] at kk
        exact kk
  exact Lp (tsK T 0).1 0 (by omega) rfl
theorem m_dayGoes {G : GC} {ad : Nat → Nat} {o : Nat} {F : Nat → Int32} {L : Nat → Int64} {I : Nat → Nat → Int32} {J : Nat → Nat → Int64} {Q : MPost} {T : TS} {seed to : Int32} {v : Nat} (hM : MI F L I J T) (hv : v ≤ (tsK T 0).1) (hto : ∀ i, i ≤ 24 → (to < nI i ↔ v ≤ i))
    (k : ∀ F' I', MI F' L I' J T → F' 0 = F 0 → DayE F' (dy9 T seed v) → Q none F' L I' J) : CallM G mX9_dayGoes 5 ad o [.ref o, .int seed, .int to] F L I J Q := by
  have hn := n24 hM.ok
  have ho := hM.ok.1
  have hcl := hM.ok.2.2.1 0 (by decide)
  refine w_dayGoes hM.1.1 hM.1.2 hn hcl.2 (fun p hp => hM.2.2.1 p (by omega)) ho.1 (by have := ho.2.2.1; have := ho.1; omega) ho.2.2.2.1 ho.2.2.2.2.1 ho.2.2.2.2.2.2.1 hv hto (fun F' I' hD hF hI => k F' I' (hM.q (fun j _ _ _ d => hF j (by omega)) (fun a a1 a2 a3 a4 => hI a (by omega) (by omega)) (hM.2.2.2.2.1.oth (hF 35 (by decide)) (hF 36 (by decide)) rfl rfl (hI 33 (by decide) (by decide)) (hI 34 (by decide) (by decide)) rfl rfl rfl)) (hF 0 (by decide)) hD)
