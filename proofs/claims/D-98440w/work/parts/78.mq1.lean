/-! Part B: what the reference answers, gone through as told -/
theorem w_mayT {G : GC} {ad : Nat → Nat} {o : Nat} {F : Nat → Int32} {L : Nat → Int64} {I : Nat → Nat → Int32} {J : Nat → Nat → Int64} {R R' : Int32 → (Nat → Int32) → (Nat → Int64) → (Nat → Nat → Int32) → (Nat → Nat → Int64) → Prop} {c : Int32} (h0 : F 0 = 0) (k : R 1 F L I J) : CallM G mX9_may 3 ad o [.ref o, .int 1, .int c, .int 1] F L I J (mqI (fun rx F' L' I' J' => ((¬ rx = 0) → R rx F' L' I' J') ∧ ((rx = 0) → R' rx F' L' I' J'))) :=
  w_mayY h0 ⟨_, rfl, fun _ => k, fun z => absurd z (by decide)⟩
theorem w_mayF {G : GC} {ad : Nat → Nat} {o : Nat} {F : Nat → Int32} {L : Nat → Int64} {I : Nat → Nat → Int32} {J : Nat → Nat → Int64} {T : TS} {R R' : Int32 → (Nat → Int32) → (Nat → Int64) → (Nat → Nat → Int32) → (Nat → Nat → Int64) → Prop} {c : Int32} (hM : MI F L I J T) (h0 : F 0 = 0) (hc : c ≠ 0) (k : ∀ F' I', MI F' L I' J (bu1 T) → F' 0 = c → R' 0 F' L I' J) : CallM G mX9_may 3 ad o [.ref o, .int 0, .int c, .int 1] F L I J (mqI (fun rx F' L' I' J' => ((¬ rx = 0) → R rx F' L' I' J') ∧ ((rx = 0) → R' rx F' L' I' J'))) :=
  w_may1 hM h0 hc (fun F' I' q1 q2 => ⟨_, rfl, fun z => absurd rfl z, fun _ => k F' I' q1 q2⟩)
theorem m_states {G : GC} {ad : Nat → Nat} {o : Nat} {F : Nat → Int32} {L : Nat → Int64} {I : Nat → Nat → Int32} {J : Nat → Nat → Int64} {Q : MPost} {T : TS} {x : Int32} (hM : MI F L I J T) (kq : ∀ v, v < (tsK T 0).1 → x = nI v → ∀ F' L' I' J', MI F' L' I' J' T → F' 0 = 0 → Q (some (.int (nI (qMany (rn9 T (tsH0 T) (v + 1)).1)))) F' L' I' J') (k0 : ¬ inN x (tsK T 0).1 → ∀ F' L' I' J', MI F' L' I' J' (bu0 T) → F' 0 = 1 → Q (some (.int 0)) F' L' I' J') : CallM G mX9_states 8 ad o [.ref o, .int x] F L I J Q := by
  refine eX9_states (fun σ0 => bX9_states_0 (fun F1 e1 => ?_))
  subst e1
  refine w_isVisit hM.th fU_at (fun v hv hx => ⟨_, rfl, fun _ => m_plain hM.th (fun F2 M2 z2 O2 n2 => ⟨rfl, ?_⟩), fun z => absurd z (by decide)⟩) (fun h F' I' q1 q2 => ⟨_, rfl, fun z => absurd rfl z, fun _ => k0 h F' L I' J q1 q2⟩)
  have hn := n24 hM.ok
  subst hx
  refine m_goes M2 O2 (go0 M2.ok) hv (to_v (by omega)) (fun F3 L3 I3 J3 n3 lv3 M3 z3 O3 P3 g3 t3 => ⟨rfl, ?_⟩)
  obtain ⟨hr, hs, h35, hn3⟩ := P3.rw9
  have kk := kq v hv rfl F3 L3 I3 J3 M3 (by rw [z3, z2, fU_at])
  have hPl : ∀ x, (rn9 T (tsH0 T) (v + 1)).1 x ≤ 2 ^ 40 := fun x => go_le (go0 hM.ok) hv x
  have Lp : ∀ d i, i + d = n3 → AtM G mX9_states 8 ad o σ0 Q 29 [(0, .ref o), (2, .int (nI (sm (fun j => if (rn9 T (tsH0 T) (v + 1)).1 (lv3 j) = 0 then 0 else 1) i))), (3, .int (nI i))] [] F3 L3 I3 J3 := by
    intro d
    induction d with
    | zero =>
      intro i hi
      have hi : i = n3 := by omega
      subst hi
      refine bX9_states_29 ⟨fun _ => ?_, fun z => absurd (by rw [h35]; exact nI_le (Nat.le_refl _) (by omega)) z⟩
      rw [sml_end (P := (rn9 T (tsH0 T) (v + 1)).1) (f := fun x => if (rn9 T (tsH0 T) (v + 1)).1 x = 0 then 0 else 1) hr hs (fun x z => if_pos z)]
      exact kk
    | succ d ih =>
      intro i hi
      have hin : i < n3 := by omega
      obtain ⟨hx, e33⟩ := P3.live hin
      have ih1 := ih (i + 1) (by omega)
      rw [sm_s] at ih1
      have e0 : lN ((rn9 T (tsH0 T) (v + 1)).1 (lv3 i)) ≤ 0 ↔ (rn9 T (tsH0 T) (v + 1)).1 (lv3 i) ≤ 0 := pk_lLE (b := 0) (by have := hPl (lv3 i); omega) (by decide)
      refine bX9_states_29 ⟨fun z => absurd (by rw [h35] at z; exact z) (nI_ge hin (by omega)), fun _ => ⟨vp_in_nI (by omega) (by decide), ?_⟩⟩
      rw [nI_clamp (show i < 2 ^ 31 by omega), e33]
      refine ⟨vp_in_nI (ix_lt hx) (by decide), ?_⟩
      rw [nI_clamp (show ix (lv3 i) < 2 ^ 31 by have := ix_lt hx; omega), P3.2.1 _ hx]
      refine ⟨fun z v2 e2 v3 e3 => ?_, fun z v2 e2 v3 e3 => ?_⟩
      · rw [if_pos (by have := e0.mp z; omega), Nat.add_zero] at ih1
        rw [e2, e3, nI_1, Int32.add_zero]
        exact ih1
      · rw [if_neg (by intro y; exact z (e0.mpr (by omega)))] at ih1
        rw [e2, e3, nI_1, nI_1]
        exact ih1
  have L0 := Lp n3 0 (by omega)
  rw [sm_z] at L0
  exact L0
theorem m_likely {G : GC} {ad : Nat → Nat} {o : Nat} {F : Nat → Int32} {L : Nat → Int64} {I : Nat → Nat → Int32} {J : Nat → Nat → Int64} {Q : MPost} {T : TS} {x y : Int32} (hM : MI F L I J T) (kq : ∀ v w, v < (tsK T 0).1 → x = nI v → w < 6 → y = nI w → ∀ F' L' I' J', MI F' L' I' J' T → F' 0 = 0 → Q (some (.long (lN (qLik w (tsO T 0) (tsO T 5) v (tsK T 0).2.2 (rn9 T (tsH0 T) (v + 1)).1)))) F' L' I' J') (k0 : ¬ inN x (tsK T 0).1 → ∀ F' L' I' J', MI F' L' I' J' (bu0 T) → F' 0 = 1 → Q (some (.long 0)) F' L' I' J') (k1 : inN x (tsK T 0).1 → ¬ inN y 6 → ∀ F' L' I' J', MI F' L' I' J' (bu1 T) → F' 0 = 2 → Q (some (.long 0)) F' L' I' J') : CallM G mX9_likely 8 ad o [.ref o, .int x, .int y] F L I J Q := by
  refine eX9_likely (fun σ0 => bX9_likely_0 (fun F1 e1 => ?_))
  subst e1
  refine w_isVisit hM.th fU_at (fun v hv hx => ⟨_, rfl, fun z => absurd z (by decide), fun _ => ?_⟩) (fun h F' I' q1 q2 => ⟨_, rfl, fun _ => k0 h F' L I' J q1 q2, fun z => absurd rfl z⟩)
  have hn := n24 hM.ok
  refine w_in (n := 5) rfl (by decide) (fun w hw hy => ⟨_, rfl, w_mayT fU_at (m_plain hM.th (fun F2 M2 z2 O2 n2 => ⟨rfl, ?_⟩))⟩) (fun h => ⟨_, rfl, w_mayF hM.th fU_at (by decide) (fun F' I' q1 q2 => k1 ⟨v, hv, hx⟩ h F' L I' J q1 q2)⟩)
  subst hx
  subst hy
  refine m_goes M2 O2 (go0 M2.ok) hv (to_v (by omega)) (fun F3 L3 I3 J3 n3 lv3 M3 z3 O3 P3 g3 t3 => ⟨rfl, ?_⟩)
  refine w_mlikely (by omega) P3 (fun _ => ⟨hv, g3⟩) M3.1 M3.ok.1.1 hn (fun F4 P4 f4 => ⟨_, rfl, kq v w hv rfl hw rfl F4 L3 I3 J3 (M3.f51 f4) (by rw [f4 0 (by decide), z3, z2, fU_at])⟩)
theorem m_state {G : GC} {ad : Nat → Nat} {o : Nat} {F : Nat → Int32} {L : Nat → Int64} {I : Nat → Nat → Int32} {J : Nat → Nat → Int64} {Q : MPost} {T : TS} {x y z w : Int32} (hM : MI F L I J T) (kq : ∀ v c d ka, v < (tsK T 0).1 → x = nI v → c < 13 → y = nI c → d < 13 → z = nI d → ka < 2 → w = nI ka → ∀ F' L' I' J', MI F' L' I' J' T → F' 0 = 0 → Q (some (.long (lN (qAt c d ka (rn9 T (tsH0 T) (v + 1)).1)))) F' L' I' J') (k0 : ¬ inN x (tsK T 0).1 → ∀ F' L' I' J', MI F' L' I' J' (bu0 T) → F' 0 = 1 → Q (some (.long 0)) F' L' I' J') (k1 : inN x (tsK T 0).1 → ¬ (inN y 13 ∧ inN z 13 ∧ inN w 2) → ∀ F' L' I' J', MI F' L' I' J' (bu1 T) → F' 0 = 2 → Q (some (.long 0)) F' L' I' J') : CallM G mX9_state 8 ad o [.ref o, .int x, .int y, .int z, .int w] F L I J Q := by
  refine eX9_state (fun σ0 => bX9_state_0 (fun F1 e1 => ?_))
  subst e1
  refine w_isVisit hM.th fU_at (fun v hv hx => ⟨_, rfl, fun z => absurd z (by decide), fun _ => ?_⟩) (fun h F' I' q1 q2 => ⟨_, rfl, fun _ => k0 h F' L I' J q1 q2, fun z => absurd rfl z⟩)
  have hn := n24 hM.ok
  have no : ¬ (inN y 13 ∧ inN z 13 ∧ inN w 2) → AtM G mX9_state 8 ad o σ0 Q 50 [(0, .ref o), (1, .int x), (2, .int y), (3, .int z), (4, .int w)] [.int 0, .ref o] (fU F 0 0) L I J := fun h => bX9_state_50 (w_mayF hM.th fU_at (by decide) (fun F' I' q1 q2 => k1 ⟨v, hv, hx⟩ h F' L I' J q1 q2))
  refine w_in (n := 12) rfl (by decide) (fun c hc hy => ⟨_, rfl, fun z => absurd z (by decide), fun _ => ?_⟩) (fun h => ⟨_, rfl, fun _ => no (fun q => h q.1), fun z => absurd rfl z⟩)
  refine w_in (n := 12) rfl (by decide) (fun d hd hz => ⟨_, rfl, fun z => absurd z (by decide), fun _ => ?_⟩) (fun h => ⟨_, rfl, fun _ => no (fun q => h q.2.1), fun z => absurd rfl z⟩)
  refine w_in (n := 1) rfl (by decide) (fun ka hk hw => ⟨_, rfl, fun z => absurd z (by decide), fun _ => ?_⟩) (fun h => ⟨_, rfl, fun _ => no (fun q => h q.2.2), fun z => absurd rfl z⟩)
  refine bX9_state_50 (w_mayT fU_at (m_plain hM.th (fun F2 M2 z2 O2 n2 => ⟨rfl, ?_⟩)))
  subst hx
  subst hy
  subst hz
  subst hw
  refine m_goes M2 O2 (go0 M2.ok) hv (to_v (by omega)) (fun F3 L3 I3 J3 n3 lv3 M3 z3 O3 P3 g3 t3 => ⟨rfl, ?_⟩)
  exact w_mpartsOf P3 (by omega) (by omega) hk ⟨_, rfl, kq v c d ka hv rfl hc rfl hd rfl hk rfl F3 L3 I3 J3 M3 (by rw [z3, z2, fU_at])⟩
theorem m_mean {G : GC} {ad : Nat → Nat} {o : Nat} {F : Nat → Int32} {L : Nat → Int64} {I : Nat → Nat → Int32} {J : Nat → Nat → Int64} {Q : MPost} {T : TS} {x y z : Int32} (hM : MI F L I J T) (kq : ∀ v w p, v < (tsK T 0).1 → x = nI v → w < 2 → y = nI w → p < 2 → z = nI p → ∀ F' L' I' J', MI F' L' I' J' T → F' 0 = 0 → Q (some (.long (lN (fr (qMean w (rn9 T (tsH0 T) (v + 1)).1) 1099511627776 p)))) F' L' I' J') (k0 : ¬ inN x (tsK T 0).1 → ∀ F' L' I' J', MI F' L' I' J' (bu0 T) → F' 0 = 1 → Q (some (.long 0)) F' L' I' J') (k1 : inN x (tsK T 0).1 → ¬ (inN y 2 ∧ inN z 2) → ∀ F' L' I' J', MI F' L' I' J' (bu1 T) → F' 0 = 2 → Q (some (.long 0)) F' L' I' J') : CallM G mX9_mean 8 ad o [.ref o, .int x, .int y, .int z] F L I J Q := by
  refine eX9_mean (fun σ0 => bX9_mean_0 (fun F1 e1 => ?_))
  subst e1
  refine w_isVisit hM.th fU_at (fun v hv hx => ⟨_, rfl, fun z => absurd z (by decide), fun _ => ?_⟩) (fun h F' I' q1 q2 => ⟨_, rfl, fun _ => k0 h F' L I' J q1 q2, fun z => absurd rfl z⟩)
  have hn := n24 hM.ok
  have no : ¬ (inN y 2 ∧ inN z 2) → AtM G mX9_mean 8 ad o σ0 Q 38 [(0, .ref o), (1, .int x), (2, .int y), (3, .int z)] [.int 0, .ref o] (fU F 0 0) L I J := fun h => bX9_mean_38 (w_mayF hM.th fU_at (by decide) (fun F' I' q1 q2 => k1 ⟨v, hv, hx⟩ h F' L I' J q1 q2))
  refine w_in (n := 1) rfl (by decide) (fun w hw hy => ⟨_, rfl, fun z => absurd z (by decide), fun _ => ?_⟩) (fun h => ⟨_, rfl, fun _ => no (fun q => h q.1), fun z => absurd rfl z⟩)
  refine w_in (n := 1) rfl (by decide) (fun p hp hz => ⟨_, rfl, fun z => absurd z (by decide), fun _ => ?_⟩) (fun h => ⟨_, rfl, fun _ => no (fun q => h q.2), fun z => absurd rfl z⟩)
  refine bX9_mean_38 (w_mayT fU_at (m_plain hM.th (fun F2 M2 z2 O2 n2 => ⟨rfl, ?_⟩)))
  subst hx
  subst hy
  subst hz
  have z0 : nI w = 0 ↔ w = 0 := nI_eq (b := 0) (by omega) (by decide)
  refine m_goes M2 O2 (go0 M2.ok) hv (to_v (by omega)) (fun F3 L3 I3 J3 n3 lv3 M3 z3 O3 P3 g3 t3 => ⟨rfl, ?_⟩)
  have hGr := (go_run (go0 hM.ok) (fm := (tsK T 0).2.2) (v + 1) hv).1
  have hlt : qMean w (rn9 T (tsH0 T) (v + 1)).1 < 2 ^ 50 := qMean_lt hGr
  have kk : ∀ F', MI F' L3 I3 J3 T → F' 0 = 0 → _ := fun F' m1 m2 => kq v w p hv rfl hw rfl hp rfl F' L3 I3 J3 m1 m2
  have e3 : F3 0 = 0 := by rw [z3, z2, fU_at]
  clear kq no k0 k1
  revert P3 hlt kk
  generalize (rn9 T (tsH0 T) (v + 1)).1 = P
  intro P3 hlt kk
  unfold qMean at hlt kk
  have Lp : ∀ d i, i + d = n3 → ∀ F', FlM F' L3 I3 J3 n3 lv3 P (fun _ => 0) (rn9 T (tsH0 T) (v + 1)).2.1 (rn9 T (tsH0 T) (v + 1)).2.2.1 (rn9 T (tsH0 T) (v + 1)).2.2.2 → (∀ j, (j < 51 ∨ 55 < j) → F' j = F3 j) → AtM G mX9_mean 8 ad o σ0 Q 63 [(0, .ref o), (2, .int (nI w)), (3, .int (nI p)), (4, .long (lN (sm (fun j => P (lv3 j) * (if w = 0 then cC (lv3 j) else cD (lv3 j))) i))), (6, .int (nI i))] [] F' L3 I3 J3 := by
    intro d
    induction d with
    | zero =>
      intro i hi F' hM2 hF
      have hi : i = n3 := by omega
      subst hi
      refine bX9_mean_63 ⟨fun _ => ?_, fun z => absurd (by rw [hM2.rw9.2.2.1]; exact nI_le (Nat.le_refl _) (by have := hM2.rw9.2.2.2; omega)) z⟩
      rw [sml_end (P := P) (f := fun x => P x * (if w = 0 then cC x else cD x)) hM2.rw9.1 hM2.rw9.2.1 (fun x z => by rw [z, Nat.zero_mul])]
      exact least1 (Nat.lt_trans hlt (by decide)) hp ⟨_, rfl, kk F' (M3.f51 hF) (by rw [hF 0 (by decide), e3])⟩
    | succ d ih =>
      intro i hi F' hM2 hF
      have hin : i < n3 := by omega
      have hn3 := hM2.rw9.2.2.2
      obtain ⟨hx, e33⟩ := hM2.live hin
      have ih1 := ih (i + 1) (by omega)
      rw [sm_s] at ih1
      refine bX9_mean_63 ⟨fun z => absurd (by rw [hM2.rw9.2.2.1] at z; exact z) (nI_ge hin (by omega)), fun _ => ⟨vp_in_nI (by omega) (by decide), fun v6 h6 => ?_⟩⟩
      rw [nI_clamp (by omega), e33] at h6
      subst h6
      refine w_stateOf hx (fun F4 hS4 hF4 => ⟨rfl, ?_⟩)
      have hM4 : FlM F4 L3 I3 J3 n3 lv3 P (fun _ => 0) (rn9 T (tsH0 T) (v + 1)).2.1 (rn9 T (tsH0 T) (v + 1)).2.2.1 (rn9 T (tsH0 T) (v + 1)).2.2.2 := hM2.oth (hF4 35 (by decide)) (hF4 36 (by decide)) rfl rfl rfl rfl rfl rfl rfl
      have ih2 := ih1 F4 hM4 (fun j hj => (hF4 j hj).trans (hF j hj))
      have c1 := cC_lt (lv3 i)
      have d1 := cD_lt (lv3 i)
      dsimp only
      rw [nI_clamp (show ix (lv3 i) < 2 ^ 31 by have := ix_lt hx; omega), hM4.2.1 _ hx]
      obtain ⟨h51, h52, -, -, -⟩ := hS4
      refine ⟨vp_in_nI (ix_lt hx) (by decide), fun z w1 e1 v4 e4 v6 e6 => ?_, fun z w1 e1 v4 e4 v6 e6 => ?_⟩
      · rw [if_neg (fun y => z (z0.mpr y))] at ih2
        rw [h52, nI_l (by omega), lN_mul] at e1
        rw [e4, e1, lN_add, e6, nI_1]
        exact ih2
      · rw [if_pos (z0.mp z)] at ih2
        rw [h51, nI_l (by omega), lN_mul] at e1
        rw [e4, e1, lN_add, e6, nI_1]
        exact ih2
  have L0 := Lp n3 0 (by omega) F3 P3 (fun _ _ => rfl)
  rw [sm_z] at L0
  exact L0
theorem m_drunk {G : GC} {ad : Nat → Nat} {o : Nat} {F : Nat → Int32} {L : Nat → Int64} {I : Nat → Nat → Int32} {J : Nat → Nat → Int64} {Q : MPost} {T : TS} {x z : Int32} (hM : MI F L I J T) (kq : ∀ v p, v < tsP T → x = nI v → p < 2 → z = nI p → ∀ F' L' I' J', MI F' L' I' J' T → F' 0 = 0 → Q (some (.long (lN (fr ((rn9 T (tsH0 T) (tsK T 0).1).2.1 v) 1099511627776 p)))) F' L' I' J') (k0 : ¬ inN x (tsP T) → ∀ F' L' I' J', MI F' L' I' J' (bu0 T) → F' 0 = 1 → Q (some (.long 0)) F' L' I' J') (k1 : inN x (tsP T) → ¬ inN z 2 → ∀ F' L' I' J', MI F' L' I' J' (bu1 T) → F' 0 = 2 → Q (some (.long 0)) F' L' I' J') : CallM G mX9_drunk 9 ad o [.ref o, .int x, .int z] F L I J Q := by
  refine eX9_drunk (fun σ0 => bX9_drunk_0 (fun F1 e1 => ?_))
  subst e1
  refine w_isPerson hM.th fU_at (fun v hv hx => ⟨_, rfl, fun z => absurd z (by decide), fun _ => ?_⟩) (fun h F' I' q1 q2 => ⟨_, rfl, fun _ => k0 h F' L I' J q1 q2, fun z => absurd rfl z⟩)
  have hn := n24 hM.ok
  have hP6 := hM.ok.2.1
  refine w_in (n := 1) rfl (by decide) (fun p hp hz => ⟨_, rfl, w_mayT fU_at (m_plain hM.th (fun F2 M2 z2 O2 n2 => ⟨rfl, ?_⟩))⟩) (fun h => ⟨_, rfl, w_mayF hM.th fU_at (by decide) (fun F' I' q1 q2 => k1 ⟨v, hv, hx⟩ h F' L I' J q1 q2)⟩)
  subst hx
  subst hz
  refine m_goesAll M2 O2 (go0 M2.ok) (fun F3 L3 I3 J3 n3 lv3 M3 z3 O3 P3 g3 t3 => ⟨rfl, vp_in_nI (by omega) (by decide), ?_⟩)
  rw [nI_clamp (by omega), P3.1.2.2 v (by omega)]
  exact least1 (by
    have := (go_run (go0 hM.ok) (fm := (tsK T 0).2.2) _ (Nat.le_refl _)).2.1 v
    unfold rn9
    omega) hp ⟨_, rfl, kq v p hv rfl hp rfl F3 L3 I3 J3 M3 (by rw [z3, z2, fU_at])⟩
theorem m_done {G : GC} {ad : Nat → Nat} {o : Nat} {F : Nat → Int32} {L : Nat → Int64} {I : Nat → Nat → Int32} {J : Nat → Nat → Int64} {Q : MPost} {T : TS} {x z : Int32} (hM : MI F L I J T) (kq : ∀ w p, w < 2 → x = nI w → p < 2 → z = nI p → ∀ F' L' I' J', MI F' L' I' J' T → F' 0 = 0 → Q (some (.long (lN (fr (if w = 0 then (rn9 T (tsH0 T) (tsK T 0).1).2.2.1 else (rn9 T (tsH0 T) (tsK T 0).1).2.2.2) 1099511627776 p)))) F' L' I' J') (k1 : ¬ (inN x 2 ∧ inN z 2) → ∀ F' L' I' J', MI F' L' I' J' (bu1 T) → F' 0 = 1 → Q (some (.long 0)) F' L' I' J') : CallM G mX9_done 9 ad o [.ref o, .int x, .int z] F L I J Q := by
  refine eX9_done (fun σ0 => bX9_done_0 (fun F1 e1 => ?_))
  subst e1
  have hn := n24 hM.ok
  have no : ¬ (inN x 2 ∧ inN z 2) → AtM G mX9_done 9 ad o σ0 Q 29 [(0, .ref o), (1, .int x), (2, .int z)] [.int 0, .ref o] (fU F 0 0) L I J := fun h => bX9_done_29 (w_mayF hM.th fU_at (by decide) (fun F' I' q1 q2 => k1 h F' L I' J q1 q2))
  refine w_in (n := 1) rfl (by decide) (fun w hw hy => ⟨_, rfl, fun z => absurd z (by decide), fun _ => ?_⟩) (fun h => ⟨_, rfl, fun _ => no (fun q => h q.1), fun z => absurd rfl z⟩)
  refine w_in (n := 1) rfl (by decide) (fun p hp hz => ⟨_, rfl, fun z => absurd z (by decide), fun _ => ?_⟩) (fun h => ⟨_, rfl, fun _ => no (fun q => h q.2), fun z => absurd rfl z⟩)
  refine bX9_done_29 (w_mayT fU_at (m_plain hM.th (fun F2 M2 z2 O2 n2 => ⟨rfl, ?_⟩)))
  subst hy
  subst hz
  have z0 : nI w = 0 ↔ w = 0 := nI_eq (b := 0) (by omega) (by decide)
  have hf := (go_run (go0 hM.ok) (fm := (tsK T 0).2.2) _ (Nat.le_refl _)).2
  refine m_goesAll M2 O2 (go0 M2.ok) (fun F3 L3 I3 J3 n3 lv3 M3 z3 O3 P3 g3 t3 => ⟨rfl, ?_⟩)
  have kk := kq w p hw rfl hp rfl F3 L3 I3 J3 M3 (by rw [z3, z2, fU_at])
  refine ⟨fun y => ?_, fun y => ?_⟩
  · rw [if_neg (fun u => y (z0.mpr u))] at kk
    rw [P3.1.2.1]
    exact least1 (by
      have := hf.2.2
      unfold rn9
      omega) hp ⟨_, rfl, kk⟩
  · rw [if_pos (z0.mp y)] at kk
    rw [P3.1.1]
    exact least1 (by
      have := hf.2.1
      unfold rn9
      omega) hp ⟨_, rfl, kk⟩
theorem m_costNow {G : GC} {ad : Nat → Nat} {o : Nat} {F : Nat → Int32} {L : Nat → Int64} {I : Nat → Nat → Int32} {J : Nat → Nat → Int64} {Q : MPost} {T : TS} {h : HW} (hM : MI F L I J T) (hOp : OpM F I h) (g : GoOK (tsO T) h (tsK T 0).2.1 (tsK T 0).1)
    (k : ∀ F' L' I' J', MI F' L' I' J' T → F' 0 = F 0 → Fr9 F F' → Ir9 I I' → Q (some (.long (lN (co9 T h)))) F' L' I' J') : CallM G mX9_costNow 9 ad o [.ref o] F L I J Q :=
  w_costNow hM.2.2.2.2.1 hM.1 hOp g hM.2.1.2 hM.ok.1.lt (fun F' L' I' J' q1 q2 q3 => k F' L' I' J' (hM.q q2.q q3 q1) (q2 0 (by decide) (by decide) (by decide)) q2 q3)
theorem m_trueNow {G : GC} {ad : Nat → Nat} {o : Nat} {F : Nat → Int32} {L : Nat → Int64} {I : Nat → Nat → Int32} {J : Nat → Nat → Int64} {Q : MPost} {T : TS} {h : HW} (hM : MI F L I J T) (hOp : OpM F I h) (g : GoOK (tsO T) h (tsK T 0).2.1 (tsK T 0).1)
    (k : ∀ F' L' I' J', MI F' L' I' J' T → F' 0 = F 0 → Fr9 F F' → Ir9 I I' → Q (some (.long (lN (tr9 T h (tsK T 0).1)))) F' L' I' J') : CallM G mX9_trueNow 9 ad o [.ref o] F L I J Q :=
  w_trueNow hM.2.2.2.2.1 hM.1 hOp g hM.2.1.2 (fun F' L' I' J' q1 q2 q3 => k F' L' I' J' (hM.q q2.q q3 q1) (q2 0 (by decide) (by decide) (by decide)) q2 q3)
theorem m_cost {G : GC} {ad : Nat → Nat} {o : Nat} {F : Nat → Int32} {L : Nat → Int64} {I : Nat → Nat → Int32} {J : Nat → Nat → Int64} {Q : MPost} {T : TS} {z : Int32} (hM : MI F L I J T) (kq : ∀ p, p < 2 → z = nI p → ∀ F' L' I' J', MI F' L' I' J' T → F' 0 = 0 → Q (some (.long (lN (fr (qCost (tsO T) (rn9 T (tsH0 T) (tsK T 0).1)) 1099511627776 p)))) F' L' I' J') (k1 : ¬ inN z 2 → ∀ F' L' I' J', MI F' L' I' J' (bu1 T) → F' 0 = 1 → Q (some (.long 0)) F' L' I' J') : CallM G mX9_cost 10 ad o [.ref o, .int z] F L I J Q := by
  refine eX9_cost (fun σ0 => bX9_cost_0 (fun F1 e1 => ?_))
  subst e1
  refine w_isPart hM.th fU_at (fun p hp hz => ⟨_, rfl, fun _ => ?_, fun z => absurd z (by decide)⟩) (fun h F' I' q1 q2 => ⟨_, rfl, fun z => absurd rfl z, fun _ => k1 h F' L I' J q1 q2⟩)
  subst hz
  refine m_plain hM.th (fun F2 M2 z2 O2 n2 => ⟨rfl, m_costNow M2 O2 (go0 M2.ok) (fun F3 L3 I3 J3 M3 z3 f3 i3 => ⟨_, rfl, ?_⟩)⟩)
  exact least1 (Nat.lt_trans (cost_lt hM.ok (go0 hM.ok) (Nat.le_refl _)) (by decide)) hp ⟨_, rfl, kq p hp rfl F3 L3 I3 J3 M3 (by rw [z3, z2, fU_at])⟩
theorem m_fits {G : GC} {ad : Nat → Nat} {o : Nat} {F : Nat → Int32} {L : Nat → Int64} {I : Nat → Nat → Int32} {J : Nat → Nat → Int64} {Q : MPost} {T : TS} {z : Int32} (hM : MI F L I J T) (kq : ∀ p, p < 2 → z = nI p → ∀ F' L' I' J', MI F' L' I' J' T → F' 0 = 0 → Q (some (.long (lN (fr (qAll (rn9 T (hB9 T) (tsK T 0).1).1) 1099511627776 p)))) F' L' I' J') (k1 : ¬ inN z 2 → ∀ F' L' I' J', MI F' L' I' J' (bu1 T) → F' 0 = 1 → Q (some (.long 0)) F' L' I' J') : CallM G mX9_fits 9 ad o [.ref o, .int z] F L I J Q := by
  refine eX9_fits (fun σ0 => bX9_fits_0 (fun F1 e1 => ?_))
  subst e1
  refine w_isPart hM.th fU_at (fun p hp hz => ⟨_, rfl, fun _ => ?_, fun z => absurd z (by decide)⟩) (fun h F' I' q1 q2 => ⟨_, rfl, fun z => absurd rfl z, fun _ => k1 h F' L I' J q1 q2⟩)
  subst hz
  refine m_plain hM.th (fun F2 M2 z2 O2 n2 => ⟨rfl, fun F3 e3 => ?_⟩)
  subst e3
  have M3 : MI (fU F2 50 1) L I J T := M2.q (Fq.rf.u (by omega)) Ir9.rf (M2.2.2.2.2.1.oth (fU_ne (by decide)) (fU_ne (by decide)) rfl rfl rfl rfl rfl rfl rfl)
  refine m_goesAll (h := hB9 T) M3 (O2.bk M2.2.2.2.1) (goB M2.ok) (fun F4 L4 I4 J4 n4 lv4 M4 z4 O4 P4 g4 t4 => ⟨rfl, ?_⟩)
  refine w_mall P4 ⟨_, rfl, least1 (Nat.lt_of_le_of_lt (go_run (goB hM.ok) _ (Nat.le_refl _)).1.2 (by decide)) hp ⟨_, rfl, kq p hp rfl F4 L4 I4 J4 M4 ?_⟩⟩
  rw [z4, fU_ne (by decide), z2, fU_at]
theorem to_m {v : Nat} (hv : v < 24) : ∀ i, i ≤ 24 → (nI v - 1 < nI i ↔ v ≤ i) := to_all (by omega)
theorem m_goesGiven {G : GC} {ad : Nat → Nat} {o : Nat} {F : Nat → Int32} {L : Nat → Int64} {I : Nat → Nat → Int32} {J : Nat → Nat → Int64} {Q : MPost} {T : TS} {v : Nat} (hM : MI F L I J T) (hv : v < (tsK T 0).1)
    (k : ∀ F' L' I' J' n' lv', MI F' L' I' J' T → F' 0 = F 0 → FlM F' L' I' J' n' lv' (bg9 T v).1 (fun _ => 0) (bg9 T v).2.1 (bg9 T v).2.2.1 (bg9 T v).2.2.2 → (∀ i, i < n' → gd (v + 1) (lv' i)) → Q none F' L' I' J') : CallM G mX9_goesGiven 8 ad o [.ref o, .int (nI v)] F L I J Q := by
  have hn := n24 hM.ok
  refine eX9_goesGiven (fun σ0 => bX9_goesGiven_0 (m_plain hM (fun F2 M2 z2 O2 n2 => ⟨rfl, fun F3 e3 => ?_⟩)))
  subst e3
  have M3 : MI (fU F2 50 1) L I J T := M2.q (Fq.rf.u (by omega)) Ir9.rf (M2.2.2.2.2.1.oth (fU_ne (by decide)) (fU_ne (by decide)) rfl rfl rfl rfl rfl rfl rfl)
  refine m_goes (h := hB9 T) M3 (O2.bk M2.2.2.2.1) (goB M2.ok) (by omega) (to_m (by omega)) (fun F4 L4 I4 J4 n4 lv4 M4 z4 O4 P4 g4 t4 => ⟨rfl, ?_⟩)
  refine w_mcomes (S := rn9 T (hB9 T) v) P4 (go_run (goB hM.ok) (fm := (tsK T 0).2.2) v (by omega)).1 M4.1 O4 hv hn (goB hM.ok).2.2.2.2.2.2.1 (fun F5 I5 J5 n5 lv5 P5 g5 f5 i5 c5 j5 => ⟨rfl, ?_⟩)
  refine k F5 L4 I5 J5 n5 lv5 (M4.q f5.q i5 (P5.idl)) ?_ P5 g5
  rw [f5 0 (by decide) (by decide) (by decide), z4, fU_ne (by decide), z2]
theorem m_given {G : GC} {ad : Nat → Nat} {o : Nat} {F : Nat → Int32} {L : Nat → Int64} {I : Nat → Nat → Int32} {J : Nat → Nat → Int64} {Q : MPost} {T : TS} {x y z : Int32} (hM : MI F L I J T) (kq : ∀ v w p, v < (tsK T 0).1 → x = nI v → w < 6 → y = nI w → p < 2 → z = nI p → ∀ F' L' I' J', MI F' L' I' J' T → F' 0 = 0 → Q (some (.long (lN (frA (qLik w (tsO T 0) (tsO T 5) v (tsK T 0).2.2 (bg9 T v).1) (qAll (bg9 T v).1) p)))) F' L' I' J') (k0 : ¬ inN x (tsK T 0).1 → ∀ F' L' I' J', MI F' L' I' J' (bu0 T) → F' 0 = 1 → Q (some (.long 0)) F' L' I' J') (k1 : inN x (tsK T 0).1 → ¬ (inN y 6 ∧ inN z 2) → ∀ F' L' I' J', MI F' L' I' J' (bu1 T) → F' 0 = 2 → Q (some (.long 0)) F' L' I' J') : CallM G mX9_given 9 ad o [.ref o, .int x, .int y, .int z] F L I J Q := by
  refine eX9_given (fun σ0 => bX9_given_0 (fun F1 e1 => ?_))
  subst e1
  refine w_isVisit hM.th fU_at (fun v hv hx => ⟨_, rfl, fun z => absurd z (by decide), fun _ => ?_⟩) (fun h F' I' q1 q2 => ⟨_, rfl, fun _ => k0 h F' L I' J q1 q2, fun z => absurd rfl z⟩)
  have hn := n24 hM.ok
  have no : ¬ (inN y 6 ∧ inN z 2) → AtM G mX9_given 9 ad o σ0 Q 38 [(0, .ref o), (1, .int x), (2, .int y), (3, .int z)] [.int 0, .ref o] (fU F 0 0) L I J := fun h => bX9_given_38 (w_mayF hM.th fU_at (by decide) (fun F' I' q1 q2 => k1 ⟨v, hv, hx⟩ h F' L I' J q1 q2))
  refine w_in (n := 5) rfl (by decide) (fun w hw hy => ⟨_, rfl, fun z => absurd z (by decide), fun _ => ?_⟩) (fun h => ⟨_, rfl, fun _ => no (fun q => h q.1), fun z => absurd rfl z⟩)
  refine w_in (n := 1) rfl (by decide) (fun p hp hz => ⟨_, rfl, fun z => absurd z (by decide), fun _ => ?_⟩) (fun h => ⟨_, rfl, fun _ => no (fun q => h q.2), fun z => absurd rfl z⟩)
  subst hx
  subst hy
  subst hz
  have hG := bg_GP hM.ok hv
  refine bX9_given_38 (w_mayT fU_at (m_goesGiven hM.th hv (fun F4 L4 I4 J4 n4 lv4 M4 z4 P4 g4 => ⟨rfl, ?_⟩)))
  refine w_mlikely (by omega) P4 (fun _ => ⟨hv, g4⟩) M4.1 M4.ok.1.1 hn (fun F5 P5 f5 => ⟨_, rfl, ?_⟩)
  refine w_share P5 (Nat.lt_of_le_of_lt (qLik_le hG) (by decide)) (Nat.lt_of_le_of_lt hG.2 (by decide)) hp ⟨_, rfl, kq v w p hv rfl hw rfl hp rfl F5 L4 I4 J4 (M4.f51 f5) ?_⟩
  rw [f5 0 (by decide), z4, fU_at]
theorem m_worth {G : GC} {ad : Nat → Nat} {o : Nat} {F : Nat → Int32} {L : Nat → Int64} {I : Nat → Nat → Int32} {J : Nat → Nat → Int64} {Q : MPost} {T : TS} {x y z : Int32} (hM : MI F L I J T) (kq : ∀ v w p, v < (tsK T 0).1 → x = nI v → w < 4 → y = nI w → p < 2 → z = nI p → ∀ F' L' I' J', MI F' L' I' J' T → F' 0 = 0 → Q (some (.long (lN (frA (qWorth (tsO T) (tsO T 6) w (bg9 T v).1) (qAll (bg9 T v).1) p)))) F' L' I' J') (k0 : ¬ inN x (tsK T 0).1 → ∀ F' L' I' J', MI F' L' I' J' (bu0 T) → F' 0 = 1 → Q (some (.long 0)) F' L' I' J') (k1 : inN x (tsK T 0).1 → ¬ (inN y 4 ∧ inN z 2) → ∀ F' L' I' J', MI F' L' I' J' (bu1 T) → F' 0 = 2 → Q (some (.long 0)) F' L' I' J') : CallM G mX9_worth 9 ad o [.ref o, .int x, .int y, .int z] F L I J Q := by
  refine eX9_worth (fun σ0 => bX9_worth_0 (fun F1 e1 => ?_))
  subst e1
  refine w_isVisit hM.th fU_at (fun v hv hx => ⟨_, rfl, fun z => absurd z (by decide), fun _ => ?_⟩) (fun h F' I' q1 q2 => ⟨_, rfl, fun _ => k0 h F' L I' J q1 q2, fun z => absurd rfl z⟩)
  have hn := n24 hM.ok
  have no : ¬ (inN y 4 ∧ inN z 2) → AtM G mX9_worth 9 ad o σ0 Q 38 [(0, .ref o), (1, .int x), (2, .int y), (3, .int z)] [.int 0, .ref o] (fU F 0 0) L I J := fun h => bX9_worth_38 (w_mayF hM.th fU_at (by decide) (fun F' I' q1 q2 => k1 ⟨v, hv, hx⟩ h F' L I' J q1 q2))
  refine w_in (n := 3) rfl (by decide) (fun w hw hy => ⟨_, rfl, fun z => absurd z (by decide), fun _ => ?_⟩) (fun h => ⟨_, rfl, fun _ => no (fun q => h q.1), fun z => absurd rfl z⟩)
  refine w_in (n := 1) rfl (by decide) (fun p hp hz => ⟨_, rfl, fun z => absurd z (by decide), fun _ => ?_⟩) (fun h => ⟨_, rfl, fun _ => no (fun q => h q.2), fun z => absurd rfl z⟩)
  subst hx
  subst hy
  subst hz
  have hG := bg_GP hM.ok hv
  have hs := hM.ok.1.2.2.2.2.2.2.1
  refine bX9_worth_38 (w_mayT fU_at (m_goesGiven hM.th hv (fun F4 L4 I4 J4 n4 lv4 M4 z4 P4 g4 => ⟨rfl, ?_⟩)))
  refine w_mworth (by omega) P4 hG (by omega) M4.1 M4.ok.1.lt hs (fun F5 P5 f5 => ⟨_, rfl, ?_⟩)
  refine w_share P5 (qWorth_lt hG hs hM.ok.1) (Nat.lt_of_le_of_lt hG.2 (by decide)) hp ⟨_, rfl, kq v w p hv rfl hw rfl hp rfl F5 L4 I4 J4 (M4.f51 f5) ?_⟩
  rw [f5 0 (by decide), z4, fU_at]
theorem m_gain {G : GC} {ad : Nat → Nat} {o : Nat} {F : Nat → Int32} {L : Nat → Int64} {I : Nat → Nat → Int32} {J : Nat → Nat → Int64} {Q : MPost} {T : TS} {x z : Int32} (hM : MI F L I J T) (kq : ∀ v p, v < (tsK T 0).1 → x = nI v → p < 2 → z = nI p → ∀ F' L' I' J', MI F' L' I' J' T → F' 0 = 0 → Q (some (.long (lN (frA (gain9 T v) (qAll (bg9 T v).1) p)))) F' L' I' J') (k0 : ¬ inN x (tsK T 0).1 → ∀ F' L' I' J', MI F' L' I' J' (bu0 T) → F' 0 = 1 → Q (some (.long 0)) F' L' I' J') (k1 : inN x (tsK T 0).1 → ¬ inN z 2 → ∀ F' L' I' J', MI F' L' I' J' (bu1 T) → F' 0 = 2 → Q (some (.long 0)) F' L' I' J') : CallM G mX9_gain 9 ad o [.ref o, .int x, .int z] F L I J Q := by
  refine eX9_gain (fun σ0 => bX9_gain_0 (fun F1 e1 => ?_))
  subst e1
  refine w_isVisit hM.th fU_at (fun v hv hx => ⟨_, rfl, fun z => absurd z (by decide), fun _ => ?_⟩) (fun h F' I' q1 q2 => ⟨_, rfl, fun _ => k0 h F' L I' J q1 q2, fun z => absurd rfl z⟩)
  have hn := n24 hM.ok
  refine w_in (n := 1) rfl (by decide) (fun p hp hz => ⟨_, rfl, w_mayT fU_at ?_⟩) (fun h => ⟨_, rfl, w_mayF hM.th fU_at (by decide) (fun F' I' q1 q2 => k1 ⟨v, hv, hx⟩ h F' L I' J q1 q2)⟩)
  subst hx
  subst hz
  have hG := bg_GP hM.ok hv
  have hs := hM.ok.1.2.2.2.2.2.2.1
  have hw : ∀ w, qWorth (tsO T) (tsO T 6) w (bg9 T v).1 < 2 ^ 63 := fun w => qWorth_lt hG hs hM.ok.1
  refine m_goesGiven hM.th hv (fun F4 L4 I4 J4 n4 lv4 M4 z4 P4 g4 => ⟨rfl, ?_⟩)
  refine w_mworth (way := 0) (by omega) P4 hG (by omega) M4.1 M4.ok.1.lt hs (fun F5 P5 f5 => ⟨_, rfl, ?_⟩)
  refine w_mworth (way := 1) (by omega) P5 hG (by omega) M4.1 M4.ok.1.lt hs (fun F6 P6 f6 => ⟨_, rfl, ?_⟩)
  have tl : ∀ m, m = min (qWorth (tsO T) (tsO T 6) 0 (bg9 T v).1) (qWorth (tsO T) (tsO T 6) 1 (bg9 T v).1) → AtM G mX9_gain 9 ad o σ0 Q 62 [(0, .ref o), (2, .int (nI p))] [.long (lN m)] F6 L4 I4 J4 := by
    intro m em
    have hm : m < 2 ^ 63 := by
      rw [em]
      exact Nat.lt_of_le_of_lt (Nat.min_le_left _ _) (hw 0)
    refine bX9_gain_62 (w_mworth (way := 2) (by omega) P6 hG (by omega) M4.1 M4.ok.1.lt hs (fun F7 P7 f7 => ⟨_, rfl, fun v7 e7 => ?_⟩))
    have kk := kq v p hv rfl hp rfl F7 L4 I4 J4 (((M4.f51 f5).f51 f6).f51 f7) (by rw [f7 0 (by decide), f6 0 (by decide), f5 0 (by decide), z4, fU_at])
    have hA : qAll (bg9 T v).1 < 2 ^ 63 := Nat.lt_of_le_of_lt hG.2 (by decide)
    have h2 := hw 2
    unfold gain9 at kk
    rw [← em] at kk
    revert e7 kk
    generalize qWorth (tsO T) (tsO T 6) 2 (bg9 T v).1 = c at *
    intro e7 kk
    have hle : v7 ≤ 0 ↔ ¬ (0 : Int64) < v7 := Int64.not_lt.symm
    have hz : v7 ≤ 0 ↔ m ≤ c := by
      rw [e7]
      have q1 := lN_sub0 (a := m) (c := c) hm h2
      constructor
      · intro u
        rcases Nat.lt_or_ge c m with r | r
        · exfalso
          rw [lN_sub (by omega)] at u
          have u1 := (pk_lLE (a := m - c) (b := 0) (by omega) (by decide)).mp u
          omega
        · exact r
      · intro u
        rcases Nat.eq_or_lt_of_le u with r | r
        · rw [r, Int64.sub_self]
          decide
        · have q2 := q1.mpr r
          exact Int64.le_of_lt q2
    refine ⟨fun u => ?_, fun u => ?_⟩
    · rw [show m - c = 0 by have := hz.mp u; omega] at kk
      exact w_share (up := 0) P7 (by decide) hA hp ⟨_, rfl, kk⟩
    · have q : c < m := by
        apply Classical.byContradiction
        intro y
        exact u (hz.mpr (by omega))
      rw [e7, lN_sub (by omega)]
      exact w_share P7 (by omega) hA hp ⟨_, rfl, kk⟩
  have cmp := pk_lLE (hw 1) (hw 0)
  refine ⟨fun u => tl _ ?_, fun u => tl _ ?_⟩
  · have := cmp.mp u
    omega
  · have : ¬ _ := fun y => u (cmp.mpr y)
    omega
