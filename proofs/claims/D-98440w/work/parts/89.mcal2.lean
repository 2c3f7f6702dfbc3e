/-! Part B: the reference's visits change: come, skip, shift -/
theorem co_cong {p m : Int32} {n : Nat} : ∀ (k : Nat) (fw fm gw gm : (Nat → Int32)), k ≤ n → (∀ j, j < n + 1 → j ≠ k → gw j = fw j ∧ gm j = fm j) → (co p m k gw gm).2.2 = (co p m k fw fm).2.2 ∧ ∀ j, j < n + 1 → (co p m k gw gm).1 j = (co p m k fw fm).1 j ∧ (co p m k gw gm).2.1 j = (co p m k fw fm).2.1 j
  | 0, fw, fm, gw, gm, _, h => by
    refine ⟨rfl, fun j hj => ?_⟩
    show (if j = 0 then p else gw j) = (if j = 0 then p else fw j) ∧ (if j = 0 then m else gm j) = (if j = 0 then m else fm j)
    by_cases z : j = 0
    · rw [if_pos z, if_pos z, if_pos z, if_pos z]
      exact ⟨rfl, rfl⟩
    · rw [if_neg z, if_neg z, if_neg z, if_neg z]
      exact h j hj z
  | k + 1, fw, fm, gw, gm, hk, h => by
    have hk1 := h k (by omega) (by omega)
    rw [co, co, hk1.1, hk1.2]
    by_cases q : fm k ≤ m
    · rw [if_pos q, if_pos q]
      refine ⟨rfl, fun j hj => ?_⟩
      show (if j = k + 1 then p else gw j) = (if j = k + 1 then p else fw j) ∧ (if j = k + 1 then m else gm j) = (if j = k + 1 then m else fm j)
      by_cases z : j = k + 1
      · rw [if_pos z, if_pos z, if_pos z, if_pos z]
        exact ⟨rfl, rfl⟩
      · rw [if_neg z, if_neg z, if_neg z, if_neg z]
        exact h j hj z
    · rw [if_neg q, if_neg q]
      refine co_cong k _ _ _ _ (by omega) (fun j hj hj2 => ?_)
      show (if j = k + 1 then fw k else gw j) = (if j = k + 1 then fw k else fw j) ∧ (if j = k + 1 then fm k else gm j) = (if j = k + 1 then fm k else fm j)
      by_cases z : j = k + 1
      · rw [if_pos z, if_pos z, if_pos z, if_pos z]
        exact ⟨rfl, rfl⟩
      · rw [if_neg z, if_neg z, if_neg z, if_neg z]
        exact h j hj z
theorem co_lt {p m : Int32} : ∀ (k : Nat) (fw fm : (Nat → Int32)), (co p m k fw fm).2.2 ≤ k
  | 0, _, _ => Nat.le_refl _
  | k + 1, fw, fm => by
    rw [co]
    split
    · exact Nat.le_refl _
    · exact Nat.le_succ_of_le (co_lt k _ _)
theorem w_puts {G : GC} {ad : Nat → Nat} {o : Nat} {F : Nat → Int32} {L : Nat → Int64} {I : Nat → Nat → Int32} {J : Nat → Nat → Int64} {Q : MPost} {n : Nat} {p m : Int32} (hn : n < 24) (k : ∀ I', (∀ a, a ≠ 14 → a ≠ 15 → I' a = I a) → I' 14 = (co p m n (I 14) (I 15)).1 → I' 15 = (co p m n (I 14) (I 15)).2.1 → Q (some (.int (nI (co p m n (I 14) (I 15)).2.2))) F L I' J) : CallM G mX9_puts 3 ad o [.ref o, .ref (ad 14), .ref (ad 15), .int (nI n), .int p, .int m] F L I J Q := by
  have hk1 : (14 : Nat) < 65 ∧ mKind 14 = 2 := by decide
  have hk2 : (15 : Nat) < 65 ∧ mKind 15 = 2 := by decide
  have l1 : mLen 14 = 24 := by decide
  have l2 : mLen 15 = 24 := by decide
  refine eX9_puts (fun σ0 => bX9_puts_0 hk1 hk2 ?_)
  have up14 : ∀ (I' : Nat → Nat → Int32) i v, aU I' 14 i v 14 = upd (I' 14) i v := fun I' i v => rfl
  have up15 : ∀ (I' : Nat → Nat → Int32) i v, aU I' 15 i v 15 = upd (I' 15) i v := fun I' i v => rfl
  have Lp : ∀ i, i ≤ n → ∀ I', (∀ a, a ≠ 14 → a ≠ 15 → I' a = I a) → co p m i (I' 14) (I' 15) = co p m n (I 14) (I 15) → AtM G mX9_puts 3 ad o σ0 Q 3 [(1, .ref (ad 14)), (2, .ref (ad 15)), (4, .int p), (5, .int m), (6, .int (nI i))] [] F L I' J := by
    intro i
    induction i with
    | zero =>
      intro hi I' h1 h2
      refine bX9_puts_3 hk1 hk2 ⟨fun _ => ?_, fun z => absurd (by decide) z⟩
      rw [l1, l2]
      refine ⟨vp_in_nI (by decide) (by decide), fun I1 e1 => ⟨vp_in_nI (by decide) (by decide), fun I2 e2 => ?_⟩⟩
      rw [nI_clamp (by decide)] at e1 e2
      subst e1
      subst e2
      have kk := k (aU (aU I' 14 0 p) 15 0 m) (fun a h4 h5 => (gU_ne h5).trans ((gU_ne h4).trans (h1 a h4 h5)))
      rw [← h2] at kk
      exact kk rfl rfl
    | succ i ih =>
      intro hi I' h1 h2
      have p1 := vp_in_nI (show i < 24 by omega) (by decide)
      have p2 := vp_in_nI (show i + 1 < 24 by omega) (by decide)
      have c1 := nI_clamp (show i < 2 ^ 31 by omega)
      have c2 := nI_clamp (show i + 1 < 2 ^ 31 by omega)
      rw [co] at h2
      refine bX9_puts_3 hk1 hk2 ⟨fun z => absurd z (nI_nle (by omega) (by omega)), fun _ => ?_⟩
      rw [nI_pred, pk_m1, c1, c2, l1, l2]
      refine ⟨p1, fun z => ⟨p2, fun I1 e1 => ⟨p2, fun I2 e2 => ?_⟩⟩, fun z => ⟨p1, p2, fun I1 e1 => ⟨p1, p2, fun I2 e2 v6 e6 => ?_⟩⟩⟩
      · rw [if_pos z] at h2
        subst e1
        subst e2
        have kk := k (aU (aU I' 14 (i + 1) p) 15 (i + 1) m) (fun a h4 h5 => (gU_ne h5).trans ((gU_ne h4).trans (h1 a h4 h5)))
        rw [← h2] at kk
        exact kk rfl rfl
      · rw [if_neg z] at h2
        subst e1
        subst e2
        rw [e6]
        exact ih (by omega) _ (fun a h4 h5 => (gU_ne h5).trans ((gU_ne h4).trans (h1 a h4 h5))) h2
  exact Lp n (Nat.le_refl _) I (fun _ _ _ => rfl) rfl
/-- put among the visits there are -/
theorem m_puts {G : GC} {ad : Nat → Nat} {o : Nat} {F : Nat → Int32} {L : Nat → Int64} {I : Nat → Nat → Int32} {J : Nat → Nat → Int64} {Q : MPost} {T : TS} {D : CL} {p m : Int32} (hM : MI F L I J T) (f19 : F 19 = nI D.1) (who : ∀ j, j < D.1 → I 14 j = D.2.1 j ∧ I 15 j = D.2.2 j) (ok : clOK D) (hn : D.1 < 24) (hp : okP p) (k : ∀ F' I', MI F' L I' J (tsN T (kUp (tsK T) 0 (cmC D p m)) (tsC T) (tsI T) (tsQ T)) → F' 0 = F 0 → Q (some (.int (nI (cmX D p m)))) F' L I' J) : CallM G mX9_puts 3 ad o [.ref o, .ref (ad 14), .ref (ad 15), .int (F 19), .int p, .int m] F L I J (mqI (fun rx F1 L1 I1 J1 => ∀ F2 : Nat → Int32, F2 = fU F1 19 ((F1 19) + 1) → Q (some (.int rx)) F2 L1 I1 J1)) := by
  rw [f19]
  have cc := co_cong (p := p) (m := m) (n := D.1) D.1 D.2.1 D.2.2 (I 14) (I 15) (Nat.le_refl _) (fun j hj hj2 => who j (by omega))
  refine w_puts hn (fun I' h1 h2 h3 => ⟨_, rfl, fun F2 e2 => ?_⟩)
  rw [cc.1]
  subst e2
  refine k _ I' (hM.now (fun j hj => fU_ne hj) h1 ?_ (fun j hj => ?_) (cmC_ok ok hn hp)) (fU_ne (by decide))
  · rw [fU_at, f19, nI_1]
    rfl
  · rw [h2, h3]
    exact cc.2 j hj
theorem MI.at0 {F : Nat → Int32} {L : Nat → Int64} {I : Nat → Nat → Int32} {J : Nat → Nat → Int64} {T : TS} {C : CL} (h : MI F L I J (tsN T (kUp (tsK T) (1 + tsC T) C) (tsC T + 1) (tsI T) (tsQ T))) : F 19 = nI (tsK T 0).1 ∧ ∀ j, j < (tsK T 0).1 → I 14 j = (tsK T 0).2.1 j ∧ I 15 j = (tsK T 0).2.2 j := by
  have e0 : tsK (tsN T (kUp (tsK T) (1 + tsC T) C) (tsC T + 1) (tsI T) (tsQ T)) 0 = tsK T 0 := kUp_ne (by omega)
  have a := h.2.1.2
  have b := h.1.2
  rw [e0] at a b
  exact ⟨a, b⟩
theorem m_come {G : GC} {ad : Nat → Nat} {o : Nat} {F : Nat → Int32} {L : Nat → Int64} {I : Nat → Nat → Int32} {J : Nat → Nat → Int64} {Q : MPost} {T : TS} {C : CL} {x y : Int32} (hM : MI F L I J T) (hs : sameC (tsK T 0) C) (kq : ∀ v u, v < tsP T → x = nI v → u < 481 → y = nI u → (tsK T 0).1 ≠ 24 → tsC T ≠ 20 → ∀ F' L' I' J', MI F' L' I' J' (chS T C (cmC (tsK T 0) x y)) → F' 0 = 0 → Q (some (.int (nI (cmX (tsK T 0) x y)))) F' L' I' J')
    (kn : inN x (tsP T) → inN y 481 → ((tsK T 0).1 = 24 ∨ tsC T = 20) → ∀ F' L' I' J', MI F' L' I' J' T → F' 0 = 0 → Q (some (.int (-1))) F' L' I' J') (k0 : ¬ inN x (tsP T) → ∀ F' L' I' J', MI F' L' I' J' (bu0 T) → F' 0 = 1 → Q (some (.int 0)) F' L' I' J') (k1 : inN x (tsP T) → ¬ inN y 481 → ∀ F' L' I' J', MI F' L' I' J' (bu1 T) → F' 0 = 2 → Q (some (.int 0)) F' L' I' J') : CallM G mX9_come 5 ad o [.ref o, .int x, .int y] F L I J Q := by
  have hn := n24 hM.ok
  have hP6 := hM.ok.2.1
  have hc := hM.ok.2.2.2.2.2.2.1
  refine eX9_come (fun σ0 => bX9_come_0 (fun F1 e1 => ?_))
  subst e1
  refine w_isPerson hM.th fU_at (fun v hv hx => ⟨_, rfl, fun z => absurd z (by decide), fun _ => ?_⟩) (fun h F' I' q1 q2 => ⟨_, rfl, fun _ => k0 h F' L I' J q1 q2, fun z => absurd rfl z⟩)
  refine w_in (n := 480) rfl (by decide) (fun u hu hy => ⟨_, rfl, w_mayT fU_at ?_⟩) (fun h => ⟨_, rfl, w_mayF hM.th fU_at (by decide) (fun F' I' q1 q2 => k1 ⟨v, hv, hx⟩ h F' L I' J q1 q2)⟩)
  have M0 : MI (fU F 0 0) L I J T := hM.th
  rw [M0.2.1.2, M0.2.2.2.2.2.2.1.1]
  refine ⟨fun z => kn ⟨v, hv, hx⟩ ⟨u, hu, hy⟩ (Or.inl ((nI_eq (b := 24) (by omega) (by decide)).mp z)) _ L I J M0 fU_at, fun z => ⟨fun w => ?_, fun w => kn ⟨v, hv, hx⟩ ⟨u, hu, hy⟩ (Or.inr ((nI_eq (b := 20) (by omega) (by decide)).mp w)) _ L I J M0 fU_at⟩⟩
  have z1 : (tsK T 0).1 ≠ 24 := fun e => z ((nI_eq (b := 24) (by omega) (by decide)).mpr e)
  have w1 : tsC T ≠ 20 := fun e => w ((nI_eq (b := 20) (by omega) (by decide)).mpr e)
  refine m_keeps M0 (by omega) hs (fun F2 I2 M2 z2 => ⟨rfl, m_puts (D := tsK T 0) M2 M2.at0.1 M2.at0.2 (hM.ok.2.2.1 0 (by decide)) (by omega) ⟨v, by omega, hx⟩ (fun F3 I3 M3 z3 => ?_)⟩)
  exact kq v u hv hx hu hy z1 w1 F3 L I3 J M3 (by rw [z3, z2, fU_at])
theorem m_leaves {G : GC} {ad : Nat → Nat} {o : Nat} {F : Nat → Int32} {L : Nat → Int64} {I : Nat → Nat → Int32} {J : Nat → Nat → Int64} {Q : MPost} {T : TS} {C : CL} {v : Nat} (hM : MI F L I J (tsN T (kUp (tsK T) (1 + tsC T) C) (tsC T + 1) (tsI T) (tsQ T))) (hv : v < (tsK T 0).1) (k : ∀ F' I', MI F' L I' J (chS T C (skC (tsK T 0) v)) → F' 0 = F 0 → F' 19 = nI (skC (tsK T 0) v).1 → (∀ j, j < (skC (tsK T 0) v).1 → I' 14 j = (skC (tsK T 0) v).2.1 j ∧ I' 15 j = (skC (tsK T 0) v).2.2 j) → Q none F' L I' J) : CallM G mX9_leaves 3 ad o [.ref o, .int (nI v)] F L I J Q := by
  have ok0 : clOK (tsK T 0) := by
    have q := hM.ok.2.2.1 0 (by decide)
    rw [show tsK (tsN T (kUp (tsK T) (1 + tsC T) C) (tsC T + 1) (tsI T) (tsQ T)) 0 = tsK T 0 from kUp_ne (by omega)] at q
    exact q
  obtain ⟨a, b⟩ := hM.at0
  have hn := ok0.1
  obtain ⟨n, en⟩ : ∃ n, (tsK T 0).1 = n + 1 := ⟨(tsK T 0).1 - 1, by omega⟩
  have e1 : (skC (tsK T 0) v).1 = n := by
    show (tsK T 0).1 - 1 = n
    omega
  refine w_leaves (n := n) (by rw [a, en]) (by omega) (by omega) (fun I' h1 h2 h3 => ?_)
  have who : ∀ j, j < (skC (tsK T 0) v).1 → I' 14 j = (skC (tsK T 0) v).2.1 j ∧ I' 15 j = (skC (tsK T 0) v).2.2 j := by
    intro j hj
    rw [e1] at hj
    show _ = (if v ≤ j ∧ j < (tsK T 0).1 - 1 then _ else _) ∧ _ = (if v ≤ j ∧ j < (tsK T 0).1 - 1 then _ else _)
    rw [h2, h3, show (tsK T 0).1 - 1 = n by omega]
    by_cases z : v ≤ j ∧ j < n
    · rw [if_pos z, if_pos z, if_pos z, if_pos z]
      exact b (j + 1) (by omega)
    · rw [if_neg z, if_neg z, if_neg z, if_neg z]
      exact b j (by omega)
  have f19 : fU F 19 (nI n) 19 = nI (skC (tsK T 0) v).1 := by rw [fU_at, e1]
  exact k _ I' (hM.now (fun j hj => fU_ne hj) h1 f19 who (skC_ok ok0)) (fU_ne (by decide)) f19 who
theorem m_skip {G : GC} {ad : Nat → Nat} {o : Nat} {F : Nat → Int32} {L : Nat → Int64} {I : Nat → Nat → Int32} {J : Nat → Nat → Int64} {Q : MPost} {T : TS} {C : CL} {x : Int32} (hM : MI F L I J T) (hs : sameC (tsK T 0) C) (kq : ∀ v, v < (tsK T 0).1 → x = nI v → tsC T ≠ 20 → ∀ F' L' I' J', MI F' L' I' J' (chS T C (skC (tsK T 0) v)) → F' 0 = 0 → Q (some (.int (nI ((tsK T 0).1 - 1)))) F' L' I' J')
    (kn : inN x (tsK T 0).1 → tsC T = 20 → ∀ F' L' I' J', MI F' L' I' J' T → F' 0 = 0 → Q (some (.int (-1))) F' L' I' J') (k0 : ¬ inN x (tsK T 0).1 → ∀ F' L' I' J', MI F' L' I' J' (bu0 T) → F' 0 = 1 → Q (some (.int 0)) F' L' I' J') : CallM G mX9_skip 5 ad o [.ref o, .int x] F L I J Q := by
  have hn := n24 hM.ok
  have hc := hM.ok.2.2.2.2.2.2.1
  refine eX9_skip (fun σ0 => bX9_skip_0 (fun F1 e1 => ?_))
  subst e1
  refine w_isVisit hM.th fU_at (fun v hv hx => ⟨_, rfl, fun _ => ?_, fun z => absurd z (by decide)⟩) (fun h F' I' q1 q2 => ⟨_, rfl, fun z => absurd rfl z, fun _ => k0 h F' L I' J q1 q2⟩)
  have M0 : MI (fU F 0 0) L I J T := hM.th
  rw [M0.2.2.2.2.2.2.1.1]
  refine ⟨fun w => ?_, fun w => kn ⟨v, hv, hx⟩ ((nI_eq (b := 20) (by omega) (by decide)).mp w) _ L I J M0 fU_at⟩
  have w1 : tsC T ≠ 20 := fun e => w ((nI_eq (b := 20) (by omega) (by decide)).mpr e)
  subst hx
  refine m_keeps M0 (by omega) hs (fun F2 I2 M2 z2 => ⟨rfl, m_leaves M2 hv (fun F3 I3 M3 z3 f19 who => ⟨rfl, ?_⟩)⟩)
  dsimp only
  rw [f19]
  exact kq v hv rfl w1 F3 L I3 J M3 (by rw [z3, z2, fU_at])
theorem m_shift {G : GC} {ad : Nat → Nat} {o : Nat} {F : Nat → Int32} {L : Nat → Int64} {I : Nat → Nat → Int32} {J : Nat → Nat → Int64} {Q : MPost} {T : TS} {C : CL} {x y : Int32} (hM : MI F L I J T) (hs : sameC (tsK T 0) C) (kq : ∀ v u, v < (tsK T 0).1 → x = nI v → u < 481 → y = nI u → tsC T ≠ 20 → ∀ F' L' I' J', MI F' L' I' J' (chS T C (cmC (skC (tsK T 0) v) ((tsK T 0).2.1 v) y)) → F' 0 = 0 → Q (some (.int (nI (cmX (skC (tsK T 0) v) ((tsK T 0).2.1 v) y)))) F' L' I' J')
    (kn : inN x (tsK T 0).1 → inN y 481 → tsC T = 20 → ∀ F' L' I' J', MI F' L' I' J' T → F' 0 = 0 → Q (some (.int (-1))) F' L' I' J') (k0 : ¬ inN x (tsK T 0).1 → ∀ F' L' I' J', MI F' L' I' J' (bu0 T) → F' 0 = 1 → Q (some (.int 0)) F' L' I' J') (k1 : inN x (tsK T 0).1 → ¬ inN y 481 → ∀ F' L' I' J', MI F' L' I' J' (bu1 T) → F' 0 = 2 → Q (some (.int 0)) F' L' I' J') : CallM G mX9_shift 5 ad o [.ref o, .int x, .int y] F L I J Q := by
  have hn := n24 hM.ok
  have hc := hM.ok.2.2.2.2.2.2.1
  refine eX9_shift (fun σ0 => bX9_shift_0 (fun F1 e1 => ?_))
  subst e1
  refine w_isVisit hM.th fU_at (fun v hv hx => ⟨_, rfl, fun z => absurd z (by decide), fun _ => ?_⟩) (fun h F' I' q1 q2 => ⟨_, rfl, fun _ => k0 h F' L I' J q1 q2, fun z => absurd rfl z⟩)
  refine w_in (n := 480) rfl (by decide) (fun u hu hy => ⟨_, rfl, w_mayT fU_at ?_⟩) (fun h => ⟨_, rfl, w_mayF hM.th fU_at (by decide) (fun F' I' q1 q2 => k1 ⟨v, hv, hx⟩ h F' L I' J q1 q2)⟩)
  have M0 : MI (fU F 0 0) L I J T := hM.th
  rw [M0.2.2.2.2.2.2.1.1]
  refine ⟨fun w => ?_, fun w => kn ⟨v, hv, hx⟩ ⟨u, hu, hy⟩ ((nI_eq (b := 20) (by omega) (by decide)).mp w) _ L I J M0 fU_at⟩
  have w1 : tsC T ≠ 20 := fun e => w ((nI_eq (b := 20) (by omega) (by decide)).mpr e)
  subst hx
  have ok0 := hM.ok.2.2.1 0 (by decide)
  refine m_keeps M0 (by omega) hs (fun F2 I2 M2 z2 => ⟨rfl, vp_in_nI (by omega) (by decide), fun v3 e3 => ?_⟩)
  rw [nI_clamp (by omega), (M2.at0.2 v hv).1] at e3
  subst e3
  refine m_leaves M2 hv (fun F3 I3 M3 z3 f19 who => ⟨rfl, m_puts (D := skC (tsK T 0) v) M3 f19 who (skC_ok ok0) (show (tsK T 0).1 - 1 < 24 by omega) (ok0.2 v hv) (fun F4 I4 M4 z4 => ?_)⟩)
  have e9 : tsN (chS T C (skC (tsK T 0) v)) (kUp (tsK (chS T C (skC (tsK T 0) v))) 0 (cmC (skC (tsK T 0) v) ((tsK T 0).2.1 v) y)) (tsC (chS T C (skC (tsK T 0) v))) (tsI (chS T C (skC (tsK T 0) v))) (tsQ (chS T C (skC (tsK T 0) v))) = chS T C (cmC (skC (tsK T 0) v) ((tsK T 0).2.1 v) y) := by
    have : ∀ (K : Nat → CL) (D1 D2 : CL), kUp (kUp K 0 D1) 0 D2 = kUp K 0 D2 := fun K D1 D2 => by
      funext j
      unfold kUp
      split <;> rfl
    show tsN T (kUp (kUp _ 0 _) 0 _) (tsC T + 1) (tsI T) (tsQ T) = _
    rw [this]
    rfl
  rw [e9] at M4
  exact kq v u hv rfl hu hy w1 F4 L I4 J M4 (by rw [z4, z3, z2, fU_at])
