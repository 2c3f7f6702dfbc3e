/-! Part B: what the reference answers of days -/
theorem m_day {G : GC} {ad : Nat → Nat} {o : Nat} {F : Nat → Int32} {L : Nat → Int64} {I : Nat → Nat → Int32} {J : Nat → Nat → Int64} {Q : MPost} {T : TS} {seed x y : Int32} (hM : MI F L I J T) (kq : ∀ v w, v < (tsK T 0).1 → x = nI v → w < 7 → y = nI w → ∀ F' L' I' J', MI F' L' I' J' T → F' 0 = 0 → Q (some (.int (dayV w (dy9 T seed (v + 1))))) F' L' I' J') (k0 : ¬ inN x (tsK T 0).1 → ∀ F' L' I' J', MI F' L' I' J' (bu0 T) → F' 0 = 1 → Q (some (.int 0)) F' L' I' J') (k1 : inN x (tsK T 0).1 → ¬ inN y 7 → ∀ F' L' I' J', MI F' L' I' J' (bu1 T) → F' 0 = 2 → Q (some (.int 0)) F' L' I' J') : CallM G mX9_day 6 ad o [.ref o, .int seed, .int x, .int y] F L I J Q := by
  refine eX9_day (fun σ0 => bX9_day_0 (fun F1 e1 => ?_))
  subst e1
  refine w_isVisit hM.th fU_at (fun v hv hx => ⟨_, rfl, fun z => absurd z (by decide), fun _ => ?_⟩) (fun h F' I' q1 q2 => ⟨_, rfl, fun _ => k0 h F' L I' J q1 q2, fun z => absurd rfl z⟩)
  have hn := n24 hM.ok
  refine w_in (n := 6) rfl (by decide) (fun w hw hy => ⟨_, rfl, w_mayT fU_at ?_⟩) (fun h => ⟨_, rfl, w_mayF hM.th fU_at (by decide) (fun F' I' q1 q2 => k1 ⟨v, hv, hx⟩ h F' L I' J q1 q2)⟩)
  subst hx
  subst hy
  refine m_dayGoes hM.th hv (to_v (by omega)) (fun F4 I4 M4 z4 D4 => ⟨rfl, ?_⟩)
  have kk := kq v w hv rfl hw rfl F4 L I4 J M4 (by rw [z4, fU_at])
  revert D4 kk
  generalize dy9 T seed (v + 1) = yy
  obtain ⟨l, dr, wa, lo, s, c, d, k, e⟩ := yy
  intro D4 kk
  obtain ⟨d57, d58, d59, d60, d54, d51, d52, d53⟩ := D4
  unfold dayV at kk
  dsimp only at kk
  dsimp only
  rw [d58, d59, d60, d54, d51, d52, d53]
  have lt : ∀ j : Nat, j < 7 → (nI w = nI j ↔ w = j) := fun j hj => nI_eq (by omega) (by omega)
  have l3 : (3 : Int32) ≤ nI w ↔ 3 ≤ w := nI_leI (a := 3) (by decide) (by omega)
  rw [show (nI w = (0 : Int32)) = (w = 0) from propext (lt 0 (by decide)), show (nI w = (1 : Int32)) = (w = 1) from propext (lt 1 (by decide)), show (nI w = (3 : Int32)) = (w = 3) from propext (lt 3 (by decide)), show (nI w = (4 : Int32)) = (w = 4) from propext (lt 4 (by decide)), show (nI w = (5 : Int32)) = (w = 5) from propext (lt 5 (by decide)), show ((3 : Int32) ≤ nI w) = (3 ≤ w) from propext l3]
  refine ⟨fun q => ⟨fun q3 => ⟨fun q4 => ⟨fun q5 => ?_, fun q5 => ?_⟩, fun q4 => ?_⟩, fun q3 => ?_⟩, fun q => ⟨fun q0 => ⟨fun q1 => ?_, fun q1 => ?_⟩, fun q0 => ?_⟩⟩
  · rw [if_neg (by omega), if_neg (by omega), if_neg (by omega), if_neg (by omega), if_neg (by omega), if_neg (by omega)] at kk
    exact kk
  · subst q5
    exact kk
  · subst q4
    exact kk
  · subst q3
    exact kk
  · have : w = 2 := by omega
    subst this
    exact kk
  · subst q1
    exact kk
  · subst q0
    exact kk
theorem w_isT {G : GC} {ad : Nat → Nat} {o : Nat} {F : Nat → Int32} {L : Nat → Int64} {I : Nat → Nat → Int32} {J : Nat → Nat → Int64} {P : Option Value → Prop} {d k : Nat} (hd : d < 13) (hk : k < 2) (h52 : F 52 = nI d) (h53 : F 53 = nI k) (kq : P (some (.int (if k = 1 ↔ d = 0 then 1 else 0)))) : CallMO G mX9_isOf 4 ad o [.ref o, .int 1, .int 0] F L I J P := by
  have zd : nI d = 0 ↔ d = 0 := nI_eq (b := 0) (by omega) (by decide)
  have zk : nI k = 1 ↔ k = 1 := nI_eq (b := 1) (by omega) (by decide)
  refine eX9_isOf (fun σ0 => bX9_isOf_0 (iN (by decide) (iY rfl ?_)))
  rw [h53]
  refine ⟨fun z => bX9_isOf_35 ?_, fun z => bX9_isOf_35 ?_⟩
  · rw [h52]
    have z1 : ¬ k = 1 := fun y => z (zk.mpr y)
    refine ⟨fun y => iY rfl ⟨rfl, rfl, rfl, rfl, ?_⟩, fun y => iN (by decide) ⟨rfl, rfl, rfl, rfl, ?_⟩⟩
    · have y1 : ¬ d = 0 := fun u => y (zd.mpr u)
      rw [if_pos ⟨fun u => absurd u z1, fun u => absurd u y1⟩] at kq; exact kq
    · have y1 := zd.mp y
      rw [if_neg (fun u => z1 (u.mpr y1))] at kq; exact kq
  · rw [h52]
    have z1 := zk.mp z
    refine ⟨fun y => iN (by decide) ⟨rfl, rfl, rfl, rfl, ?_⟩, fun y => iY rfl ⟨rfl, rfl, rfl, rfl, ?_⟩⟩
    · have y1 : ¬ d = 0 := fun u => y (zd.mpr u)
      rw [if_neg (fun u => y1 (u.mp z1))] at kq; exact kq
    · have y1 := zd.mp y
      rw [if_pos ⟨fun _ => y1, fun _ => z1⟩] at kq; exact kq
theorem m_span {G : GC} {ad : Nat → Nat} {o : Nat} {F : Nat → Int32} {L : Nat → Int64} {I : Nat → Nat → Int32} {J : Nat → Nat → Int64} {Q : MPost} {T : TS} {seed x y : Int32} (hM : MI F L I J T) (kq : ∀ m w, m < 40 → x = nI (m + 1) → w < 3 → y = nI w → ∀ F' L' I' J', MI F' L' I' J' T → F' 0 = 0 → Q (some (.int (spV w (spS T seed (m + 1))))) F' L' I' J') (k1 : ¬ ((∃ m, m < 40 ∧ x = nI (m + 1)) ∧ inN y 3) → ∀ F' L' I' J', MI F' L' I' J' (bu1 T) → F' 0 = 1 → Q (some (.int 0)) F' L' I' J') : CallM G mX9_span 6 ad o [.ref o, .int seed, .int x, .int y] F L I J Q := by
  refine eX9_span (fun σ0 => bX9_span_0 (fun F1 e1 => ?_))
  subst e1
  have hn := n24 hM.ok
  have no : ¬ ((∃ m, m < 40 ∧ x = nI (m + 1)) ∧ inN y 3) → AtM G mX9_span 6 ad o σ0 Q 30 [(0, .ref o), (1, .int seed), (2, .int x), (3, .int y)] [.int 0, .ref o] (fU F 0 0) L I J := fun h => bX9_span_30 (w_mayF hM.th fU_at (by decide) (fun F' I' q1 q2 => k1 h F' L I' J q1 q2))
  refine w_in1 (n := 40) rfl (by decide) (fun m hm hx => ⟨_, rfl, fun z => absurd z (by decide), fun _ => ?_⟩) (fun h => ⟨_, rfl, fun _ => no (fun q => h q.1), fun z => absurd rfl z⟩)
  refine w_in (n := 2) rfl (by decide) (fun w hw hy => ⟨_, rfl, fun z => absurd z (by decide), fun _ => ?_⟩) (fun h => ⟨_, rfl, fun _ => no (fun q => h q.2), fun z => absurd rfl z⟩)
  subst hx
  subst hy
  have w0 : nI w = 0 ↔ w = 0 := nI_eq (b := 0) (by omega) (by decide)
  have w1 : nI w = 1 ↔ w = 1 := nI_eq (b := 1) (by omega) (by decide)
  refine bX9_span_30 (w_mayT fU_at ?_)
  have Lp : ∀ d i, i + d = m + 1 → ∀ F' I', MI F' L I' J T → F' 0 = 0 → AtM G mX9_span 6 ad o σ0 Q 52 [(0, .ref o), (1, .int seed), (2, .int (nI (m + 1))), (3, .int (nI w)), (4, .int (spS T seed i).1), (5, .int (spS T seed i).2.1), (6, .int (spS T seed i).2.2), (7, .int (nI i))] [] F' L I' J := by
    intro d
    induction d with
    | zero =>
      intro i hi F' I' M' z'
      have hi : i = m + 1 := by omega
      subst hi
      have kk := kq m w hm rfl hw rfl F' L I' J M' z'
      unfold spV at kk
      refine bX9_span_52 ⟨fun _ => ⟨fun y => ⟨fun z => ?_, fun z => ?_⟩, fun y => ?_⟩, fun q => absurd (nI_le (Nat.le_refl _) (by omega)) q⟩
      · rw [if_neg (fun u => y (w0.mpr u)), if_neg (fun u => z (w1.mpr u))] at kk
        exact kk
      · rw [if_neg (fun u => y (w0.mpr u)), if_pos (w1.mp z)] at kk
        exact kk
      · rw [if_pos (w0.mp y)] at kk
        exact kk
    | succ d ih =>
      intro i hi F' I' M' z'
      refine bX9_span_52 ⟨fun q => absurd q (nI_ge (by omega) (by omega)), fun _ => ?_⟩
      rw [M'.2.1.2]
      refine m_dayGoes (v := (tsK T 0).1) M' (Nat.le_refl _) (to_all hn) (fun F4 I4 M4 z4 D4 => ⟨rfl, ?_⟩)
      have ih1 := ih (i + 1) (by omega) F4 I4 M4 (by rw [z4, z'])
      have hdo := dy_ok hM.ok (seed + nI i) (tsK T 0).1
      rw [spS] at ih1
      revert D4 ih1 hdo
      generalize dy9 T (seed + nI i) (tsK T 0).1 = yy
      obtain ⟨l, dr, wa, lo, s, c, dd, k, e⟩ := yy
      intro D4 ih1 hdo
      have hc12 : c + dd ≤ 12 := hdo.2.1
      have hk2 : k < 2 := hdo.2.2.1
      obtain ⟨d57, d58, d59, d60, d54, d51, d52, d53⟩ := D4
      dsimp only at ih1
      have M : ∀ v4, (spS T seed i).1 + v4 = (if k = 1 ↔ dd = 0 then (spS T seed i).1 + 1 else (spS T seed i).1) → AtM G mX9_span 6 ad o σ0 Q 88 [(0, .ref o), (1, .int seed), (2, .int (nI (m + 1))), (3, .int (nI w)), (5, .int (spS T seed i).2.1), (6, .int (spS T seed i).2.2), (7, .int (nI i))] [.int v4, .int (spS T seed i).1] F4 L I4 J := by
        intro v4 e4
        refine bX9_span_88 (fun v5 e5 v6 e6 => ?_)
        rw [e4] at e5
        rw [d58] at e6 ⊢
        rw [e5, e6]
        refine ⟨fun q v7 e7 => ?_, fun q v7 e7 => ?_⟩
        · rw [if_neg (Int32.not_lt.mpr q)] at ih1
          rw [e7, nI_1]
          exact ih1
        · rw [if_pos (Int32.not_le.mp q)] at ih1
          rw [e7, nI_1]
          exact ih1
      refine w_isT (show dd < 13 by omega) hk2 d52 d53 ⟨_, rfl, ?_⟩
      by_cases z : k = 1 ↔ dd = 0
      · rw [if_pos z]
        exact ⟨fun y => absurd y (by decide), fun _ => M 1 (by rw [if_pos z])⟩
      · rw [if_neg z]
        exact ⟨fun _ => M 0 (by rw [if_neg z, Int32.add_zero]), fun y => absurd rfl y⟩
  exact Lp (m + 1) 0 (by omega) (fU F 0 0) I hM.th fU_at
