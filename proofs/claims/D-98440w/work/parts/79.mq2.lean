/-! Part B: what the reference answers, told otherwise -/
theorem MI.o {F : Nat → Int32} {L : Nat → Int64} {I : Nat → Nat → Int32} {J : Nat → Nat → Int64} {T : TS} {k : Nat} {v : Int32} (h : MI F L I J T) (hk : 43 ≤ k ∧ k ≤ 50) : MI (fU F k v) L I J T :=
  h.q (Fq.rf.u (Or.inr ⟨hk.1, by omega⟩)) Ir9.rf (h.2.2.2.2.1.oth (fU_ne (by omega)) (fU_ne (by omega)) rfl rfl rfl rfl rfl rfl rfl)
theorem m_best {G : GC} {ad : Nat → Nat} {o : Nat} {F : Nat → Int32} {L : Nat → Int64} {I : Nat → Nat → Int32} {J : Nat → Nat → Int64} {Q : MPost} {T : TS} {x : Int32} (hM : MI F L I J T) (kq : ∀ v, v < (tsK T 0).1 → x = nI v → ∀ F' L' I' J', MI F' L' I' J' T → F' 0 = 0 → Q (some (.int (if qAll (bg9 T v).1 = 0 then -1 else nI (bsS (fun w => qWorth (tsO T) (tsO T 6) w (bg9 T v).1) 3)))) F' L' I' J') (k0 : ¬ inN x (tsK T 0).1 → ∀ F' L' I' J', MI F' L' I' J' (bu0 T) → F' 0 = 1 → Q (some (.int 0)) F' L' I' J') : CallM G mX9_best 9 ad o [.ref o, .int x] F L I J Q := by
  refine eX9_best (fun σ0 => bX9_best_0 (fun F1 e1 => ?_))
  subst e1
  refine w_isVisit hM.th fU_at (fun v hv hx => ⟨_, rfl, fun _ => ?_, fun z => absurd z (by decide)⟩) (fun h F' I' q1 q2 => ⟨_, rfl, fun z => absurd rfl z, fun _ => k0 h F' L I' J q1 q2⟩)
  have hn := n24 hM.ok
  subst hx
  have hG := bg_GP hM.ok hv
  have hs := hM.ok.1.2.2.2.2.2.2.1
  have hw : ∀ w, qWorth (tsO T) (tsO T 6) w (bg9 T v).1 < 2 ^ 63 := fun w => qWorth_lt hG hs hM.ok.1
  have hA : qAll (bg9 T v).1 < 2 ^ 63 := Nat.lt_of_le_of_lt hG.2 (by decide)
  refine m_goesGiven hM.th hv (fun F4 L4 I4 J4 n4 lv4 M4 z4 P4 g4 => ⟨rfl, w_mall P4 ⟨_, rfl, fun y => ?_, fun y => ?_⟩⟩)
  · have y1 : ¬ qAll (bg9 T v).1 = 0 := fun u => y (by rw [u]; rfl)
    have L : ∀ d i, i + d = 3 → ∀ F', MI F' L4 I4 J4 T → FlM F' L4 I4 J4 n4 lv4 (bg9 T v).1 (fun _ => 0) (bg9 T v).2.1 (bg9 T v).2.2.1 (bg9 T v).2.2.2 → F' 0 = 0 → AtM G mX9_best 9 ad o σ0 Q 36 [(0, .ref o), (2, .int (nI (bsS (fun w => qWorth (tsO T) (tsO T 6) w (bg9 T v).1) i))), (3, .int (nI (i + 1)))] [] F' L4 I4 J4 := by
      intro d
      induction d with
      | zero =>
        intro i hi F' M' P' z'
        have hi : i = 3 := by omega
        subst hi
        have kk := kq v hv rfl F' L4 I4 J4 M' z'
        rw [if_neg y1] at kk
        exact bX9_best_36 ⟨fun _ => kk, fun q => absurd (nI_le (a := 4) (Nat.le_refl _) (by decide)) q⟩
      | succ d ih =>
        intro i hi F' M' P' z'
        have hbs := bsS_le (fun w => qWorth (tsO T) (tsO T 6) w (bg9 T v).1) i
        have ih1 := ih (i + 1) (by omega)
        refine bX9_best_36 ⟨fun q => absurd q (nI_ge (b := 4) (by omega) (by decide)), fun _ => w_mworth (way := i + 1) (by omega) P' hG (by omega) M'.1 M'.ok.1.lt hs (fun F5 P5 f5 => ⟨_, rfl, ?_⟩)⟩
        refine w_mworth (way := bsS (fun w => qWorth (tsO T) (tsO T 6) w (bg9 T v).1) i) (by omega) P5 hG (by omega) M'.1 M'.ok.1.lt hs (fun F6 P6 f6 => ⟨_, rfl, ?_⟩)
        have ih2 := ih1 F6 ((M'.f51 f5).f51 f6) P6 (by rw [f6 0 (by decide), f5 0 (by decide), z'])
        have cmp := pk_lLE (hw (bsS (fun w => qWorth (tsO T) (tsO T 6) w (bg9 T v).1) i)) (hw (i + 1))
        refine ⟨fun q v3 h3 => ?_, fun q v3 h3 => ?_⟩
        · rw [show bsS (fun w => qWorth (tsO T) (tsO T 6) w (bg9 T v).1) (i + 1) = bsS (fun w => qWorth (tsO T) (tsO T 6) w (bg9 T v).1) i from if_neg (Nat.not_lt.mpr (cmp.mp q))] at ih2
          rw [h3, nI_1]
          exact ih2
        · rw [show bsS (fun w => qWorth (tsO T) (tsO T 6) w (bg9 T v).1) (i + 1) = i + 1 from if_pos (Nat.lt_of_not_le (fun u => q (cmp.mpr u)))] at ih2
          rw [h3, nI_1]
          exact ih2
    exact L 3 0 (by omega) F4 M4 P4 (by rw [z4, fU_at])
  · have y1 : qAll (bg9 T v).1 = 0 := (pk_lEQ (b := 0) hA (by decide)).mp y
    have kk := kq v hv rfl F4 L4 I4 J4 M4 (by rw [z4, fU_at])
    rw [if_pos y1] at kk
    exact kk
theorem m_without {G : GC} {ad : Nat → Nat} {o : Nat} {F : Nat → Int32} {L : Nat → Int64} {I : Nat → Nat → Int32} {J : Nat → Nat → Int64} {Q : MPost} {T : TS} {x z : Int32} (hM : MI F L I J T) (kq : ∀ v w, v < tsP T → x = nI v → w < 2 → z = nI w → ∀ F' L' I' J', MI F' L' I' J' T → F' 0 = 0 → Q (some (.long (lN (if w = 0 then tr9 T (hWo T v) (tsK T 0).1 else co9 T (hWo T v) / 1099511627776)))) F' L' I' J') (k0 : ¬ inN x (tsP T) → ∀ F' L' I' J', MI F' L' I' J' (bu0 T) → F' 0 = 1 → Q (some (.long 0)) F' L' I' J') (k1 : inN x (tsP T) → ¬ inN z 2 → ∀ F' L' I' J', MI F' L' I' J' (bu1 T) → F' 0 = 2 → Q (some (.long 0)) F' L' I' J') : CallM G mX9_without 10 ad o [.ref o, .int x, .int z] F L I J Q := by
  refine eX9_without (fun σ0 => bX9_without_0 (fun F1 e1 => ?_))
  subst e1
  refine w_isPerson hM.th fU_at (fun v hv hx => ⟨_, rfl, fun z => absurd z (by decide), fun _ => ?_⟩) (fun h F' I' q1 q2 => ⟨_, rfl, fun _ => k0 h F' L I' J q1 q2, fun z => absurd rfl z⟩)
  refine w_in (n := 1) rfl (by decide) (fun w hw hz => ⟨_, rfl, w_mayT fU_at (m_plain hM.th (fun F2 M2 z2 O2 n2 => ⟨rfl, fun F3 e3 => ?_⟩))⟩) (fun h => ⟨_, rfl, w_mayF hM.th fU_at (by decide) (fun F' I' q1 q2 => k1 ⟨v, hv, hx⟩ h F' L I' J q1 q2)⟩)
  subst hx
  subst hz
  subst e3
  have w0 : nI w = 0 ↔ w = 0 := nI_eq (b := 0) (by omega) (by decide)
  have O3 : OpM (fU F2 46 (nI v)) I (hWo T v) := O2.wo (nI v)
  have M3 : MI (fU F2 46 (nI v)) L I J T := M2.o (by decide)
  have e0 : fU F2 46 (nI v) 0 = 0 := by rw [fU_ne (by decide), z2, fU_at]
  refine ⟨fun y => m_costNow M3 O3 (go_Wo hM.ok v) (fun F4 L4 I4 J4 M4 z4 f4 i4 => ⟨_, rfl, ?_⟩), fun y => m_trueNow M3 O3 (go_Wo hM.ok v) (fun F4 L4 I4 J4 M4 z4 f4 i4 => ⟨_, rfl, ?_⟩)⟩
  · have kk := kq v w hv rfl hw rfl F4 L4 I4 J4 M4 (by rw [z4, e0])
    rw [if_neg (fun u => y (w0.mpr u))] at kk
    dsimp only
    rw [lN_div40 (Nat.lt_trans (co9_lt hM.ok (go_Wo hM.ok v)) (by decide))]
    exact kk
  · have kk := kq v w hv rfl hw rfl F4 L4 I4 J4 M4 (by rw [z4, e0])
    rw [if_pos (w0.mp y)] at kk
    exact kk
theorem m_falling {G : GC} {ad : Nat → Nat} {o : Nat} {F : Nat → Int32} {L : Nat → Int64} {I : Nat → Nat → Int32} {J : Nat → Nat → Int64} {Q : MPost} {T : TS} {x : Int32} (hM : MI F L I J T) (kq : ∀ q, q < 17 → x = nI q → ∀ F' L' I' J', MI F' L' I' J' T → F' 0 = 0 → Q (some (.long (lN (tr9 T (hFa T q) (tsK T 0).1)))) F' L' I' J') (k1 : ¬ inN x 17 → ∀ F' L' I' J', MI F' L' I' J' (bu1 T) → F' 0 = 1 → Q (some (.long 0)) F' L' I' J') : CallM G mX9_falling 10 ad o [.ref o, .int x] F L I J Q := by
  refine eX9_falling (fun σ0 => bX9_falling_0 (fun F1 e1 => ?_))
  subst e1
  refine w_in (n := 16) rfl (by decide) (fun w hw hz => ⟨_, rfl, w_mayT fU_at (m_plain hM.th (fun F2 M2 z2 O2 n2 => ⟨rfl, fun F3 e3 => ?_⟩))⟩) (fun h => ⟨_, rfl, w_mayF hM.th fU_at (by decide) (fun F' I' q1 q2 => k1 h F' L I' J q1 q2)⟩)
  subst hz
  subst e3
  have O3 : OpM (fU F2 43 (nI w)) I (hFa T w) := O2.fl w
  refine m_trueNow (M2.o (by decide)) O3 (go_Fa hM.ok (by omega)) (fun F4 L4 I4 J4 M4 z4 f4 i4 => ⟨_, rfl, kq w hw rfl F4 L4 I4 J4 M4 ?_⟩)
  rw [z4, fU_ne (by decide), z2, fU_at]
theorem m_seeing {G : GC} {ad : Nat → Nat} {o : Nat} {F : Nat → Int32} {L : Nat → Int64} {I : Nat → Nat → Int32} {J : Nat → Nat → Int64} {Q : MPost} {T : TS} {x z : Int32} (hM : MI F L I J T) (kq : ∀ q p, q < 17 → x = nI q → p < 2 → z = nI p → ∀ F' L' I' J', MI F' L' I' J' T → F' 0 = 0 → Q (some (.long (lN (fr (co9 T (hSe T q)) 1099511627776 p)))) F' L' I' J') (k1 : ¬ (inN x 17 ∧ inN z 2) → ∀ F' L' I' J', MI F' L' I' J' (bu1 T) → F' 0 = 1 → Q (some (.long 0)) F' L' I' J') : CallM G mX9_seeing 10 ad o [.ref o, .int x, .int z] F L I J Q := by
  refine eX9_seeing (fun σ0 => bX9_seeing_0 (fun F1 e1 => ?_))
  subst e1
  have no : ¬ (inN x 17 ∧ inN z 2) → AtM G mX9_seeing 10 ad o σ0 Q 30 [(0, .ref o), (1, .int x), (2, .int z)] [.int 0, .ref o] (fU F 0 0) L I J := fun h => bX9_seeing_30 (w_mayF hM.th fU_at (by decide) (fun F' I' q1 q2 => k1 h F' L I' J q1 q2))
  refine w_in (n := 16) rfl (by decide) (fun w hw hy => ⟨_, rfl, fun z => absurd z (by decide), fun _ => ?_⟩) (fun h => ⟨_, rfl, fun _ => no (fun q => h q.1), fun z => absurd rfl z⟩)
  refine w_in (n := 1) rfl (by decide) (fun p hp hz => ⟨_, rfl, fun z => absurd z (by decide), fun _ => ?_⟩) (fun h => ⟨_, rfl, fun _ => no (fun q => h q.2), fun z => absurd rfl z⟩)
  refine bX9_seeing_30 (w_mayT fU_at (m_plain hM.th (fun F2 M2 z2 O2 n2 => ⟨rfl, fun F3 e3 => ?_⟩)))
  subst hy
  subst hz
  subst e3
  have O3 : OpM (fU F2 44 (nI w)) I (hSe T w) := O2.sn w
  refine m_costNow (M2.o (by decide)) O3 (go_Se hM.ok (by omega)) (fun F4 L4 I4 J4 M4 z4 f4 i4 => ⟨_, rfl, ?_⟩)
  refine least1 (Nat.lt_trans (co9_lt hM.ok (go_Se hM.ok (by omega))) (by decide)) hp ⟨_, rfl, kq w p hw rfl hp rfl F4 L4 I4 J4 M4 ?_⟩
  rw [z4, fU_ne (by decide), z2, fU_at]
theorem w_in1 {G : GC} {x : Int32} {n : Nat} {hi : Int32} {P : Option Value → Prop} (hh : hi = nI n) (hn : n < 2 ^ 30) (h1 : ∀ j, j < n → x = nI (j + 1) → P (some (.int 1))) (h0 : ¬ (∃ j, j < n ∧ x = nI (j + 1)) → P (some (.int 0))) : CallP G mX9_within 3 [.int x, .int 1, .int hi] P := by
  subst hh
  refine w_within (fun l1 l2 => ?_) (fun h => h0 (fun ⟨j, hj, e⟩ => h ⟨by rw [e]; exact nI_le (a := 1) (by omega) (by omega), by rw [e]; exact nI_le (by omega) (by omega)⟩))
  have l0 : ¬ x < 0 := fun y => by
    rw [fa_lt9] at y
    rw [fa_le9] at l1
    have e1 : (1 : Int32).toInt = 1 := rfl
    have e0 : (0 : Int32).toInt = 0 := rfl
    omega
  obtain ⟨j, hj, rfl⟩ := nI_of l0
  have j1 := (nI_leI (a := 1) (by decide) hj).mp l1
  have j2 := (nI_leI hj (by omega)).mp l2
  obtain ⟨m, rfl⟩ : ∃ m, j = m + 1 := ⟨j - 1, by omega⟩
  exact h1 m (by omega) rfl
theorem m_filled {G : GC} {ad : Nat → Nat} {o : Nat} {F : Nat → Int32} {L : Nat → Int64} {I : Nat → Nat → Int32} {J : Nat → Nat → Int64} {Q : MPost} {T : TS} {x z : Int32} (hM : MI F L I J T) (kq : ∀ q p, q < 12 → x = nI (q + 1) → p < 2 → z = nI p → ∀ F' L' I' J', MI F' L' I' J' T → F' 0 = 0 → Q (some (.long (lN (fr (co9 T (hFi T (q + 1))) 1099511627776 p)))) F' L' I' J') (k1 : ¬ ((∃ q, q < 12 ∧ x = nI (q + 1)) ∧ inN z 2) → ∀ F' L' I' J', MI F' L' I' J' (bu1 T) → F' 0 = 1 → Q (some (.long 0)) F' L' I' J') : CallM G mX9_filled 10 ad o [.ref o, .int x, .int z] F L I J Q := by
  refine eX9_filled (fun σ0 => bX9_filled_0 (fun F1 e1 => ?_))
  subst e1
  have no : ¬ ((∃ q, q < 12 ∧ x = nI (q + 1)) ∧ inN z 2) → AtM G mX9_filled 10 ad o σ0 Q 30 [(0, .ref o), (1, .int x), (2, .int z)] [.int 0, .ref o] (fU F 0 0) L I J := fun h => bX9_filled_30 (w_mayF hM.th fU_at (by decide) (fun F' I' q1 q2 => k1 h F' L I' J q1 q2))
  refine w_in1 (n := 12) rfl (by decide) (fun w hw hy => ⟨_, rfl, fun z => absurd z (by decide), fun _ => ?_⟩) (fun h => ⟨_, rfl, fun _ => no (fun q => h q.1), fun z => absurd rfl z⟩)
  refine w_in (n := 1) rfl (by decide) (fun p hp hz => ⟨_, rfl, fun z => absurd z (by decide), fun _ => ?_⟩) (fun h => ⟨_, rfl, fun _ => no (fun q => h q.2), fun z => absurd rfl z⟩)
  refine bX9_filled_30 (w_mayT fU_at (m_plain hM.th (fun F2 M2 z2 O2 n2 => ⟨rfl, fun F3 e3 => ?_⟩)))
  subst hy
  subst hz
  subst e3
  have O3 : OpM (fU F2 45 (nI (w + 1))) I (hFi T (w + 1)) := O2.fi (w + 1)
  refine m_costNow (M2.o (by decide)) O3 (go_Fi hM.ok (by omega)) (fun F4 L4 I4 J4 M4 z4 f4 i4 => ⟨_, rfl, ?_⟩)
  refine least1 (Nat.lt_trans (co9_lt hM.ok (go_Fi hM.ok (by omega))) (by decide)) hp ⟨_, rfl, kq w p hw rfl hp rfl F4 L4 I4 J4 M4 ?_⟩
  rw [z4, fU_ne (by decide), z2, fU_at]
theorem m_ruled {G : GC} {ad : Nat → Nat} {o : Nat} {F : Nat → Int32} {L : Nat → Int64} {I : Nat → Nat → Int32} {J : Nat → Nat → Int64} {Q : MPost} {T : TS} {z : Int32} (hM : MI F L I J T) (kq : ∀ w, w < 2 → z = nI w → ∀ F' L' I' J', MI F' L' I' J' T → F' 0 = 0 → Q (some (.long (lN (if w = 0 then tr9 T (hRu T) (tsK T 0).1 else co9 T (hRu T) / 1099511627776)))) F' L' I' J') (k1 : ¬ inN z 2 → ∀ F' L' I' J', MI F' L' I' J' (bu1 T) → F' 0 = 1 → Q (some (.long 0)) F' L' I' J') : CallM G mX9_ruled 10 ad o [.ref o, .int z] F L I J Q := by
  refine eX9_ruled (fun σ0 => bX9_ruled_0 (fun F1 e1 => ?_))
  subst e1
  refine w_in (n := 1) rfl (by decide) (fun w hw hz => ⟨_, rfl, w_mayT fU_at (m_plain hM.th (fun F2 M2 z2 O2 n2 => ⟨rfl, fun F3 e3 => ?_⟩))⟩) (fun h => ⟨_, rfl, w_mayF hM.th fU_at (by decide) (fun F' I' q1 q2 => k1 h F' L I' J q1 q2)⟩)
  subst hz
  subst e3
  have w0 : nI w = 0 ↔ w = 0 := nI_eq (b := 0) (by omega) (by decide)
  have O3 : OpM (fU F2 49 1) I (hRu T) := O2.ru (hM.2.2.1 6 (by decide))
  have M3 : MI (fU F2 49 1) L I J T := M2.o (by decide)
  have e0 : fU F2 49 1 0 = 0 := by rw [fU_ne (by decide), z2, fU_at]
  refine ⟨fun y => m_costNow M3 O3 (go_Ru hM.ok) (fun F4 L4 I4 J4 M4 z4 f4 i4 => ⟨_, rfl, ?_⟩), fun y => m_trueNow M3 O3 (go_Ru hM.ok) (fun F4 L4 I4 J4 M4 z4 f4 i4 => ⟨_, rfl, ?_⟩)⟩
  · have kk := kq w hw rfl F4 L4 I4 J4 M4 (by rw [z4, e0])
    rw [if_neg (fun u => y (w0.mpr u))] at kk
    dsimp only
    rw [lN_div40 (Nat.lt_trans (co9_lt hM.ok (go_Ru hM.ok)) (by decide))]
    exact kk
  · have kk := kq w hw rfl F4 L4 I4 J4 M4 (by rw [z4, e0])
    rw [if_pos (w0.mp y)] at kk
    exact kk
theorem m_swapped {G : GC} {ad : Nat → Nat} {o : Nat} {F : Nat → Int32} {L : Nat → Int64} {I : Nat → Nat → Int32} {J : Nat → Nat → Int64} {Q : MPost} {T : TS} {x y z : Int32} (hM : MI F L I J T) (kq : ∀ v w p, v < tsP T → x = nI v → w < tsP T → y = nI w → v ≠ w → p < 2 → z = nI p → ∀ F' L' I' J', MI F' L' I' J' T → F' 0 = 0 → Q (some (.long (lN (fr (co9 T (hSw T v w)) 1099511627776 p)))) F' L' I' J') (k0 : ¬ (inN x (tsP T) ∧ inN y (tsP T)) → ∀ F' L' I' J', MI F' L' I' J' (bu0 T) → F' 0 = 1 → Q (some (.long 0)) F' L' I' J') (k1 : inN x (tsP T) → inN y (tsP T) → ¬ (x ≠ y ∧ inN z 2) → ∀ F' L' I' J', MI F' L' I' J' (bu1 T) → F' 0 = 2 → Q (some (.long 0)) F' L' I' J') : CallM G mX9_swapped 10 ad o [.ref o, .int x, .int y, .int z] F L I J Q := by
  refine eX9_swapped (fun σ0 => bX9_swapped_0 (fun F1 e1 => ?_))
  subst e1
  have hP6 := hM.ok.2.1
  refine w_isPerson hM.th fU_at (fun v hv hx => ⟨_, rfl, fun z => absurd z (by decide), fun _ => ?_⟩) (fun h F' I' q1 q2 => ⟨_, rfl, fun _ => k0 (fun q => h q.1) F' L I' J q1 q2, fun z => absurd rfl z⟩)
  refine w_isPerson hM.th fU_at (fun w hw hy => ⟨_, rfl, fun z => absurd z (by decide), fun _ => ?_⟩) (fun h F' I' q1 q2 => ⟨_, rfl, fun _ => k0 (fun q => h q.2) F' L I' J q1 q2, fun z => absurd rfl z⟩)
  have no : ¬ (x ≠ y ∧ inN z 2) → AtM G mX9_swapped 10 ad o σ0 Q 43 [(0, .ref o), (1, .int x), (2, .int y), (3, .int z)] [.int 0, .ref o] (fU F 0 0) L I J := fun h => bX9_swapped_43 (w_mayF hM.th fU_at (by decide) (fun F' I' q1 q2 => k1 ⟨v, hv, hx⟩ ⟨w, hw, hy⟩ h F' L I' J q1 q2))
  refine ⟨fun e => no (fun q => q.1 e), fun ne => ?_⟩
  refine w_in (n := 1) rfl (by decide) (fun p hp hz => ⟨_, rfl, fun z => absurd z (by decide), fun _ => ?_⟩) (fun h => ⟨_, rfl, fun _ => no (fun q => h q.2), fun z => absurd rfl z⟩)
  refine bX9_swapped_43 (w_mayT fU_at (m_plain hM.th (fun F2 M2 z2 O2 n2 => ⟨rfl, fun F3 e3 F4 e4 => ?_⟩)))
  subst hx
  subst hy
  subst hz
  subst e3
  subst e4
  have g := go_Sw hM.ok (show v < 6 by omega) (show w < 6 by omega)
  have O3 : OpM (fU (fU F2 47 (nI v)) 48 (nI w)) I (hSw T v w) := O2.sw n2 hM.2.2.1 (by omega) (by omega)
  refine m_costNow ((M2.o (by decide)).o (by decide)) O3 g (fun F4 L4 I4 J4 M4 z4 f4 i4 => ⟨_, rfl, ?_⟩)
  refine least1 (Nat.lt_trans (co9_lt hM.ok g) (by decide)) hp ⟨_, rfl, kq v w p hv rfl hw rfl (fun e => ne (by rw [e])) hp rfl F4 L4 I4 J4 M4 ?_⟩
  rw [z4, fU_ne (by decide), fU_ne (by decide), z2, fU_at]
