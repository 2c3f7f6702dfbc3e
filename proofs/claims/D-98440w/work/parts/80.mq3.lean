/-! Part B: what the reference answers: the least, the most, days -/
theorem w_lw {G : GC} {ad : Nat → Nat} {o : Nat} {F : Nat → Int32} {L : Nat → Int64} {I : Nat → Nat → Int32} {J : Nat → Nat → Int64} {Q : MPost} {T : TS} {t : Int32} {f : Nat → Nat} (hM : MI F L I J T) (ht : (t = 1 ∧ f = fun p => tr9 T (hWo T p) (tsK T 0).1) ∨ (t = 0 ∧ f = fun p => co9 T (hWo T p)))
    (k : ∀ F' L' I' J', MI F' L' I' J' T → F' 0 = F 0 → Q (some (.int (amS f (tsP T)).1)) F' L' I' J') : CallM G mX9_leastWithout 10 ad o [.ref o, .int t] F L I J Q := by
  have hP6 := hM.ok.2.1
  have hf : ∀ p, f p < 2 ^ 60 := fun p => by
    rcases ht with ⟨_, e⟩ | ⟨_, e⟩
    · rw [e]
      exact Nat.lt_of_le_of_lt (tr9_le (go_Wo hM.ok p) (Nat.le_refl _)) (by decide)
    · rw [e]
      exact co9_lt hM.ok (go_Wo hM.ok p)
  refine eX9_leastWithout (fun σ0 => bX9_leastWithout_0 (m_plain hM (fun F2 M2 z2 O2 n2 => ⟨rfl, ?_⟩)))
  have Lp : ∀ d i, i + d = tsP T → ∀ F' L' I' J' w, MI F' L' I' J' T → F' 0 = F 0 → OpM F' I' (hX (tsO T 4) (tsO T 6) 0 w (tsH T)) → AtM G mX9_leastWithout 10 ad o σ0 Q 11 [(0, .ref o), (1, .int t), (2, .int (amS f i).1), (3, .long (lN (amS f i).2)), (5, .int (nI i))] [] F' L' I' J' := by
    intro d
    induction d with
    | zero =>
      intro i hi F' L' I' J' w M' z' O'
      have hi : i = tsP T := by omega
      subst hi
      exact bX9_leastWithout_11 ⟨fun _ => k F' L' I' J' M' z', fun q => absurd (by rw [M'.2.1.1]; exact nI_le (Nat.le_refl _) (by omega)) q⟩
    | succ d ih =>
      intro i hi F' L' I' J' w M' z' O'
      have O3 : OpM (fU F' 46 (nI i)) I' (hWo T i) := O'.wo (nI i)
      have M3 : MI (fU F' 46 (nI i)) L' I' J' T := M'.o (by decide)
      have e0 : fU F' 46 (nI i) 0 = F 0 := by rw [fU_ne (by decide), z']
      have tl : ∀ F4 L4 I4 J4, MI F4 L4 I4 J4 T → F4 0 = fU F' 46 (nI i) 0 → Fr9 (fU F' 46 (nI i)) F4 → Ir9 I' I4 → AtM G mX9_leastWithout 10 ad o σ0 Q 41 [(0, .ref o), (1, .int t), (2, .int (amS f i).1), (3, .long (lN (amS f i).2)), (5, .int (nI i))] [.long (lN (f i))] F4 L4 I4 J4 := by
        intro F4 L4 I4 J4 M4 z4 f4 i4
        have ih1 := ih (i + 1) (by omega) F4 L4 I4 J4 (nI i) M4 (z4.trans e0) (O3.keep f4 i4)
        have hb2 := amS_b hf (by decide) i
        have hfi := hf i
        have cmp : lN (f i) < lN (amS f i).2 ↔ f i < (amS f i).2 := pk_lLT (by omega) (by omega)
        rw [amS] at ih1
        refine bX9_leastWithout_41 ⟨fun y v4 h4 => ?_, fun y => ⟨fun z v4 h4 => ?_, fun z v4 h4 => ?_⟩⟩
        · rw [if_pos (Or.inl y)] at ih1
          rw [h4, nI_1]
          exact ih1
        · rw [if_pos (Or.inr (cmp.mp z))] at ih1
          rw [h4, nI_1]
          exact ih1
        · rw [if_neg (fun u => u.elim y (fun w => z (cmp.mpr w)))] at ih1
          rw [h4, nI_1]
          exact ih1
      refine bX9_leastWithout_11 ⟨fun q => absurd (by rw [M'.2.1.1] at q; exact q) (nI_ge (by omega) (by omega)), fun _ F3 e3 => ?_⟩
      subst e3
      rcases ht with ⟨e, e1⟩ | ⟨e, e1⟩
      · subst e
        subst e1
        exact ⟨fun y => absurd y (by decide), fun _ => m_trueNow M3 O3 (go_Wo hM.ok i) (fun F4 L4 I4 J4 M4 z4 f4 i4 => ⟨_, rfl, tl F4 L4 I4 J4 M4 z4 f4 i4⟩)⟩
      · subst e
        subst e1
        exact ⟨fun _ => m_costNow M3 O3 (go_Wo hM.ok i) (fun F4 L4 I4 J4 M4 z4 f4 i4 => ⟨_, rfl, tl F4 L4 I4 J4 M4 z4 f4 i4⟩), fun y => absurd rfl y⟩
  exact Lp (tsP T) 0 (by omega) F2 L I J (-1) M2 z2 O2
theorem m_keeper {G : GC} {ad : Nat → Nat} {o : Nat} {F : Nat → Int32} {L : Nat → Int64} {I : Nat → Nat → Int32} {J : Nat → Nat → Int64} {Q : MPost} {T : TS} (hM : MI F L I J T) (kq : ∀ F' L' I' J', MI F' L' I' J' T → F' 0 = 0 → Q (some (.int (amS (fun p => tr9 T (hWo T p) (tsK T 0).1) (tsP T)).1)) F' L' I' J') : CallM G mX9_keeper 11 ad o [.ref o] F L I J Q := by
  refine eX9_keeper (fun σ0 => bX9_keeper_0 (fun F1 e1 => ?_))
  subst e1
  exact w_lw hM.th (Or.inl ⟨rfl, rfl⟩) (fun F' L' I' J' M' z' => ⟨_, rfl, kq F' L' I' J' M' (by rw [z', fU_at])⟩)
theorem m_spoiler {G : GC} {ad : Nat → Nat} {o : Nat} {F : Nat → Int32} {L : Nat → Int64} {I : Nat → Nat → Int32} {J : Nat → Nat → Int64} {Q : MPost} {T : TS} (hM : MI F L I J T) (kq : ∀ F' L' I' J', MI F' L' I' J' T → F' 0 = 0 → Q (some (.int (amS (fun p => co9 T (hWo T p)) (tsP T)).1)) F' L' I' J') : CallM G mX9_spoiler 11 ad o [.ref o] F L I J Q := by
  refine eX9_spoiler (fun σ0 => bX9_spoiler_0 (fun F1 e1 => ?_))
  subst e1
  exact w_lw hM.th (Or.inr ⟨rfl, rfl⟩) (fun F' L' I' J' M' z' => ⟨_, rfl, kq F' L' I' J' M' (by rw [z', fU_at])⟩)
theorem m_fill {G : GC} {ad : Nat → Nat} {o : Nat} {F : Nat → Int32} {L : Nat → Int64} {I : Nat → Nat → Int32} {J : Nat → Nat → Int64} {Q : MPost} {T : TS} (hM : MI F L I J T) (kq : ∀ F' L' I' J', MI F' L' I' J' T → F' 0 = 0 → Q (some (.int (amT (fun q => co9 T (hFi T q)) (tsO T 0)).1)) F' L' I' J') : CallM G mX9_fill 10 ad o [.ref o] F L I J Q := by
  have h12 := hM.ok.1.1
  have hf : ∀ q, q ≤ 12 → co9 T (hFi T q) < 2 ^ 60 := fun q hq => co9_lt hM.ok (go_Fi hM.ok hq)
  refine eX9_fill (fun σ0 => bX9_fill_0 (fun F1 e1 => ?_))
  subst e1
  refine m_plain hM.th (fun F2 M2 z2 O2 n2 => ⟨rfl, ?_⟩)
  have Lp : ∀ d i, i + d = tsO T 0 → ∀ F' L' I' J' w, w ≤ 12 → MI F' L' I' J' T → F' 0 = 0 → OpM F' I' (hFi T w) → AtM G mX9_fill 10 ad o σ0 Q 16 [(0, .ref o), (1, .int (amT (fun q => co9 T (hFi T q)) i).1), (2, .long (lN (amT (fun q => co9 T (hFi T q)) i).2)), (4, .int (nI (i + 1)))] [] F' L' I' J' := by
    intro d
    induction d with
    | zero =>
      intro i hi F' L' I' J' w hw M' z' O'
      have kk := kq F' L' I' J' M' z'
      rw [← hi] at kk
      refine bX9_fill_16 ⟨fun _ => kk, fun q => absurd ?_ q⟩
      rw [M'.1.1 0 (by decide)]
      exact nI_lt (by omega) (by omega)
    | succ d ih =>
      intro i hi F' L' I' J' w hw M' z' O'
      have O3 : OpM (fU F' 45 (nI (i + 1))) I' (hFi T (i + 1)) := O'.fi (i + 1)
      refine bX9_fill_16 ⟨fun q => absurd (by rw [M'.1.1 0 (by decide)] at q; exact q) (nI_nlt (by omega) (by omega)), fun _ F3 e3 => ?_⟩
      subst e3
      refine m_costNow (M'.o (by decide)) O3 (go_Fi hM.ok (by omega)) (fun F4 L4 I4 J4 M4 z4 f4 i4 => ⟨_, rfl, ?_⟩)
      have ih1 := ih (i + 1) (by omega) F4 L4 I4 J4 (i + 1) (by omega) M4 (by rw [z4, fU_ne (by decide), z']) (O3.keep f4 i4)
      have hb2 := amT_b (n := 12) hf (by decide) i (by omega)
      have hfi := hf (i + 1) (by omega)
      have cmp : lN (co9 T (hFi T (i + 1))) < lN (amT (fun q => co9 T (hFi T q)) i).2 ↔ co9 T (hFi T (i + 1)) < (amT (fun q => co9 T (hFi T q)) i).2 := pk_lLT (by omega) (by omega)
      rw [show amT (fun q => co9 T (hFi T q)) (i + 1) = if (amT (fun q => co9 T (hFi T q)) i).1 = -1 ∨ co9 T (hFi T (i + 1)) < (amT (fun q => co9 T (hFi T q)) i).2 then (nI (i + 1), co9 T (hFi T (i + 1))) else amT (fun q => co9 T (hFi T q)) i from rfl] at ih1
      refine ⟨fun y v4 h4 => ?_, fun y => ⟨fun z v4 h4 => ?_, fun z v4 h4 => ?_⟩⟩
      · rw [if_pos (Or.inl y)] at ih1
        rw [h4, nI_1]
        exact ih1
      · rw [if_pos (Or.inr (cmp.mp z))] at ih1
        rw [h4, nI_1]
        exact ih1
      · rw [if_neg (fun u => u.elim y (fun w => z (cmp.mpr w)))] at ih1
        rw [h4, nI_1]
        exact ih1
  exact Lp (tsO T 0) 0 (by omega) F2 L I J 0 (by decide) M2 (by rw [z2, fU_at]) O2
theorem m_swap {G : GC} {ad : Nat → Nat} {o : Nat} {F : Nat → Int32} {L : Nat → Int64} {I : Nat → Nat → Int32} {J : Nat → Nat → Int64} {Q : MPost} {T : TS} (hM : MI F L I J T) (kq : ∀ F' L' I' J', MI F' L' I' J' T → F' 0 = 0 → Q (some (.int (swO (fun p q => co9 T (hSw T p q)) (tsP T) (-1, co9 T (tsH0 T)) (tsP T)).1)) F' L' I' J') : CallM G mX9_swap 10 ad o [.ref o] F L I J Q := by
  have hP6 := hM.ok.2.1
  have hf : ∀ p q, p < tsP T → q < tsP T → co9 T (hSw T p q) < 2 ^ 60 := fun p q hp hq => co9_lt hM.ok (go_Sw hM.ok (by omega) (by omega))
  have h0 : co9 T (tsH0 T) < 2 ^ 60 := co9_lt hM.ok (go0 hM.ok)
  refine eX9_swap (fun σ0 => bX9_swap_0 (fun F1 e1 => ?_))
  subst e1
  refine m_plain hM.th (fun F2 M2 z2 O2 n2 => ⟨rfl, m_costNow M2 O2 (go0 hM.ok) (fun F3 L3 I3 J3 M3 z3 f3 i3 => ⟨_, rfl, ?_⟩)⟩)
  have n3 : F3 49 = 0 := by rw [f3 49 (by decide) (by decide) (by decide), n2]
  have e3 : F3 0 = 0 := by rw [z3, z2, fU_at]
  have O3 := O2.keep f3 i3
  have Lp : ∀ d p, p + d = tsP T → ∀ F' L' I' J' H, MI F' L' I' J' T → F' 0 = 0 → F' 49 = 0 → OpM F' I' (hX (tsO T 4) (tsO T 6) 0 (-1) H) → AtM G mX9_swap 10 ad o σ0 Q 19 [(0, .ref o), (1, .int (swO (fun p q => co9 T (hSw T p q)) (tsP T) (-1, co9 T (tsH0 T)) p).1), (2, .long (lN (swO (fun p q => co9 T (hSw T p q)) (tsP T) (-1, co9 T (tsH0 T)) p).2)), (4, .int (nI p))] [] F' L' I' J' := by
    intro d
    induction d with
    | zero =>
      intro p hp F' L' I' J' H M' z' n' O'
      have hp : p = tsP T := by omega
      subst hp
      exact bX9_swap_19 ⟨fun _ => kq F' L' I' J' M' z', fun q => absurd (by rw [M'.2.1.1]; exact nI_le (Nat.le_refl _) (by omega)) q⟩
    | succ d ih =>
      intro p hp F' L' I' J' H M' z' n' O'
      refine bX9_swap_19 ⟨fun q => absurd (by rw [M'.2.1.1] at q; exact q) (nI_ge (by omega) (by omega)), fun _ v5 h5 => ?_⟩
      rw [h5, nI_1]
      have sb := swO_b (s := (-1, co9 T (tsH0 T))) hf h0 p (by omega)
      have ih1 := ih (p + 1) (by omega)
      rw [swO] at ih1
      revert sb ih1
      generalize swO (fun p q => co9 T (hSw T p q)) (tsP T) (-1, co9 T (tsH0 T)) p = s
      intro sb ih1
      have In : ∀ e i, i + e = tsP T - 1 - p → ∀ F2 L2 I2 J2 H2, MI F2 L2 I2 J2 T → F2 0 = 0 → F2 49 = 0 → OpM F2 I2 (hX (tsO T 4) (tsO T 6) 0 (-1) H2) → AtM G mX9_swap 10 ad o σ0 Q 34 [(0, .ref o), (1, .int (swI (fun p q => co9 T (hSw T p q)) p i s).1), (2, .long (lN (swI (fun p q => co9 T (hSw T p q)) p i s).2)), (4, .int (nI p)), (5, .int (nI (p + 1 + i)))] [] F2 L2 I2 J2 := by
        intro e
        induction e with
        | zero =>
          intro i hi F2 L2 I2 J2 H2 M2 z2 n2 O2
          have hi : i = tsP T - 1 - p := by omega
          subst hi
          refine bX9_swap_34 ⟨fun _ v4 h4 => ?_, fun q => absurd (by rw [M2.2.1.1]; exact nI_le (by omega) (by omega)) q⟩
          rw [h4, nI_1]
          exact ih1 F2 L2 I2 J2 H2 M2 z2 n2 O2
        | succ e ihe =>
          intro i hi F2 L2 I2 J2 H2 M2 z2 n2 O2
          have hq : p + 1 + i < tsP T := by omega
          refine bX9_swap_34 ⟨fun q => absurd (by rw [M2.2.1.1] at q; exact q) (nI_ge hq (by omega)), fun _ F5 e5 F6 e6 => ?_⟩
          subst e5
          subst e6
          have O6 : OpM (fU (fU F2 47 (nI p)) 48 (nI (p + 1 + i))) I2 (hSw T p (p + 1 + i)) := O2.sw n2 M2.2.2.1 (by omega) (by omega)
          refine m_costNow ((M2.o (by decide)).o (by decide)) O6 (go_Sw hM.ok (by omega) (by omega)) (fun F4 L4 I4 J4 M4 z4 f4 i4 => ⟨_, rfl, ?_⟩)
          have ih2 := ihe (i + 1) (by omega) F4 L4 I4 J4 (swH (tsH T) p (p + 1 + i)) M4 (by rw [z4, fU_ne (by decide), fU_ne (by decide), z2]) (by rw [f4 49 (by decide) (by decide) (by decide), fU_ne (by decide), fU_ne (by decide), n2]) (O6.keep f4 i4)
          have sb2 := swI_b (f := fun p q => co9 T (hSw T p q)) (p := p) (n := tsP T) (fun q hq => hf p q (by omega) hq) sb i (by omega)
          have hfi := hf p (p + 1 + i) (by omega) hq
          have cmp : lN (co9 T (hSw T p (p + 1 + i))) < lN (swI (fun p q => co9 T (hSw T p q)) p i s).2 ↔ co9 T (hSw T p (p + 1 + i)) < (swI (fun p q => co9 T (hSw T p q)) p i s).2 := pk_lLT (by omega) (by omega)
          rw [swI] at ih2
          refine ⟨fun z v1 h1 v5 h5 => ?_, fun z v5 h5 => ?_⟩
          · rw [if_pos (cmp.mp z)] at ih2
            rw [h1, h5, nI_1, show (10 : Int32) = nI 10 from rfl, pk_mul, nI_add]
            exact ih2
          · rw [if_neg (fun u => z (cmp.mpr u))] at ih2
            rw [h5, nI_1]
            exact ih2
      exact In (tsP T - 1 - p) 0 (by omega) F' L' I' J' H M' z' n' O'
  exact Lp (tsP T) 0 (by omega) F3 L3 I3 J3 (tsH T) M3 e3 n3 O3
