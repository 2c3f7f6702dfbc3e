/-! Part B: the reference's day through its visits -/
theorem runDay_e0 (O : Nat → Nat) (fw fm : Nat → Int32) (H : Nat → List StT) (seed : Int32) : ∀ v, (runDay O fw fm H seed v).2.2.2.2.2.2.2.2 = 0
  | 0 => rfl
  | v + 1 => by
    show (endDay _).2.2.2.2.2.2.2.2 = 0
    generalize ((H (fw v).toNatClampNeg).foldl (stepDay (O 0) (O 5) (O 6) v fw fm) (fallDay (O 4) (runDay O fw fm H seed v))) = y
    obtain ⟨l, dr, wa, lo, s, c, d, k, e⟩ := y
    rfl
theorem cn_cong {f g : Nat → Int32} {x : Int32} : ∀ {k : Nat}, (∀ i, i < k → f i = g i) → cn f x k = cn g x k
  | 0, _ => rfl
  | k + 1, h => by
    rw [cn, cn, cn_cong (fun i hi => h i (by omega)), h k (by omega)]
theorem la_cong {fw fm gw gm : Nat → Int32} {v n : Nat} (hv : v < n) (h : ∀ i, i < n → fw i = gw i ∧ fm i = gm i) : ∀ {k : Nat}, k ≤ v → la fw fm v k = la gw gm v k
  | 0, _ => rfl
  | k + 1, hk => by
    rw [la, la, la_cong hv h (by omega), (h k (by omega)).1, (h v hv).1, (h v hv).2, (h k (by omega)).2]
theorem DayM.toE {F : Nat → Int32} {y : DY} (h : DayM F y) : DayE F (endDay y) := by
  obtain ⟨l, dr, wa, lo, s, c, d, k, e⟩ := y
  obtain ⟨h57, h58, h59, h60, h54, h51, h52, h53, h55⟩ := h
  exact ⟨h57, h58, h59, h60, h54, h51, h52, h53⟩
theorem DayE.toM {F : Nat → Int32} {l dr wa lo : Int32} {s c d k : Nat} (h : DayE F (l, dr, wa, lo, s, c, d, k, 0)) : DayM (fU F 55 0) (l, dr, wa, lo, s, c, d, k, 0) := by
  obtain ⟨h57, h58, h59, h60, h54, h51, h52, h53⟩ := h
  refine ⟨?_, ?_, ?_, ?_, ?_, ?_, ?_, ?_, ?_⟩ <;> simp [fU, *]
  rfl
theorem DayM.lo {F : Nat → Int32} {l l' dr wa lo : Int32} {s c d k e : Nat} (h : DayM F (l, dr, wa, lo, s, c, d, k, e)) : DayM (fU F 57 l') (l', dr, wa, lo, s, c, d, k, e) := by
  obtain ⟨h57, h58, h59, h60, h54, h51, h52, h53, h55⟩ := h
  refine ⟨?_, ?_, ?_, ?_, ?_, ?_, ?_, ?_, ?_⟩ <;> simp [fU, *]
theorem dv16 (l : Int32) : dv l % 16 < 2 ^ 31 := Nat.lt_trans (Nat.mod_lt _ (by decide)) (by decide)
theorem w_dayGoes {G : GC} {ad : Nat → Nat} {o : Nat} {F : Nat → Int32} {L : Nat → Int64} {I : Nat → Nat → Int32} {J : Nat → Nat → Int64} {Q : MPost} {n T : Nat} {O : Nat → Nat} {fw fm : (Nat → Int32)} {H : Nat → List StT} {seed to : Int32} (hO : ∀ i, i < 12 → I 11 i = nI (O i)) (hag : ∀ i, i < n → I 14 i = fw i ∧ I 15 i = fm i) (hn : n ≤ 24) (hw : ∀ i, i < n → ∃ p, p < 6 ∧ fw i = nI p) (hH : ∀ p, p < 6 → HabM I p (H p)) (hN : O 0 ≤ 12) (hcd : O 1 + O 2 ≤ 12) (hk : O 3 < 2) (hfa : O 4 ≤ 16) (hse : O 6 ≤ 16) (hT : T ≤ n) (hto : ∀ i, i ≤ 24 → (to < nI i ↔ T ≤ i))
    (kk : ∀ F' I', DayE F' (runDay O fw fm H seed T) → FD F F' → ID I I' → Q none F' L I' J) : CallM G mX9_dayGoes 5 ad o [.ref o, .int seed, .int to] F L I J Q := by
  refine eX9_dayGoes (fun σ0 => bX9_dayGoes_0 ?_)
  have S : ∀ (i : Nat) (hi : i < T) (pw : Nat) (hp : pw < 6) (hpw : fw i = nI pw) (y0 : DY) (_ : dyB (i + 1) y0)
      (nxt : ∀ F' I', DayM F' ((H pw).foldl (stepDay (O 0) (O 5) (O 6) i fw fm) y0) → FD F F' → ID I I' → AtM G mX9_dayGoes 5 ad o σ0 Q 57 [(0, .ref o), (2, .int to), (3, .int (nI (i + 1)))] [] F' L I' J),
      ∀ (D j : Nat), j + D = (H pw).length → ∀ F' I', DayM F' (((H pw).take j).foldl (stepDay (O 0) (O 5) (O 6) i fw fm) y0) → FD F F' → ID I I' → I' 56 4 = fm i → I' 56 6 = la fw fm i i → I' 56 7 = nI (cn fw (fw i) (i + 1)) → AtM G mX9_dayGoes 5 ad o σ0 Q 131 [(0, .ref o), (2, .int to), (3, .int (nI i)), (4, .int (nI j))] [] F' L I' J := by
    intro i hi pw hp hpw y0 hy0 nxt D
    induction D with
    | zero =>
      intro j hj F' I' hD hF hI f4 f6 f7
      have hj : j = (H pw).length := by omega
      subst hj
      rw [List.take_length] at hD
      have p1 := vp_in_nI (show i < 24 by omega) (by decide)
      have e14 : I' 14 i = nI pw := by rw [hI 14 (by decide) (by decide), (hag i (by omega)).1, hpw]
      have e27 : I' 27 pw = nI (H pw).length := by rw [hI 27 (by decide) (by decide)]; exact (hH pw hp).1
      have hl := (hH pw hp).2.1
      refine bX9_dayGoes_131 ⟨p1, ?_⟩
      rw [nI_clamp (show i < 2 ^ 31 by omega), e14, nI_clamp (show pw < 2 ^ 31 by omega), e27]
      refine ⟨vp_in_nI (by omega) (by decide), fun _ v3 h3 => ?_, fun q => absurd (nI_le (Nat.le_refl _) (by omega)) q⟩
      rw [h3, nI_1]
      exact nxt F' I' hD hF hI
    | succ D ih =>
      intro j hj F' I' hD hF hI f4 f6 f7
      have hjl : j < (H pw).length := by omega
      have t1 : ((H pw).take (j + 1)).foldl (stepDay (O 0) (O 5) (O 6) i fw fm) y0 = stepDay (O 0) (O 5) (O 6) i fw fm (((H pw).take j).foldl (stepDay (O 0) (O 5) (O 6) i fw fm) y0) (H pw)[j] := by
        rw [List.take_succ_eq_append_getElem hjl, List.foldl_append]
        rfl
      have ih1 := ih (j + 1) (by omega)
      rw [t1] at ih1
      have hB : dyB (i + 1) (((H pw).take j).foldl (stepDay (O 0) (O 5) (O 6) i fw fm) y0) := stepsDay_ok hN _ hy0
      revert hD ih1 hB
      generalize ((H pw).take j).foldl (stepDay (O 0) (O 5) (O 6) i fw fm) y0 = y
      obtain ⟨l, dr, wa, lo, s, c, d, k, e⟩ := y
      intro hD ih1 hB
      have hD0 := hD
      obtain ⟨h57, h58, h59, h60, h54, h51, h52, h53, h55⟩ := hD
      have B1 : s ≤ i + 1 := hB.1
      have p1 := vp_in_nI (show i < 24 by omega) (by decide)
      have g14 : ∀ I2, ID I I2 → I2 14 i = nI pw := fun I2 h2 => by rw [h2 14 (by decide) (by decide), (hag i (by omega)).1, hpw]
      have gH : ∀ I2, ID I I2 → HabM I2 pw (H pw) := fun I2 h2 => (hH pw hp).cong (h2 27 (by decide) (by decide)) (h2 26 (by decide) (by decide)) (h2 24 (by decide) (by decide)) (h2 25 (by decide) (by decide))
      have gO : ∀ I2, ID I I2 → ∀ x, x < 12 → I2 11 x = nI (O x) := fun I2 h2 x hx => by rw [h2 11 (by decide) (by decide)]; exact hO x hx
      have hl := (hH pw hp).2.1
      have gg := List.getElem?_eq_getElem hjl
      refine bX9_dayGoes_131 ⟨p1, ?_⟩
      rw [nI_clamp (show i < 2 ^ 31 by omega), g14 I' hI, nI_clamp (show pw < 2 ^ 31 by omega), (gH I' hI).1]
      refine ⟨vp_in_nI (by omega) (by decide), fun q => absurd q (nI_ge hjl (by omega)), fun _ => ?_⟩
      refine w_findFacts (fw := fw) (fm := fm) (by omega) h51 h52 h53 h54 h55 B1 (gO I' hI 0 (by decide)) (gO I' hI 5 (by decide)) f4 f6 f7 (fun x hx => by rw [hI 15 (by decide) (by decide)]; exact (hag x (by omega)).2) (fun A hA => ⟨rfl, p1, ?_⟩)
      have hI2 : ID I (aS I' 56 A) := hI.tr (ID.s (Or.inl rfl))
      rw [g14 _ hI2]
      refine w_isSo (fac (O 0) (O 5) fw fm i s c d k e) (fun x hx => by rw [aS_eq]; exact hA x hx) (gH _ hI2) (by omega) gg (fun B => ?_)
      have hI3 : ID I (aS (aS I' 56 A) 23 B) := hI2.tr (ID.s (Or.inr rfl))
      have k4 : (aS (aS I' 56 A) 23 B) 56 4 = fm i := by rw [aS_ne (by decide), aS_eq, hA 4 (by decide)]; rfl
      have k6 : (aS (aS I' 56 A) 23 B) 56 6 = la fw fm i i := by rw [aS_ne (by decide), aS_eq, hA 6 (by decide)]; rfl
      have k7 : (aS (aS I' 56 A) 23 B) 56 7 = nI (cn fw (fw i) (i + 1)) := by rw [aS_ne (by decide), aS_eq, hA 7 (by decide)]; rfl
      revert hI3 k4 k6 k7
      generalize aS (aS I' 56 A) 23 B = I3
      intro hI3 k4 k6 k7
      obtain ⟨-, -, fr, hfr⟩ := gH I3 hI3
      obtain ⟨⟨a1, a2⟩, a3, a4, -⟩ := hfr j _ gg
      have nxt1 : ∀ (F2 : Nat → Int32) (y2 : DY), DayM F2 y2 → dyB (i + 1) y2 → FD F F2 → onDay (O 0) (O 6) i ((H pw)[j]).1 y2 = stepDay (O 0) (O 5) (O 6) i fw fm (l, dr, wa, lo, s, c, d, k, e) (H pw)[j] → AtM G mX9_dayGoes 5 ad o σ0 Q 209 [(0, .ref o), (2, .int to), (3, .int (nI i)), (4, .int (nI j))] [] F2 L I3 J := by
        intro F2 y2 hD2 hy2 hF2 he
        refine bX9_dayGoes_209 ⟨p1, fun w hw => ?_⟩
        rw [nI_clamp (show i < 2 ^ 31 by omega), g14 _ hI3, show (32 : Int32) = nI 32 from rfl, pk_mul] at hw
        have ew : w + 4 * nI j = nI (32 * pw + 4 * j) := by rw [hw, show (4 : Int32) = nI 4 from rfl, pk_mul, nI_add]
        rw [ew, nI_clamp (show 32 * pw + 4 * j < 2 ^ 31 by omega), a3]
        refine ⟨vp_in_nI (by omega) (by decide), w_dayDoes a1 hD2 (gO _ hI3 0 (by decide)) hN (gO _ hI3 6 (by decide)) hse hy2 (fun F3 hD3 hF3 => ⟨rfl, fun v4 h4 => ?_⟩)⟩
        rw [h4, nI_1]
        rw [he] at hD3
        exact ih1 F3 I3 hD3 (hF2.tr hF3) hI3 k4 k6 k7
      refine ⟨_, rfl, fun q => ?_, fun q v4 h4 => ?_⟩
      · have e1 : so (fac (O 0) (O 5) fw fm i s c d k e) ((H pw)[j]).2.2 = true := by
          apply Classical.byContradiction
          intro w
          rw [if_neg w] at q
          exact q rfl
        refine ⟨p1, fun w hw => ?_⟩
        rw [g14 _ hI3, show (32 : Int32) = nI 32 from rfl, pk_mul] at hw
        have ew : w + 4 * nI j + 1 = nI (32 * pw + 4 * j + 1) := by rw [hw, show (4 : Int32) = nI 4 from rfl, pk_mul, nI_add, nI_1]
        rw [ew, nI_clamp (show 32 * pw + 4 * j + 1 < 2 ^ 31 by omega), a4]
        refine ⟨vp_in_nI (by omega) (by decide), fun v5 h5 => ?_⟩
        subst h5
        have z0 : nI ((H pw)[j]).2.1 = 0 ↔ ((H pw)[j]).2.1 = 0 := nI_eq (b := 0) (by omega) (by decide)
        refine ⟨fun z => ?_, fun z => ?_⟩
        · exact nxt1 F' _ hD0 hB hF (by simp only [stepDay, if_pos e1, if_pos (z0.mp z)])
        · have by1 : ¬ ((H pw)[j]).2.1 = 0 := fun y => z (z0.mpr y)
          have hD4 : DayM (fU F' 57 (nx (F' 57))) (nx l, dr, wa, lo, s, c, d, k, e) := by rw [h57]; exact hD0.lo
          refine w_draws (m := 16) (by decide) (by decide) ⟨_, rfl, ?_⟩
          rw [h57] at hD4 ⊢
          dsimp only
          refine ⟨fun w v4 h4 => ?_, fun w => ?_⟩
          · have w1 := (nI_leI (by omega) (dv16 _)).mp w
            rw [h4, nI_1]
            refine ih1 _ I3 ?_ (hF.u (by decide)) hI3 k4 k6 k7
            simp only [stepDay, if_pos e1, if_neg by1, if_neg (show ¬ dv (nx l) % 16 < ((H pw)[j]).2.1 by omega)]
            exact hD4
          · have w1 : ¬ ((H pw)[j]).2.1 ≤ dv (nx l) % 16 := fun y => w ((nI_leI (by omega) (dv16 _)).mpr y)
            exact nxt1 _ _ hD4 (.mk hB.1 hB.2.1 hB.2.2.1 hB.2.2.2) (hF.u (by decide)) (by simp only [stepDay, if_pos e1, if_neg by1, if_pos (show dv (nx l) % 16 < ((H pw)[j]).2.1 by omega)])
      · have e1 : ¬ so (fac (O 0) (O 5) fw fm i s c d k e) ((H pw)[j]).2.2 = true := by
          intro w
          rw [if_pos w] at q
          exact absurd q (by decide)
        rw [h4, nI_1]
        refine ih1 F' I3 ?_ hF hI3 k4 k6 k7
        simp only [stepDay, if_neg e1]
        exact hD0
  have M : ∀ (i : Nat) (_ : i < T) (y : DY) (_ : dyB (i + 1) y) (F' : Nat → Int32) (I' : Nat → Nat → Int32) (_ : DayM F' y) (_ : FD F F') (_ : ID I I')
      (_ : ∀ F2 I2, DayE F2 (endDay ((H (fw i).toNatClampNeg).foldl (stepDay (O 0) (O 5) (O 6) i fw fm) y)) → FD F F2 → ID I I2 → AtM G mX9_dayGoes 5 ad o σ0 Q 57 [(0, .ref o), (2, .int to), (3, .int (nI (i + 1)))] [] F2 L I2 J), AtM G mX9_dayGoes 5 ad o σ0 Q 92 [(0, .ref o), (2, .int to), (3, .int (nI i))] [] F' L I' J := by
    intro i hi y hy F' I' hD hF hI nxt
    obtain ⟨pw, hp, hpw⟩ := hw i (by omega)
    rw [hpw, nI_clamp (by omega)] at nxt
    have p1 := vp_in_nI (show i < 24 by omega) (by decide)
    refine bX9_dayGoes_92 ⟨p1, fun I1 g1 => ?_⟩
    rw [nI_clamp (show i < 2 ^ 31 by omega), hI 15 (by decide) (by decide), (hag i (by omega)).2] at g1
    have hI1 : ID I I1 := g1 ▸ hI.u (Or.inl rfl)
    have hagI : ∀ I2, ID I I2 → ∀ x, x < n → I2 14 x = fw x ∧ I2 15 x = fm x := fun I2 h2 x hx => by rw [h2 14 (by decide) (by decide), h2 15 (by decide) (by decide)]; exact hag x hx
    refine w_sinceOf (by omega) ⟨_, rfl, fun I2 g2 => ?_⟩
    rw [la_cong (n := n) (by omega) (hagI I1 hI1) (Nat.le_refl _)] at g2
    have hI2 : ID I I2 := g2 ▸ hI1.u (Or.inl rfl)
    refine w_whichOf (by omega) ⟨_, rfl, fun I3 g3 => ?_⟩
    rw [cn_cong (fun x hx => (hagI I2 hI2 x (by omega)).1), (hagI I2 hI2 i (by omega)).1] at g3
    have hI3 : ID I I3 := g3 ▸ hI2.u (Or.inl rfl)
    refine S i hi pw hp hpw y hy (fun F2 I2 hD2 hF2 hI2 => nxt F2 I2 hD2.toE hF2 hI2) (H pw).length 0 (by omega) F' I3 hD hF hI3 ?_ ?_ ?_
    · rw [g3, aU_at, g2, if_neg (by decide), aU_at, g1, if_neg (by decide), aU_at, if_pos rfl]
    · rw [g3, aU_at, g2, if_neg (by decide), aU_at, if_pos rfl]
    · rw [g3, aU_at, if_pos rfl]
  have Lp : ∀ (D i : Nat), i + D = T → ∀ F' I', DayE F' (runDay O fw fm H seed i) → FD F F' → ID I I' → AtM G mX9_dayGoes 5 ad o σ0 Q 57 [(0, .ref o), (2, .int to), (3, .int (nI i))] [] F' L I' J := by
    intro D
    induction D with
    | zero =>
      intro i hi F' I' hD hF hI
      have hi : i = T := by omega
      subst hi
      exact bX9_dayGoes_57 ⟨fun _ => kk F' I' hD hF hI, fun z => absurd ((hto i (by omega)).mpr (Nat.le_refl _)) z⟩
    | succ D ih =>
      intro i hi F' I' hD hF hI
      have hB := runDay_ok (fw := fw) (fm := fm) (H := H) (seed := seed) hN hcd hk i
      have h0 := runDay_e0 O fw fm H seed i
      have ih1 := ih (i + 1) (by omega)
      simp only [runDay] at ih1
      unfold visitDay at ih1
      have M1 := M i (by omega)
      revert hD hB ih1 h0
      generalize runDay O fw fm H seed i = y
      obtain ⟨l, dr, wa, lo, s, c, d, k, e⟩ := y
      intro hD hB h0 ih1
      have h0 : e = 0 := h0
      subst h0
      obtain ⟨B1, B2, B3, B4⟩ := hB
      have B1 : s ≤ i := B1
      have B3 : k < 2 := B3
      have hm : dv (nx l) % 16 < 2 ^ 31 := Nat.lt_trans (Nat.mod_lt _ (by decide)) (by decide)
      refine bX9_dayGoes_57 ⟨fun z => absurd ((hto i (by omega)).mp z) (by omega), fun _ F1 g1 => ?_⟩
      have hD1 := hD.toM
      rw [← g1] at hD1
      have hF1 : FD F F1 := g1 ▸ hF.u (by decide)
      have h57 : F1 57 = l := hD1.1
      have h53 : F1 53 = nI k := hD1.2.2.2.2.2.2.2.1
      have hD4 : DayM (fU F1 57 (nx l)) (nx l, dr, wa, lo, s, c, d, k, 0) := hD1.lo
      refine w_draws (m := 16) (by decide) (by decide) ⟨_, rfl, ?_⟩
      dsimp only
      rw [h57, hI 11 (by decide) (by decide), hO 4 (by decide)]
      refine ⟨fun z => ?_, fun z F2 g2 => ?_⟩
      · have w2 := (nI_leI (by omega) hm).mp z
        simp only [fallDay, if_neg (show ¬ dv (nx l) % 16 < O 4 by omega)] at ih1
        exact M1 (nx l, dr, wa, lo, s, c, d, k, 0) (.mk (by omega) B2 B3 B4) _ I' hD4 (hF1.u (by decide)) hI ih1
      · have w2 : ¬ O 4 ≤ dv (nx l) % 16 := fun y => z ((nI_leI (by omega) hm).mpr y)
        simp only [fallDay, if_pos (show dv (nx l) % 16 < O 4 by omega)] at ih1
        refine M1 (nx l, dr, wa, lo, s, c, d, 1 - k, 0) (.mk (by omega) B2 (by omega) B4) F2 I' ?_ (g2 ▸ (hF1.u (by decide)).u (by decide)) hI ih1
        have e53 : fU F1 57 (nx l) 53 = nI k := by simp [fU, h53]
        rw [e53, show (1 : Int32) - nI k = nI (1 - k) from pk_sub (a := 1) (by omega)] at g2
        obtain ⟨q57, q58, q59, q60, q54, q51, q52, q53, q55⟩ := hD4
        refine ⟨?_, ?_, ?_, ?_, ?_, ?_, ?_, ?_, ?_⟩ <;> rw [g2] <;> simp [fU] at * <;> assumption
  intro F1 g1 F2 g2 F3 g3 F4 g4 F5 g5 F6 g6 F7 g7 F8 g8
  refine Lp T 0 (by omega) F8 I ?_ ?_ ID.rf
  · rw [hO 1 (by decide)] at g5
    rw [hO 2 (by decide)] at g6
    rw [hO 3 (by decide)] at g7
    rw [g8, g7, g6, g5, g4, g3, g2, g1]
    refine ⟨?_, ?_, ?_, ?_, ?_, ?_, ?_, ?_⟩ <;> simp [fU]
    rfl
  · rw [g8, g7, g6, g5, g4, g3, g2, g1]
    exact (((((((FD.rf.u (by decide)).u (by decide)).u (by decide)).u (by decide)).u (by decide)).u (by decide)).u (by decide)).u (by decide)
