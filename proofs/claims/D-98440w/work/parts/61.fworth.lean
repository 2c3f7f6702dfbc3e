/-! Part B: what one of the four costs, by Flow -/
theorem k_fseeing {G : GC} {σ : PS} {a st dr nw nx o cl v see x t : Nat} {who : Int32} {P N D : Nat → Nat} {wa lo : Nat} {R : Option Value → Prop} (h : FlP σ a st dr nw nx o cl v see who P N D wa lo) (hx : σ 4 st = some (.inl (stX x))) (hs : see ≤ 16) (ht : t ≤ 2 ^ 40) (k : R (some (.long (lN (sees see x t))))) : CallO G mX3_seeing 3 [.ref a, .long (lN t), .ref st] σ R := by
  unfold stX stL at hx
  have d1 := cD_lt x
  have zd : nI (cD x) = 0 ↔ cD x = 0 := nI_eq (b := 0) (by omega) (by decide)
  refine eX3_seeing (bX3_seeing_0 ⟨nI (cD x), ⟨_, hx, rfl⟩, fun z => ⟨nI see, ⟨_, h.1, rfl⟩, fun w hw => ⟨rfl, ?_⟩⟩, fun z => ⟨rfl, ?_⟩⟩)
  · have ts : t * see < 2 ^ 63 := by
      have : t * see ≤ 2 ^ 40 * 16 := Nat.mul_le_mul ht hs
      omega
    rw [nI_l (by omega), lN_mul, show (16 : Int64) = lN 16 from rfl, pk_lDiv ts (by decide) (by decide)] at hw
    unfold sees at k
    rw [if_neg (fun y => z (zd.mpr y))] at k
    rw [hw]
    exact k
  · unfold sees at k
    rw [if_pos (zd.mp z)] at k
    exact k
theorem pOf_le {see which : Nat} {P : Nat → Nat} (hs : see ≤ 16) (x : Nat) : pOf see which P x ≤ P x := by
  have := sees_le (x := x) (t := P x) hs
  unfold pOf
  split
  · omega
  · split <;> omega
theorem k_fpartsOf {G : GC} {σ : PS} {Q : Option Value → PS → Prop} {X : String → Nat → PS → Prop} {b a st dr nw nx o cl v see x which : Nat} {who : Int32} {P N D : Nat → Nat} {wa lo : Nat} (h : FlP σ a st dr nw nx o cl v see who P N D wa lo) (hx : x < 16900) (hs : see ≤ 16) (hw : which ≤ 2) (hP : P x ≤ 2 ^ 40)
    (k : ∀ τ, FlP τ a st dr nw nx o cl v see who P N D wa lo → τ 4 st = some (.inl (stX x)) → Fr (FlW a st dr nw nx) σ τ → Q (some (.long (lN (pOf see which P x)))) τ) : Call G mX3_partsOf 4 b [.ref a, .int (nI x), .int (nI which)] σ Q X := by
  obtain ⟨fn, h6, h7⟩ := h.2.2.2.1
  obtain ⟨l4, h2, h3⟩ := h.2.1
  have p1 := vp_in_nI hx (by decide)
  have hT := h.st (l := stX x) rfl
  have kk := k _ hT up_eq st4_fr
  have w2 : nI which = 2 ↔ which = 2 := nI_eq (b := 2) (by omega) (by decide)
  have w1 : nI which = 1 ↔ which = 1 := nI_eq (b := 1) (by omega) (by decide)
  refine eX3_partsOf (bX3_partsOf_0 ⟨nw, ⟨_, h.1, rfl⟩, 16900, fn, h6, p1, st, ⟨_, h.1, rfl⟩, ⟨_, h2⟩, k_stOf (by omega) h2 h3 ⟨_, rfl, ⟨_, hT.1⟩, ?_⟩⟩)
  rw [nI_clamp (by omega), h7 x hx]
  obtain ⟨fn2, g6, g7⟩ := hT.2.2.2.1
  refine k_fseeing hT up_eq hs hP ⟨_, rfl, fun z => ⟨fun y => ⟨nw, ⟨_, hT.1, rfl⟩, 16900, fn2, g6, p1, fun w hw => ?_⟩, fun y => ?_⟩, fun z => ⟨nw, ⟨_, hT.1, rfl⟩, 16900, fn2, g6, p1, ?_⟩⟩
  · unfold pOf at kk
    rw [if_neg (fun u => z (w2.mpr u)), if_neg (fun u => y (w1.mpr u))] at kk
    rw [g7 x hx, lN_sub (sees_le hs)] at hw
    rw [hw]
    exact kk
  · unfold pOf at kk
    rw [if_neg (fun u => z (w2.mpr u)), if_pos (w1.mp y)] at kk
    exact kk
  · unfold pOf at kk
    rw [if_pos (w2.mp z)] at kk
    rw [g7 x hx]
    exact kk
theorem OffO.pr {σ : PS} {o p P' : Nat} {O : Nat → Nat} (hO : OffO σ o p O P') (hp : ∀ i, i < 12 → O i < 2 ^ 20) : ∃ fp, σ 100 p = some (.inr (5, .inl fp)) ∧ ∀ i, i < 5 → (fp i).toInt64 = lN (O (7 + i)) := by
  obtain ⟨o1, fp, o2, o3⟩ := hO
  exact ⟨fp, o2, fun i hi => by rw [o3 i hi, nI_l (by have := hp (7 + i) (by omega); omega)]⟩
theorem tkC_0 (O : Nat → Nat) (x : Nat) : tkC O x 0 = 0 := by
  unfold tkC
  split
  · exact Nat.zero_mul _
  · rw [Nat.zero_mul, Nat.zero_div, Nat.zero_mul]
theorem pOf_0 {see which x : Nat} {P : Nat → Nat} (hs : see ≤ 16) (h : P x = 0) : pOf see which P x = 0 := by
  have := pOf_le (which := which) (P := P) hs x
  omega
theorem k_ftaking {G : GC} {σ : PS} {Q : Option Value → PS → Prop} {X : String → Nat → PS → Prop} {b a st dr nw nx o cl v see p P' which : Nat} {who : Int32} {O : Nat → Nat} {P N D : Nat → Nat} {wa lo : Nat} (h : FlP σ a st dr nw nx o cl v see who P N D wa lo) (hs : see ≤ 16) (hw : which ≤ 2) (hP : ∀ x, P x ≤ 2 ^ 40) (hO : OffO σ o p O P') (hp : ∀ i, i < 12 → O i < 2 ^ 20)
    (k : ∀ τ, FlP τ a st dr nw nx o cl v see who P N D wa lo → Fr (FlW a st dr nw nx) σ τ → Q (some (.long (lN (qTake O see which P)))) τ) : Call G mX3_taking 5 b [.ref a, .int (nI which)] σ Q X := by
  have L : ∀ d i, i + d = 16900 → ∀ τ, FlP τ a st dr nw nx o cl v see who P N D wa lo → Fr (FlW a st dr nw nx) σ τ → At G mX3_taking 5 Q X b 5 [(0, .ref a), (1, .int (nI which)), (2, .long (lN (sm (fun x => tkC O x (pOf see which P x)) i))), (4, .int (nI i))] [] τ := by
    intro d
    induction d with
    | zero =>
      intro i hi τ hT hF
      have hi : i = 16900 := by omega
      subst hi
      exact bX3_taking_5 ⟨fun _ => k τ hT hF, fun q => absurd (nI_le (a := 16900) (Nat.le_refl _) (by decide)) q⟩
    | succ d ih =>
      intro i hi τ hT hF
      obtain ⟨fn, h6, h7⟩ := hT.2.2.2.1
      have p1 := vp_in_nI (show i < 16900 by omega) (by decide)
      have ih1 := ih (i + 1) (by omega)
      rw [sm_s] at ih1
      have z0 : lN (P i) = 0 ↔ P i = 0 := pk_lEQ (b := 0) (by have := hP i; omega) (by decide)
      refine bX3_taking_5 ⟨fun q => absurd q (nI_ge (b := 16900) (by omega) (by decide)), fun _ => ⟨nw, ⟨_, hT.1, rfl⟩, 16900, fn, h6, p1, ?_⟩⟩
      rw [nI_clamp (by omega), h7 i (by omega)]
      refine ⟨fun z => ⟨⟨_, hT.1⟩, k_fpartsOf hT (by omega) hs hw (hP i) (fun υ hU hx hFU => ⟨_, rfl, st, ⟨_, hU.1, rfl⟩, ⟨_, hx⟩, ?_⟩)⟩, fun z v4 h4 => ?_⟩
      · have := ih1 υ hU (hF.tr hFU)
        have c1 := cC_lt i
        have d1 := cD_lt i
        have hxx := hx
        unfold stX at hxx
        have hx3 := hxx
        unfold stL at hx3
        have z1 : nI (cC i + cD i) = 0 ↔ cC i + cD i = 0 := nI_eq (b := 0) (by omega) (by decide)
        have hO1 := hO.kept ((hF.tr hFU).kpF (by decide) (by decide) (by decide) (by decide)) ((hF.tr hFU).kpF (by decide) (by decide) (by decide) (by decide))
        obtain ⟨fp, o2, o3⟩ := hO1.pr hp
        have hle := pOf_le (which := which) (P := P) hs i
        have hPi := hP i
        refine k_in hx3 ⟨_, rfl, fun y => ⟨st, ⟨_, hU.1, rfl⟩, _, ⟨_, hxx, rfl⟩, st, ⟨_, hU.1, rfl⟩, ⟨_, hx⟩, k_in hx3 ⟨_, rfl, fun u => ?_, fun w hw => ⟨o, ⟨_, hU.1, rfl⟩, p, ⟨_, hO1.1, rfl⟩, 5, fp, o2, by decide, fun w8 h8 v4 h4 => ?_⟩⟩⟩, fun y => ⟨o, ⟨_, hU.1, rfl⟩, p, ⟨_, hO1.1, rfl⟩, 5, fp, o2, by decide, fun w hw v4 h4 => ?_⟩⟩
        · rw [nI_l (by omega)] at u
          exact y (z1.mpr ((pk_lEQ (b := 0) (by omega) (by decide)).mp u))
        · have y1 : ¬ cC i + cD i = 0 := fun u => y (z1.mpr u)
          have tb : pOf see which P i * cD i < 2 ^ 63 := by
            have : pOf see which P i * cD i ≤ 2 ^ 40 * 12 := Nat.mul_le_mul (by omega) (by omega)
            omega
          rw [nI_l (show cD i < 2 ^ 31 by omega), nI_l (show cC i + cD i < 2 ^ 31 by omega), lN_mul, pk_lDiv tb (by omega) (by omega)] at hw
          rw [hw, o3 0 (by decide), lN_mul, lN_add] at h8
          rw [show tkC O i (pOf see which P i) = pOf see which P i * cD i / (cC i + cD i) * O 7 from if_neg y1] at this
          rw [h8, h4, nI_1]
          exact this
        · rw [o3 3 (by decide), lN_mul, lN_add] at hw
          rw [show tkC O i (pOf see which P i) = pOf see which P i * O 10 from if_pos (z1.mp y)] at this
          rw [hw, h4, nI_1]
          exact this
      · have := ih1 τ hT hF
        rw [pOf_0 hs (z0.mp z), tkC_0, Nat.add_zero] at this
        rw [h4, nI_1]
        exact this
  have L0 := L 16900 0 (by omega) σ h Fr.rf
  rw [sm_z] at L0
  exact eX3_taking (bX3_taking_0 L0)
theorem k_fowning {G : GC} {σ : PS} {Q : Option Value → PS → Prop} {X : String → Nat → PS → Prop} {b a st dr nw nx o cl v see p P' which : Nat} {who : Int32} {O : Nat → Nat} {P N D : Nat → Nat} {wa lo : Nat} (h : FlP σ a st dr nw nx o cl v see who P N D wa lo) (hs : see ≤ 16) (hw : which ≤ 2) (hP : ∀ x, P x ≤ 2 ^ 40) (hO : OffO σ o p O P') (hp : ∀ i, i < 12 → O i < 2 ^ 20)
    (k : ∀ τ, FlP τ a st dr nw nx o cl v see who P N D wa lo → Fr (FlW a st dr nw nx) σ τ → Q (some (.long (lN (qOwn O see which P)))) τ) : Call G mX3_owning 5 b [.ref a, .int (nI which)] σ Q X := by
  have L : ∀ d i, i + d = 16900 → ∀ τ, FlP τ a st dr nw nx o cl v see who P N D wa lo → Fr (FlW a st dr nw nx) σ τ → At G mX3_owning 5 Q X b 5 [(0, .ref a), (1, .int (nI which)), (2, .long (lN (sm (fun x => pOf see which P x * O 10) i))), (4, .int (nI i))] [] τ := by
    intro d
    induction d with
    | zero =>
      intro i hi τ hT hF
      have hi : i = 16900 := by omega
      subst hi
      exact bX3_owning_5 ⟨fun _ => k τ hT hF, fun q => absurd (nI_le (a := 16900) (Nat.le_refl _) (by decide)) q⟩
    | succ d ih =>
      intro i hi τ hT hF
      obtain ⟨fn, h6, h7⟩ := hT.2.2.2.1
      have p1 := vp_in_nI (show i < 16900 by omega) (by decide)
      have ih1 := ih (i + 1) (by omega)
      rw [sm_s] at ih1
      have z0 : lN (P i) = 0 ↔ P i = 0 := pk_lEQ (b := 0) (by have := hP i; omega) (by decide)
      refine bX3_owning_5 ⟨fun q => absurd q (nI_ge (b := 16900) (by omega) (by decide)), fun _ => ⟨nw, ⟨_, hT.1, rfl⟩, 16900, fn, h6, p1, ?_⟩⟩
      rw [nI_clamp (by omega), h7 i (by omega)]
      refine ⟨fun z v4 h4 => ?_, fun z => ⟨⟨_, hT.1⟩, k_fpartsOf hT (by omega) hs hw (hP i) (fun υ hU hx hFU => ⟨_, rfl, ?_⟩)⟩⟩
      · have := ih1 τ hT hF
        rw [pOf_0 hs (z0.mp z), Nat.zero_mul, Nat.add_zero] at this
        rw [h4, nI_1]
        exact this
      · have := ih1 υ hU (hF.tr hFU)
        have hO1 := hO.kept ((hF.tr hFU).kpF (by decide) (by decide) (by decide) (by decide)) ((hF.tr hFU).kpF (by decide) (by decide) (by decide) (by decide))
        obtain ⟨fp, o2, o3⟩ := hO1.pr hp
        refine ⟨o, ⟨_, hU.1, rfl⟩, p, ⟨_, hO1.1, rfl⟩, 5, fp, o2, by decide, fun w hw v4 h4 => ?_⟩
        rw [o3 3 (by decide), lN_mul, lN_add] at hw
        rw [hw, h4, nI_1]
        exact this
  have L0 := L 16900 0 (by omega) σ h Fr.rf
  rw [sm_z] at L0
  exact eX3_owning (bX3_owning_0 L0)
theorem lN_min {a b : Nat} (ha : a < 2 ^ 63) (hb : b < 2 ^ 63) : (if lN b < lN a then lN b else lN a) = lN (min a b) := by
  have h := pk_lLT hb ha
  by_cases q : b < a
  · rw [if_pos (h.mpr q), Nat.min_eq_right (by omega)]
  · rw [if_neg (fun y => q (h.mp y)), Nat.min_eq_left (by omega)]
theorem tkC_le {O : Nat → Nat} {x p : Nat} (hp : ∀ i, i < 12 → O i < 2 ^ 20) : tkC O x p ≤ p * 2 ^ 20 := by
  unfold tkC
  split
  · exact Nat.mul_le_mul_left _ (Nat.le_of_lt (hp 10 (by decide)))
  · rename_i h
    refine Nat.mul_le_mul ?_ (Nat.le_of_lt (hp 7 (by decide)))
    refine Nat.div_le_of_le_mul ?_
    rw [Nat.mul_comm]
    exact Nat.mul_le_mul_right _ (by omega)
theorem qTake_le {O : Nat → Nat} {v see which : Nat} {P : Nat → Nat} (hG : GP v P) (hs : see ≤ 16) (hp : ∀ i, i < 12 → O i < 2 ^ 20) : qTake O see which P < 2 ^ 61 := by
  have h1 : qTake O see which P ≤ sm (fun x => P x * 2 ^ 20) 16900 := sm_le (fun x _ => Nat.le_trans (tkC_le hp) (Nat.mul_le_mul_right _ (pOf_le hs x)))
  rw [sm_mul] at h1
  have := Nat.mul_le_mul_right (2 ^ 20) hG.2
  omega
theorem qOwn_le {O : Nat → Nat} {v see which : Nat} {P : Nat → Nat} (hG : GP v P) (hs : see ≤ 16) (hp : ∀ i, i < 12 → O i < 2 ^ 20) : qOwn O see which P < 2 ^ 61 := by
  have h1 : qOwn O see which P ≤ sm (fun x => P x * 2 ^ 20) 16900 := sm_le (fun x _ => Nat.mul_le_mul (pOf_le hs x) (Nat.le_of_lt (hp 10 (by decide))))
  rw [sm_mul] at h1
  have := Nat.mul_le_mul_right (2 ^ 20) hG.2
  omega
theorem k_fworth {G : GC} {σ : PS} {Q : Option Value → PS → Prop} {X : String → Nat → PS → Prop} {b a st dr nw nx o cl v see p P' way vv : Nat} {who : Int32} {O : Nat → Nat} {P N D : Nat → Nat} {wa lo : Nat} (h : FlP σ a st dr nw nx o cl v see who P N D wa lo) (hs : see ≤ 16) (hw : way ≤ 3) (hG : GP vv P) (hP : ∀ x, P x ≤ 2 ^ 40) (hO : OffO σ o p O P') (hp : ∀ i, i < 12 → O i < 2 ^ 20)
    (k : ∀ τ, FlP τ a st dr nw nx o cl v see who P N D wa lo → Fr (FlW a st dr nw nx) σ τ → Q (some (.long (lN (qWorth O see way P)))) τ) : Call G mX3_worth 6 b [.ref a, .int (nI way)] σ Q X := by
  obtain ⟨fp, o2, o3⟩ := hO.pr hp
  have way' : way = 0 ∨ way = 1 ∨ way = 2 ∨ way = 3 := by omega
  have hOk : ∀ τ, Fr (FlW a st dr nw nx) σ τ → OffO τ o p O P' := fun τ hF => hO.kept (hF.kpF (by decide) (by decide) (by decide) (by decide)) (hF.kpF (by decide) (by decide) (by decide) (by decide))
  refine eX3_worth (bX3_worth_0 ?_)
  rcases way' with rfl | rfl | rfl | rfl
  · exact iY rfl ⟨⟨_, h.1⟩, k_ftaking (which := 2) h hs (by decide) hP hO hp (fun τ hT hF => ⟨_, rfl, k τ hT hF⟩)⟩
  · exact iN (by decide) (iY rfl ⟨⟨_, h.1⟩, k_fowning (which := 2) h hs (by decide) hP hO hp (fun τ hT hF => ⟨_, rfl, k τ hT hF⟩)⟩)
  · refine iN (by decide) (iN (by decide) (iY rfl ⟨⟨_, h.1⟩, k_fall h ⟨_, rfl, o, ⟨_, h.1, rfl⟩, p, ⟨_, hO.1, rfl⟩, 5, fp, o2, by decide, ⟨_, h.1⟩, ?_⟩⟩))
    refine k_ftaking (which := 0) h hs (by decide) hP hO hp (fun τ hT hF => ⟨_, rfl, ⟨_, hT.1⟩, ?_⟩)
    refine k_fowning (which := 0) hT hs (by decide) hP (hOk τ hF) hp (fun υ hU hF2 => ⟨_, rfl, fun w hw => ⟨⟨_, hU.1⟩, ?_⟩⟩)
    rw [lN_min (Nat.lt_trans (qTake_le hG hs hp) (by decide)) (Nat.lt_trans (qOwn_le hG hs hp) (by decide))] at hw
    refine k_ftaking (which := 1) hU hs (by decide) hP (hOk υ (hF.tr hF2)) hp (fun χ hX hF3 => ⟨_, rfl, ⟨_, hX.1⟩, ?_⟩)
    refine k_fowning (which := 1) hX hs (by decide) hP (hOk χ ((hF.tr hF2).tr hF3)) hp (fun ω hW hF4 => ⟨_, rfl, fun w9 h9 w10 h10 => ?_⟩)
    rw [lN_min (Nat.lt_trans (qTake_le hG hs hp) (by decide)) (Nat.lt_trans (qOwn_le hG hs hp) (by decide))] at h9
    rw [o3 2 (by decide), hw, h9, lN_mul, lN_add, lN_add] at h10
    rw [h10]
    exact k ω hW (((hF.tr hF2).tr hF3).tr hF4)
  · refine iN (by decide) (iN (by decide) (iN (by decide) ⟨⟨_, h.1⟩, k_fall h ⟨_, rfl, o, ⟨_, h.1, rfl⟩, p, ⟨_, hO.1, rfl⟩, 5, fp, o2, by decide, fun v2 h2 => ?_⟩⟩))
    have L : ∀ d i, i + d = 16900 → ∀ τ, FlP τ a st dr nw nx o cl v see who P N D wa lo → Fr (FlW a st dr nw nx) σ τ → At G mX3_worth 6 Q X b 89 [(0, .ref a), (2, .long (lN (qAll P * O 11 + sm (fun x => P x * cC x * O 8 + if cC x + cD x = 0 then P x * O 10 else 0) i))), (4, .int (nI i))] [] τ := by
      intro d
      induction d with
      | zero =>
        intro i hi τ hT hF
        have hi : i = 16900 := by omega
        subst hi
        exact bX3_worth_89 ⟨fun _ => k τ hT hF, fun q => absurd (nI_le (a := 16900) (Nat.le_refl _) (by decide)) q⟩
      | succ d ih =>
        intro i hi τ hT hF
        obtain ⟨fn, h6, h7⟩ := hT.2.2.2.1
        obtain ⟨l4, h2, h3⟩ := hT.2.1
        have p1 := vp_in_nI (show i < 16900 by omega) (by decide)
        have ih1 := ih (i + 1) (by omega)
        rw [sm_s] at ih1
        have z0 : lN (P i) = 0 ↔ P i = 0 := pk_lEQ (b := 0) (by have := hP i; omega) (by decide)
        refine bX3_worth_89 ⟨fun q => absurd q (nI_ge (b := 16900) (by omega) (by decide)), fun _ => ⟨nw, ⟨_, hT.1, rfl⟩, 16900, fn, h6, p1, ?_⟩⟩
        rw [nI_clamp (by omega), h7 i (by omega)]
        have hT1 := hT.st (l := stX i) rfl
        have hF1 := hF.tr (st4_fr (a := a) (st := st) (dr := dr) (nw := nw) (nx := nx) (e := .inl (stX i)))
        have hx : (up τ 4 st (.inl (stX i))) 4 st = some (.inl (stX i)) := up_eq
        have hx3 := hx
        conv at hx3 => rhs; unfold stX stL
        have hO1 := hOk _ hF1
        obtain ⟨fp, o2, o3⟩ := hO1.pr hp
        obtain ⟨fn2, g6, g7⟩ := hT1.2.2.2.1
        have c1 := cC_lt i
        have d1 := cD_lt i
        have z1 : nI (cC i + cD i) = 0 ↔ cC i + cD i = 0 := nI_eq (b := 0) (by omega) (by decide)
        refine ⟨fun z => ⟨nw, ⟨_, hT.1, rfl⟩, 16900, fn, h6, p1, st, ⟨_, hT.1, rfl⟩, ⟨_, h2⟩, k_stOf (by omega) h2 h3 ⟨_, rfl, _, ⟨_, hx3, rfl⟩, fun w hw => ⟨o, ⟨_, hT1.1, rfl⟩, p, ⟨_, hO1.1, rfl⟩, 5, fp, o2, by decide, fun w6 e6 => ⟨st, ⟨_, hT1.1, rfl⟩, ⟨_, hx⟩, k_in hx3 ⟨_, rfl, fun y v4 e4 => ?_, fun y => ⟨nw, ⟨_, hT1.1, rfl⟩, 16900, fn2, g6, p1, o, ⟨_, hT1.1, rfl⟩, p, ⟨_, hO1.1, rfl⟩, 5, fp, o2, by decide, fun w16 e16 v2 e2 v4 e4 => ?_⟩⟩⟩⟩⟩⟩, fun z v4 h4 => ?_⟩
        · have := ih1 _ hT1 hF1
          rw [if_neg (fun u => y (z1.mpr u)), Nat.add_zero, ← Nat.add_assoc] at this
          rw [h7 i (by omega), nI_l (by omega), lN_mul] at hw
          rw [hw, o3 1 (by decide), lN_mul, lN_add] at e6
          rw [e6, e4, nI_1]
          exact this
        · have := ih1 _ hT1 hF1
          rw [if_pos (z1.mp y), ← Nat.add_assoc, ← Nat.add_assoc] at this
          rw [h7 i (by omega), nI_l (by omega), lN_mul] at hw
          rw [hw, o3 1 (by decide), lN_mul, lN_add] at e6
          rw [g7 i (by omega), o3 3 (by decide), lN_mul] at e16
          rw [e6, e16, lN_add] at e2
          rw [e2, e4, nI_1]
          exact this
        · have := ih1 τ hT hF
          rw [z0.mp z, Nat.zero_mul, Nat.zero_mul, Nat.zero_mul, ite_self, Nat.add_zero, Nat.add_zero] at this
          rw [h4, nI_1]
          exact this
    have L0 := L 16900 0 (by omega) σ h Fr.rf
    rw [sm_z, Nat.add_zero] at L0
    rw [o3 4 (by decide), lN_mul] at h2
    rw [h2]
    exact L0
