/-! Part B: what the reference tells of its row; fractions -/
theorem w_mall {G : GC} {ad : Nat → Nat} {o : Nat} {F : Nat → Int32} {L : Nat → Int64} {I : Nat → Nat → Int32} {J : Nat → Nat → Int64} {n wa lo : Nat} {lv P N D : Nat → Nat} {R : Option Value → Prop} (hM : FlM F L I J n lv P N D wa lo) (k : R (some (.long (lN (qAll P))))) : CallMO G mX9_all 3 ad o [.ref o] F L I J R := by
  obtain ⟨hr, hs, h35, hn⟩ := hM.rw9
  refine eX9_all (fun σ0 => bX9_all_0 ?_)
  have Lp : ∀ d i, i + d = n → AtM G mX9_all 3 ad o σ0 (fun u F' L' I' J' => F' = F ∧ L' = L ∧ I' = I ∧ J' = J ∧ R u) 4 [(0, .ref o), (1, .long (lN (sm (fun j => P (lv j)) i))), (3, .int (nI i))] [] F L I J := by
    intro d
    induction d with
    | zero =>
      intro i hi
      have hi : i = n := by omega
      subst hi
      refine bX9_all_4 ⟨fun _ => ⟨rfl, rfl, rfl, rfl, ?_⟩, fun z => absurd (by rw [h35]; exact nI_le (Nat.le_refl _) (by omega)) z⟩
      rw [sml_end (P := P) (f := P) hr hs (fun x z => z)]
      exact k
    | succ d ih =>
      intro i hi
      have hin : i < n := by omega
      obtain ⟨hx, e33⟩ := hM.live hin
      have ih1 := ih (i + 1) (by omega)
      rw [sm_s] at ih1
      refine bX9_all_4 ⟨fun z => absurd (by rw [h35] at z; exact z) (nI_ge hin (by omega)), fun _ => ⟨vp_in_nI (by omega) (by decide), ?_⟩⟩
      rw [nI_clamp (show i < 2 ^ 31 by omega), e33]
      refine ⟨vp_in_nI (ix_lt hx) (by decide), fun w hw v3 e3 => ?_⟩
      rw [nI_clamp (show ix (lv i) < 2 ^ 31 by have := ix_lt hx; omega), hM.2.1 _ hx, lN_add] at hw
      rw [hw, e3, nI_1]
      exact ih1
  have L0 := Lp n 0 (by omega)
  rw [sm_z] at L0
  exact L0
theorem w_mpartsOf {G : GC} {ad : Nat → Nat} {o : Nat} {F : Nat → Int32} {L : Nat → Int64} {I : Nat → Nat → Int32} {J : Nat → Nat → Int64} {n wa lo c d ka : Nat} {lv P N D : Nat → Nat} {R : Option Value → Prop} (hM : FlM F L I J n lv P N D wa lo) (hc : c ≤ 12) (hd : d ≤ 12) (hk : ka < 2) (k : R (some (.long (lN (qAt c d ka P))))) : CallMO G mX9_partsOf 4 ad o [.ref o, .int (nI c), .int (nI d), .int (nI ka)] F L I J R := by
  refine eX9_partsOf (fun σ0 => bX9_partsOf_0 ?_)
  have Lp : ∀ j i, i + j = 25 → AtM G mX9_partsOf 4 ad o σ0 (fun u F' L' I' J' => F' = F ∧ L' = L ∧ I' = I ∧ J' = J ∧ R u) 6 [(0, .ref o), (1, .int (nI c)), (2, .int (nI d)), (3, .int (nI ka)), (4, .long (lN (sm (fun s => P (cd s c d ka 0)) i))), (6, .int (nI i))] [] F L I J := by
    intro j
    induction j with
    | zero =>
      intro i hi
      have hi : i = 25 := by omega
      subst hi
      exact bX9_partsOf_6 ⟨fun _ => ⟨rfl, rfl, rfl, rfl, k⟩, fun z => absurd (nI_le (a := 25) (Nat.le_refl _) (by decide)) z⟩
    | succ j ih =>
      intro i hi
      have hlt : cd i c d ka 0 < 16900 := cd_lt (n := 25) (by omega) (by omega) (by omega) hk (by decide)
      have ih1 := ih (i + 1) (by omega)
      rw [sm_s] at ih1
      refine bX9_partsOf_6 ⟨fun z => absurd z (nI_ge (b := 25) (by omega) (by decide)), fun _ => w_index (e := 0) ⟨_, rfl, ?_⟩⟩
      rw [← ix_cd (by omega) (by omega) hk (by decide)]
      refine ⟨vp_in_nI (ix_lt hlt) (by decide), fun w hw v6 e6 => ?_⟩
      rw [nI_clamp (show ix (cd i c d ka 0) < 2 ^ 31 by have := ix_lt hlt; omega), hM.2.1 _ hlt, lN_add] at hw
      rw [hw, e6, nI_1]
      exact ih1
  have L0 := Lp 25 0 (by omega)
  rw [sm_z] at L0
  exact L0
theorem w_takeCost {G : GC} {ad : Nat → Nat} {o : Nat} {F : Nat → Int32} {L : Nat → Int64} {I : Nat → Nat → Int32} {J : Nat → Nat → Int64} {x p : Nat} {O : Nat → Nat} {fw fm : (Nat → Int32)} {nn : Nat} {R : Option Value → Prop} (hS : StF F (cS x) (cC x) (cD x) (cK x) (cE x)) (hMC : MCx O fw fm nn I) (hp : ∀ i, i < 12 → O i < 2 ^ 20) (hpp : p ≤ 2 ^ 40) (k : R (some (.long (lN (tkC O x p))))) : CallMO G mX9_takeCost 3 ad o [.ref o, .long (lN p)] F L I J R := by
  obtain ⟨h51, h52, h53, h54, h55⟩ := hS
  have c1 := cC_lt x
  have d1 := cD_lt x
  have h7 := hp 7 (by decide)
  have h10 := hp 10 (by decide)
  have z0 : nI (cC x + cD x) = 0 ↔ cC x + cD x = 0 := nI_eq (b := 0) (by omega) (by decide)
  refine eX9_takeCost (fun σ0 => bX9_takeCost_0 ?_)
  rw [h51, h52, hMC.1 7 (by decide), hMC.1 10 (by decide), nI_add, nI_l (show cC x + cD x < 2 ^ 31 by omega), nI_l (show cD x < 2 ^ 31 by omega), nI_l (show O 7 < 2 ^ 31 by omega), nI_l (show O 10 < 2 ^ 31 by omega), lN_mul, lN_mul]
  refine ⟨fun z w hw => ⟨fun y => ?_, fun w1 hw1 => ⟨rfl, rfl, rfl, rfl, ?_⟩⟩, fun z => ⟨rfl, rfl, rfl, rfl, ?_⟩⟩
  · rw [hw] at y
    exact z (z0.mpr ((pk_lEQ (b := 0) (by omega) (by decide)).mp y))
  · have z1 : ¬ cC x + cD x = 0 := fun y => z (z0.mpr y)
    have td : p * cD x < 2 ^ 63 := by
      have : p * cD x ≤ 2 ^ 40 * 12 := Nat.mul_le_mul hpp (by omega)
      omega
    rw [hw, pk_lDiv td (by omega) (by omega)] at hw1
    rw [show tkC O x p = p * cD x / (cC x + cD x) * O 7 from if_neg z1, Nat.mul_comm] at k
    rw [hw1, lN_mul]
    exact k
  · rw [show tkC O x p = p * O 10 from if_pos (z0.mp z), Nat.mul_comm] at k
    exact k
theorem qN {P A B : Prop} (h : ¬ P) (a : A) : (¬ P → A) ∧ (P → B) := ⟨fun _ => a, fun p => absurd p h⟩
theorem qY {P A B : Prop} (h : P) (b : B) : (¬ P → A) ∧ (P → B) := ⟨fun n => absurd h n, fun _ => b⟩
def wf2 (O : Nat → Nat) (way : Nat) (P : Nat → Nat) (x : Nat) : Nat := if way = 0 then tkC O x (P x) else if way = 1 then O 10 * P x else if way = 2 then O 9 * P x else (O 8 * cC x + O 11 + (if cC x + cD x = 0 then O 10 else 0)) * P x
def wf4 (O : Nat → Nat) (way : Nat) (P : Nat → Nat) (x : Nat) : Nat := if way = 2 then O 10 * sees (O 6) x (P x) else 0
def wf6 (O : Nat → Nat) (way : Nat) (P : Nat → Nat) (x : Nat) : Nat := if way = 2 then tkC O x (sees (O 6) x (P x)) else 0
def wf8 (O : Nat → Nat) (way : Nat) (P : Nat → Nat) (x : Nat) : Nat := if way = 2 then O 10 * (P x - sees (O 6) x (P x)) else 0
def wf10 (O : Nat → Nat) (way : Nat) (P : Nat → Nat) (x : Nat) : Nat := if way = 2 then tkC O x (P x - sees (O 6) x (P x)) else 0
theorem sm_mulL (f : Nat → Nat) (c n : Nat) : sm (fun i => c * f i) n = c * sm f n := by
  have : (fun i => c * f i) = fun i => f i * c := by funext i; exact Nat.mul_comm _ _
  rw [this, sm_mul, Nat.mul_comm]
theorem wf_sum {O : Nat → Nat} {way : Nat} {P : Nat → Nat} (hw : way ≤ 3) : sm (wf2 O way P) 16900 + min (sm (wf6 O way P) 16900) (sm (wf4 O way P) 16900) + min (sm (wf10 O way P) 16900) (sm (wf8 O way P) 16900) = qWorth O (O 6) way P := by
  have hx : way = 0 ∨ way = 1 ∨ way = 2 ∨ way = 3 := by omega
  have z4 : way ≠ 2 → sm (wf4 O way P) 16900 = 0 := fun h => (sm_cong (f := wf4 O way P) (g := fun _ => 0) (fun x _ => if_neg h)).trans (sm_zero _)
  have z6 : way ≠ 2 → sm (wf6 O way P) 16900 = 0 := fun h => (sm_cong (f := wf6 O way P) (g := fun _ => 0) (fun x _ => if_neg h)).trans (sm_zero _)
  have z8 : way ≠ 2 → sm (wf8 O way P) 16900 = 0 := fun h => (sm_cong (f := wf8 O way P) (g := fun _ => 0) (fun x _ => if_neg h)).trans (sm_zero _)
  have z10 : way ≠ 2 → sm (wf10 O way P) 16900 = 0 := fun h => (sm_cong (f := wf10 O way P) (g := fun _ => 0) (fun x _ => if_neg h)).trans (sm_zero _)
  rcases hx with rfl | rfl | rfl | rfl
  · rw [z4 (by decide), z6 (by decide), z8 (by decide), z10 (by decide)]
    show sm (wf2 O 0 P) 16900 + 0 + 0 = qTake O (O 6) 2 P
    simp only [Nat.add_zero]
    exact sm_cong (fun x _ => rfl)
  · rw [z4 (by decide), z6 (by decide), z8 (by decide), z10 (by decide)]
    show sm (wf2 O 1 P) 16900 + 0 + 0 = qOwn O (O 6) 2 P
    simp only [Nat.add_zero]
    exact sm_cong (fun x _ => Nat.mul_comm _ _)
  · show sm (wf2 O 2 P) 16900 + _ + _ = qAll P * O 9 + min (qTake O (O 6) 0 P) (qOwn O (O 6) 0 P) + min (qTake O (O 6) 1 P) (qOwn O (O 6) 1 P)
    have e2 : sm (wf2 O 2 P) 16900 = qAll P * O 9 := by
      have : sm (wf2 O 2 P) 16900 = sm (fun x => O 9 * P x) 16900 := sm_cong (fun x _ => rfl)
      rw [this, sm_mulL, Nat.mul_comm]
      rfl
    have e4 : sm (wf4 O 2 P) 16900 = qOwn O (O 6) 1 P := sm_cong (fun x _ => Nat.mul_comm _ _)
    have e6 : sm (wf6 O 2 P) 16900 = qTake O (O 6) 1 P := sm_cong (fun x _ => rfl)
    have e8 : sm (wf8 O 2 P) 16900 = qOwn O (O 6) 0 P := sm_cong (fun x _ => Nat.mul_comm _ _)
    have e10 : sm (wf10 O 2 P) 16900 = qTake O (O 6) 0 P := sm_cong (fun x _ => rfl)
    rw [e2, e4, e6, e8, e10]
    omega
  · rw [z4 (by decide), z6 (by decide), z8 (by decide), z10 (by decide)]
    show sm (wf2 O 3 P) 16900 + 0 + 0 = qAll P * O 11 + sm (fun x => P x * cC x * O 8 + if cC x + cD x = 0 then P x * O 10 else 0) 16900
    simp only [Nat.add_zero]
    unfold qAll
    rw [← sm_mul, ← sm_add]
    refine sm_cong (fun x _ => ?_)
    show (O 8 * cC x + O 11 + (if cC x + cD x = 0 then O 10 else 0)) * P x = P x * O 11 + (P x * cC x * O 8 + if cC x + cD x = 0 then P x * O 10 else 0)
    rw [Nat.add_mul, Nat.add_mul]
    have e1 : O 8 * cC x * P x = P x * cC x * O 8 := by rw [Nat.mul_comm (O 8), Nat.mul_right_comm, Nat.mul_comm (cC x)]
    have e2 : O 11 * P x = P x * O 11 := Nat.mul_comm _ _
    have e3 : (if cC x + cD x = 0 then O 10 else 0) * P x = if cC x + cD x = 0 then P x * O 10 else 0 := by
      split
      · exact Nat.mul_comm _ _
      · exact Nat.zero_mul _
    rw [e1, e2, e3]
    omega
theorem sm_b {f P : Nat → Nat} {v c : Nat} (hG : GP v P) (h : ∀ x, f x ≤ P x * c) (hc : c ≤ 2 ^ 20) : sm f 16900 < 2 ^ 61 := by
  have h1 := sm_le (n := 16900) (fun x _ => h x)
  rw [sm_mul] at h1
  have h2 := Nat.mul_le_mul hG.2 hc
  omega
set_option maxRecDepth 8000 in
theorem w_mworth {G : GC} {ad : Nat → Nat} {o : Nat} {F : Nat → Int32} {L : Nat → Int64} {I : Nat → Nat → Int32} {J : Nat → Nat → Int64} {Q : MPost} {n way vv nn wa lo : Nat} {lv P N D : Nat → Nat} {O : Nat → Nat} {fw fm : (Nat → Int32)} (hw : way ≤ 3) (hM : FlM F L I J n lv P N D wa lo) (hG : GP vv P) (hvv : vv ≤ 24) (hMC : MCx O fw fm nn I) (hp : ∀ i, i < 12 → O i < 2 ^ 20) (hse : O 6 ≤ 16)
    (k : ∀ F', FlM F' L I J n lv P N D wa lo → (∀ j, (j < 51 ∨ 55 < j) → F' j = F j) → Q (some (.long (lN (qWorth O (O 6) way P)))) F' L I J) : CallM G mX9_worthOf 4 ad o [.ref o, .int (nI way)] F L I J Q := by
  obtain ⟨hr, hs, -, hn⟩ := hM.rw9
  have hsee : ∀ x, sees (O 6) x (P x) ≤ P x := fun x => sees_le hse
  have p0 : ∀ x, P x = 0 → sees (O 6) x (P x) = 0 := fun x hx => by have := hsee x; omega
  have f2 : ∀ x, P x = 0 → wf2 O way P x = 0 := fun x hx => by
    unfold wf2
    rw [hx, tkC_0]
    split
    · rfl
    · split
      · rfl
      · split <;> rfl
  have f4 : ∀ x, P x = 0 → wf4 O way P x = 0 := fun x hx => by unfold wf4; rw [p0 x hx]; split <;> rfl
  have f6 : ∀ x, P x = 0 → wf6 O way P x = 0 := fun x hx => by unfold wf6; rw [p0 x hx, tkC_0]; split <;> rfl
  have f8 : ∀ x, P x = 0 → wf8 O way P x = 0 := fun x hx => by unfold wf8; rw [hx, Nat.zero_sub]; split <;> rfl
  have f10 : ∀ x, P x = 0 → wf10 O way P x = 0 := fun x hx => by unfold wf10; rw [hx, Nat.zero_sub, tkC_0]; split <;> rfl
  have h8 := hp 8 (by decide)
  have h9 := hp 9 (by decide)
  have h10 := hp 10 (by decide)
  have h11 := hp 11 (by decide)
  have w0 : nI way = 0 ↔ way = 0 := nI_eq (b := 0) (by omega) (by decide)
  have w1 : nI way = 1 ↔ way = 1 := nI_eq (b := 1) (by omega) (by decide)
  have w2 : nI way = 2 ↔ way = 2 := nI_eq (b := 2) (by omega) (by decide)
  have w3 : nI way = 3 ↔ way = 3 := nI_eq (b := 3) (by omega) (by decide)
  refine eX9_worthOf (fun σ0 => bX9_worthOf_0 ?_)
  have Lp : ∀ d i, i + d = n → ∀ F', FlM F' L I J n lv P N D wa lo → (∀ j, (j < 51 ∨ 55 < j) → F' j = F j) → AtM G mX9_worthOf 4 ad o σ0 Q 17 [(0, .ref o), (1, .int (nI way)), (2, .long (lN (sm (fun j => wf2 O way P (lv j)) i))), (4, .long (lN (sm (fun j => wf4 O way P (lv j)) i))), (6, .long (lN (sm (fun j => wf6 O way P (lv j)) i))), (8, .long (lN (sm (fun j => wf8 O way P (lv j)) i))), (10, .long (lN (sm (fun j => wf10 O way P (lv j)) i))), (12, .int (nI i))] [] F' L I J := by
    intro d
    induction d with
    | zero =>
      intro i hi F' hM2 hF
      have hi : i = n := by omega
      subst hi
      have kk := k F' hM2 hF
      rw [← wf_sum hw] at kk
      rw [sml_end (P := P) (f := wf2 O way P) hr hs f2, sml_end (P := P) (f := wf4 O way P) hr hs f4, sml_end (P := P) (f := wf6 O way P) hr hs f6, sml_end (P := P) (f := wf8 O way P) hr hs f8, sml_end (P := P) (f := wf10 O way P) hr hs f10]
      have b4 : sm (wf4 O way P) 16900 < 2 ^ 61 := sm_b (c := 2 ^ 20) hG (fun x => by
        unfold wf4
        split
        · rw [Nat.mul_comm]; exact Nat.mul_le_mul (hsee x) (by omega)
        · exact Nat.zero_le _) (Nat.le_refl _)
      have b6 : sm (wf6 O way P) 16900 < 2 ^ 61 := sm_b (c := 2 ^ 20) hG (fun x => by
        unfold wf6
        split
        · exact Nat.le_trans (tkC_le hp) (Nat.mul_le_mul_right _ (hsee x))
        · exact Nat.zero_le _) (Nat.le_refl _)
      have b8 : sm (wf8 O way P) 16900 < 2 ^ 61 := sm_b (c := 2 ^ 20) hG (fun x => by
        unfold wf8
        split
        · rw [Nat.mul_comm]; exact Nat.mul_le_mul (Nat.sub_le _ _) (by omega)
        · exact Nat.zero_le _) (Nat.le_refl _)
      have b10 : sm (wf10 O way P) 16900 < 2 ^ 61 := sm_b (c := 2 ^ 20) hG (fun x => by
        unfold wf10
        split
        · exact Nat.le_trans (tkC_le hp) (Nat.mul_le_mul_right _ (Nat.sub_le _ _))
        · exact Nat.zero_le _) (Nat.le_refl _)
      generalize sm (wf2 O way P) 16900 = a2 at kk ⊢
      generalize sm (wf4 O way P) 16900 = a4 at kk b4 ⊢
      generalize sm (wf6 O way P) 16900 = a6 at kk b6 ⊢
      generalize sm (wf8 O way P) 16900 = a8 at kk b8 ⊢
      generalize sm (wf10 O way P) 16900 = a10 at kk b10 ⊢
      have c1 : lN a6 ≤ lN a4 ↔ a6 ≤ a4 := pk_lLE (by omega) (by omega)
      have c2 : lN a10 ≤ lN a8 ↔ a10 ≤ a8 := pk_lLE (by omega) (by omega)
      refine bX9_worthOf_17 ⟨fun _ => ⟨fun y => ⟨fun z => ?_, fun z => ?_⟩, fun y => ⟨fun z => ?_, fun z => ?_⟩⟩, fun z => absurd (by rw [hM2.rw9.2.2.1]; exact nI_le (Nat.le_refl _) (by omega)) z⟩
      · rw [Nat.min_eq_left (c1.mp y), Nat.min_eq_left (c2.mp z)] at kk
        rw [lN_add, lN_add]; exact kk
      · have z1 : ¬ a10 ≤ a8 := fun u => z (c2.mpr u)
        rw [Nat.min_eq_left (c1.mp y), Nat.min_eq_right (by omega)] at kk
        rw [lN_add, lN_add]; exact kk
      · have y1 : ¬ a6 ≤ a4 := fun u => y (c1.mpr u)
        rw [Nat.min_eq_right (by omega), Nat.min_eq_left (c2.mp z)] at kk
        rw [lN_add, lN_add]; exact kk
      · have y1 : ¬ a6 ≤ a4 := fun u => y (c1.mpr u)
        have z1 : ¬ a10 ≤ a8 := fun u => z (c2.mpr u)
        rw [Nat.min_eq_right (by omega), Nat.min_eq_right (by omega)] at kk
        rw [lN_add, lN_add]; exact kk
    | succ d ih =>
      intro i hi F' hM2 hF
      have hin : i < n := by omega
      obtain ⟨hx, e33⟩ := hM2.live hin
      have ih1 := ih (i + 1) (by omega)
      simp only [sm_s] at ih1
      have pq := vp_in_nI (ix_lt hx) (by decide)
      have hPx := hG.le hvv (lv i)
      have hsx := hsee (lv i)
      have cc := cC_lt (lv i)
      have dd := cD_lt (lv i)
      refine bX9_worthOf_17 ⟨fun z => absurd (by rw [hM2.rw9.2.2.1] at z; exact z) (nI_ge hin (by omega)), fun _ => ⟨vp_in_nI (by omega) (by decide), fun v13 h13 => ?_⟩⟩
      rw [nI_clamp (by omega), e33] at h13
      subst h13
      refine ⟨pq, fun v14 h14 => ?_⟩
      rw [nI_clamp (show ix (lv i) < 2 ^ 31 by have := ix_lt hx; omega), hM2.2.1 _ hx] at h14
      subst h14
      refine w_stateOf hx (fun F3 hS3 hF3 => ⟨rfl, ?_⟩)
      have hM3 : FlM F3 L I J n lv P N D wa lo := hM2.oth (hF3 35 (by decide)) (hF3 36 (by decide)) rfl rfl rfl rfl rfl rfl rfl
      have ih2 := ih1 F3 hM3 (fun j hj => (hF3 j hj).trans (hF j hj))
      -- where ways part
      have M138 : way = 0 ∨ way = 1 ∨ way = 3 → ∀ y2, y2 = lN (sm (fun j => wf2 O way P (lv j)) i + wf2 O way P (lv i)) → AtM G mX9_worthOf 4 ad o σ0 Q 138 [(0, .ref o), (1, .int (nI way)), (2, .long y2), (4, .long (lN (sm (fun j => wf4 O way P (lv j)) i))), (6, .long (lN (sm (fun j => wf6 O way P (lv j)) i))), (8, .long (lN (sm (fun j => wf8 O way P (lv j)) i))), (10, .long (lN (sm (fun j => wf10 O way P (lv j)) i))), (12, .int (nI i)), (14, .long (lN (P (lv i))))] [] F3 L I J := by
        intro hwy y2 hy2
        have n2 : way ≠ 2 := by omega
        refine bX9_worthOf_138 (jN (fun y => n2 (w2.mp y)) (fun v12 e12 => ?_))
        rw [show wf4 O way P (lv i) = 0 from if_neg n2, show wf6 O way P (lv i) = 0 from if_neg n2, show wf8 O way P (lv i) = 0 from if_neg n2, show wf10 O way P (lv i) = 0 from if_neg n2, Nat.add_zero, Nat.add_zero, Nat.add_zero, Nat.add_zero, ← hy2] at ih2
        rw [e12, nI_1]
        exact ih2
      have hwx : way = 0 ∨ way = 1 ∨ way = 2 ∨ way = 3 := by omega
      rcases hwx with rfl | rfl | rfl | rfl
      · refine iY rfl ?_
        refine w_takeCost hS3 hMC hp hPx ⟨_, rfl, fun v2 e2 => ?_⟩
        refine bX9_worthOf_63 (qN (by decide) (bX9_worthOf_82 (qN (by decide) (M138 (Or.inl rfl) v2 ?_))))
        rw [e2, lN_add]
        rfl
      · refine iN (by decide) (bX9_worthOf_63 (iY rfl (fun w ew v2 e2 => bX9_worthOf_82 (qN (by decide) (M138 (Or.inr (Or.inl rfl)) v2 ?_)))))
        rw [hMC.1 10 (by decide), nI_l (by omega), lN_mul] at ew
        rw [e2, ew, lN_add]
        rfl
      · refine iN (by decide) (bX9_worthOf_63 (qN (by decide) (bX9_worthOf_82 (qN (by decide) (bX9_worthOf_138 (jY rfl ?_))))))
        have M172 : AtM G mX9_worthOf 4 ad o σ0 Q 172 [(0, .ref o), (1, .int (nI 2)), (2, .long (lN (sm (fun j => wf2 O 2 P (lv j)) i))), (4, .long (lN (sm (fun j => wf4 O 2 P (lv j)) i))), (6, .long (lN (sm (fun j => wf6 O 2 P (lv j)) i))), (8, .long (lN (sm (fun j => wf8 O 2 P (lv j)) i))), (10, .long (lN (sm (fun j => wf10 O 2 P (lv j)) i))), (12, .int (nI i)), (14, .long (lN (P (lv i))))] [.long (lN (sees (O 6) (lv i) (P (lv i))))] F3 L I J := by
          refine bX9_worthOf_172 (fun w ew wa1 ea1 v4 e4 => ?_)
          rw [hMC.1 9 (by decide), nI_l (by omega), lN_mul, lN_add] at ew
          rw [hMC.1 10 (by decide), nI_l (by omega), lN_mul] at ea1
          rw [ea1, lN_add] at e4
          refine w_takeCost hS3 hMC hp (by omega) ⟨_, rfl, fun v6 e6 wb1 eb1 v8 e8 => ?_⟩
          rw [lN_add] at e6
          rw [hMC.1 10 (by decide), nI_l (by omega), lN_sub hsx, lN_mul] at eb1
          rw [eb1, lN_add] at e8
          rw [lN_sub hsx]
          refine w_takeCost hS3 hMC hp (by omega) ⟨_, rfl, fun v10 e10 v12 e12 => ?_⟩
          rw [lN_add] at e10
          rw [ew, e4, e6, e8, e10, e12, nI_1]
          exact ih2
        rw [hS3.2.1, hMC.1 6 (by decide), nI_l (show O 6 < 2 ^ 31 by omega), lN_mul]
        have zd : nI (cD (lv i)) ≤ 0 ↔ cD (lv i) ≤ 0 := nI_leI (b := 0) (by omega) (by decide)
        refine ⟨fun z => ?_, fun z w ew => ?_⟩
        · have : sees (O 6) (lv i) (P (lv i)) = 0 := if_pos (by have := zd.mp z; omega)
          rw [this] at M172
          exact M172
        · have d1 : ¬ cD (lv i) = 0 := fun y => z (zd.mpr (by omega))
          have ts : P (lv i) * O 6 < 2 ^ 63 := by
            have : P (lv i) * O 6 ≤ 2 ^ 40 * 16 := Nat.mul_le_mul hPx hse
            omega
          rw [show (16 : Int64) = lN 16 from rfl, pk_lDiv ts (by decide) (by decide)] at ew
          have : sees (O 6) (lv i) (P (lv i)) = P (lv i) * O 6 / 16 := if_neg d1
          rw [this] at M172
          rw [ew]
          exact M172
      · have e8c : O 8 * cC (lv i) ≤ 2 ^ 20 * 12 := Nat.mul_le_mul (by omega) (by omega)
        refine iN (by decide) (bX9_worthOf_63 (qN (by decide) (bX9_worthOf_82 (qY rfl (fun w ew => ?_)))))
        rw [hMC.1 8 (by decide), hMC.1 11 (by decide), hS3.1, pk_mul, nI_add] at ew
        rw [ew, hS3.1, hS3.2.1, hMC.1 10 (by decide), nI_add, nI_add, Int32.add_zero, nI_l (by omega), nI_l (by omega), lN_mul, lN_mul]
        have z0 : nI (cC (lv i) + cD (lv i)) = 0 ↔ cC (lv i) + cD (lv i) = 0 := nI_eq (b := 0) (by omega) (by decide)
        refine ⟨fun z w1 e1 => M138 (Or.inr (Or.inr rfl)) w1 ?_, fun z w1 e1 v2 e2 => M138 (Or.inr (Or.inr rfl)) v2 ?_⟩
        · rw [e1, lN_add]
          show _ = lN (_ + (O 8 * cC (lv i) + O 11 + (if cC (lv i) + cD (lv i) = 0 then O 10 else 0)) * P (lv i))
          rw [if_neg (fun y => z (z0.mpr y))]
          rfl
        · rw [e2, e1, lN_add]
          show _ = lN (_ + (O 8 * cC (lv i) + O 11 + (if cC (lv i) + cD (lv i) = 0 then O 10 else 0)) * P (lv i))
          rw [if_pos (z0.mp z)]
  have L0 := Lp n 0 (by omega) F hM (fun _ _ => rfl)
  simp only [sm_z] at L0
  exact L0
