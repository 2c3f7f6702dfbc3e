/-! Part B: what Flow tells -/
def isB (what N W v : Nat) (fm : Nat → Int32) (x : Nat) : Bool := match what with
  | 0 => decide (cD x = 0)
  | 1 => decide (cK x = 1 ↔ cD x = 0)
  | 2 => wm fm W v (cS x)
  | 3 => decide (cK x = 1)
  | 4 => decide (cC x + cD x = 0)
  | _ => decide (cC x + cD x = N)
def qLik (what N W v : Nat) (fm : Nat → Int32) (P : Nat → Nat) : Nat := sm (fun x => if isB what N W v fm x = true then P x else 0) 16900
def qAll (P : Nat → Nat) : Nat := sm P 16900
def qMany (P : Nat → Nat) : Nat := sm (fun x => if P x = 0 then 0 else 1) 16900
def qAt (c d k : Nat) (P : Nat → Nat) : Nat := sm (fun s => P (cd s c d k 0)) 25
def qMean (what : Nat) (P : Nat → Nat) : Nat := sm (fun x => P x * (if what = 0 then cC x else cD x)) 16900
def pOf (see which : Nat) (P : Nat → Nat) (x : Nat) : Nat := if which = 2 then P x else if which = 1 then sees see x (P x) else P x - sees see x (P x)
def tkC (O : Nat → Nat) (x p : Nat) : Nat := if cC x + cD x = 0 then p * O 10 else p * cD x / (cC x + cD x) * O 7
def qTake (O : Nat → Nat) (see which : Nat) (P : Nat → Nat) : Nat := sm (fun x => tkC O x (pOf see which P x)) 16900
def qOwn (O : Nat → Nat) (see which : Nat) (P : Nat → Nat) : Nat := sm (fun x => pOf see which P x * O 10) 16900
def qWorth (O : Nat → Nat) (see way : Nat) (P : Nat → Nat) : Nat :=
  if way = 0 then qTake O see 2 P else if way = 1 then qOwn O see 2 P else if way = 2 then qAll P * O 9 + min (qTake O see 0 P) (qOwn O see 0 P) + min (qTake O see 1 P) (qOwn O see 1 P)
  else qAll P * O 11 + sm (fun x => P x * cC x * O 8 + if cC x + cD x = 0 then P x * O 10 else 0) 16900
def qCost (O : Nat → Nat) (S : FS) : Nat := S.2.2.1 * O 8 + S.2.2.2 * O 9 + sm (fun p => S.2.1 p * O 7) 6
theorem st4_fr {σ : PS} {a st dr nw nx : Nat} {e : aE} : Fr (FlW a st dr nw nx) σ (up σ 4 st e) := Fr.rf.up (Or.inl (Or.inr (Or.inl ⟨rfl, rfl⟩)))
theorem k_fall {G : GC} {σ : PS} {a st dr nw nx o cl v see : Nat} {who : Int32} {P N D : Nat → Nat} {wa lo : Nat} {R : Option Value → Prop} (h : FlP σ a st dr nw nx o cl v see who P N D wa lo) (k : R (some (.long (lN (qAll P))))) : CallO G mX3_all 3 [.ref a] σ R := by
  obtain ⟨fn, h6, h7⟩ := h.2.2.2.1
  have L : ∀ d i, i + d = 16900 → At G mX3_all 3 (fun u s => s = σ ∧ R u) (fun _ _ _ => False) 0 4 [(0, .ref a), (1, .long (lN (sm P i))), (3, .int (nI i))] [] σ := by
    intro d
    induction d with
    | zero =>
      intro i hi
      have hi : i = 16900 := by omega
      subst hi
      exact bX3_all_4 ⟨fun _ => ⟨rfl, k⟩, fun q => absurd (nI_le (a := 16900) (Nat.le_refl _) (by decide)) q⟩
    | succ d ih =>
      intro i hi
      have p1 := vp_in_nI (show i < 16900 by omega) (by decide)
      refine bX3_all_4 ⟨fun q => absurd q (nI_ge (b := 16900) (by omega) (by decide)), fun _ => ⟨nw, ⟨_, h.1, rfl⟩, 16900, fn, h6, p1, fun w hw v3 h3 => ?_⟩⟩
      rw [nI_clamp (by omega), h7 i (by omega), lN_add, ← sm_s] at hw
      rw [hw, h3, nI_1]
      exact ih (i + 1) (by omega)
  have L0 := L 16900 0 (by omega)
  rw [sm_z] at L0
  exact eX3_all (bX3_all_0 L0)
theorem k_fmany {G : GC} {σ : PS} {a st dr nw nx o cl v see : Nat} {who : Int32} {P N D : Nat → Nat} {wa lo : Nat} {R : Option Value → Prop} (h : FlP σ a st dr nw nx o cl v see who P N D wa lo) (hP : ∀ x, P x ≤ 2 ^ 40) (k : R (some (.int (nI (qMany P))))) : CallO G mX3_many 3 [.ref a] σ R := by
  obtain ⟨fn, h6, h7⟩ := h.2.2.2.1
  have L : ∀ d i, i + d = 16900 → At G mX3_many 3 (fun u s => s = σ ∧ R u) (fun _ _ _ => False) 0 4 [(0, .ref a), (1, .int (nI (sm (fun x => if P x = 0 then 0 else 1) i))), (2, .int (nI i))] [] σ := by
    intro d
    induction d with
    | zero =>
      intro i hi
      have hi : i = 16900 := by omega
      subst hi
      exact bX3_many_4 ⟨fun _ => ⟨rfl, k⟩, fun q => absurd (nI_le (a := 16900) (Nat.le_refl _) (by decide)) q⟩
    | succ d ih =>
      intro i hi
      have p1 := vp_in_nI (show i < 16900 by omega) (by decide)
      have ih1 := ih (i + 1) (by omega)
      rw [sm_s] at ih1
      have z0 : lN (P i) = 0 ↔ P i = 0 := pk_lEQ (b := 0) (by have := hP i; omega) (by decide)
      refine bX3_many_4 ⟨fun q => absurd q (nI_ge (b := 16900) (by omega) (by decide)), fun _ => ⟨nw, ⟨_, h.1, rfl⟩, 16900, fn, h6, p1, ?_⟩⟩
      rw [nI_clamp (by omega), h7 i (by omega)]
      refine ⟨fun z v2 h2 => ?_, fun z v1 h1 v2 h2 => ?_⟩
      · rw [if_pos (z0.mp z)] at ih1
        rw [h2, nI_1]
        exact ih1
      · rw [if_neg (fun y => z (z0.mpr y))] at ih1
        rw [h1, h2, nI_1, nI_1]
        exact ih1
  have L0 := L 16900 0 (by omega)
  rw [sm_z] at L0
  exact eX3_many (bX3_many_0 L0)
theorem k_fat {G : GC} {σ : PS} {a st dr nw nx o cl v see c d ka : Nat} {who : Int32} {P N D : Nat → Nat} {wa lo : Nat} {R : Option Value → Prop} (h : FlP σ a st dr nw nx o cl v see who P N D wa lo) (hc : c ≤ 12) (hd : d ≤ 12) (hk : ka < 2) (k : R (some (.long (lN (qAt c d ka P))))) : CallO G mX3_at 4 [.ref a, .int (nI c), .int (nI d), .int (nI ka)] σ R := by
  obtain ⟨fn, h6, h7⟩ := h.2.2.2.1
  have L : ∀ j i, i + j = 25 → At G mX3_at 4 (fun u s => s = σ ∧ R u) (fun _ _ _ => False) 0 6 [(0, .ref a), (1, .int (nI c)), (2, .int (nI d)), (3, .int (nI ka)), (4, .long (lN (sm (fun s => P (cd s c d ka 0)) i))), (6, .int (nI i))] [] σ := by
    intro j
    induction j with
    | zero =>
      intro i hi
      have hi : i = 25 := by omega
      subst hi
      exact bX3_at_6 ⟨fun _ => ⟨rfl, k⟩, fun q => absurd (nI_lt (a := 24) (b := 25) (by decide) (by decide)) q⟩
    | succ j ih =>
      intro i hi
      have hlt : cd i c d ka 0 < 16900 := cd_lt (n := 25) (by omega) (by omega) (by omega) hk (by decide)
      have p1 := vp_in_nI hlt (by decide)
      refine bX3_at_6 ⟨fun q => absurd q (nI_nlt (a := 24) (by omega) (by decide)), fun _ => ⟨nw, ⟨_, h.1, rfl⟩, k_codeOf (e := 0) ⟨_, rfl, 16900, fn, h6, p1, fun w hw v6 h6 => ?_⟩⟩⟩
      rw [nI_clamp (by omega), h7 _ hlt, lN_add, ← sm_s (fun s => P (cd s c d ka 0))] at hw
      rw [hw, h6, nI_1]
      exact ih (i + 1) (by omega)
  have L0 := L 25 0 (by omega)
  rw [sm_z] at L0
  exact eX3_at (bX3_at_0 L0)
theorem k_fcost {G : GC} {σ : PS} {a st dr nw nx o cl v see p P' : Nat} {who : Int32} {O : Nat → Nat} {S : FS} {N : Nat → Nat} {R : Option Value → Prop} (h : FlP σ a st dr nw nx o cl v see who S.1 N S.2.1 S.2.2.1 S.2.2.2) (hO : OffO σ o p O P') (hp : ∀ i, i < 12 → O i < 2 ^ 20) (k : R (some (.long (lN (qCost O S))))) : CallO G mX3_cost 3 [.ref a] σ R := by
  obtain ⟨fd, h4, h5⟩ := h.2.2.1
  obtain ⟨o1, fp, o2, o3⟩ := hO
  have pr : ∀ i, i < 5 → (fp i).toInt64 = lN (O (7 + i)) := fun i hi => by rw [o3 i hi, nI_l (by have := hp (7 + i) (by omega); omega)]
  have L : ∀ d i, i + d = 6 → At G mX3_cost 3 (fun u s => s = σ ∧ R u) (fun _ _ _ => False) 0 34 [(0, .ref a), (1, .long (lN (S.2.2.1 * O 8 + S.2.2.2 * O 9 + sm (fun p => S.2.1 p * O 7) i))), (3, .int (nI i))] [] σ := by
    intro d
    induction d with
    | zero =>
      intro i hi
      have hi : i = 6 := by omega
      subst hi
      exact bX3_cost_34 ⟨fun _ => ⟨rfl, k⟩, fun q => absurd (nI_le (a := 6) (Nat.le_refl _) (by decide)) q⟩
    | succ d ih =>
      intro i hi
      have p1 := vp_in_nI (show i < 6 by omega) (by decide)
      refine bX3_cost_34 ⟨fun q => absurd q (nI_ge (b := 6) (by omega) (by decide)), fun _ => ⟨dr, ⟨_, h.1, rfl⟩, 6, fd, h4, p1, o, ⟨_, h.1, rfl⟩, p, ⟨_, o1, rfl⟩, 5, fp, o2, by decide, fun w hw v1 h1 v3 h3 => ?_⟩⟩
      rw [nI_clamp (by omega), h5 i (by omega), pr 0 (by decide), lN_mul] at hw
      rw [hw, lN_add, Nat.add_assoc _ (sm _ i), ← sm_s (fun p => S.2.1 p * O 7)] at h1
      rw [h1, h3, nI_1]
      exact ih (i + 1) (by omega)
  refine eX3_cost (bX3_cost_0 ⟨_, ⟨_, h.1, rfl⟩, o, ⟨_, h.1, rfl⟩, p, ⟨_, o1, rfl⟩, 5, fp, o2, by decide, _, ⟨_, h.1, rfl⟩, o, ⟨_, h.1, rfl⟩, p, ⟨_, o1, rfl⟩, 5, fp, o2, by decide, fun w hw w5 h5 => ?_⟩)
  rw [pr 2 (by decide), lN_mul] at hw
  rw [pr 1 (by decide), lN_mul, hw, lN_add] at h5
  have L0 := L 6 0 (by omega)
  rw [sm_z] at L0
  rw [h5]
  exact L0
theorem k_fmean {G : GC} {σ : PS} {Q : Option Value → PS → Prop} {X : String → Nat → PS → Prop} {b a st dr nw nx o cl v see what : Nat} {who : Int32} {P N D : Nat → Nat} {wa lo : Nat} (h : FlP σ a st dr nw nx o cl v see who P N D wa lo) (hw : what < 2) (hP : ∀ x, P x ≤ 2 ^ 40) (k : ∀ τ, FlP τ a st dr nw nx o cl v see who P N D wa lo → Fr (FlW a st dr nw nx) σ τ → Q (some (.long (lN (qMean what P)))) τ) : Call G mX3_mean 4 b [.ref a, .int (nI what)] σ Q X := by
  have L : ∀ d i, i + d = 16900 → ∀ τ, FlP τ a st dr nw nx o cl v see who P N D wa lo → Fr (FlW a st dr nw nx) σ τ → At G mX3_mean 4 Q X b 5 [(0, .ref a), (1, .int (nI what)), (2, .long (lN (sm (fun x => P x * (if what = 0 then cC x else cD x)) i))), (4, .int (nI i))] [] τ := by
    intro d
    induction d with
    | zero =>
      intro i hi τ hT hF
      have hi : i = 16900 := by omega
      subst hi
      exact bX3_mean_5 ⟨fun _ => k τ hT hF, fun q => absurd (nI_le (a := 16900) (Nat.le_refl _) (by decide)) q⟩
    | succ d ih =>
      intro i hi τ hT hF
      obtain ⟨fn, h6, h7⟩ := hT.2.2.2.1
      obtain ⟨l4, h2, h3⟩ := hT.2.1
      have p1 := vp_in_nI (show i < 16900 by omega) (by decide)
      have ih1 := ih (i + 1) (by omega)
      rw [sm_s] at ih1
      have z0 : lN (P i) = 0 ↔ P i = 0 := pk_lEQ (b := 0) (by have := hP i; omega) (by decide)
      have wz : nI what = 0 ↔ what = 0 := nI_eq (b := 0) (by omega) (by decide)
      refine bX3_mean_5 ⟨fun q => absurd q (nI_ge (b := 16900) (by omega) (by decide)), fun _ => ⟨nw, ⟨_, hT.1, rfl⟩, 16900, fn, h6, p1, ?_⟩⟩
      rw [nI_clamp (by omega), h7 i (by omega)]
      have h5 : (up τ 4 st (.inl (stX i))) 4 st = some (.inl (stX i)) := up_eq
      have hx := h5
      conv at hx => rhs; unfold stX stL
      refine ⟨fun z v4 h4 => ?_, fun z => ⟨nw, ⟨_, hT.1, rfl⟩, 16900, fn, h6, p1, ?_⟩⟩
      · have := ih1 τ hT hF
        rw [z0.mp z, Nat.zero_mul, Nat.add_zero] at this
        rw [h4, nI_1]
        exact this
      · rw [h7 i (by omega)]
        have := ih1 _ (hT.st (l := stX i) rfl) (hF.tr st4_fr)
        refine ⟨fun y => ⟨st, ⟨_, hT.1, rfl⟩, ⟨_, h2⟩, k_stOf (by omega) h2 h3 ⟨_, rfl, _, ⟨_, hx, rfl⟩, fun w hw v2 e2 v4 e4 => ?_⟩⟩, fun y => ⟨st, ⟨_, hT.1, rfl⟩, ⟨_, h2⟩, k_stOf (by omega) h2 h3 ⟨_, rfl, _, ⟨_, hx, rfl⟩, fun w hw v2 e2 v4 e4 => ?_⟩⟩⟩
        · rw [if_neg (fun u => y (wz.mpr u))] at this
          rw [nI_l (by have := cD_lt i; omega), lN_mul] at hw
          rw [e2, hw, lN_add, e4, nI_1]
          exact this
        · rw [if_pos (wz.mp y)] at this
          rw [nI_l (by have := cC_lt i; omega), lN_mul] at hw
          rw [e2, hw, lN_add, e4, nI_1]
          exact this
  have L0 := L 16900 0 (by omega) σ h Fr.rf
  rw [sm_z] at L0
  exact eX3_mean (bX3_mean_0 L0)
def SgQ (σ : PS) (u : Option Nat) (o cl v : Nat) (fw fm : Nat → Int32) : Prop := ∀ q, u = some q → ∃ s0, SigO σ q o cl v fw fm s0
theorem k_fis {G : GC} {σ : PS} {Q : Option Value → PS → Prop} {X : String → Nat → PS → Prop} {b a st dr nw nx o cl v see p P' w m n what x vs : Nat} {u : Option Nat} {who : Int32} {O : Nat → Nat} {fw fm : (Nat → Int32)} {P N D : Nat → Nat} {wa lo : Nat} (hw : what ≤ 5) (h : FlP σ a st dr nw nx o cl v see who P N D wa lo) (hO : OffO σ o p O P') (hN : O 0 ≤ 12) (hC : CalO σ cl w m n fw fm) (hx : σ 4 st = some (.inl (stX x))) (hu : what = 2 → u ≠ none) (hS : SgQ σ u o cl vs fw fm) (hvs : vs < 24) (hs : cS x ≤ 24)
    (k : ∀ τ, FlP τ a st dr nw nx o cl v see who P N D wa lo → SgQ τ u o cl vs fw fm → Fr (FlW a st dr nw nx) σ τ → Q (some (.int (if isB what (O 0) (O 5) vs fm x = true then 1 else 0))) τ) : Call G mX3_is 4 b [.ref a, .int (nI what), .ref st, va_rf u] σ Q X := by
  have hxx := hx
  unfold stX at hxx
  have hx3 := hxx
  unfold stL at hx3
  have c1 := cC_lt x
  have d1 := cD_lt x
  have k1 := cK_lt x
  have o1 := hO.1
  have z0 : nI (cC x + cD x) = 0 ↔ cC x + cD x = 0 := nI_eq (b := 0) (by omega) (by decide)
  have zd : nI (cD x) = 0 ↔ cD x = 0 := nI_eq (b := 0) (by omega) (by decide)
  have zk : nI (cK x) = 1 ↔ cK x = 1 := nI_eq (b := 1) (by omega) (by decide)
  have zN : nI (cC x + cD x) = nI (O 0) ↔ cC x + cD x = O 0 := nI_eq (by omega) (by omega)
  have kk := k σ h hS Fr.rf
  refine eX3_is (bX3_is_0 ?_)
  rw [nI_toInt (show what < 2 ^ 31 by omega)]
  have lt : ∀ j : Nat, j < 6 → (nI what = nI j ↔ what = j) := fun j hj => nI_eq (by omega) (by omega)
  rw [show (nI what = (0 : Int32)) = (what = 0) from propext (lt 0 (by decide)), show (nI what = (1 : Int32)) = (what = 1) from propext (lt 1 (by decide)), show (nI what = (2 : Int32)) = (what = 2) from propext (lt 2 (by decide)), show (nI what = (3 : Int32)) = (what = 3) from propext (lt 3 (by decide)), show (nI what = (4 : Int32)) = (what = 4) from propext (lt 4 (by decide))]
  refine ⟨fun q => ⟨⟨_, hx⟩, k_in hx3 ⟨_, rfl, o, ⟨_, h.1, rfl⟩, _, ⟨_, o1, rfl⟩, fun z => ?_, fun z => ?_⟩⟩, fun q => ⟨_, ⟨_, hxx, rfl⟩, fun z => ?_, fun z => ?_⟩, fun q => ⟨⟨_, hx⟩, k_isTrue (k := .null) (by omega) hx3 ⟨_, rfl, ?_, ?_⟩⟩, fun q => ?_, fun q => ⟨_, ⟨_, hxx, rfl⟩, fun z => ?_, fun z => ?_⟩, fun q => ⟨⟨_, hx⟩, k_in hx3 ⟨_, rfl, fun z => ?_, fun z => ?_⟩⟩⟩
  · have : what = 5 := by omega
    subst this
    simp only [isB, decide_eq_true_eq] at kk
    rw [if_neg (fun y => z (zN.mpr y))] at kk
    exact kk
  · have : what = 5 := by omega
    subst this
    simp only [isB, decide_eq_true_eq] at kk
    rw [if_pos (zN.mp z)] at kk
    exact kk
  · subst q
    simp only [isB, decide_eq_true_eq] at kk
    rw [if_neg (fun y => z (zd.mpr y))] at kk
    exact kk
  · subst q
    simp only [isB, decide_eq_true_eq] at kk
    rw [if_pos (zd.mp z)] at kk
    exact kk
  · split
    · exact Or.inr rfl
    · exact Or.inl rfl
  · subst q
    simp only [isB, decide_eq_true_eq] at kk
    by_cases y : cK x = 1 ↔ cD x = 0
    · rw [if_pos y] at kk
      rw [if_pos (zk.trans y)]
      exact kk
    · rw [if_neg y] at kk
      rw [if_neg (fun w => y (zk.symm.trans w))]
      exact kk
  · subst q
    cases u with
    | none => exact absurd rfl (hu rfl)
    | some z =>
      obtain ⟨s0, hsg⟩ := hS z rfl
      refine ⟨z, rfl, ⟨_, hsg⟩, k_at hsg ⟨_, rfl, ?_⟩⟩
      have hF2 : Fr (FlW a st dr nw nx) σ (up σ 26 z (.inl [.ref o, .ref cl, .int (nI vs), .int (nI (cn fw (fw vs) (vs + 1))), .int (la fw fm vs vs), .ref st])) := Fr.rf.up (Or.inr rfl)
      have kk := k _ (h.oth (κ := 26) (x := z) (e := .inl [.ref o, .ref cl, .int (nI vs), .int (nI (cn fw (fw vs) (vs + 1))), .int (la fw fm vs vs), .ref st]) (by decide) (by decide) (by decide)) (fun q hq => ⟨_, by cases hq; exact up_eq⟩) hF2
      refine ⟨⟨_, up_eq⟩, k_isWarm (O := O) up_eq (hO.kept (hF2.kpF (by decide) (by decide) (by decide) (by decide)) (hF2.kpF (by decide) (by decide) (by decide) (by decide))) (hC.kept (hF2.kpF (by decide) (by decide) (by decide) (by decide)) (hF2.kpF (by decide) (by decide) (by decide) (by decide))) ((up_k (by decide)).trans hxx) hvs hs ⟨_, rfl, ?_, ?_⟩⟩
      · split
        · exact Or.inr rfl
        · exact Or.inl rfl
      · exact kk
  · subst q
    simp only [isB, decide_eq_true_eq] at kk
    rw [if_neg (fun y => z (zk.mpr y))] at kk
    exact kk
  · subst q
    simp only [isB, decide_eq_true_eq] at kk
    rw [if_pos (zk.mp z)] at kk
    exact kk
  · subst q
    simp only [isB, decide_eq_true_eq] at kk
    rw [if_neg (fun y => z (z0.mpr y))] at kk
    exact kk
  · subst q
    simp only [isB, decide_eq_true_eq] at kk
    rw [if_pos (z0.mp z)] at kk
    exact kk
theorem k_flikely {G : GC} {σ : PS} {Q : Option Value → PS → Prop} {X : String → Nat → PS → Prop} {b a st dr nw nx o cl v see p P' w m n what vs : Nat} {of : Int32} {who : Int32} {O : Nat → Nat} {fw fm : (Nat → Int32)} {P N D : Nat → Nat} {wa lo : Nat} (hw : what ≤ 5) (h : FlP σ a st dr nw nx o cl v see who P N D wa lo) (hP : ∀ x, P x ≤ 2 ^ 40) (hO : OffO σ o p O P') (hN : O 0 ≤ 12) (hC : CalO σ cl w m n fw fm) (hof : (of = -1 ∧ what ≠ 2) ∨ (of = nI vs ∧ 1 ≤ b)) (hvs : vs < 24)
    (k : ∀ τ, FlP τ a st dr nw nx o cl v see who P N D wa lo → Fr (FlW a st dr nw nx) σ τ → Q (some (.long (lN (qLik what (O 0) (O 5) vs fm P)))) τ) : Call G mX3_likely 5 b [.ref a, .int (nI what), .int of] σ Q X := by
  have L : ∀ b' u, (what = 2 → u ≠ none) → ∀ d i, i + d = 16900 → ∀ τ, FlP τ a st dr nw nx o cl v see who P N D wa lo → SgQ τ u o cl vs fw fm → Fr (FlW a st dr nw nx) σ τ → At G mX3_likely 5 Q X b' 32 [(0, .ref a), (1, .int (nI what)), (3, va_rf u), (4, .long (lN (sm (fun x => if isB what (O 0) (O 5) vs fm x = true then P x else 0) i))), (6, .int (nI i))] [] τ := by
    intro b' u hu d
    induction d with
    | zero =>
      intro i hi τ hT hS hF
      have hi : i = 16900 := by omega
      subst hi
      exact bX3_likely_32 ⟨fun _ => k τ hT hF, fun q => absurd (nI_le (a := 16900) (Nat.le_refl _) (by decide)) q⟩
    | succ d ih =>
      intro i hi τ hT hS hF
      obtain ⟨fn, h6, h7⟩ := hT.2.2.2.1
      obtain ⟨l4, h2, h3⟩ := hT.2.1
      have p1 := vp_in_nI (show i < 16900 by omega) (by decide)
      have ih1 := ih (i + 1) (by omega)
      rw [sm_s] at ih1
      have z0 : lN (P i) = 0 ↔ P i = 0 := pk_lEQ (b := 0) (by have := hP i; omega) (by decide)
      refine bX3_likely_32 ⟨fun q => absurd q (nI_ge (b := 16900) (by omega) (by decide)), fun _ => ⟨nw, ⟨_, hT.1, rfl⟩, 16900, fn, h6, p1, ?_⟩⟩
      rw [nI_clamp (by omega), h7 i (by omega)]
      refine ⟨fun z v4 h4 => ?_, fun z => ⟨st, ⟨_, hT.1, rfl⟩, ⟨_, h2⟩, k_stOf (by omega) h2 h3 ⟨_, rfl, ?_⟩⟩⟩
      · have := ih1 τ hT hS hF
        rw [z0.mp z, ite_self, Nat.add_zero] at this
        rw [h4, nI_1]
        exact this
      · have hT1 := hT.st (l := stX i) rfl
        have hF1 := hF.tr (st4_fr (a := a) (st := st) (dr := dr) (nw := nw) (nx := nx) (e := .inl (stX i)))
        have hS1 : SgQ (up τ 4 st (.inl (stX i))) u o cl vs fw fm := fun q hq => by
          obtain ⟨s0, hs⟩ := hS q hq
          exact ⟨s0, (up_k (by decide)).trans hs⟩
        have hci : cS i ≤ 24 := by
          have := cS_lt (x := i) (n := 25) (by omega)
          omega
        refine ⟨⟨_, hT1.1⟩, k_fis (O := O) hw hT1 (hO.kept (hF1.kpF (by decide) (by decide) (by decide) (by decide)) (hF1.kpF (by decide) (by decide) (by decide) (by decide))) hN (hC.kept (hF1.kpF (by decide) (by decide) (by decide) (by decide)) (hF1.kpF (by decide) (by decide) (by decide) (by decide))) up_eq hu hS1 hvs hci (fun υ hU hSU hFU => ⟨_, rfl, fun y v6 e6 => ?_, fun y => ?_⟩)⟩
        · have := ih1 υ hU hSU (hF1.tr hFU)
          by_cases e : isB what (O 0) (O 5) vs fm i = true
          · rw [if_pos e] at y
            exact absurd y (by decide)
          · rw [if_neg e, Nat.add_zero] at this
            rw [e6, nI_1]
            exact this
        · have := ih1 υ hU hSU (hF1.tr hFU)
          by_cases e : isB what (O 0) (O 5) vs fm i = true
          · rw [if_pos e] at this
            obtain ⟨fn2, g6, g7⟩ := hU.2.2.2.1
            refine ⟨nw, ⟨_, hU.1, rfl⟩, 16900, fn2, g6, p1, fun w hw v6 e6 => ?_⟩
            rw [g7 i (by omega), lN_add] at hw
            rw [hw, e6, nI_1]
            exact this
          · rw [if_neg e] at y
            exact absurd rfl y
  refine eX3_likely (bX3_likely_0 ⟨fun q => ?_, fun q => ?_⟩)
  · rcases hof with ⟨z, _⟩ | ⟨z, hb⟩
    · exact absurd z q
    · subst z
      refine ⟨hb, fun q hq s1 hs1 => ?_⟩
      subst hs1
      have hT1 := h.oth (κ := 26) (x := q) (e := .inl [.null, .null, .int 0, .int 0, .int 0, .null]) (by decide) (by decide) (by decide)
      have hF1 : Fr (FlW a st dr nw nx) σ (up σ 26 q (.inl [.null, .null, .int 0, .int 0, .int 0, .null])) := Fr.rf.up (Or.inr rfl)
      have hC1 := hC.kept (hF1.kpF (by decide) (by decide) (by decide) (by decide)) (hF1.kpF (by decide) (by decide) (by decide) (by decide))
      refine ⟨o, ⟨_, hT1.1, rfl⟩, cl, ⟨_, hT1.1, rfl⟩, k_sight rfl rfl up_eq hC1 hvs ⟨rfl, ?_⟩⟩
      have L0 := L (b - 1) (some q) (fun _ => by simp) 16900 0 (by omega) _ (hT1.oth (κ := 26) (x := q) (e := .inl [.ref o, .ref cl, .int (nI vs), .int (nI (cn fw (fw vs) (vs + 1))), .int (la fw fm vs vs), .null]) (by decide) (by decide) (by decide)) (fun q' hq' => ⟨.null, by cases hq'; exact up_eq⟩) (hF1.up (Or.inr rfl))
      rw [sm_z] at L0
      exact L0
  · rcases hof with ⟨z, z2⟩ | ⟨z, hb⟩
    · have L0 := L b none (fun y => absurd y z2) 16900 0 (by omega) σ h (fun q hq => by cases hq) Fr.rf
      rw [sm_z] at L0
      exact L0
    · rw [z] at q
      have := nI_toInt (show vs < 2 ^ 31 by omega)
      rw [q] at this
      exact absurd this (by rw [show ((-1 : Int32)).toInt = -1 from rfl]; omega)
theorem k_ftruly {G : GC} {σ : PS} {Q : Option Value → PS → Prop} {X : String → Nat → PS → Prop} {b a st dr nw nx o cl v see p P' w m n : Nat} {who : Int32} {O : Nat → Nat} {fw fm : (Nat → Int32)} {P N D : Nat → Nat} {wa lo : Nat} (h : FlP σ a st dr nw nx o cl v see who P N D wa lo) (hP : ∀ x, P x ≤ 2 ^ 40) (hO : OffO σ o p O P') (hN : O 0 ≤ 12) (hC : CalO σ cl w m n fw fm)
    (k : ∀ τ, FlP τ a st dr nw nx o cl v see who P N D wa lo → Fr (FlW a st dr nw nx) σ τ → Q (some (.long (lN (qLik 1 (O 0) (O 5) 0 fm P)))) τ) : Call G mX3_truly 6 b [.ref a] σ Q X :=
  eX3_truly (bX3_truly_0 ⟨0, Nat.zero_le _, ⟨_, h.1⟩, k_flikely (what := 1) (vs := 0) (by decide) h hP hO hN hC (Or.inl ⟨rfl, by decide⟩) (by decide) (fun τ hT hF => ⟨_, rfl, k τ hT hF⟩)⟩)
