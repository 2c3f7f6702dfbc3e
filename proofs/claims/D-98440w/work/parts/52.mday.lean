/-! Part B: the reference's day -/
def tOK (cs : List (Nat × Int32)) : Prop := cs = [] ∨ ∃ d, WT d true cs
def HabM (I : Nat → Nat → Int32) (p : Nat) (L : List StT) : Prop := I 27 p = nI L.length ∧ L.length ≤ 8 ∧ ∃ fr : Nat → Nat, ∀ s S, L[s]? = some S → stOK S ∧ I 26 (32 * p + 4 * s) = nI S.1 ∧ I 26 (32 * p + 4 * s + 1) = nI S.2.1 ∧ I 26 (32 * p + 4 * s + 2) = nI (fr s) ∧ I 26 (32 * p + 4 * s + 3) = nI (fr s + S.2.2.length) ∧ fr s + S.2.2.length ≤ 150 ∧ CodesAt I (150 * p + fr s) S.2.2 ∧ tOK S.2.2
theorem HabM.cong {I I' : Nat → Nat → Int32} {p : Nat} {L : List StT} (h : HabM I p L) (e27 : I' 27 = I 27) (e26 : I' 26 = I 26) (e24 : I' 24 = I 24) (e25 : I' 25 = I 25) : HabM I' p L := by
  obtain ⟨h1, h2, fr, h3⟩ := h
  refine ⟨by rw [e27]; exact h1, h2, fr, fun s S hs => ?_⟩
  obtain ⟨a1, a2, a3, a4, a5, a6, a7, a8⟩ := h3 s S hs
  refine ⟨a1, by rw [e26]; exact a2, by rw [e26]; exact a3, by rw [e26]; exact a4, by rw [e26]; exact a5, a6, fun i q hq => ?_, a8⟩
  rw [e24, e25]
  exact a7 i q hq
theorem w_isSo {G : GC} {ad : Nat → Nat} {o : Nat} {F : Nat → Int32} {L : Nat → Int64} {I : Nat → Nat → Int32} {J : Nat → Nat → Int64} {Q : MPost} {p s : Nat} {S : StT} {L' : List StT} (Fc : Nat → Int32) (hF : ∀ i, i < 8 → I 56 i = Fc i) (hH : HabM I p L') (hp : p < 7) (hs : L'[s]? = some S) (k : ∀ A, Q (some (.int (if so Fc S.2.2 = true then 1 else 0))) F L (aS I 23 A) J) : CallM G mX9_isSo 4 ad o [.ref o, .int (nI p), .int (nI s)] F L I J Q := by
  obtain ⟨h1, h2, fr, h3⟩ := hH
  obtain ⟨-, a2, a3, a4, a5, a6, a7, a8⟩ := h3 s S hs
  have hsl : s < 8 := Nat.lt_of_lt_of_le (List.getElem?_eq_some_iff.mp hs).1 h2
  refine eX9_isSo (fun σ0 => bX9_isSo_0 (fun w hw => ?_))
  have ew : w = nI (32 * p + 4 * s + 2) := by rw [hw, show (32 : Int32) = nI 32 from rfl, show (4 : Int32) = nI 4 from rfl, show (2 : Int32) = nI 2 from rfl, pk_mul, pk_mul, nI_add, nI_add]
  rw [ew, nI_clamp (by omega), a4]
  refine ⟨vp_in_nI (by omega) (by decide), fun v3 hv3 w1 hw1 => ?_⟩
  have ew1 : w1 = nI (32 * p + 4 * s + 3) := by rw [hw1, show (32 : Int32) = nI 32 from rfl, show (4 : Int32) = nI 4 from rfl, show (3 : Int32) = nI 3 from rfl, pk_mul, pk_mul, nI_add, nI_add]
  rw [ew1, nI_clamp (by omega), a5]
  refine ⟨vp_in_nI (by omega) (by decide), fun v4 hv4 => ?_⟩
  rw [hv3, hv4]
  refine ⟨fun q v6 hv6 => ?_, fun q => ?_⟩
  · have hne : S.2.2 ≠ [] := by
      intro z
      rw [z] at q
      exact q rfl
    rcases a8 with z | ⟨d, a8⟩
    · exact absurd z hne
    · have e6 : v6 = nI (150 * p + fr s) := by rw [hv6, show (150 : Int32) = nI 150 from rfl, pk_mul, nI_add]
      have hE : 150 * nI p + nI (fr s + S.2.2.length) = nI (150 * p + fr s + S.2.2.length) := by rw [show (150 : Int32) = nI 150 from rfl, pk_mul, nI_add, Nat.add_assoc]
      rw [e6]
      have := w_run (L := L) (J := J) (σ0 := σ0) (ad := ad) (o := o) (G := G) (F := F) (Q := Q) Fc hF hE (by omega) d true S.2.2 a8 (150 * p + fr s) [] (I 23) a7 (Nat.le_refl _) (by simp; omega) (fun i x hx => by simp at hx) (fun x A' hx hb' hA' => ?_)
      · rw [aS_self] at this
        exact this
      · have top := hA'.top
        have top : A' 0 = x := top
        have e : so Fc S.2.2 = decide (x = 1) := by
          simp [so, hx, hne]
        have kA := k A'
        rw [e] at kA
        refine bX9_isSo_53 ⟨fun _ => ⟨fun z => ?_, fun z => ?_⟩, fun z => absurd (by rw [hE]; exact nI_le (Nat.le_refl _) (by omega)) z⟩
        · rw [aS_eq, top] at z
          simpa [z] using kA
        · rw [aS_eq, top] at z
          simpa [z] using kA
  · have hne : S.2.2 = [] := by
      have := (nI_eq (by omega) (by omega)).mp q
      exact List.eq_nil_of_length_eq_zero (by omega)
    have kA := k (I 23)
    rw [aS_self, hne] at kA
    exact kA
theorem iN {P A B : Prop} (h : ¬ P) (a : A) : (¬ P → A) ∧ (P → B) := ⟨fun _ => a, fun p => absurd p h⟩
theorem iY {P A B : Prop} (h : P) (b : B) : (¬ P → A) ∧ (P → B) := ⟨fun n => absurd h n, fun _ => b⟩
theorem jY {P A B : Prop} (h : P) (a : A) : (P → A) ∧ (¬ P → B) := ⟨fun _ => a, fun n => absurd h n⟩
theorem jN {P A B : Prop} (h : ¬ P) (b : B) : (P → A) ∧ (¬ P → B) := ⟨fun p => absurd p h, fun _ => b⟩
theorem aS_of {I I' : Nat → Nat → Int32} {k : Nat} (h : ∀ a, a ≠ k → I' a = I a) : aS I k (I' k) = I' := by
  funext a
  unfold aS
  by_cases q : a = k
  · subst q; simp
  · simp only [if_neg q]; rw [h a q]
theorem aU_ne {I : Nat → Nat → Int32} {k i a : Nat} {v : Int32} (h : a ≠ k) : aU I k i v a = I a := if_neg h
theorem aU_at {I : Nat → Nat → Int32} {k i j : Nat} {v : Int32} : aU I k i v k j = if j = i then v else I k j := by
  unfold aU
  simp
theorem i_ss (a b c : Int32) : a - b - c = a - (b + c) := by
  simp only [Int32.sub_eq_add_neg, Int32.neg_add]
  rw [← Int32.add_assoc]
theorem w_findFacts {G : GC} {ad : Nat → Nat} {o : Nat} {F : Nat → Int32} {L : Nat → Int64} {I : Nat → Nat → Int32} {J : Nat → Nat → Int64} {Q : MPost} {v s c d k e N W : Nat} {fw fm : (Nat → Int32)} (hv : v < 24) (h1 : F 51 = nI c) (h2 : F 52 = nI d) (h3 : F 53 = nI k) (h4 : F 54 = nI s) (h5 : F 55 = nI e) (hs : s ≤ v + 1) (hN : I 11 0 = nI N) (hW : I 11 5 = nI W) (f4 : I 56 4 = fm v) (f6 : I 56 6 = la fw fm v v) (f7 : I 56 7 = nI (cn fw (fw v) (v + 1))) (hag : ∀ i, i ≤ v → I 15 i = fm i)
    (kk : ∀ A, (∀ i, i < 8 → A i = fac N W fw fm v s c d k e i) → Q none F L (aS I 56 A) J) : CallM G mX9_findFacts 4 ad o [.ref o, .int (nI v)] F L I J Q := by
  refine eX9_findFacts (fun σ0 => bX9_findFacts_0 (fun I1 hI1 => ?_))
  have e11 : I1 11 = I 11 := by rw [hI1]; exact aU_ne (by decide)
  have e15 : I1 15 = I 15 := by rw [hI1]; exact aU_ne (by decide)
  have ew : wm (I1 15) W v s = wm fm W v s := by
    rw [e15]
    unfold wm
    by_cases z : s = 0
    · subst z; simp
    · rw [hag v (Nat.le_refl _), hag (s - 1) (by omega)]
  refine w_isWarm hv h4 (by omega) (by rw [e11]; exact hW) ⟨_, rfl, ?_⟩
  have fin : ∀ (b : Int32) (I2 I3 I4 I5 : Nat → Nat → Int32) (w : Int32), b = fac N W fw fm v s c d k e 1 → I2 = aU I1 56 1 b → I3 = aU I2 56 2 (F 51 + F 52) → w = I3 11 0 - F 51 - F 52 → I4 = aU I3 56 3 w → I5 = aU I4 56 5 (F 55) → Q none F L I5 J := by
    intro b I2 I3 I4 I5 w hb g2 g3 gw g4 g5
    have e3 : I3 11 = I 11 := by rw [g3, aU_ne (by decide), g2, aU_ne (by decide), e11]
    have en : ∀ a, a ≠ 56 → I5 a = I a := fun a ha => by rw [g5, aU_ne ha, g4, aU_ne ha, g3, aU_ne ha, g2, aU_ne ha, hI1, aU_ne ha]
    rw [← aS_of en]
    refine kk _ (fun i hi => ?_)
    rw [e3, hN, h1, h2, i_ss, nI_add] at gw
    have gg : ∀ j, I5 56 j = if j = 5 then F 55 else if j = 3 then w else if j = 2 then F 51 + F 52 else if j = 1 then b else if j = 0 then F 53 else I 56 j := by
      intro j
      rw [g5, aU_at, g4, aU_at, g3, aU_at, g2, aU_at, hI1, aU_at]
    rw [gg]
    have hi : i = 0 ∨ i = 1 ∨ i = 2 ∨ i = 3 ∨ i = 4 ∨ i = 5 ∨ i = 6 ∨ i = 7 := by omega
    rcases hi with rfl | rfl | rfl | rfl | rfl | rfl | rfl | rfl
    · exact h3
    · exact hb
    · exact (by rw [h1, h2, nI_add] : F 51 + F 52 = nI (c + d))
    · exact gw
    · exact f4
    · exact h5
    · exact f6
    · exact f7
  rw [ew]
  refine ⟨fun q I2 g2 I3 g3 w gw I4 g4 I5 g5 => fin 0 I2 I3 I4 I5 w ?_ g2 g3 gw g4 g5, fun q I2 g2 I3 g3 w gw I4 g4 I5 g5 => fin 1 I2 I3 I4 I5 w ?_ g2 g3 gw g4 g5⟩
  · by_cases z : wm fm W v s = true
    · rw [if_pos z] at q; exact absurd q (by decide)
    · simp only [fac, if_neg z]
  · by_cases z : wm fm W v s = true
    · simp only [fac, if_pos z]
    · rw [if_neg z] at q; exact absurd rfl q
/-- the reference's fields on a day -/
def DayM (F : Nat → Int32) (y : DY) : Prop := match y with
  | (l, dr, wa, lo, s, c, d, k, e) => F 57 = l ∧ F 58 = dr ∧ F 59 = wa ∧ F 60 = lo ∧ F 54 = nI s ∧ F 51 = nI c ∧ F 52 = nI d ∧ F 53 = nI k ∧ F 55 = nI e
def DayE (F : Nat → Int32) (y : DY) : Prop := match y with
  | (l, dr, wa, lo, s, c, d, k, _) => F 57 = l ∧ F 58 = dr ∧ F 59 = wa ∧ F 60 = lo ∧ F 54 = nI s ∧ F 51 = nI c ∧ F 52 = nI d ∧ F 53 = nI k
def FD (F F' : Nat → Int32) : Prop := ∀ j, (j < 51 ∨ 60 < j) → F' j = F j
def ID (I I' : Nat → Nat → Int32) : Prop := ∀ a, a ≠ 56 → a ≠ 23 → I' a = I a
theorem FD.rf {F : Nat → Int32} : FD F F := fun _ _ => rfl
theorem FD.tr {F F' F'' : Nat → Int32} (h : FD F F') (h2 : FD F' F'') : FD F F'' := fun j hj => (h2 j hj).trans (h j hj)
theorem FD.u {F F' : Nat → Int32} {k : Nat} {v : Int32} (h : FD F F') (hk : 51 ≤ k ∧ k ≤ 60) : FD F (fU F' k v) := fun j hj => by
  unfold fU
  rw [if_neg (by omega)]
  exact h j hj
theorem ID.rf {I : Nat → Nat → Int32} : ID I I := fun _ _ _ => rfl
theorem ID.tr {I I' I'' : Nat → Nat → Int32} (h : ID I I') (h2 : ID I' I'') : ID I I'' := fun a h1 h3 => (h2 a h1 h3).trans (h a h1 h3)
theorem ID.s {I : Nat → Nat → Int32} {k : Nat} {A : Nat → Int32} (hk : k = 56 ∨ k = 23) : ID I (aS I k A) := fun a h1 h2 => aS_ne (by omega)
theorem ID.u {I I' : Nat → Nat → Int32} {k i : Nat} {v : Int32} (h : ID I I') (hk : k = 56 ∨ k = 23) : ID I (aU I' k i v) := fun a h1 h2 => (aU_ne (by omega)).trans (h a h1 h2)
theorem w_dayDoes {G : GC} {ad : Nat → Nat} {o : Nat} {F : Nat → Int32} {L : Nat → Int64} {I : Nat → Nat → Int32} {J : Nat → Nat → Int64} {Q : MPost} {act v N see : Nat} {y : DY} (hact : act ≤ 7) (hD : DayM F y) (hN : I 11 0 = nI N) (hN2 : N ≤ 12) (hse : I 11 6 = nI see) (hsee : see ≤ 16) (hy : dyB (v + 1) y) (kk : ∀ F', DayM F' (onDay N see v act y) → FD F F' → Q none F' L I J) : CallM G mX9_dayDoes 4 ad o [.ref o, .int (nI act), .int (nI v)] F L I J Q := by
  obtain ⟨l, dr, wa, lo, s, c, d, k, e⟩ := y
  obtain ⟨h57, h58, h59, h60, h54, h51, h52, h53, h55⟩ := hD
  obtain ⟨b1, b2, b3, b4⟩ := hy
  have b2 : c + d ≤ 12 := b2
  have b3 : k < 2 := b3
  refine eX9_dayDoes (fun σ0 => bX9_dayDoes_0 (fun v3 hv3 => ?_))
  rw [h51, h52, nI_add] at hv3
  subst hv3
  have z0 : nI (c + d) = 0 ↔ c + d = 0 := nI_eq (b := 0) (by omega) (by decide)
  have hx : act = 0 ∨ act = 1 ∨ act = 2 ∨ act = 3 ∨ act = 4 ∨ act = 5 ∨ act = 6 ∨ act = 7 := by omega
  rcases hx with rfl | rfl | rfl | rfl | rfl | rfl | rfl | rfl
  · refine iY rfl ⟨fun q F1 hF1 => ?_, fun q F1 hF1 => ?_⟩
    · rw [hN] at q
      have q2 := (nI_leI (by omega) (by omega)).mp q
      refine kk F1 ?_ (hF1 ▸ FD.rf.u (by decide))
      simp only [onDay, if_neg (show ¬ c + d < N by omega)]
      refine ⟨?_, ?_, ?_, ?_, ?_, ?_, ?_, ?_, ?_⟩ <;> simp [hF1, fU, *]
    · rw [hN] at q
      have q2 : ¬ N ≤ c + d := fun z => q ((nI_leI (by omega) (by omega)).mpr z)
      refine kk F1 ?_ (hF1 ▸ FD.rf.u (by decide))
      simp only [onDay, if_pos (show c + d < N by omega)]
      refine ⟨?_, ?_, ?_, ?_, ?_, ?_, ?_, ?_, ?_⟩ <;> simp [hF1, fU, nI_1, *]
  · refine iN (by decide) (iY rfl ⟨fun q => ?_, fun q => ?_⟩)
    · have q1 : ¬ c + d = 0 := fun z => q (z0.mpr z)
      refine w_draws (by omega) (by omega) ⟨_, rfl, ?_⟩
      have hm : dv (nx (F 57)) % (c + d) < c + d := Nat.mod_lt _ (by omega)
      have g52 : fU F 57 (nx (F 57)) 52 = nI d := by simp [fU, h52]
      dsimp only
      rw [g52]
      refine ⟨fun w => ?_, fun w => ?_⟩
      · have w1 := (nI_leI (a := d) (by omega) (by omega)).mp w
        refine bX9_dayDoes_68 (jY rfl (fun F1 hF1 => jY rfl (bX9_dayDoes_104 (fun F2 hF2 => jY rfl (fun F3 hF3 => ?_)))))
        subst hF3
        subst hF2
        subst hF1
        refine kk _ ?_ ((((FD.rf.u (by decide)).u (by decide)).u (by decide)).u (by decide))
        rw [h57] at w1 hm
        simp only [onDay, if_neg q1, if_neg (show ¬ dv (nx l) % (c + d) < d by omega)]
        refine ⟨?_, ?_, ?_, ?_, ?_, ?_, ?_, ?_, ?_⟩ <;> simp [fU, *]
        exact pk_sub (b := 1) (by omega)
      · have w1 : ¬ d ≤ dv (nx (F 57)) % (c + d) := fun z => w ((nI_leI (a := d) (by omega) (by omega)).mpr z)
        refine bX9_dayDoes_68 (jN (by decide) (fun F1 hF1 => jN (by decide) (bX9_dayDoes_104 (fun F2 hF2 => jN (by decide) (fun F3 hF3 => ?_)))))
        subst hF3
        subst hF2
        subst hF1
        refine kk _ ?_ ((((FD.rf.u (by decide)).u (by decide)).u (by decide)).u (by decide))
        rw [h57] at w1
        simp only [onDay, if_neg q1, if_pos (show dv (nx l) % (c + d) < d by omega)]
        refine ⟨?_, ?_, ?_, ?_, ?_, ?_, ?_, ?_, ?_⟩ <;> simp [fU, *]
        exact pk_sub (b := 1) (by omega)
    · refine kk F ?_ FD.rf
      simp only [onDay, if_pos (z0.mp q)]
      exact ⟨h57, h58, h59, h60, h54, h51, h52, h53, h55⟩
  · refine iN (by decide) (iN (by decide) (iY rfl (fun F1 hF1 => ⟨fun q => ?_, fun q => ?_⟩)))
    · have g : F1 52 = nI d := by rw [hF1]; simp [fU, h52]
      rw [g] at q
      have q1 : d = 0 := by
        have := (nI_leI (a := d) (b := 0) (by omega) (by decide)).mp q
        omega
      refine kk F1 ?_ (hF1 ▸ FD.rf.u (by decide))
      simp only [onDay, if_pos q1]
      refine ⟨?_, ?_, ?_, ?_, ?_, ?_, ?_, ?_, ?_⟩ <;> simp [hF1, fU, *]
    · have g : F1 52 = nI d := by rw [hF1]; simp [fU, h52]
      rw [g] at q
      have q1 : ¬ d = 0 := fun z => q (by rw [z]; decide)
      have g57 : F1 57 = l := by rw [hF1]; simp [fU, h57]
      have hm : dv (nx l) % 16 < 2 ^ 31 := Nat.lt_trans (Nat.mod_lt _ (by decide)) (by decide)
      refine w_draws (m := 16) (by decide) (by decide) ⟨_, rfl, ?_⟩
      dsimp only
      rw [hse, g57]
      refine ⟨fun w => ?_, fun w F2 hF2 => ?_⟩
      · have w1 := (nI_leI (by omega) hm).mp w
        refine kk _ ?_ ((hF1 ▸ FD.rf.u (by decide) : FD F F1).u (by decide))
        simp only [onDay, if_neg q1, if_neg (show ¬ dv (nx l) % 16 < see by omega)]
        refine ⟨?_, ?_, ?_, ?_, ?_, ?_, ?_, ?_, ?_⟩ <;> simp [hF1, fU, *]
      · have w1 : ¬ see ≤ dv (nx l) % 16 := fun y => w ((nI_leI (by omega) hm).mpr y)
        refine kk _ ?_ (hF2 ▸ ((hF1 ▸ FD.rf.u (by decide) : FD F F1).u (by decide)).u (by decide))
        simp only [onDay, if_neg q1, if_pos (show dv (nx l) % 16 < see by omega)]
        refine ⟨?_, ?_, ?_, ?_, ?_, ?_, ?_, ?_, ?_⟩ <;> simp [hF2, hF1, fU, *]
        rfl
  · refine iN (by decide) (iN (by decide) (iN (by decide) (iY rfl ⟨fun q F1 hF1 F2 hF2 F3 hF3 F4 hF4 => ?_, fun q => ?_⟩)))
    · have q1 : ¬ c + d = 0 := fun z => q (z0.mpr z)
      subst hF4
      subst hF3
      subst hF2
      subst hF1
      refine kk _ ?_ ((((FD.rf.u (by decide)).u (by decide)).u (by decide)).u (by decide))
      simp only [onDay, if_neg q1]
      refine ⟨?_, ?_, ?_, ?_, ?_, ?_, ?_, ?_, ?_⟩ <;> simp [fU, nI_1, *]
      rfl
    · refine kk F ?_ FD.rf
      simp only [onDay, if_pos (z0.mp q)]
      exact ⟨h57, h58, h59, h60, h54, h51, h52, h53, h55⟩
  · refine iN (by decide) (iN (by decide) (iN (by decide) (iN (by decide) (iY rfl (fun F1 hF1 F2 hF2 => ?_)))))
    subst hF2
    subst hF1
    refine kk _ ?_ ((FD.rf.u (by decide)).u (by decide))
    simp only [onDay]
    refine ⟨?_, ?_, ?_, ?_, ?_, ?_, ?_, ?_, ?_⟩ <;> simp [fU, *] <;> rfl
  · refine iN (by decide) (iN (by decide) (iN (by decide) (iN (by decide) (iN (by decide) (iY rfl (fun F1 hF1 => ?_))))))
    subst hF1
    refine kk _ ?_ (FD.rf.u (by decide))
    simp only [onDay]
    refine ⟨?_, ?_, ?_, ?_, ?_, ?_, ?_, ?_, ?_⟩ <;> simp [fU, *] <;> rfl
  · refine iN (by decide) (iN (by decide) (iN (by decide) (iN (by decide) (iN (by decide) (iN (by decide) (iY rfl (fun F1 hF1 => ?_)))))))
    subst hF1
    refine kk _ ?_ (FD.rf.u (by decide))
    simp only [onDay]
    refine ⟨?_, ?_, ?_, ?_, ?_, ?_, ?_, ?_, ?_⟩ <;> simp [fU, *] <;> rfl
  · refine iN (by decide) (iN (by decide) (iN (by decide) (iN (by decide) (iN (by decide) (iN (by decide) (iN (by decide) (fun F1 hF1 => ?_)))))))
    subst hF1
    refine kk _ ?_ (FD.rf.u (by decide))
    simp only [onDay]
    refine ⟨?_, ?_, ?_, ?_, ?_, ?_, ?_, ?_, ?_⟩ <;> simp [fU, *]
    exact pk_sub (a := 1) (by omega)
