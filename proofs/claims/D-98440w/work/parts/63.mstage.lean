/-! Part B: the reference's stages -/
def Fr9 (F F' : Nat → Int32) : Prop := ∀ j, j ≠ 35 → j ≠ 36 → (j < 51 ∨ 55 < j) → F' j = F j
def Ir9 (I I' : Nat → Nat → Int32) : Prop := ∀ a, a ≠ 33 → a ≠ 34 → a ≠ 56 → a ≠ 23 → I' a = I a
theorem Fr9.rf {F : Nat → Int32} : Fr9 F F := fun _ _ _ _ => rfl
theorem Fr9.tr {F F' F'' : Nat → Int32} (h : Fr9 F F') (h2 : Fr9 F' F'') : Fr9 F F'' := fun j a b c => (h2 j a b c).trans (h j a b c)
theorem Fr9.o36 {F F' : Nat → Int32} (h : ∀ j, j ≠ 36 → F' j = F j) : Fr9 F F' := fun j _ b _ => h j b
theorem Fr9.o51 {F F' : Nat → Int32} (h : ∀ j, (j < 51 ∨ 55 < j) → F' j = F j) : Fr9 F F' := fun j _ _ c => h j c
theorem Fr9.o35 {F F' : Nat → Int32} (h : ∀ j, j ≠ 35 → j ≠ 36 → F' j = F j) : Fr9 F F' := fun j a b _ => h j a b
theorem Ir9.rf {I : Nat → Nat → Int32} : Ir9 I I := fun _ _ _ _ _ => rfl
theorem Ir9.tr {I I' I'' : Nat → Nat → Int32} (h : Ir9 I I') (h2 : Ir9 I' I'') : Ir9 I I'' := fun j a b c d => (h2 j a b c d).trans (h j a b c d)
theorem Ir9.o34 {I I' : Nat → Nat → Int32} (h : ∀ a, a ≠ 34 → I' a = I a) : Ir9 I I' := fun j _ b _ _ => h j b
theorem Ir9.o33 {I I' : Nat → Nat → Int32} (h : ∀ a, a ≠ 33 → I' a = I a) : Ir9 I I' := fun j a _ _ _ => h j a
theorem Ir9.s {I : Nat → Nat → Int32} {k : Nat} {A : Nat → Int32} (hk : k = 56 ∨ k = 23) : Ir9 I (aS I k A) := fun a _ _ h1 h2 => aS_ne (by omega)
theorem Ir9.u {I I' : Nat → Nat → Int32} {i : Nat} {v : Int32} (h : Ir9 I I') : Ir9 I (aU I' 56 i v) := fun a h1 h2 h3 h4 => (gU_ne h3).trans (h a h1 h2 h3 h4)
theorem StF.k36 {F F' : Nat → Int32} {s c d k e : Nat} (h : StF F s c d k e) (f : ∀ j, j ≠ 36 → F' j = F j) : StF F' s c d k e := by
  obtain ⟨h1, h2, h3, h4, h5⟩ := h
  exact ⟨(f _ (by decide)).trans h1, (f _ (by decide)).trans h2, (f _ (by decide)).trans h3, (f _ (by decide)).trans h4, (f _ (by decide)).trans h5⟩
/-- the context that stays -/
def MCx (O : Nat → Nat) (fw fm : Nat → Int32) (n : Nat) (I : Nat → Nat → Int32) : Prop := (∀ i, i < 12 → I 11 i = nI (O i)) ∧ ∀ i, i < n → I 14 i = fw i ∧ I 15 i = fm i
theorem MCx.keep {O : Nat → Nat} {fw fm : (Nat → Int32)} {n : Nat} {I I' : Nat → Nat → Int32} (h : MCx O fw fm n I) (f : Ir9 I I') : MCx O fw fm n I' :=
  ⟨fun i hi => by rw [f 11 (by decide) (by decide) (by decide) (by decide)]; exact h.1 i hi, fun i hi => by rw [f 14 (by decide) (by decide) (by decide) (by decide), f 15 (by decide) (by decide) (by decide) (by decide)]; exact h.2 i hi⟩
theorem HabM.keep {I I' : Nat → Nat → Int32} {p : Nat} {l : List StT} (h : HabM I p l) (f : Ir9 I I') : HabM I' p l :=
  h.cong (f 27 (by decide) (by decide) (by decide) (by decide)) (f 26 (by decide) (by decide) (by decide) (by decide)) (f 24 (by decide) (by decide) (by decide) (by decide)) (f 25 (by decide) (by decide) (by decide) (by decide))
def scl (g : Nat → List (Nat × Nat)) (lv : Nat → Nat) (i y : Nat) : Nat := sm (fun j => ct (g (lv j)) y) i
theorem scl_s (g : Nat → List (Nat × Nat)) (lv : Nat → Nat) (i y : Nat) : scl g lv (i + 1) y = scl g lv i y + ct (g (lv i)) y := sm_s _ _
theorem scl_z (g : Nat → List (Nat × Nat)) (lv : Nat → Nat) (y : Nat) : scl g lv 0 y = 0 := sm_z _
theorem sml_end {lv f P : Nat → Nat} {n : Nat} (hr : Row lv n 16900) (hs : ∀ x, x < 16900 → P x ≠ 0 → ∃ i, i < n ∧ lv i = x) (hf : ∀ x, P x = 0 → f x = 0) : sm (fun j => f (lv j)) n = sm f 16900 :=
  sm_row hr (fun x hx h => hs x hx (fun z => h (hf x z)))
theorem scl_end {g : Nat → List (Nat × Nat)} {lv P : Nat → Nat} {n y : Nat} (hr : Row lv n 16900) (hs : ∀ x, x < 16900 → P x ≠ 0 → ∃ i, i < n ∧ lv i = x) (ht : ∀ x, tt (g x) = P x) : scl g lv n y = sc g 16900 y :=
  sml_end (f := fun x => ct (g x) y) hr hs (fun x z => ct_zero (by rw [ht, z]))
theorem scl_le {g : Nat → List (Nat × Nat)} {lv P : Nat → Nat} {n i y : Nat} (hr : Row lv n 16900) (hs : ∀ x, x < 16900 → P x ≠ 0 → ∃ i, i < n ∧ lv i = x) (ht : ∀ x, tt (g x) = P x) (hi : i ≤ n) : scl g lv i y ≤ sm P 16900 := by
  have h1 : scl g lv i y ≤ sm (fun j => P (lv j)) i := sm_le (fun j _ => by rw [← ht]; exact ct_le y _)
  have h2 : sm (fun j => P (lv j)) n = sm P 16900 := sml_end hr hs (fun x z => z)
  have h3 : sm (fun j => P (lv j)) i ≤ sm (fun j => P (lv j)) n := sm_mono hi
  omega
theorem FlM.rw9 {F : Nat → Int32} {L : Nat → Int64} {I : Nat → Nat → Int32} {J : Nat → Nat → Int64} {n : Nat} {lv P N D : Nat → Nat} {wa lo : Nat} (h : FlM F L I J n lv P N D wa lo) : Row lv n 16900 ∧ (∀ x, x < 16900 → P x ≠ 0 → ∃ i, i < n ∧ lv i = x) ∧ F 35 = nI n ∧ n ≤ 16900 := ⟨h.2.2.2.1.2.2.1, h.2.2.2.1.2.2.2.2, h.2.2.2.1.1, h.2.2.2.1.2.1⟩
theorem flp_lt {x : Nat} (hx : x < 16900) : flp x < 16900 := cd_lt (n := 25) (cS25 hx) (cC_lt x) (cD_lt x) (by omega) (cE_lt x)
theorem w_ig {G : GC} {ad : Nat → Nat} {o : Nat} {F : Nat → Int32} {L : Nat → Int64} {I : Nat → Nat → Int32} {J : Nat → Nat → Int64} {n t wa lo s c d k e : Nat} {lv P N D : Nat → Nat} {R : (Nat → Int32) → (Nat → Int64) → (Nat → Nat → Int32) → (Nat → Nat → Int64) → Prop} (h : FlM F L I J n lv P N D wa lo) (hs : s < 25) (hc : c < 13) (hd : d < 13) (hk : k < 2) (he : e < 2) (ht : t ≤ 2 ^ 40) (hN : ∀ y, N y ≤ 2 ^ 41)
    (kk : ∀ F' I' J', FlM F' L I' J' n lv P (fun z => N z + ct [(cd s c d k e, t)] z) D wa lo → (∀ j, j ≠ 36 → F' j = F j) → (∀ a, a ≠ 34 → I' a = I a) → J' 40 = J 40 → R F' L I' J') : CallP G mX9_index 3 [.int (nI c), .int (nI d), .int (nI k), .int (nI s), .int (nI e)] (pI (fun rx => CallM G mX9_gives 3 ad o [.ref o, .int rx, .long (lN t)] F L I J (mqV R))) :=
  w_index ⟨_, rfl, by
    rw [← ix_cd hc hd hk he]
    exact w_gives h (cd_lt (n := 25) hs hc hd hk he) ht (hN _) (fun F' I' J' a b c d => ⟨rfl, kk F' I' J' a b c d⟩)⟩
theorem w_mfalls {G : GC} {ad : Nat → Nat} {o : Nat} {F : Nat → Int32} {L : Nat → Int64} {I : Nat → Nat → Int32} {J : Nat → Nat → Int64} {Q : MPost} {n v q wa lo : Nat} {lv P D : Nat → Nat} (h : FlM F L I J n lv P (fun _ => 0) D wa lo) (hG : GP v P) (hv : v ≤ 23) (hq : q ≤ 16) (h43 : F 43 = nI q)
    (k : ∀ F' I' J' n' lv', FlM F' L I' J' n' lv' (sc (fallG q P) 16900) (fun _ => 0) D wa lo → (∀ i, i < n' → gd v (lv' i)) → Fr9 F F' → Ir9 I I' → J' 40 = J 40 → Q none F' L I' J') : CallM G mX9_falls 4 ad o [.ref o] F L I J Q := by
  obtain ⟨hr, hs, -, hn⟩ := h.rw9
  have bd : ∀ i y, i ≤ n → scl (fallG q P) lv i y ≤ 2 ^ 40 := fun i y hi => Nat.le_trans (scl_le hr hs (fallG_tt hq) hi) hG.2
  refine eX9_falls (fun σ0 => bX9_falls_0 ?_)
  have Lp : ∀ d i, i + d = n → ∀ F' I' J', FlM F' L I' J' n lv P (scl (fallG q P) lv i) D wa lo → Fr9 F F' → Ir9 I I' → J' 40 = J 40 → AtM G mX9_falls 4 ad o σ0 Q 2 [(0, .ref o), (1, .int (nI i))] [] F' L I' J' := by
    intro d
    induction d with
    | zero =>
      intro i hi F' I' J' hM hF hI hJ
      have hi : i = n := by omega
      subst hi
      refine bX9_falls_2 ⟨fun _ => w_takesNext hM (fun F2 I2 J2 n' lv' hM2 hnz hF2 hI2 hJ2 => ⟨rfl, k F2 I2 J2 n' lv' (hM2.cong (fun x _ => scl_end hr hs (fallG_tt hq)) (fun _ _ => rfl) (fun _ _ => rfl) rfl rfl) (fun j hj => (fall_GP hG hq (by omega)).1 _ (by rw [← scl_end hr hs (fallG_tt hq)]; exact hnz j hj)) (hF.tr (Fr9.o35 hF2)) (hI.tr (Ir9.o33 hI2)) (hJ2.trans hJ)⟩), fun z => absurd (by rw [hM.rw9.2.2.1]; exact nI_le (Nat.le_refl _) (by omega)) z⟩
    | succ d ih =>
      intro i hi F' I' J' hM hF hI hJ
      have hin : i < n := by omega
      obtain ⟨hx, e33⟩ := hM.live hin
      have hqx := ix_lt hx
      have p1 := vp_in_nI (show i < 16900 by omega) (by decide)
      have p2 := vp_in_nI hqx (by decide)
      refine bX9_falls_2 ⟨fun z => absurd (by rw [hM.rw9.2.2.1] at z; exact z) (nI_ge hin (by omega)), fun _ => ⟨p1, fun v2 h2 => ?_⟩⟩
      rw [nI_clamp (by omega), e33] at h2
      subst h2
      refine w_stateOf hx (fun F1 hS hF1 => ⟨rfl, p2, fun w hw v3 h3 => ⟨p2, fun w1 hw1 => ?_⟩⟩)
      have hM1 : FlM F1 L I' J' n lv P (scl (fallG q P) lv i) D wa lo := hM.oth (hF1 35 (by decide)) (hF1 36 (by decide)) rfl rfl rfl rfl rfl rfl rfl
      have e43 : F1 43 = nI q := by rw [hF1 43 (by decide), hF 43 (by decide) (by decide) (by decide), h43]
      have hPx := hG.le (by omega) (lv i)
      have tq : P (lv i) * q < 2 ^ 63 := by
        have : P (lv i) * q ≤ 2 ^ 40 * 16 := Nat.mul_le_mul hPx hq
        omega
      have eJ : J' 37 (nI (ix (lv i))).toNatClampNeg = lN (P (lv i)) := by rw [nI_clamp (by omega)]; exact hM.2.1 _ hx
      have hle := sixt (p := P (lv i)) hq
      rw [eJ, e43, nI_l (by omega), lN_mul] at hw
      rw [hw, show (16 : Int64) = lN 16 from rfl, pk_lDiv tq (by decide) (by decide)] at h3
      rw [eJ, h3, lN_sub hle] at hw1
      subst hw1
      subst h3
      refine w_gives hM1 hx (by omega) (by have := bd i (lv i) (by omega); omega) (fun F2 I2 J2 hM2 hF2 hI2 hJ2 => ⟨rfl, ?_⟩)
      have hS2 := hS.k36 hF2
      dsimp only
      rw [hS2.1, hS2.2.1, hS2.2.2.1, hS2.2.2.2.1, hS2.2.2.2.2, show (1 : Int32) - nI (cK (lv i)) = nI (1 - cK (lv i)) from pk_sub (a := 1) (by have := cK_lt (lv i); omega)]
      refine w_ig hM2 (cS25 hx) (cC_lt _) (cD_lt _) (by omega) (cE_lt _) (by omega) (fun y => ?_) (fun F3 I3 J3 hM3 hF3 hI3 hJ3 v1 hv1 => ?_)
      · have h1 := bd i y (by omega)
        have h2 := ct_le y [(lv i, P (lv i) - P (lv i) * q / 16)]
        have h3 : tt [(lv i, P (lv i) - P (lv i) * q / 16)] = P (lv i) - P (lv i) * q / 16 := rfl
        show scl (fallG q P) lv i y + ct [(lv i, P (lv i) - P (lv i) * q / 16)] y ≤ 2 ^ 41
        omega
      · rw [hv1, nI_1]
        refine ih (i + 1) (by omega) F3 I3 J3 (hM3.cong (fun _ _ => rfl) (fun y _ => ?_) (fun _ _ => rfl) rfl rfl) (hF.tr (((Fr9.o51 hF1).tr (Fr9.o36 hF2)).tr (Fr9.o36 hF3))) (hI.tr ((Ir9.o34 hI2).tr (Ir9.o34 hI3))) (hJ3.trans (hJ2.trans hJ))
        rw [scl_s]
        unfold fallG
        rw [ct_2, Nat.add_assoc]
        rfl
  exact Lp n 0 (by omega) F I J (h.cong (fun _ _ => rfl) (fun y _ => (scl_z _ _ y).symm) (fun _ _ => rfl) rfl rfl) Fr9.rf Ir9.rf rfl
theorem FlM.lw {F : Nat → Int32} {L : Nat → Int64} {I : Nat → Nat → Int32} {J : Nat → Nat → Int64} {n : Nat} {lv P N D : Nat → Nat} {wa lo wa' : Nat} {w : Int64} (h : FlM F L I J n lv P N D wa lo) (hw : w = lN wa') : FlM F (fU L 41 w) I J n lv P N D wa' lo := by
  obtain ⟨⟨a1, a2, a3⟩, b⟩ := h
  exact ⟨⟨by rw [fU_at, hw], by rw [fU_ne (by decide)]; exact a2, a3⟩, b⟩
theorem FlM.ll {F : Nat → Int32} {L : Nat → Int64} {I : Nat → Nat → Int32} {J : Nat → Nat → Int64} {n : Nat} {lv P N D : Nat → Nat} {wa lo lo' : Nat} {w : Int64} (h : FlM F L I J n lv P N D wa lo) (hw : w = lN lo') : FlM F (fU L 42 w) I J n lv P N D wa lo' := by
  obtain ⟨⟨a1, a2, a3⟩, b⟩ := h
  exact ⟨⟨by rw [fU_ne (by decide)]; exact a1, by rw [fU_at, hw], a3⟩, b⟩
theorem w_mstarts {G : GC} {ad : Nat → Nat} {o : Nat} {F : Nat → Int32} {L : Nat → Int64} {I : Nat → Nat → Int32} {J : Nat → Nat → Int64} {Q : MPost} {n v t wa lo s c d k e : Nat} {lv P N D : Nat → Nat} (h : FlM F L I J n lv P N D wa lo) (hS : StF F s c d k e) (hv : v < 24) (hs : s < 25) (hcd : c + d ≤ 12) (hk : k < 2) (he : e < 2) (ht : t ≤ 2 ^ 40) (hN : ∀ y, N y ≤ 2 ^ 41)
    (kk : ∀ F' L' I' J', FlM F' L' I' J' n lv P (fun z => N z + ct [(if c + d = 0 then cd s c d k e else cd (v + 1) (c + d) 0 k e, t)] z) D (wa + t * c) lo → (∀ j, j ≠ 36 → F' j = F j) → (∀ a, a ≠ 34 → I' a = I a) → J' 40 = J 40 → Q none F' L' I' J') : CallM G mX9_starts 4 ad o [.ref o, .long (lN t), .int (nI v)] F L I J Q := by
  obtain ⟨h51, h52, h53, h54, h55⟩ := hS
  have z0 : nI (c + d) = 0 ↔ c + d = 0 := nI_eq (b := 0) (by omega) (by decide)
  refine eX9_starts (fun σ0 => bX9_starts_0 ?_)
  rw [h51, h52, h53, h54, h55, nI_add, nI_1]
  refine ⟨fun z w hw L1 hL1 => ?_, fun z => ?_⟩
  · have z1 : ¬ c + d = 0 := fun y => z (z0.mpr y)
    rw [h.1.1, nI_l (by omega), lN_mul, lN_add] at hw
    subst hL1
    refine w_ig (d := 0) (h.lw hw) (by omega) (by omega) (by decide) hk he ht hN (fun F' I' J' hM hF hI hJ => kk F' _ I' J' ?_ hF hI hJ)
    rw [if_neg z1]
    exact hM
  · have z1 := z0.mp z
    refine w_ig h hs (by omega) (by omega) hk he ht hN (fun F' I' J' hM hF hI hJ => kk F' _ I' J' ?_ hF hI hJ)
    rw [if_pos z1, show c = 0 by omega, Nat.mul_zero]
    exact hM.cong (fun _ _ => rfl) (fun y _ => by rw [show c = 0 by omega]) (fun _ _ => rfl) rfl rfl
