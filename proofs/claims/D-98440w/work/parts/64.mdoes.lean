/-! Part B: what the reference's steps do with parts -/
theorem w_mtakes {G : GC} {ad : Nat → Nat} {o : Nat} {F : Nat → Int32} {L : Nat → Int64} {I : Nat → Nat → Int32} {J : Nat → Nat → Int64} {Q : MPost} {n v t wa lo x pw : Nat} {lv P N D : Nat → Nat} (h : FlM F L I J n lv P N D wa lo) (hS : StF F (cS x) (cC x) (cD x) (cK x) (cE x)) (hx : gd (v + 1) x) (hv : v < 24) (ht0 : 0 < t) (ht : t ≤ 2 ^ 40) (hN : ∀ y, N y + t ≤ 2 ^ 41) (h14 : I 14 v = nI pw) (hp : pw < 6)
    (kk : ∀ F' L' I' J', FlM F' L' I' J' n lv P (fun z => N z + ct (actG 0 0 v 1 x t) z) (fun p => D p + if p = pw then drk x t else 0) wa lo → (∀ j, j ≠ 36 → F' j = F j) → (∀ a, a ≠ 34 → I' a = I a) → J' 40 = J 40 → Q none F' L' I' J') : CallM G mX9_takes 4 ad o [.ref o, .long (lN t), .int (nI v)] F L I J Q := by
  have hS0 := hS
  obtain ⟨h51, h52, h53, h54, h55⟩ := hS
  have hs := hx.1
  have hc := hx.2
  have k2 := cK_lt x
  have e2 := cE_lt x
  have z0 : nI (cC x + cD x) = 0 ↔ cC x + cD x = 0 := nI_eq (b := 0) (by omega) (by decide)
  have hle := drk_le x t
  have pv := vp_in_nI hv (by decide)
  have pp := vp_in_nI hp (by decide)
  have zd : nI (cD x) ≤ 0 ↔ cD x ≤ 0 := nI_leI (b := 0) (by omega) (by decide)
  have zc : nI (cC x) ≤ 0 ↔ cC x ≤ 0 := nI_leI (b := 0) (by omega) (by decide)
  refine eX9_takes (fun σ0 => ?_)
  have M34 : AtM G mX9_takes 4 ad o σ0 Q 34 [(0, .ref o), (1, .long (lN t)), (3, .int (nI v))] [.long (lN (drk x t))] F L I J := by
    refine bX9_takes_34 ?_
    rw [nI_clamp (show v < 2 ^ 31 by omega), h14, nI_clamp (show pw < 2 ^ 31 by omega), h.1.2.2 pw hp]
    refine ⟨pv, pp, fun w hw => ⟨pp, fun J1 hJ1 => ?_⟩⟩
    rw [lN_add] at hw
    have hM1 : FlM F L I J1 n lv P N (fun p => D p + if p = pw then drk x t else 0) wa lo := by
      obtain ⟨⟨a1, a2, a3⟩, b, c, d⟩ := h
      subst hJ1
      refine ⟨⟨a1, a2, fun p hp => ?_⟩, fun y hy => by rw [gU_ne (by decide)]; exact b y hy, fun y hy => by rw [gU_ne (by decide)]; exact c y hy, d⟩
      rw [gU_at]
      show _ = lN (D p + if p = pw then drk x t else 0)
      by_cases q : p = pw
      · rw [if_pos q, if_pos q, hw, q]
      · rw [if_neg q, if_neg q]
        exact a3 p hp
    have hJ40 : J1 40 = J 40 := by rw [hJ1]; exact gU_ne (by decide)
    have M90 : ∀ F2 I2 J2, FlM F2 L I2 J2 n lv P (fun z => N z + ct [(cd (cS x) (cC x) (cD x - 1) (cK x) (cE x), drk x t)] z) (fun p => D p + if p = pw then drk x t else 0) wa lo → (∀ j, j ≠ 36 → F2 j = F j) → (∀ a, a ≠ 34 → I2 a = I a) → J2 40 = J 40 → AtM G mX9_takes 4 ad o σ0 Q 90 [(0, .ref o), (1, .long (lN t)), (4, .long (lN (drk x t)))] [] F2 L I2 J2 := by
      intro F2 I2 J2 hM2 hF2 hI2 hJ2
      obtain ⟨g51, g52, g53, g54, g55⟩ := hS0.k36 hF2
      have nb : ∀ y, N y + ct [(cd (cS x) (cC x) (cD x - 1) (cK x) (cE x), drk x t)] y ≤ 2 ^ 41 := by
        intro y
        have h1 := hN y
        have h2 := ct_le y [(cd (cS x) (cC x) (cD x - 1) (cK x) (cE x), drk x t)]
        have h3 : tt [(cd (cS x) (cC x) (cD x - 1) (cK x) (cE x), drk x t)] = drk x t := rfl
        omega
      have fin : ∀ F3 I3 J3, FlM F3 L I3 J3 n lv P (fun z => (N z + ct [(cd (cS x) (cC x) (cD x - 1) (cK x) (cE x), drk x t)] z) + ct [(cd (cS x) (cC x - 1) (cD x) (cK x) (cE x), t - drk x t)] z) (fun p => D p + if p = pw then drk x t else 0) wa lo → (∀ j, j ≠ 36 → F3 j = F2 j) → (∀ a, a ≠ 34 → I3 a = I2 a) → J3 40 = J2 40 → Q none F3 L I3 J3 := by
        intro F3 I3 J3 hM3 hF3 hI3 hJ3
        refine kk F3 L I3 J3 (hM3.cong (fun _ _ => rfl) (fun z _ => ?_) (fun _ _ => rfl) rfl rfl) (fun j hj => (hF3 j hj).trans (hF2 j hj)) (fun a ha => (hI3 a ha).trans (hI2 a ha)) (hJ3.trans hJ2)
        unfold actG
        simp only
        by_cases z1 : cC x + cD x = 0
        · rw [if_pos z1]
          have d0 : drk x t = 0 := by unfold drk; rw [if_pos z1]
          rw [d0, ct_zero (l := [(cd (cS x) (cC x) (cD x - 1) (cK x) (cE x), 0)]) rfl, show cC x - 1 = cC x by omega, cd_code]
          rfl
        · rw [if_neg z1, ct_2]
          omega
      refine bX9_takes_90 ?_
      rw [g51, g52, g53, g54, g55, lN_sub hle]
      refine ⟨fun z => ?_, fun z => ?_⟩
      · have c0 : cC x = 0 := by have := zc.mp z; omega
        refine w_ig hM2 (by omega) (by omega) (by omega) k2 e2 (by omega) nb (fun F3 I3 J3 hM3 hF3 hI3 hJ3 => fin F3 I3 J3 (hM3.cong (fun _ _ => rfl) (fun y _ => ?_) (fun _ _ => rfl) rfl rfl) hF3 hI3 hJ3)
        rw [c0]
      · rw [show nI (cC x) - 1 = nI (cC x - 1) from pk_sub (b := 1) (Nat.lt_of_not_le (fun y => z (zc.mpr y)))]
        exact w_ig hM2 (by omega) (by omega) (by omega) k2 e2 (by omega) nb fin
    rw [h51, h52, h53, h54, h55]
    refine ⟨fun z => ?_, fun z => ?_⟩
    · have d0 : cD x = 0 := by have := zd.mp z; omega
      refine M90 F I J1 (hM1.cong (fun _ _ => rfl) (fun y _ => ?_) (fun _ _ => rfl) rfl rfl) (fun _ _ => rfl) (fun _ _ => rfl) hJ40
      rw [drk_d d0, ct_zero (l := [(cd (cS x) (cC x) (cD x - 1) (cK x) (cE x), 0)]) rfl]
      rfl
    · rw [show nI (cD x) - 1 = nI (cD x - 1) from pk_sub (b := 1) (Nat.lt_of_not_le (fun y => z (zd.mpr y)))]
      exact w_ig hM1 (by omega) (by omega) (by omega) k2 e2 (by omega) (fun y => by have := hN y; omega) (fun F3 I3 J3 hM3 hF3 hI3 hJ3 => M90 F3 I3 J3 hM3 hF3 hI3 (hJ3.trans hJ40))
  refine bX9_takes_0 ?_
  rw [h51, h52, nI_add, nI_l (show cC x + cD x < 2 ^ 31 by omega), nI_l (show cD x < 2 ^ 31 by omega), lN_mul]
  refine ⟨fun z w hw => ⟨fun y => ?_, fun w1 hw1 => ?_⟩, fun z => ?_⟩
  · rw [hw] at y
    exact z (z0.mpr ((pk_lEQ (b := 0) (by omega) (by decide)).mp y))
  · have z1 : ¬ cC x + cD x = 0 := fun y => z (z0.mpr y)
    have td : t * cD x < 2 ^ 63 := by
      have : t * cD x ≤ 2 ^ 40 * 12 := Nat.mul_le_mul ht (by omega)
      omega
    rw [hw, pk_lDiv td (by omega) (by omega)] at hw1
    have : drk x t = t * cD x / (cC x + cD x) := by unfold drk; rw [if_neg z1]
    rw [hw1, ← this]
    exact M34
  · have : drk x t = 0 := by unfold drk; rw [if_pos (z0.mp z)]
    rw [this] at M34
    exact M34
theorem w_mdoes {G : GC} {ad : Nat → Nat} {o : Nat} {F : Nat → Int32} {L : Nat → Int64} {I : Nat → Nat → Int32} {J : Nat → Nat → Int64} {Q : MPost} {n v t wa lo x pw N0 see act : Nat} {lv P N D : Nat → Nat} (hact : act ≤ 7) (h : FlM F L I J n lv P N D wa lo) (hS : StF F (cS x) (cC x) (cD x) (cK x) (cE x)) (hx : gd (v + 1) x) (hv : v < 24) (ht0 : 0 < t) (ht : t ≤ 2 ^ 40) (hN : ∀ y, N y + t ≤ 2 ^ 41) (h0 : I 11 0 = nI N0) (hN0 : N0 ≤ 12) (h44 : F 44 = nI see) (hsee : see ≤ 16) (h14 : I 14 v = nI pw) (hp : pw < 6)
    (kk : ∀ F' L' I' J', FlM F' L' I' J' n lv P (fun z => N z + ct (actG N0 see v act x t) z) (fun p => D p + if p = pw then actD act x t else 0) (wa + actW act x t) (lo + actL act t) → (∀ j, j ≠ 36 → F' j = F j) → (∀ a, a ≠ 34 → I' a = I a) → J' 40 = J 40 → Q none F' L' I' J') : CallM G mX9_does 5 ad o [.ref o, .int (nI act), .long (lN t), .int (nI v)] F L I J Q := by
  have hS0 := hS
  obtain ⟨h51, h52, h53, h54, h55⟩ := hS
  have hs := hx.1
  have hc := hx.2
  have k2 := cK_lt x
  have e2 := cE_lt x
  have nb : ∀ y, N y ≤ 2 ^ 41 := fun y => by have := hN y; omega
  have D0 : ∀ z, (D z + if z = pw then 0 else 0) = D z := fun z => by split <;> rfl
  have fin : ∀ {s c d ka e : Nat}, act ≠ 1 → act ≠ 2 → act ≠ 3 → actG N0 see v act x t = [(cd s c d ka e, t)] → ∀ F3 I3 J3, FlM F3 L I3 J3 n lv P (fun z => N z + ct [(cd s c d ka e, t)] z) D wa lo → (∀ j, j ≠ 36 → F3 j = F j) → (∀ a, a ≠ 34 → I3 a = I a) → J3 40 = J 40 → Q none F3 L I3 J3 := by
    intro s c d ka e n1 n2 n3 he F3 I3 J3 hM hF hI hJ
    refine kk F3 L I3 J3 (hM.cong (fun _ _ => rfl) (fun z _ => ?_) (fun z _ => ?_) ?_ ?_) hF hI hJ
    · rw [he]
    · show _ = D z + if z = pw then (if act = 1 then _ else 0) else 0
      rw [if_neg n1, D0]
    · show _ = wa + if act = 3 then _ else 0
      rw [if_neg n3]; rfl
    · show _ = lo + if act = 2 then _ else 0
      rw [if_neg n2]; rfl
  refine eX9_does (fun σ0 => bX9_does_0 ?_)
  have hxx : act = 0 ∨ act = 1 ∨ act = 2 ∨ act = 3 ∨ act = 4 ∨ act = 5 ∨ act = 6 ∨ act = 7 := by omega
  rcases hxx with rfl | rfl | rfl | rfl | rfl | rfl | rfl | rfl
  · refine iY rfl ?_
    rw [h51, h52, h53, h54, h55, h0, nI_add, nI_1]
    refine ⟨fun q => ?_, fun q => ?_⟩
    · have q1 := (nI_leI (by omega) (by omega)).mp q
      refine w_ig h (by omega) (by omega) (by omega) k2 e2 ht nb (fin (by decide) (by decide) (by decide) ?_)
      show [(cd (cS x) (cC x) (if cC x + cD x < N0 then cD x + 1 else cD x) (cK x) (cE x), t)] = _
      rw [if_neg (by omega)]
    · have q1 : ¬ N0 ≤ cC x + cD x := fun y => q ((nI_leI (by omega) (by omega)).mpr y)
      refine w_ig h (by omega) (by omega) (by omega) k2 e2 ht nb (fin (by decide) (by decide) (by decide) ?_)
      show [(cd (cS x) (cC x) (if cC x + cD x < N0 then cD x + 1 else cD x) (cK x) (cE x), t)] = _
      rw [if_pos (by omega)]
  · refine iN (by decide) (iY rfl ?_)
    exact w_mtakes h hS0 hx hv ht0 ht hN h14 hp (fun F3 L3 I3 J3 hM hF hI hJ => ⟨rfl, kk F3 L3 I3 J3 (hM.cong (fun _ _ => rfl) (fun _ _ => rfl) (fun _ _ => rfl) rfl rfl) hF hI hJ⟩)
  · refine iN (by decide) (iN (by decide) (iY rfl (fun L1 hL1 => ?_)))
    have hle := sees_le (x := x) (t := t) hsee
    rw [h.1.2.1, lN_add] at hL1
    have hM1 : FlM F L1 I J n lv P N D wa (lo + t) := hL1 ▸ h.ll rfl
    have M114 : AtM G mX9_does 5 ad o σ0 Q 114 [(0, .ref o), (2, .long (lN t))] [.long (lN (sees see x t))] F L1 I J := by
      refine bX9_does_114 ?_
      rw [h51, h52, h53, h54]
      refine w_ig (e := 1) hM1 (by omega) (by omega) (by omega) k2 (by decide) (by omega) nb (fun F2 I2 J2 hM2 hF2 hI2 hJ2 => ?_)
      obtain ⟨g51, g52, g53, g54, g55⟩ := hS0.k36 hF2
      rw [g51, g52, g53, g54, g55, lN_sub hle]
      refine w_ig hM2 (by omega) (by omega) (by omega) k2 e2 (by omega) (fun y => ?_) (fun F3 I3 J3 hM3 hF3 hI3 hJ3 => ?_)
      · have h1 := hN y
        have h2 := ct_le y [(cd (cS x) (cC x) (cD x) (cK x) 1, sees see x t)]
        have h3 : tt [(cd (cS x) (cC x) (cD x) (cK x) 1, sees see x t)] = sees see x t := rfl
        show N y + ct [(cd (cS x) (cC x) (cD x) (cK x) 1, sees see x t)] y ≤ 2 ^ 41
        omega
      · refine kk F3 L1 I3 J3 (hM3.cong (fun _ _ => rfl) (fun z _ => ?_) (fun z _ => (D0 z).symm) rfl rfl) (fun j hj => (hF3 j hj).trans (hF2 j hj)) (fun a ha => (hI3 a ha).trans (hI2 a ha)) (hJ3.trans hJ2)
        show (N z + ct [(cd (cS x) (cC x) (cD x) (cK x) 1, sees see x t)] z) + ct [(cd (cS x) (cC x) (cD x) (cK x) (cE x), t - sees see x t)] z = N z + ct [(x, t - sees see x t), (cd (cS x) (cC x) (cD x) (cK x) 1, sees see x t)] z
        rw [ct_2, cd_code]
        omega
    have zd : nI (cD x) ≤ 0 ↔ cD x ≤ 0 := nI_leI (b := 0) (by omega) (by decide)
    rw [h52, h44, nI_l (by omega), lN_mul]
    refine ⟨fun z => ?_, fun z w hw => ?_⟩
    · have d0 : cD x = 0 := by have := zd.mp z; omega
      have : sees see x t = 0 := by unfold sees; rw [if_pos d0]
      rw [this] at M114
      exact M114
    · have d1 : ¬ cD x = 0 := fun y => z (zd.mpr (by omega))
      have ts : t * see < 2 ^ 63 := by
        have : t * see ≤ 2 ^ 40 * 16 := Nat.mul_le_mul ht hsee
        omega
      rw [show (16 : Int64) = lN 16 from rfl, pk_lDiv ts (by decide) (by decide)] at hw
      have : sees see x t = t * see / 16 := by unfold sees; rw [if_neg d1]
      rw [this] at M114
      rw [hw]
      exact M114
  · refine iN (by decide) (iN (by decide) (iN (by decide) (iY rfl ?_)))
    refine w_mstarts h hS0 hv (by omega) hc k2 e2 ht nb (fun F3 L3 I3 J3 hM hF hI hJ => ⟨rfl, kk F3 L3 I3 J3 (hM.cong (fun _ _ => rfl) (fun z _ => ?_) (fun z _ => (D0 z).symm) rfl rfl) hF hI hJ⟩)
    unfold actG
    simp only
    by_cases z1 : cC x + cD x = 0
    · rw [if_pos z1, if_pos z1, cd_code]
    · rw [if_neg z1, if_neg z1]
  · refine iN (by decide) (iN (by decide) (iN (by decide) (iN (by decide) (iY rfl ?_))))
    rw [h53, h54, h55]
    exact w_ig (c := 0) (d := 0) h (by omega) (by decide) (by decide) k2 e2 ht nb (fin (by decide) (by decide) (by decide) rfl)
  · refine iN (by decide) (iN (by decide) (iN (by decide) (iN (by decide) (iN (by decide) (iY rfl (bX9_does_255 ?_))))))
    rw [h51, h52, h54, h55]
    exact w_ig (k := 1) h (by omega) (by omega) (by omega) (by decide) e2 ht nb (fin (by decide) (by decide) (by decide) rfl)
  · refine iN (by decide) (iN (by decide) (iN (by decide) (iN (by decide) (iN (by decide) (iN (by decide) (iY rfl (bX9_does_255 ?_)))))))
    rw [h51, h52, h54, h55]
    exact w_ig (k := 0) h (by omega) (by omega) (by omega) (by decide) e2 ht nb (fin (by decide) (by decide) (by decide) rfl)
  · refine iN (by decide) (iN (by decide) (iN (by decide) (iN (by decide) (iN (by decide) (iN (by decide) (iN (by decide) (bX9_does_255 ?_)))))))
    rw [h51, h52, h53, h54, h55, show (1 : Int32) - nI (cK x) = nI (1 - cK x) from pk_sub (a := 1) (by omega)]
    exact w_ig h (by omega) (by omega) (by omega) (by omega) e2 ht nb (fin (by decide) (by decide) (by decide) rfl)
