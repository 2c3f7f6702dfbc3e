/-! Part B: the reference's leaves -/
theorem w_whichOf {G : GC} {ad : Nat → Nat} {o : Nat} {F : Nat → Int32} {L : Nat → Int64} {I : Nat → Nat → Int32} {J : Nat → Nat → Int64} {v : Nat} {P : Option Value → Prop} (hv : v < 24) (k : P (some (.int (nI (cn (I 14) (I 14 v) (v + 1)))))) : CallMO G mX9_whichOf 3 ad o [.ref o, .int (nI v)] F L I J P := by
  refine eX9_whichOf (fun σ0 => bX9_whichOf_0 ?_)
  have Lp : ∀ d i, i + d = v + 1 → AtM G mX9_whichOf 3 ad o σ0 (fun u F' L' I' J' => F' = F ∧ L' = L ∧ I' = I ∧ J' = J ∧ P u) 4 [(0, .ref o), (1, .int (nI v)), (2, .int (nI (cn (I 14) (I 14 v) i))), (3, .int (nI i))] [] F L I J := by
    intro d
    induction d with
    | zero =>
      intro i hi
      have hi : i = v + 1 := by omega
      subst hi
      exact bX9_whichOf_4 ⟨fun _ => ⟨rfl, rfl, rfl, rfl, k⟩, fun q => absurd (nI_lt (Nat.lt_succ_self v) (by omega)) q⟩
    | succ d ih =>
      intro i hi
      have p1 := vp_in_nI (show i < 24 by omega) (by decide)
      have p2 := vp_in_nI hv (by decide)
      have p3 := ih (i + 1) (by omega)
      refine bX9_whichOf_4 ⟨fun q => absurd q (nI_nlt (by omega) (by omega)), fun _ => ⟨p1, p2, fun q => ?_, fun q => ?_⟩⟩
      · rw [nI_clamp (show i < 2 ^ 31 by omega), nI_clamp (show v < 2 ^ 31 by omega)] at q
        intro v2 h2 v3 h3
        rw [h2, h3, Int32.add_zero, nI_1]
        rw [cn_no q] at p3
        exact p3
      · rw [nI_clamp (show i < 2 ^ 31 by omega), nI_clamp (show v < 2 ^ 31 by omega)] at q
        intro v2 h2 v3 h3
        rw [h2, h3, nI_1, nI_1]
        rw [cn_yes q] at p3
        exact p3
  exact Lp (v + 1) 0 (by omega)
theorem w_sinceOf {G : GC} {ad : Nat → Nat} {o : Nat} {F : Nat → Int32} {L : Nat → Int64} {I : Nat → Nat → Int32} {J : Nat → Nat → Int64} {v : Nat} {P : Option Value → Prop} (hv : v < 24) (k : P (some (.int (la (I 14) (I 15) v v)))) : CallMO G mX9_sinceOf 3 ad o [.ref o, .int (nI v)] F L I J P := by
  refine eX9_sinceOf (fun σ0 => bX9_sinceOf_0 (fun v2 h2 => ?_))
  rw [h2, Int32.sub_eq_add_neg]
  have Lp : ∀ i, i ≤ v → la (I 14) (I 15) v i = la (I 14) (I 15) v v → AtM G mX9_sinceOf 3 ad o σ0 (fun u F' L' I' J' => F' = F ∧ L' = L ∧ I' = I ∧ J' = J ∧ P u) 4 [(0, .ref o), (1, .int (nI v)), (2, .int (nI i + (-1)))] [] F L I J := by
    intro i
    induction i with
    | zero =>
      intro _ hi
      rw [← hi] at k
      exact bX9_sinceOf_4 ⟨fun _ => ⟨rfl, rfl, rfl, rfl, k⟩, fun q => absurd (by decide) q⟩
    | succ i ih =>
      intro hl hi
      rw [pk_m1]
      have p1 := vp_in_nI (show i < 24 by omega) (by decide)
      have p2 := vp_in_nI hv (by decide)
      refine bX9_sinceOf_4 ⟨fun q => absurd q (nI_pos (by omega)), fun _ => ⟨p1, p2, fun q => ?_, fun q => ?_⟩⟩
      · rw [nI_clamp (show i < 2 ^ 31 by omega), nI_clamp (show v < 2 ^ 31 by omega)] at q
        intro v2 h2
        rw [h2]
        rw [la_no q] at hi
        exact ih (by omega) hi
      · rw [nI_clamp (show i < 2 ^ 31 by omega), nI_clamp (show v < 2 ^ 31 by omega)] at q
        refine ⟨p2, p1, fun w hw => ⟨rfl, rfl, rfl, rfl, ?_⟩⟩
        rw [hw, nI_clamp (show i < 2 ^ 31 by omega), nI_clamp (show v < 2 ^ 31 by omega)]
        rw [la_yes q] at hi
        rw [← hi] at k
        exact k
  exact Lp v (Nat.le_refl _) rfl
theorem w_draws {G : GC} {ad : Nat → Nat} {o : Nat} {F : Nat → Int32} {L : Nat → Int64} {I : Nat → Nat → Int32} {J : Nat → Nat → Int64} {m : Nat} {Q : MPost} (hm : 0 < m) (hm2 : m < 2 ^ 31) (k : Q (some (.int (nI (dv (nx (F 57)) % m)))) (fU F 57 (nx (F 57))) L I J) : CallM G mX9_draws 3 ad o [.ref o, .int (nI m)] F L I J Q := by
  refine eX9_draws (fun σ0 => bX9_draws_0 (fun w hw F1 hF1 w1 hw1 => ⟨nI_ne0 hm hm2, ?_⟩))
  subst hF1
  subst hw
  have q1 : ∀ x : Int32, x &&& 32767 = nI (x.toBitVec.toNat % 2 ^ 15) := fun x => pk_and x 15 (by decide)
  have q0 : fU F 57 (F 57 * 1103515245 + 12345) 57 = nx (F 57) := if_pos rfl
  rw [q0, q1] at hw1
  subst hw1
  have q2 : nI (dv (nx (F 57))) - nI (dv (nx (F 57))) / nI m * nI m = nI (dv (nx (F 57)) % m) := pk_rem (Nat.lt_trans (dv_lt _) (by decide)) hm hm2
  show Q (some (.int (nI (dv (nx (F 57))) - nI (dv (nx (F 57))) / nI m * nI m))) _ _ _ _
  rw [q2]
  exact k
theorem w_isWarm {G : GC} {ad : Nat → Nat} {o : Nat} {F : Nat → Int32} {L : Nat → Int64} {I : Nat → Nat → Int32} {J : Nat → Nat → Int64} {v s W : Nat} {P : Option Value → Prop} (hv : v < 24) (hs : F 54 = nI s) (hs2 : s ≤ 24) (hW : I 11 5 = nI W) (k : P (some (.int (if wm (I 15) W v s = true then 1 else 0)))) : CallMO G mX9_isWarm 3 ad o [.ref o, .int (nI v)] F L I J P := by
  refine eX9_isWarm (fun σ0 => bX9_isWarm_0 ?_)
  have p1 := vp_in_nI (show v < 24 from hv) (by decide)
  rw [hs, hW]
  by_cases z : s = 0
  · subst z
    simp [wm] at k
    exact ⟨fun _ => ⟨rfl, rfl, rfl, rfl, k⟩, fun q => absurd (by decide) q⟩
  · obtain ⟨s, rfl⟩ := Nat.exists_eq_succ_of_ne_zero z
    have p2 := vp_in_nI (show s < 24 by omega) (by decide)
    have p4 : nI (s + 1) - 1 = nI s := nI_pred s
    rw [show s.succ = s + 1 from rfl, p4]
    refine ⟨fun q => absurd q (nI_nle (Nat.succ_pos s) (by omega)), fun _ => ⟨p1, p2, fun w hw => ?_⟩⟩
    rw [nI_clamp (show s < 2 ^ 31 by omega), nI_clamp (show v < 2 ^ 31 by omega)] at hw
    subst hw
    simp [wm] at k
    refine ⟨fun q => ⟨rfl, rfl, rfl, rfl, ?_⟩, fun q => ⟨rfl, rfl, rfl, rfl, ?_⟩⟩
    · rw [if_neg (by rw [fa_lt9]; rw [fa_le9] at q; omega)] at k
      exact k
    · rw [if_pos (by rw [fa_lt9]; rw [fa_le9] at q; omega)] at k
      exact k
