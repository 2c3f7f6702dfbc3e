/-! Part B: fractions; how the reference is told to go; costs -/
def fr (up low part : Nat) : Nat := (if part = 0 then up else low) / Nat.gcd up low
def frA (up low part : Nat) : Nat := if low = 0 then part else fr up low part
theorem gcd_step (a b : Nat) : Nat.gcd b (a % b) = Nat.gcd a b := by
  rw [Nat.gcd_comm a b, Nat.gcd_rec b a, Nat.gcd_comm]
theorem w_least {G : GC} {up low part : Nat} {P : Option Value → Prop} (hu : up < 2 ^ 63) (hl0 : 0 < low) (hl : low < 2 ^ 63) (hp : part < 2) (k : P (some (.long (lN (fr up low part))))) : CallP G mX9_least 3 [.long (lN up), .long (lN low), .int (nI part)] P := by
  intro σ
  have g0 : 0 < Nat.gcd up low := Nat.gcd_pos_of_pos_right _ hl0
  have zp : nI part = 0 ↔ part = 0 := nI_eq (b := 0) (by omega) (by decide)
  have L : ∀ (y7 y5 : Nat), y5 < 2 ^ 63 → y7 < 2 ^ 63 → Nat.gcd y5 y7 = Nat.gcd up low → At G mX9_least 3 (fun v s => s = σ ∧ P v) (fun _ _ _ => False) 0 6 [(0, .long (lN up)), (2, .long (lN low)), (4, .int (nI part)), (5, .long (lN y5)), (7, .long (lN y7))] [] σ := by
    intro y7
    induction y7 using Nat.strongRecOn with
    | _ y7 ih =>
      intro y5 h5 h7 hg
      have z7 : lN y7 = 0 ↔ y7 = 0 := pk_lEQ (b := 0) h7 (by decide)
      refine bX9_least_6 ⟨fun z => ?_, fun z => ⟨z, fun v9 h9 => ?_⟩⟩
      · have e7 := z7.mp z
        rw [e7, Nat.gcd_zero_right] at hg
        have h50 : ¬ lN y5 = 0 := fun y => by
          have := (pk_lEQ (b := 0) h5 (by decide)).mp y
          omega
        refine ⟨fun y => ⟨h50, rfl, ?_⟩, fun y => ⟨h50, rfl, ?_⟩⟩
        · rw [pk_lDiv hl (by omega) h5, hg]
          unfold fr at k
          rw [if_neg (fun u => y (zp.mpr u))] at k
          exact k
        · rw [pk_lDiv hu (by omega) h5, hg]
          unfold fr at k
          rw [if_pos (zp.mp y)] at k
          exact k
      · have e7 : ¬ y7 = 0 := fun y => z (z7.mpr y)
        rw [pk_lRem h5 (by omega) h7] at h9
        have hm := Nat.mod_lt y5 (show y7 > 0 by omega)
        rw [h9]
        exact ih (y5 % y7) hm y7 h7 (by omega) (by rw [gcd_step]; exact hg)
  exact eX9_least (bX9_least_0 (L low up hu hl rfl))
theorem k_part {G : GC} {σ : PS} {up low part : Nat} {P : Option Value → Prop} (hu : up < 2 ^ 63) (hl0 : 0 < low) (hl : low < 2 ^ 63) (hp : part < 2) (k : P (some (.long (lN (fr up low part))))) : CallO G mX1_part 3 [.long (lN up), .long (lN low), .int (nI part)] σ P := by
  have g0 : 0 < Nat.gcd up low := Nat.gcd_pos_of_pos_right _ hl0
  have zp : nI part = 0 ↔ part = 0 := nI_eq (b := 0) (by omega) (by decide)
  have L : ∀ (y7 y5 : Nat), y5 < 2 ^ 63 → y7 < 2 ^ 63 → Nat.gcd y5 y7 = Nat.gcd up low → At G mX1_part 3 (fun v s => s = σ ∧ P v) (fun _ _ _ => False) 0 6 [(0, .long (lN up)), (2, .long (lN low)), (4, .int (nI part)), (5, .long (lN y5)), (7, .long (lN y7))] [] σ := by
    intro y7
    induction y7 using Nat.strongRecOn with
    | _ y7 ih =>
      intro y5 h5 h7 hg
      have z7 : lN y7 = 0 ↔ y7 = 0 := pk_lEQ (b := 0) h7 (by decide)
      refine bX1_part_6 ⟨fun z => ?_, fun z => ⟨z, fun v9 h9 => ?_⟩⟩
      · have e7 := z7.mp z
        rw [e7, Nat.gcd_zero_right] at hg
        have h50 : ¬ lN y5 = 0 := fun y => by
          have := (pk_lEQ (b := 0) h5 (by decide)).mp y
          omega
        refine ⟨fun y => ⟨h50, rfl, ?_⟩, fun y => ⟨h50, rfl, ?_⟩⟩
        · rw [pk_lDiv hl (by omega) h5, hg]
          unfold fr at k
          rw [if_neg (fun u => y (zp.mpr u))] at k
          exact k
        · rw [pk_lDiv hu (by omega) h5, hg]
          unfold fr at k
          rw [if_pos (zp.mp y)] at k
          exact k
      · have e7 : ¬ y7 = 0 := fun y => z (z7.mpr y)
        rw [pk_lRem h5 (by omega) h7] at h9
        have hm := Nat.mod_lt y5 (show y7 > 0 by omega)
        rw [h9]
        exact ih (y5 % y7) hm y7 h7 (by omega) (by rw [gcd_step]; exact hg)
  exact eX1_part (bX1_part_0 (L up low hl hu (Nat.gcd_comm low up)))
theorem w_share {G : GC} {ad : Nat → Nat} {o : Nat} {F : Nat → Int32} {L : Nat → Int64} {I : Nat → Nat → Int32} {J : Nat → Nat → Int64} {n wa lo up part : Nat} {lv P N D : Nat → Nat} {R : Option Value → Prop} (hM : FlM F L I J n lv P N D wa lo) (hu : up < 2 ^ 63) (ha : qAll P < 2 ^ 63) (hp : part < 2) (k : R (some (.long (lN (frA up (qAll P) part))))) : CallMO G mX9_share 4 ad o [.ref o, .long (lN up), .int (nI part)] F L I J R := by
  refine eX9_share (fun σ0 => bX9_share_0 (w_mall hM ⟨_, rfl, fun z => ?_, fun z => ⟨rfl, rfl, rfl, rfl, ?_⟩⟩))
  · have z1 : ¬ qAll P = 0 := fun y => z (by rw [y]; rfl)
    unfold frA at k
    rw [if_neg z1] at k
    exact w_least hu (by omega) ha hp ⟨_, rfl, rfl, rfl, rfl, rfl, k⟩
  · have z1 : qAll P = 0 := (pk_lEQ (b := 0) ha (by decide)).mp z
    unfold frA at k
    rw [if_pos z1] at k
    rw [nI_l (by omega)]
    exact k
theorem to_all {n : Nat} (hn : n ≤ 24) : ∀ i, i ≤ 24 → (nI n - 1 < nI i ↔ n ≤ i) := by
  intro i hi
  cases n with
  | zero =>
    have e : nI 0 - 1 = -1 := by decide
    rw [e, fa_lt9, show ((-1 : Int32)).toInt = -1 by decide, nI_toInt (by omega)]
    omega
  | succ n =>
    rw [nI_pred, nI_ltI (by omega) (by omega)]
    omega
theorem to_v {v : Nat} (hv : v < 24) : ∀ i, i ≤ 24 → (nI v < nI i ↔ v + 1 ≤ i) := by
  intro i hi
  rw [nI_ltI (by omega) (by omega)]
  omega
/-- told plainly -/
def pH (O : Nat → Nat) (H : Nat → List StT) : HW := (O 4, O 6, 0, -1, H, none)
theorem m1_nI {n : Nat} (h : n < 2 ^ 31) : ¬ nI n = -1 := by
  intro z
  have := nI_toInt h
  rw [z, show ((-1 : Int32)).toInt = -1 by decide] at this
  omega
theorem w_plain {G : GC} {ad : Nat → Nat} {o : Nat} {F : Nat → Int32} {L : Nat → Int64} {I : Nat → Nat → Int32} {J : Nat → Nat → Int64} {Q : MPost} {O : Nat → Nat} {fw fm : (Nat → Int32)} {nn : Nat} {H : Nat → List StT} (hMC : MCx O fw fm nn I) (hH : ∀ p, p < 7 → HabM I p (H p)) (k : ∀ F', OpM F' I (pH O H) → F' 47 = -1 → F' 48 = -1 → F' 49 = 0 → F' 50 = 0 → (∀ j, (j < 43 ∨ 50 < j) → F' j = F j) → Q none F' L I J) : CallM G mX9_plain 3 ad o [.ref o] F L I J Q := by
  refine eX9_plain (fun σ0 => bX9_plain_0 (fun F1 h1 F2 h2 F3 h3 F4 h4 F5 h5 F6 h6 F7 h7 F8 h8 => ?_))
  rw [hMC.1 4 (by decide)] at h1
  rw [hMC.1 6 (by decide)] at h2
  have g : ∀ j, F8 j = if j = 50 then 0 else if j = 49 then 0 else if j = 48 then -1 else if j = 47 then -1 else if j = 46 then -1 else if j = 45 then 0 else if j = 44 then nI (O 6) else if j = 43 then nI (O 4) else F j := by
    intro j
    rw [h8, h7, h6, h5, h4, h3, h2, h1]
    rfl
  have g47 : F8 47 = -1 := g 47
  have g48 : F8 48 = -1 := g 48
  have g49 : F8 49 = 0 := g 49
  refine k F8 ⟨g 43, g 44, g 45, g 46, Or.inl ⟨g 50, rfl⟩, fun p hp => ⟨p, by omega, hH p (by omega), ?_⟩⟩ g47 g48 g49 (g 50) (fun j hj => ?_)
  · unfold optH
    rw [g47, g48, g49]
    exact ⟨fun _ => ⟨fun _ => ⟨fun _ => rfl, fun y => absurd y (m1_nI (by omega))⟩, fun y => absurd y (m1_nI (by omega))⟩, fun y => absurd rfl y⟩
  · rw [g]
    rw [if_neg (by omega), if_neg (by omega), if_neg (by omega), if_neg (by omega), if_neg (by omega), if_neg (by omega), if_neg (by omega), if_neg (by omega)]
theorem OpM.fl {F : Nat → Int32} {I : Nat → Nat → Int32} {h : HW} (hh : OpM F I h) (x : Nat) : OpM (fU F 43 (nI x)) I (x, h.2) := by
  obtain ⟨a, b, c, d, e, p⟩ := hh
  refine ⟨fU_at, b, c, d, e, fun q hq => ?_⟩
  obtain ⟨hb, h1, h2, h3⟩ := p q hq
  exact ⟨hb, h1, h2, h3⟩
theorem OpM.sn {F : Nat → Int32} {I : Nat → Nat → Int32} {h : HW} (hh : OpM F I h) (x : Nat) : OpM (fU F 44 (nI x)) I (h.1, x, h.2.2) := by
  obtain ⟨a, b, c, d, e, p⟩ := hh
  refine ⟨a, fU_at, c, d, e, fun q hq => ?_⟩
  obtain ⟨hb, h1, h2, h3⟩ := p q hq
  exact ⟨hb, h1, h2, h3⟩
theorem OpM.fi {F : Nat → Int32} {I : Nat → Nat → Int32} {h : HW} (hh : OpM F I h) (x : Nat) : OpM (fU F 45 (nI x)) I (h.1, h.2.1, x, h.2.2.2) := by
  obtain ⟨a, b, c, d, e, p⟩ := hh
  refine ⟨a, b, fU_at, d, e, fun q hq => ?_⟩
  obtain ⟨hb, h1, h2, h3⟩ := p q hq
  exact ⟨hb, h1, h2, h3⟩
theorem OpM.wo {F : Nat → Int32} {I : Nat → Nat → Int32} {h : HW} (hh : OpM F I h) (x : Int32) : OpM (fU F 46 x) I (h.1, h.2.1, h.2.2.1, x, h.2.2.2.2) := by
  obtain ⟨a, b, c, d, e, p⟩ := hh
  refine ⟨a, b, c, fU_at, e, fun q hq => ?_⟩
  obtain ⟨hb, h1, h2, h3⟩ := p q hq
  exact ⟨hb, h1, h2, h3⟩
theorem OpM.bk {F : Nat → Int32} {I : Nat → Nat → Int32} {h : HW} {B : BK} (hh : OpM F I h) (hB : BkM F I B) : OpM (fU F 50 1) I (h.1, h.2.1, h.2.2.1, h.2.2.2.1, h.2.2.2.2.1, some B) := by
  obtain ⟨a, b, c, d, e, p⟩ := hh
  refine ⟨a, b, c, d, Or.inr ⟨by rw [fU_at]; decide, B, rfl, hB.keep (fU_ne (by decide)) rfl⟩, fun q hq => ?_⟩
  obtain ⟨hb, h1, h2, h3⟩ := p q hq
  exact ⟨hb, h1, h2, h3⟩
theorem OpM.ru {F : Nat → Int32} {I : Nat → Nat → Int32} {h : HW} {l : List StT} (hh : OpM F I h) (hl : HabM I 6 l) : OpM (fU F 49 1) I (h.1, h.2.1, h.2.2.1, h.2.2.2.1, (fun _ => l), h.2.2.2.2.2) := by
  obtain ⟨a, b, c, d, e, p⟩ := hh
  refine ⟨a, b, c, d, ?_, fun q hq => ⟨6, by decide, hl, fun z => absurd (show (1 : Int32) = 0 from z) (by decide), fun _ => rfl⟩⟩
  rcases e with e | ⟨e1, B, e2, e3⟩
  · exact Or.inl e
  · exact Or.inr ⟨e1, B, e2, e3⟩
def swH (H : Nat → List StT) (p q : Nat) : Nat → List StT := fun x => if x = p then H q else if x = q then H p else H x
theorem OpM.sw {F : Nat → Int32} {I : Nat → Nat → Int32} {h : HW} {H : Nat → List StT} {p q : Nat} (hh : OpM F I h) (h49 : F 49 = 0) (hH : ∀ x, x < 7 → HabM I x (H x)) (hp : p < 6) (hq : q < 6) : OpM (fU (fU F 47 (nI p)) 48 (nI q)) I (h.1, h.2.1, h.2.2.1, h.2.2.2.1, swH H p q, h.2.2.2.2.2) := by
  obtain ⟨a, b, c, d, e, _⟩ := hh
  refine ⟨a, b, c, d, ?_, fun x hx => ⟨if x = p then q else if x = q then p else x, ?_, ?_, ?_⟩⟩
  · rcases e with e | ⟨e1, B, e2, e3⟩
    · exact Or.inl e
    · exact Or.inr ⟨e1, B, e2, e3⟩
  · split
    · omega
    · split <;> omega
  · unfold swH
    dsimp only
    split
    · exact hH q (by omega)
    · split
      · exact hH p (by omega)
      · exact hH x (by omega)
  · have e1 : ∀ y, y < 6 → (nI x = nI y ↔ x = y) := fun y hy => nI_eq (by omega) (by omega)
    refine ⟨fun _ => ⟨fun y => ⟨fun z => ?_, fun z => ?_⟩, fun y => ?_⟩, fun y => absurd h49 y⟩
    · have y1 : ¬ x = p := fun u => y (by rw [u]; rfl)
      have z1 : ¬ x = q := fun u => z (by rw [u]; rfl)
      rw [if_neg y1, if_neg z1]
    · have y1 : ¬ x = p := fun u => y (by rw [u]; rfl)
      have z1 : x = q := (e1 q hq).mp z
      rw [if_neg y1, if_pos z1]
      rfl
    · have y1 : x = p := (e1 p hp).mp y
      rw [if_pos y1]
      rfl
/-- what must be, that all may be gone through -/
def GoOK (O : Nat → Nat) (h : HW) (fw : Nat → Int32) (nn : Nat) : Prop := nn ≤ 24 ∧ (∀ i, i < nn → ∃ p, p < 6 ∧ fw i = nI p) ∧ (∀ p, p < 6 → (∀ Z, Z ∈ h.2.2.2.2.1 p → stOK Z) ∧ (h.2.2.2.2.1 p).length ≤ 8) ∧ O 0 ≤ 12 ∧ O 1 + O 2 ≤ 12 ∧ O 3 < 2 ∧ h.1 ≤ 16 ∧ h.2.1 ≤ 16 ∧ h.2.2.1 ≤ 12
theorem w_goesAll {G : GC} {ad : Nat → Nat} {o : Nat} {F : Nat → Int32} {L : Nat → Int64} {I : Nat → Nat → Int32} {J : Nat → Nat → Int64} {Q : MPost} {nn : Nat} {O : Nat → Nat} {fw fm : (Nat → Int32)} {h : HW} (hI0 : Idl F L I J) (hMC : MCx O fw fm nn I) (hOp : OpM F I h) (hOK : GoOK O h fw nn) (h19 : F 19 = nI nn)
    (k : ∀ F' L' I' J' n' lv', FlM F' L' I' J' n' lv' (fRun O h fw fm nn).1 (fun _ => 0) (fRun O h fw fm nn).2.1 (fRun O h fw fm nn).2.2.1 (fRun O h fw fm nn).2.2.2 → (∀ i, i < n' → gd nn (lv' i)) → Fr9 F F' → Ir9 I I' → TrA O h fw fm nn J' → Q none F' L' I' J') : CallM G mX9_goesAll 8 ad o [.ref o] F L I J Q := by
  obtain ⟨a, b, c, d, e, f, g, h1, h2⟩ := hOK
  refine eX9_goesAll (fun σ0 => bX9_goesAll_0 ?_)
  rw [h19]
  exact w_mgoes hI0 hMC hOp a b c d e f g h1 h2 (Nat.le_refl _) (to_all a) (fun F' L' I' J' n' lv' q1 q2 q3 q4 q5 => ⟨rfl, k F' L' I' J' n' lv' q1 q2 q3 q4 q5⟩)
theorem qCost_eq (O : Nat → Nat) (S : FS) : O 7 * sm (fun p => S.2.1 p) 6 + O 8 * S.2.2.1 + O 9 * S.2.2.2 = qCost O S := by
  show O 7 * sm S.2.1 6 + O 8 * S.2.2.1 + O 9 * S.2.2.2 = _
  unfold qCost
  rw [sm_mul, Nat.mul_comm (O 7), Nat.mul_comm (O 8), Nat.mul_comm (O 9)]
  omega
theorem w_costNow {G : GC} {ad : Nat → Nat} {o : Nat} {F : Nat → Int32} {L : Nat → Int64} {I : Nat → Nat → Int32} {J : Nat → Nat → Int64} {Q : MPost} {nn : Nat} {O : Nat → Nat} {fw fm : (Nat → Int32)} {h : HW} (hI0 : Idl F L I J) (hMC : MCx O fw fm nn I) (hOp : OpM F I h) (hOK : GoOK O h fw nn) (h19 : F 19 = nI nn) (hp : ∀ i, i < 12 → O i < 2 ^ 20)
    (k : ∀ F' L' I' J', Idl F' L' I' J' → Fr9 F F' → Ir9 I I' → Q (some (.long (lN (qCost O (fRun O h fw fm nn))))) F' L' I' J') : CallM G mX9_costNow 9 ad o [.ref o] F L I J Q := by
  refine eX9_costNow (fun σ0 => bX9_costNow_0 (w_goesAll hI0 hMC hOp hOK h19 (fun F' L' I' J' n' lv' hM hg hF hI hA => ⟨rfl, ?_⟩)))
  have hMC' := hMC.keep hI
  have h7 := hp 7 (by decide)
  have h8 := hp 8 (by decide)
  have h9 := hp 9 (by decide)
  have Lp : ∀ d i, i + d = 6 → AtM G mX9_costNow 9 ad o σ0 Q 8 [(0, .ref o), (1, .long (lN (sm (fun p => (fRun O h fw fm nn).2.1 p) i))), (3, .int (nI i))] [] F' L' I' J' := by
    intro d
    induction d with
    | zero =>
      intro i hi
      have hi : i = 6 := by omega
      subst hi
      refine bX9_costNow_8 ⟨fun _ w hw w1 hw1 w2 hw2 => ?_, fun q => absurd (nI_le (a := 6) (Nat.le_refl _) (by decide)) q⟩
      rw [hMC'.1 8 (by decide), nI_l (by omega), hM.1.1, lN_mul] at hw
      rw [hMC'.1 7 (by decide), nI_l (by omega), hw, lN_mul, lN_add] at hw1
      rw [hMC'.1 9 (by decide), nI_l (by omega), hM.1.2.1, lN_mul] at hw2
      rw [hw1, hw2, lN_add, qCost_eq]
      exact k F' L' I' J' hM.idl hF hI
    | succ d ih =>
      intro i hi
      have ih1 := ih (i + 1) (by omega)
      rw [sm_s] at ih1
      refine bX9_costNow_8 ⟨fun q => absurd q (nI_ge (b := 6) (by omega) (by decide)), fun _ => ⟨vp_in_nI (by omega) (by decide), fun w hw v3 e3 => ?_⟩⟩
      rw [nI_clamp (by omega), hM.1.2.2 i (by omega), lN_add] at hw
      rw [hw, e3, nI_1]
      exact ih1
  have L0 := Lp 6 0 (by omega)
  rw [sm_z] at L0
  exact L0
theorem w_trueNow {G : GC} {ad : Nat → Nat} {o : Nat} {F : Nat → Int32} {L : Nat → Int64} {I : Nat → Nat → Int32} {J : Nat → Nat → Int64} {Q : MPost} {nn : Nat} {O : Nat → Nat} {fw fm : (Nat → Int32)} {h : HW} (hI0 : Idl F L I J) (hMC : MCx O fw fm nn I) (hOp : OpM F I h) (hOK : GoOK O h fw nn) (h19 : F 19 = nI nn)
    (k : ∀ F' L' I' J', Idl F' L' I' J' → Fr9 F F' → Ir9 I I' → Q (some (.long (lN (qLik 1 (O 0) (O 5) 0 fm (fRun O h fw fm nn).1)))) F' L' I' J') : CallM G mX9_trueNow 9 ad o [.ref o] F L I J Q := by
  refine eX9_trueNow (fun σ0 => bX9_trueNow_0 (w_goesAll hI0 hMC hOp hOK h19 (fun F' L' I' J' n' lv' hM hg hF hI hA => ⟨rfl, ?_⟩)))
  refine w_mlikely (what := 1) (v := 0) (by decide) hM (fun e => by cases e) (hMC.keep hI) hOK.2.2.2.1 hOK.1 (fun F2 hM2 hF2 => ⟨_, rfl, k F2 L' I' J' hM2.idl (hF.tr (Fr9.o51 hF2)) hI⟩)
