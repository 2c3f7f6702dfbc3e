/-! Part B: what the component answers: were it otherwise -/
theorem c_gain {G : GC} {σ : PS} {Q : Option Value → PS → Prop} {X : String → Nat → PS → Prop} {b : Nat} {A : Nat → Nat} {CA : Nat → Nat × Nat × Nat} {E : Nat × Nat × Option Nat × Nat × Nat × Nat × Nat} {T : TS} {x z : Int32} (hC : CI σ A CA E T) (hb : 40 ≤ b) (kq : ∀ v p, v < (tsK T 0).1 → x = nI v → p < 2 → z = nI p → ∀ τ, CI τ A CA E T → KpD (own A CA) σ τ → Q (some (.long (lN (frA (gain9 T v) (qAll (bg9 T v).1) p)))) τ) (k0 : ¬ inN x (tsK T 0).1 → ∀ τ q, CI τ A CA E (bu0 T) → KpD (own A CA) σ τ → X "java/util/NoSuchElementException" q τ) (k1 : inN x (tsK T 0).1 → ¬ inN z 2 → ∀ τ q, CI τ A CA E (bu1 T) → KpD (own A CA) σ τ → X "java/lang/IllegalArgumentException" q τ) : Call G mX1_gain 206 b [.ref (A 0), .int x, .int z] σ Q X := by
  refine eX1_gain (bX1_gain_0 ⟨1, by omega, ⟨_, hC.1.x⟩, c_visitOf hC (Nat.le_refl _) (fun v hv hx => ⟨rfl, 1, by omega, ⟨_, hC.1.x⟩, c_partOf hC (Nat.le_refl _) (fun p hp hz => ⟨rfl, 25, by omega, ⟨_, hC.1.x⟩, ?_⟩) (k1 ⟨v, hv, hx⟩)⟩) k0⟩)
  have hn := n24 hC.2.2
  subst hx
  subst hz
  have hG := bg_GP hC.2.2 hv
  have hs := hC.2.2.1.2.2.2.2.2.2.1
  refine c_begun hC (Nat.le_refl _) hv (fun τ3 C3 R3 K3 => ⟨_, rfl, ?_⟩)
  obtain ⟨nw, nx, V, who, e, hM⟩ := R3
  have hA : qAll (bg9 T v).1 < 2 ^ 63 := Nat.lt_of_le_of_lt hG.2 (by decide)
  have hPl : ∀ x, (bg9 T v).1 x ≤ 2 ^ 40 := fun x => hG.le (by omega) x
  have hw : ∀ w, qWorth (tsO T) (tsO T 6) w (bg9 T v).1 < 2 ^ 63 := fun w => qWorth_lt hG hs hC.2.2.1
  refine ⟨⟨_, hM.1⟩, k_fall hM ⟨_, rfl, fun y => ⟨A 10, ⟨_, C3.1.x, rfl⟩, ⟨_, hM.1⟩, ?_⟩, fun y => ?_⟩⟩
  · have y1 : ¬ qAll (bg9 T v).1 = 0 := fun u => y (by rw [u]; rfl)
    refine k_fworth (way := 0) hM hs (by decide) hG hPl C3.1.off hC.2.2.1.lt (fun τ4 hM4 F4 => ⟨_, rfl, ?_⟩)
    obtain ⟨C4, K4⟩ := CI.fl C3 e e hM4 F4
    refine ⟨A 10, ⟨_, C4.1.x, rfl⟩, ⟨_, hM4.1⟩, k_fworth (way := 1) hM4 hs (by decide) hG hPl C4.1.off hC.2.2.1.lt (fun τ5 hM5 F5 => ⟨_, rfl, fun w ew => ?_⟩)⟩
    obtain ⟨C5, K5⟩ := CI.fl C4 e e hM5 F5
    rw [lN_min (hw 0) (hw 1)] at ew
    refine ⟨A 10, ⟨_, C5.1.x, rfl⟩, ⟨_, hM5.1⟩, k_fworth (way := 2) hM5 hs (by decide) hG hPl C5.1.off hC.2.2.1.lt (fun τ6 hM6 F6 => ⟨_, rfl, fun w1 ew1 => ?_⟩)⟩
    obtain ⟨C6, K6⟩ := CI.fl C5 e e hM6 F6
    have kk := kq v p hv rfl hp rfl τ6 C6 (own_scr (((K3.tr K4).tr K5).tr K6))
    unfold frA at kk
    rw [if_neg y1] at kk
    have e1 : w1 = lN (gain9 T v) := by
      unfold gain9
      have hm : min (qWorth (tsO T) (tsO T 6) 0 (bg9 T v).1) (qWorth (tsO T) (tsO T 6) 1 (bg9 T v).1) < 2 ^ 63 := Nat.lt_of_le_of_lt (Nat.min_le_left _ _) (hw 0)
      have h2 := hw 2
      revert ew1 ew
      generalize min (qWorth (tsO T) (tsO T 6) 0 (bg9 T v).1) (qWorth (tsO T) (tsO T 6) 1 (bg9 T v).1) = m at *
      generalize qWorth (tsO T) (tsO T 6) 2 (bg9 T v).1 = c at *
      intro ew ew1
      rw [ew1, ew]
      by_cases q : m < c
      · rw [if_pos ((lN_sub0 hm h2).mpr q), show m - c = 0 by omega]
        rfl
      · rw [if_neg (fun u => q ((lN_sub0 hm h2).mp u)), lN_sub (by omega)]
    rw [e1]
    exact k_part (Nat.lt_of_le_of_lt (Nat.sub_le _ _) (Nat.lt_of_le_of_lt (Nat.min_le_left _ _) (hw 0))) (by omega) hA hp ⟨_, rfl, kk⟩
  · have y1 : qAll (bg9 T v).1 = 0 := (pk_lEQ (b := 0) hA (by decide)).mp y
    have kk := kq v p hv rfl hp rfl τ3 C3 (own_scr K3)
    unfold frA at kk
    rw [if_pos y1] at kk
    rw [nI_l (by omega)]
    exact kk
/-- the best of the ways to i -/
def bsS (f : Nat → Nat) : Nat → Nat
  | 0 => 0
  | i + 1 => if f (i + 1) < f (bsS f i) then i + 1 else bsS f i
theorem bsS_le (f : Nat → Nat) : ∀ i, bsS f i ≤ i
  | 0 => Nat.le_refl _
  | i + 1 => by
    have := bsS_le f i
    rw [bsS]
    split <;> omega
theorem c_best {G : GC} {σ : PS} {Q : Option Value → PS → Prop} {X : String → Nat → PS → Prop} {b : Nat} {A : Nat → Nat} {CA : Nat → Nat × Nat × Nat} {E : Nat × Nat × Option Nat × Nat × Nat × Nat × Nat} {T : TS} {x : Int32} (hC : CI σ A CA E T) (hb : 40 ≤ b) (kq : ∀ v, v < (tsK T 0).1 → x = nI v → ∀ τ, CI τ A CA E T → KpD (own A CA) σ τ → Q (some (.int (if qAll (bg9 T v).1 = 0 then -1 else nI (bsS (fun w => qWorth (tsO T) (tsO T 6) w (bg9 T v).1) 3)))) τ) (k0 : ¬ inN x (tsK T 0).1 → ∀ τ q, CI τ A CA E (bu0 T) → KpD (own A CA) σ τ → X "java/util/NoSuchElementException" q τ) : Call G mX1_best 206 b [.ref (A 0), .int x] σ Q X := by
  refine eX1_best (bX1_best_0 ⟨1, by omega, ⟨_, hC.1.x⟩, c_visitOf hC (Nat.le_refl _) (fun v hv hx => ⟨rfl, 25, by omega, ⟨_, hC.1.x⟩, ?_⟩) k0⟩)
  have hn := n24 hC.2.2
  subst hx
  have hG := bg_GP hC.2.2 hv
  have hs := hC.2.2.1.2.2.2.2.2.2.1
  refine c_begun hC (Nat.le_refl _) hv (fun τ3 C3 R3 K3 => ⟨_, rfl, ?_⟩)
  obtain ⟨nw, nx, V, who, e, hM⟩ := R3
  have hA : qAll (bg9 T v).1 < 2 ^ 63 := Nat.lt_of_le_of_lt hG.2 (by decide)
  have hPl : ∀ x, (bg9 T v).1 x ≤ 2 ^ 40 := fun x => hG.le (by omega) x
  have hw : ∀ w, qWorth (tsO T) (tsO T 6) w (bg9 T v).1 < 2 ^ 63 := fun w => qWorth_lt hG hs hC.2.2.1
  refine ⟨⟨_, hM.1⟩, k_fall hM ⟨_, rfl, fun y => ?_, fun y => ?_⟩⟩
  · have y1 : ¬ qAll (bg9 T v).1 = 0 := fun u => y (by rw [u]; rfl)
    have L : ∀ d i, i + d = 3 → ∀ b' τ, CI τ A CA E T → FlP τ (A 10) (A 11) (A 12) nw nx E.1 (CA 0).1 V (tsO T 6) who (bg9 T v).1 (fun _ => 0) (bg9 T v).2.1 (bg9 T v).2.2.1 (bg9 T v).2.2.2 → KpD (scr A) σ τ → At G mX1_best 206 Q X b' 24 [(0, .ref (A 0)), (2, .int (nI (bsS (fun w => qWorth (tsO T) (tsO T 6) w (bg9 T v).1) i))), (3, .int (nI (i + 1)))] [] τ := by
      intro d
      induction d with
      | zero =>
        intro i hi b' τ hC' hM' hK'
        have hi : i = 3 := by omega
        subst hi
        have kk := kq v hv rfl τ hC' (own_scr hK')
        rw [if_neg y1] at kk
        exact bX1_best_24 ⟨fun _ => kk, fun q => absurd (nI_le (a := 4) (Nat.le_refl _) (by decide)) q⟩
      | succ d ih =>
        intro i hi b' τ hC' hM' hK'
        have hbs := bsS_le (fun w => qWorth (tsO T) (tsO T 6) w (bg9 T v).1) i
        have ih1 := ih (i + 1) (by omega)
        refine bX1_best_24 ⟨fun q => absurd q (nI_ge (b := 4) (by omega) (by decide)), fun _ => ⟨A 10, ⟨_, hC'.1.x, rfl⟩, ⟨_, hM'.1⟩, k_fworth (way := i + 1) hM' hs (by omega) hG hPl hC'.1.off hC.2.2.1.lt (fun τ4 hM4 F4 => ⟨_, rfl, ?_⟩)⟩⟩
        obtain ⟨C4, K4⟩ := CI.fl hC' e e hM4 F4
        refine ⟨A 10, ⟨_, C4.1.x, rfl⟩, ⟨_, hM4.1⟩, k_fworth (way := bsS (fun w => qWorth (tsO T) (tsO T 6) w (bg9 T v).1) i) hM4 hs (by omega) hG hPl C4.1.off hC.2.2.1.lt (fun τ5 hM5 F5 => ⟨_, rfl, ?_⟩)⟩
        obtain ⟨C5, K5⟩ := CI.fl C4 e e hM5 F5
        have ih2 := ih1 b' τ5 C5 hM5 ((hK'.tr K4).tr K5)
        have cmp := pk_lLE (hw (bsS (fun w => qWorth (tsO T) (tsO T 6) w (bg9 T v).1) i)) (hw (i + 1))
        refine ⟨fun q v3 h3 => ?_, fun q v3 h3 => ?_⟩
        · rw [show bsS (fun w => qWorth (tsO T) (tsO T 6) w (bg9 T v).1) (i + 1) = bsS (fun w => qWorth (tsO T) (tsO T 6) w (bg9 T v).1) i from if_neg (Nat.not_lt.mpr (cmp.mp q))] at ih2
          rw [h3, nI_1]
          exact ih2
        · rw [show bsS (fun w => qWorth (tsO T) (tsO T 6) w (bg9 T v).1) (i + 1) = i + 1 from if_pos (Nat.lt_of_not_le (fun u => q (cmp.mpr u)))] at ih2
          rw [h3, nI_1]
          exact ih2
    exact L 3 0 (by omega) _ τ3 C3 hM K3
  · have y1 : qAll (bg9 T v).1 = 0 := (pk_lEQ (b := 0) hA (by decide)).mp y
    have kk := kq v hv rfl τ3 C3 (own_scr K3)
    rw [if_pos y1] at kk
    exact kk
/-- told otherwise -/
def hX (fall see fill : Nat) (wo : Int32) (H : Nat → List StT) : HW := (fall, see, fill, wo, H, none)
theorem goX {T : TS} (h : tsOK T) {fall see fill : Nat} {wo : Int32} {H : Nat → List StT} (h1 : fall ≤ 16) (h2 : see ≤ 16) (h3 : fill ≤ 12) (h4 : ∀ p, p < 6 → (∀ Z, Z ∈ H p → stOK Z) ∧ (H p).length ≤ 8) : GoOK (tsO T) (hX fall see fill wo H) (tsK T 0).2.1 (tsK T 0).1 := h.go h1 h2 h3 h4
theorem habT {T : TS} (h : tsOK T) : ∀ p, p < 6 → (∀ Z, Z ∈ tsH T p → stOK Z) ∧ (tsH T p).length ≤ 8 := fun p hp => h.2.2.2.1 p (by omega)
theorem c_runX {G : GC} {σ : PS} {Q : Option Value → PS → Prop} {X : String → Nat → PS → Prop} {b : Nat} {A : Nat → Nat} {CA : Nat → Nat × Nat × Nat} {E : Nat × Nat × Option Nat × Nat × Nat × Nat × Nat} {T : TS} {to wo sta : Int32} {fall see fill v : Nat} {H : Nat → List StT} (hC : CI σ A CA E T) (hw : HwI σ A none to wo fall see sta 0 H) (hst : stt fill sta) (h1 : fall ≤ 16) (h2 : see ≤ 16) (h3 : fill ≤ 12) (h4 : ∀ p, p < 6 → (∀ Z, Z ∈ H p → stOK Z) ∧ (H p).length ≤ 8) (hbud : v + 1 ≤ b) (hv : v ≤ (tsK T 0).1) (hto : ∀ i, i ≤ 24 → (to < nI i ↔ v ≤ i))
    (k : ∀ τ, CI τ A CA E T → FR τ A CA E see (rn9 T (hX fall see fill wo H) v) → KpD (scr A) σ τ → Q (some (.ref (A 10))) τ) : Call G mX1_run 204 b [.ref (A 0), .ref (A 17)] σ Q X :=
  c_run (h := hX fall see fill wo H) hC hw (Or.inl ⟨rfl, rfl⟩) hst (goX hC.2.2 h1 h2 h3 h4) hbud hv (Or.inl ⟨rfl, hto⟩) (fun τ q1 q2 q3 => k τ q1 (by rw [fR0] at q2; exact q2) q3)
/-- true in the end; cost -/
def tr9 (T : TS) (h : HW) (v : Nat) : Nat := qLik 1 (tsO T 0) (tsO T 5) 0 (tsK T 0).2.2 (rn9 T h v).1
def co9 (T : TS) (h : HW) : Nat := qCost (tsO T) (rn9 T h (tsK T 0).1)
theorem tr9_le {T : TS} {h : HW} {v : Nat} (g : GoOK (tsO T) h (tsK T 0).2.1 (tsK T 0).1) (hv : v ≤ (tsK T 0).1) : tr9 T h v ≤ 2 ^ 40 := qLik_le (go_run g v hv).1
theorem co9_lt {T : TS} (h : tsOK T) {hh : HW} (g : GoOK (tsO T) hh (tsK T 0).2.1 (tsK T 0).1) : co9 T hh < 2 ^ 60 := cost_lt h g (Nat.le_refl _)
/-- the flow tells it -/
theorem c_truly {G : GC} {σ : PS} {Q : Option Value → PS → Prop} {X : String → Nat → PS → Prop} {b : Nat} {A : Nat → Nat} {CA : Nat → Nat × Nat × Nat} {E : Nat × Nat × Option Nat × Nat × Nat × Nat × Nat} {T : TS} {see v : Nat} {h : HW} (hC : CI σ A CA E T) (hR : FR σ A CA E see (rn9 T h v)) (g : GoOK (tsO T) h (tsK T 0).2.1 (tsK T 0).1) (hv : v ≤ (tsK T 0).1) (k : ∀ τ, CI τ A CA E T → FR τ A CA E see (rn9 T h v) → KpD (scr A) σ τ → Q (some (.long (lN (tr9 T h v)))) τ) : (∃ fs, Ob σ 3 (A 10) fs) ∧ Call G mX3_truly 6 b [.ref (A 10)] σ Q X := by
  obtain ⟨nw, nx, V, who, e, hM⟩ := hR
  refine ⟨⟨_, hM.1⟩, k_ftruly hM (go_le g hv) hC.1.off g.2.2.2.1 (hC.1.cal (i := 0) (by decide)) (fun τ hM4 F4 => ?_)⟩
  obtain ⟨C4, K4⟩ := CI.fl hC e e hM4 F4
  exact k τ C4 ⟨nw, nx, V, who, e, hM4⟩ K4
theorem c_tcost {G : GC} {σ : PS} {A : Nat → Nat} {CA : Nat → Nat × Nat × Nat} {E : Nat × Nat × Option Nat × Nat × Nat × Nat × Nat} {T : TS} {see : Nat} {h : HW} {R : Option Value → Prop} (hC : CI σ A CA E T) (hR : FR σ A CA E see (rn9 T h (tsK T 0).1)) (k : R (some (.long (lN (co9 T h))))) : (∃ fs, Ob σ 3 (A 10) fs) ∧ CallO G mX3_cost 3 [.ref (A 10)] σ R := by
  obtain ⟨nw, nx, V, who, e, hM⟩ := hR
  exact ⟨⟨_, hM.1⟩, k_fcost hM hC.1.off hC.2.2.1.lt k⟩
abbrev hWo (T : TS) (p : Nat) : HW := hX (tsO T 4) (tsO T 6) 0 (nI p) (tsH T)
abbrev hFa (T : TS) (q : Nat) : HW := hX q (tsO T 6) 0 (-1) (tsH T)
abbrev hSe (T : TS) (q : Nat) : HW := hX (tsO T 4) q 0 (-1) (tsH T)
abbrev hFi (T : TS) (q : Nat) : HW := hX (tsO T 4) (tsO T 6) q (-1) (tsH T)
abbrev hRu (T : TS) : HW := hX (tsO T 4) (tsO T 6) 0 (-1) (fun _ => tsH T 6)
abbrev hSw (T : TS) (p q : Nat) : HW := hX (tsO T 4) (tsO T 6) 0 (-1) (swH (tsH T) p q)
theorem swH_ok {T : TS} (h : tsOK T) {p q : Nat} (hp : p < 6) (hq : q < 6) : ∀ x, x < 6 → (∀ Z, Z ∈ swH (tsH T) p q x → stOK Z) ∧ (swH (tsH T) p q x).length ≤ 8 := fun x hx => by
  unfold swH
  split
  · exact habT h q hq
  · split
    · exact habT h p hp
    · exact habT h x hx
theorem go_Wo {T : TS} (h : tsOK T) (p : Nat) : GoOK (tsO T) (hWo T p) (tsK T 0).2.1 (tsK T 0).1 := goX h h.1.2.2.2.2.1 h.1.2.2.2.2.2.2.1 (by decide) (habT h)
theorem go_Fa {T : TS} (h : tsOK T) {q : Nat} (hq : q ≤ 16) : GoOK (tsO T) (hFa T q) (tsK T 0).2.1 (tsK T 0).1 := goX h hq h.1.2.2.2.2.2.2.1 (by decide) (habT h)
theorem go_Se {T : TS} (h : tsOK T) {q : Nat} (hq : q ≤ 16) : GoOK (tsO T) (hSe T q) (tsK T 0).2.1 (tsK T 0).1 := goX h h.1.2.2.2.2.1 hq (by decide) (habT h)
theorem go_Fi {T : TS} (h : tsOK T) {q : Nat} (hq : q ≤ 12) : GoOK (tsO T) (hFi T q) (tsK T 0).2.1 (tsK T 0).1 := goX h h.1.2.2.2.2.1 h.1.2.2.2.2.2.2.1 hq (habT h)
theorem go_Ru {T : TS} (h : tsOK T) : GoOK (tsO T) (hRu T) (tsK T 0).2.1 (tsK T 0).1 := goX h h.1.2.2.2.2.1 h.1.2.2.2.2.2.2.1 (by decide) (fun p _ => h.2.2.2.1 6 (by decide))
theorem go_Sw {T : TS} (h : tsOK T) {p q : Nat} (hp : p < 6) (hq : q < 6) : GoOK (tsO T) (hSw T p q) (tsK T 0).2.1 (tsK T 0).1 := goX h h.1.2.2.2.2.1 h.1.2.2.2.2.2.2.1 (by decide) (swH_ok h hp hq)
/-- gone through without one -/
theorem c_rWo {G : GC} {σ : PS} {Q : Option Value → PS → Prop} {X : String → Nat → PS → Prop} {b : Nat} {A : Nat → Nat} {CA : Nat → Nat × Nat × Nat} {E : Nat × Nat × Option Nat × Nat × Nat × Nat × Nat} {T : TS} {p : Nat} (hC : CI σ A CA E T) (hw : HwI σ A none (nI (tsK T 0).1 - 1) (nI p) (tsO T 4) (tsO T 6) (-1) 0 (tsH T)) (hb : 25 ≤ b) (k : ∀ τ, CI τ A CA E T → FR τ A CA E (tsO T 6) (rn9 T (hWo T p) (tsK T 0).1) → KpD (scr A) σ τ → Q (some (.ref (A 10))) τ) : Call G mX1_run 204 b [.ref (A 0), .ref (A 17)] σ Q X := by
  have hn := n24 hC.2.2
  exact c_runX hC hw stt0 hC.2.2.1.2.2.2.2.1 hC.2.2.1.2.2.2.2.2.2.1 (by decide) (habT hC.2.2) (by omega) (Nat.le_refl _) (to_all hn) k
theorem lN_div40 {a : Nat} (ha : a < 2 ^ 63) : lN a / 1099511627776 = lN (a / 1099511627776) := pk_lDiv (b := 1099511627776) ha (by decide) (by decide)
theorem c_without9 {G : GC} {σ : PS} {Q : Option Value → PS → Prop} {X : String → Nat → PS → Prop} {b : Nat} {A : Nat → Nat} {CA : Nat → Nat × Nat × Nat} {E : Nat × Nat × Option Nat × Nat × Nat × Nat × Nat} {T : TS} {x z : Int32} (hC : CI σ A CA E T) (hb : 40 ≤ b) (kq : ∀ v w, v < tsP T → x = nI v → w < 2 → z = nI w → ∀ τ, CI τ A CA E T → KpD (own A CA) σ τ → Q (some (.long (lN (if w = 0 then tr9 T (hWo T v) (tsK T 0).1 else co9 T (hWo T v) / 1099511627776)))) τ) (k0 : ¬ inN x (tsP T) → ∀ τ q, CI τ A CA E (bu0 T) → KpD (own A CA) σ τ → X "java/util/NoSuchElementException" q τ) (k1 : inN x (tsP T) → ¬ inN z 2 → ∀ τ q, CI τ A CA E (bu1 T) → KpD (own A CA) σ τ → X "java/lang/IllegalArgumentException" q τ) : Call G mX1_without 205 b [.ref (A 0), .int x, .int z] σ Q X := by
  refine eX1_without (bX1_without_0 ⟨1, by omega, ⟨_, hC.1.x⟩, c_personOf hC (Nat.le_refl _) (fun v hv hx => ⟨rfl, 1, by omega, ⟨_, hC.1.x⟩, c_in (n := 1) hC (Nat.le_refl _) (by decide) rfl (fun w hw hz => ⟨rfl, ⟨_, hC.1.x⟩, c_asTold hC (fun τ1 C1 W1 K1 => ⟨_, rfl, ⟨_, W1.1⟩, c_without C1 W1 (fun τ2 C2 W2 K2 => ⟨_, rfl, 25, by omega, ⟨_, C2.1.x⟩, ?_⟩)⟩)⟩) (k1 ⟨v, hv, hx⟩)⟩) k0⟩)
  subst hx
  subst hz
  have w0 : nI w = 0 ↔ w = 0 := nI_eq (b := 0) (by omega) (by decide)
  refine c_rWo C2 W2 (Nat.le_refl _) (fun τ3 C3 R3 K3 => ⟨_, rfl, fun y => ⟨A 10, ⟨_, C3.1.x, rfl⟩, c_tcost C3 R3 ⟨_, rfl, ?_⟩⟩, fun y => ⟨A 10, ⟨_, C3.1.x, rfl⟩, 0, Nat.zero_le _, c_truly C3 R3 (go_Wo hC.2.2 v) (Nat.le_refl _) (fun τ4 C4 R4 K4 => ⟨_, rfl, ?_⟩)⟩⟩)
  · have kk := kq v w hv rfl hw rfl τ3 C3 (own_scr ((K2 _ K1).tr K3))
    rw [if_neg (fun u => y (w0.mpr u))] at kk
    dsimp only
    rw [lN_div40 (Nat.lt_trans (co9_lt hC.2.2 (go_Wo hC.2.2 v)) (by decide))]
    exact kk
  · have kk := kq v w hv rfl hw rfl τ4 C4 (own_scr (((K2 _ K1).tr K3).tr K4))
    rw [if_pos (w0.mp y)] at kk
    exact kk
theorem c_falling {G : GC} {σ : PS} {Q : Option Value → PS → Prop} {X : String → Nat → PS → Prop} {b : Nat} {A : Nat → Nat} {CA : Nat → Nat × Nat × Nat} {E : Nat × Nat × Option Nat × Nat × Nat × Nat × Nat} {T : TS} {x : Int32} (hC : CI σ A CA E T) (hb : 40 ≤ b) (kq : ∀ q, q < 17 → x = nI q → ∀ τ, CI τ A CA E T → KpD (own A CA) σ τ → Q (some (.long (lN (tr9 T (hFa T q) (tsK T 0).1)))) τ) (k1 : ¬ inN x 17 → ∀ τ q, CI τ A CA E (bu1 T) → KpD (own A CA) σ τ → X "java/lang/IllegalArgumentException" q τ) : Call G mX1_falling 205 b [.ref (A 0), .int x] σ Q X := by
  refine eX1_falling (bX1_falling_0 ⟨1, by omega, ⟨_, hC.1.x⟩, c_in (n := 16) hC (Nat.le_refl _) (by decide) rfl (fun q hq hx => ⟨rfl, ⟨_, hC.1.x⟩, c_asTold hC (fun τ1 C1 W1 K1 => ⟨_, rfl, _, W1.1, by simp, fun s1 hs1 => ?_⟩)⟩) k1⟩)
  have hn := n24 hC.2.2
  subst hx
  subst hs1
  obtain ⟨C2, W2, K2⟩ := HwI.set (bk' := none) (to' := nI (tsK T 0).1 - 1) (wo' := -1) (fall' := q) (see' := tsO T 6) (sta' := -1) (bg' := 0) (e := .inl [.ref (A 18), va_rf none, .int (nI (tsK T 0).1 - 1), .int (-1), .int (nI q), .int (nI (tsO T 6)), .int (-1), .int 0]) C1 W1 rfl
  refine ⟨A 17, ⟨_, C2.1.x, rfl⟩, 25, by omega, ⟨_, C2.1.x⟩, c_runX C2 W2 stt0 (by omega) hC.2.2.1.2.2.2.2.2.2.1 (by decide) (habT hC.2.2) (show (tsK T 0).1 + 1 ≤ 25 by omega) (Nat.le_refl _) (to_all hn) (fun τ3 C3 R3 K3 => ⟨_, rfl, 0, Nat.zero_le _, c_truly C3 R3 (go_Fa hC.2.2 (by omega)) (Nat.le_refl _) (fun τ4 C4 R4 K4 => ⟨_, rfl, kq q hq rfl τ4 C4 (own_scr (((K2 _ K1).tr K3).tr K4))⟩)⟩)⟩
theorem c_seeing {G : GC} {σ : PS} {Q : Option Value → PS → Prop} {X : String → Nat → PS → Prop} {b : Nat} {A : Nat → Nat} {CA : Nat → Nat × Nat × Nat} {E : Nat × Nat × Option Nat × Nat × Nat × Nat × Nat} {T : TS} {x z : Int32} (hC : CI σ A CA E T) (hb : 40 ≤ b) (kq : ∀ q p, q < 17 → x = nI q → p < 2 → z = nI p → ∀ τ, CI τ A CA E T → KpD (own A CA) σ τ → Q (some (.long (lN (fr (co9 T (hSe T q)) 1099511627776 p)))) τ) (k1 : ¬ (inN x 17 ∧ inN z 2) → ∀ τ q, CI τ A CA E (bu1 T) → KpD (own A CA) σ τ → X "java/lang/IllegalArgumentException" q τ) : Call G mX1_seeing 205 b [.ref (A 0), .int x, .int z] σ Q X := by
  refine eX1_seeing (bX1_seeing_0 ⟨1, by omega, ⟨_, hC.1.x⟩, c_in (n := 16) hC (Nat.le_refl _) (by decide) rfl (fun q hq hx => ⟨rfl, 1, by omega, ⟨_, hC.1.x⟩, c_partOf hC (Nat.le_refl _) (fun p hp hz => ⟨rfl, ⟨_, hC.1.x⟩, c_asTold hC (fun τ1 C1 W1 K1 => ⟨_, rfl, _, W1.1, by simp, fun s1 hs1 => ?_⟩)⟩) (fun n9 => k1 (fun q => n9 q.2))⟩) (fun n9 => k1 (fun q => n9 q.1))⟩)
  have hn := n24 hC.2.2
  subst hx
  subst hz
  subst hs1
  obtain ⟨C2, W2, K2⟩ := HwI.set (bk' := none) (to' := nI (tsK T 0).1 - 1) (wo' := -1) (fall' := tsO T 4) (see' := q) (sta' := -1) (bg' := 0) (e := .inl [.ref (A 18), va_rf none, .int (nI (tsK T 0).1 - 1), .int (-1), .int (nI (tsO T 4)), .int (nI q), .int (-1), .int 0]) C1 W1 rfl
  refine ⟨A 17, ⟨_, C2.1.x, rfl⟩, 25, by omega, ⟨_, C2.1.x⟩, c_runX C2 W2 stt0 hC.2.2.1.2.2.2.2.1 (by omega) (by decide) (habT hC.2.2) (show (tsK T 0).1 + 1 ≤ 25 by omega) (Nat.le_refl _) (to_all hn) (fun τ3 C3 R3 K3 => ⟨_, rfl, c_tcost C3 R3 ⟨_, rfl, k_part1 (Nat.lt_trans (co9_lt hC.2.2 (go_Se hC.2.2 (by omega))) (by decide)) hp ⟨_, rfl, kq q p hq rfl hp rfl τ3 C3 (own_scr ((K2 _ K1).tr K3))⟩⟩⟩)⟩
theorem c_starting {G : GC} {σ : PS} {Q : Option Value → PS → Prop} {X : String → Nat → PS → Prop} {b : Nat} {A : Nat → Nat} {CA : Nat → Nat × Nat × Nat} {E : Nat × Nat × Option Nat × Nat × Nat × Nat × Nat} {T : TS} {q : Nat} (hC : CI σ A CA E T) (hb : 25 ≤ b) (hq0 : 1 ≤ q) (hq : q ≤ 12) (k : ∀ τ, CI τ A CA E T → KpD (scr A) σ τ → Q (some (.long (lN (co9 T (hFi T q))))) τ) : Call G mX1_starting 205 b [.ref (A 0), .int (nI q)] σ Q X := by
  have hn := n24 hC.2.2
  refine eX1_starting (bX1_starting_0 ⟨⟨_, hC.1.x⟩, c_asTold hC (fun τ1 C1 W1 K1 => ⟨_, rfl, _, W1.1, by simp, fun s1 hs1 => ?_⟩)⟩)
  subst hs1
  obtain ⟨C2, W2, K2⟩ := HwI.set (bk' := none) (to' := nI (tsK T 0).1 - 1) (wo' := -1) (fall' := tsO T 4) (see' := tsO T 6) (sta' := nI q) (bg' := 0) (e := .inl [.ref (A 18), va_rf none, .int (nI (tsK T 0).1 - 1), .int (-1), .int (nI (tsO T 4)), .int (nI (tsO T 6)), .int (nI q), .int 0]) C1 W1 rfl
  exact ⟨A 17, ⟨_, C2.1.x, rfl⟩, 25, hb, ⟨_, C2.1.x⟩, c_runX C2 W2 (Or.inr ⟨hq0, hq, rfl⟩) hC.2.2.1.2.2.2.2.1 hC.2.2.1.2.2.2.2.2.2.1 hq (habT hC.2.2) (show (tsK T 0).1 + 1 ≤ 25 by omega) (Nat.le_refl _) (to_all hn) (fun τ3 C3 R3 K3 => ⟨_, rfl, c_tcost C3 R3 ⟨_, rfl, k τ3 C3 ((K2 _ K1).tr K3)⟩⟩)⟩
theorem c_filled {G : GC} {σ : PS} {Q : Option Value → PS → Prop} {X : String → Nat → PS → Prop} {b : Nat} {A : Nat → Nat} {CA : Nat → Nat × Nat × Nat} {E : Nat × Nat × Option Nat × Nat × Nat × Nat × Nat} {T : TS} {x z : Int32} (hC : CI σ A CA E T) (hb : 40 ≤ b) (kq : ∀ q p, q < 12 → x = nI (q + 1) → p < 2 → z = nI p → ∀ τ, CI τ A CA E T → KpD (own A CA) σ τ → Q (some (.long (lN (fr (co9 T (hFi T (q + 1))) 1099511627776 p)))) τ) (k1 : ¬ ((∃ q, q < 12 ∧ x = nI (q + 1)) ∧ inN z 2) → ∀ τ q, CI τ A CA E (bu1 T) → KpD (own A CA) σ τ → X "java/lang/IllegalArgumentException" q τ) : Call G mX1_filled 206 b [.ref (A 0), .int x, .int z] σ Q X := by
  refine eX1_filled (bX1_filled_0 ⟨1, by omega, ⟨_, hC.1.x⟩, c_within hC (Nat.le_refl _) (fun l1 l2 => ⟨rfl, 1, by omega, ⟨_, hC.1.x⟩, c_partOf hC (Nat.le_refl _) (fun p hp hz => ⟨rfl, 25, by omega, ⟨_, hC.1.x⟩, ?_⟩) (fun n9 => k1 (fun q => n9 q.2))⟩) (fun n9 => k1 (fun ⟨⟨q, hq, e⟩, _⟩ => n9 ⟨by rw [e]; exact nI_le (a := 1) (by omega) (by omega), by rw [e]; exact nI_le (b := 12) (by omega) (by decide)⟩))⟩)
  subst hz
  have l0 : ¬ x < 0 := fun y => by
    rw [fa_lt9] at y
    rw [fa_le9] at l1
    have e1 : (1 : Int32).toInt = 1 := rfl
    have e0 : (0 : Int32).toInt = 0 := rfl
    omega
  obtain ⟨j, hj, rfl⟩ := nI_of l0
  have j1 := (nI_leI (a := 1) (by decide) hj).mp l1
  have j2 := (nI_leI (b := 12) hj (by decide)).mp l2
  obtain ⟨q, rfl⟩ : ∃ q, j = q + 1 := ⟨j - 1, by omega⟩
  exact c_starting hC (Nat.le_refl _) j1 j2 (fun τ3 C3 K3 => ⟨_, rfl, k_part1 (Nat.lt_trans (co9_lt hC.2.2 (go_Fi hC.2.2 (by omega))) (by decide)) hp ⟨_, rfl, kq q p (by omega) rfl hp rfl τ3 C3 (own_scr K3)⟩⟩)
theorem c_ruled {G : GC} {σ : PS} {Q : Option Value → PS → Prop} {X : String → Nat → PS → Prop} {b : Nat} {A : Nat → Nat} {CA : Nat → Nat × Nat × Nat} {E : Nat × Nat × Option Nat × Nat × Nat × Nat × Nat} {T : TS} {z : Int32} (hC : CI σ A CA E T) (hb : 40 ≤ b) (kq : ∀ w, w < 2 → z = nI w → ∀ τ, CI τ A CA E T → KpD (own A CA) σ τ → Q (some (.long (lN (if w = 0 then tr9 T (hRu T) (tsK T 0).1 else co9 T (hRu T) / 1099511627776)))) τ) (k1 : ¬ inN z 2 → ∀ τ q, CI τ A CA E (bu1 T) → KpD (own A CA) σ τ → X "java/lang/IllegalArgumentException" q τ) : Call G mX1_ruled 205 b [.ref (A 0), .int z] σ Q X := by
  have hn := n24 hC.2.2
  refine eX1_ruled (bX1_ruled_0 ⟨1, by omega, ⟨_, hC.1.x⟩, c_in (n := 1) hC (Nat.le_refl _) (by decide) rfl (fun w hw hz => ⟨rfl, ⟨_, hC.1.x⟩, c_asTold hC (fun τ1 C1 W1 K1 => ⟨_, rfl, _, ⟨_, C1.1.x, rfl⟩, ⟨_, W1.1⟩, c_hruled C1 W1 (fun τ2 C2 W2 K2 => ⟨_, rfl, 25, by omega, ⟨_, C2.1.x⟩, ?_⟩)⟩)⟩) k1⟩)
  subst hz
  have w0 : nI w = 0 ↔ w = 0 := nI_eq (b := 0) (by omega) (by decide)
  refine c_runX C2 W2 stt0 hC.2.2.1.2.2.2.2.1 hC.2.2.1.2.2.2.2.2.2.1 (by decide) (fun p _ => hC.2.2.2.2.2.1 6 (by decide)) (show (tsK T 0).1 + 1 ≤ 25 by omega) (Nat.le_refl _) (to_all hn) (fun τ3 C3 R3 K3 => ⟨_, rfl, fun y => ⟨A 10, ⟨_, C3.1.x, rfl⟩, c_tcost C3 R3 ⟨_, rfl, ?_⟩⟩, fun y => ⟨A 10, ⟨_, C3.1.x, rfl⟩, 0, Nat.zero_le _, c_truly C3 R3 (go_Ru hC.2.2) (Nat.le_refl _) (fun τ4 C4 R4 K4 => ⟨_, rfl, ?_⟩)⟩⟩)
  · have kk := kq w hw rfl τ3 C3 (own_scr ((K2 _ K1).tr K3))
    rw [if_neg (fun u => y (w0.mpr u))] at kk
    dsimp only
    rw [lN_div40 (Nat.lt_trans (co9_lt hC.2.2 (go_Ru hC.2.2)) (by decide))]
    exact kk
  · have kk := kq w hw rfl τ4 C4 (own_scr (((K2 _ K1).tr K3).tr K4))
    rw [if_pos (w0.mp y)] at kk
    exact kk
theorem c_rSw {G : GC} {σ : PS} {Q : Option Value → PS → Prop} {X : String → Nat → PS → Prop} {b : Nat} {A : Nat → Nat} {CA : Nat → Nat × Nat × Nat} {E : Nat × Nat × Option Nat × Nat × Nat × Nat × Nat} {T : TS} {p q : Nat} (hp : p < 6) (hq : q < 6) (hC : CI σ A CA E T) (hw : HwI σ A none (nI (tsK T 0).1 - 1) (-1) (tsO T 4) (tsO T 6) (-1) 0 (swH (tsH T) p q)) (hb : 25 ≤ b) (k : ∀ τ, CI τ A CA E T → FR τ A CA E (tsO T 6) (rn9 T (hSw T p q) (tsK T 0).1) → KpD (scr A) σ τ → Q (some (.ref (A 10))) τ) : Call G mX1_run 204 b [.ref (A 0), .ref (A 17)] σ Q X := by
  have hn := n24 hC.2.2
  exact c_runX hC hw stt0 hC.2.2.1.2.2.2.2.1 hC.2.2.1.2.2.2.2.2.2.1 (by decide) (swH_ok hC.2.2 hp hq) (by omega) (Nat.le_refl _) (to_all hn) k
theorem c_swapped {G : GC} {σ : PS} {Q : Option Value → PS → Prop} {X : String → Nat → PS → Prop} {b : Nat} {A : Nat → Nat} {CA : Nat → Nat × Nat × Nat} {E : Nat × Nat × Option Nat × Nat × Nat × Nat × Nat} {T : TS} {x y z : Int32} (hC : CI σ A CA E T) (hb : 40 ≤ b) (kq : ∀ v w p, v < tsP T → x = nI v → w < tsP T → y = nI w → v ≠ w → p < 2 → z = nI p → ∀ τ, CI τ A CA E T → KpD (own A CA) σ τ → Q (some (.long (lN (fr (co9 T (hSw T v w)) 1099511627776 p)))) τ) (k0 : ¬ (inN x (tsP T) ∧ inN y (tsP T)) → ∀ τ q, CI τ A CA E (bu0 T) → KpD (own A CA) σ τ → X "java/util/NoSuchElementException" q τ) (k1 : inN x (tsP T) → inN y (tsP T) → ¬ (x ≠ y ∧ inN z 2) → ∀ τ q, CI τ A CA E (bu1 T) → KpD (own A CA) σ τ → X "java/lang/IllegalArgumentException" q τ) : Call G mX1_swapped 205 b [.ref (A 0), .int x, .int y, .int z] σ Q X := by
  have hP6 := hC.2.2.2.1
  refine eX1_swapped (bX1_swapped_0 ⟨1, by omega, ⟨_, hC.1.x⟩, c_personOf hC (Nat.le_refl _) (fun v hv hx => ⟨rfl, 1, by omega, ⟨_, hC.1.x⟩, c_personOf hC (Nat.le_refl _) (fun w hw hy => ⟨rfl, fun e => bX1_swapped_21 ?_, fun e => bX1_swapped_21 ?_⟩) (fun n9 => k0 (fun q => n9 q.2))⟩) (fun n9 => k0 (fun q => n9 q.1))⟩)
  · refine ⟨1, by omega, ⟨_, hC.1.x⟩, c_in (n := 0) hC (Nat.le_refl _) (by decide) rfl (fun _ _ _ => ⟨rfl, 1, by omega, ⟨_, hC.1.x⟩, c_partOf hC (Nat.le_refl _) (fun p hp hz => ⟨rfl, ⟨_, hC.1.x⟩, c_asTold hC (fun τ1 C1 W1 K1 => ⟨_, rfl, ⟨_, W1.1⟩, ?_⟩)⟩) (fun n9 => k1 ⟨v, hv, hx⟩ ⟨w, hw, hy⟩ (fun q => n9 q.2))⟩) (fun n9 => absurd ⟨0, by decide, rfl⟩ n9)⟩
    have vw : v ≠ w := fun u => e (by rw [hx, hy, u])
    subst hx
    subst hy
    subst hz
    refine c_hswapped (show v < 6 by omega) (show w < 6 by omega) C1 W1 (fun τ2 C2 W2 K2 => ⟨_, rfl, 25, by omega, ⟨_, C2.1.x⟩, c_rSw (show v < 6 by omega) (show w < 6 by omega) C2 W2 (Nat.le_refl _) (fun τ3 C3 R3 K3 => ⟨_, rfl, c_tcost C3 R3 ⟨_, rfl, k_part1 (Nat.lt_trans (co9_lt hC.2.2 (go_Sw hC.2.2 (by omega) (by omega))) (by decide)) hp ⟨_, rfl, kq v w p hv rfl hw rfl vw hp rfl τ3 C3 (own_scr ((K2 _ K1).tr K3))⟩⟩⟩)⟩)
  · refine ⟨1, by omega, ⟨_, hC.1.x⟩, c_within hC (Nat.le_refl _) (fun _ l2 => absurd l2 (by decide)) (fun _ => k1 ⟨v, hv, hx⟩ ⟨w, hw, hy⟩ (fun q => q.1 e))⟩
