/-! Part B: what the component answers of days -/
theorem dayW_scr {A : Nat → Nat} {κ x : Nat} (h : DayW (A 15) (A 16) κ x) : scr A κ x := by
  unfold DayW DayD at h
  unfold scr FlW FlD
  omega
theorem CI.dy {σ τ : PS} {A : Nat → Nat} {CA : Nat → Nat × Nat × Nat} {E : Nat × Nat × Option Nat × Nat × Nat × Nat × Nat} {T : TS} {o v : Nat} {y : DY} (hC : CI σ A CA E T) (h : DayO τ (A 15) (A 16) o v y) (f : Fr (DayW (A 15) (A 16)) σ τ) : CI τ A CA E T ∧ KpD (scr A) σ τ := by
  have K : KpD (scr A) σ τ := f.kp.mono (fun κ x q => dayW_scr q)
  have ap := hC.1.2.2.2.2.2.2.2.2.2.2.2.1
  refine ⟨hC.sc K ⟨?_, ?_, ?_⟩, K⟩
  · have mv : ∀ n1 n2, FlA σ (A 10) (A 11) (A 12) n1 n2 → FlA τ (A 10) (A 11) (A 12) n1 n2 := by
      rintro n1 n2 ⟨x4, x5, x6, x7, x8, x9, x10, l', f', g, h', z3, z4, z4', z5, z6, z7, zn⟩
      have k3 : ∀ a e, σ 3 a = some e → τ 3 a = some e := fun a e hh => (f 3 a (by unfold DayW DayD; omega)).trans hh
      have k1 : ∀ a e, σ 101 a = some e → τ 101 a = some e := fun a e hh => (f 101 a (by unfold DayW DayD; omega)).trans hh
      exact ⟨x4, x5, x6, x7, x8, x9, x10, l', f', g, h', k3 _ _ z3, (f 4 (A 11) (by unfold DayW DayD; omega)).trans z4, z4', k1 _ _ z5, k1 _ _ z6, k1 _ _ z7, zn⟩
    exact hC.2.1.1.elim (fun z => Or.inl (mv _ _ z)) (fun z => Or.inr (mv _ _ z))
  · obtain ⟨l, dr, wa, lo, s, c, d, k, e⟩ := y
    exact ⟨_, _, _, _, _, _, _, h.1, h.2, rfl⟩
  · obtain ⟨v1, v2, v3, v4, v5, v6, v7, g, y4, y5⟩ := hC.2.1.2.2
    refine ⟨v1, v2, v3, v4, v5, v6, v7, g, (f _ _ ?_).trans y4, (f _ _ ?_).trans y5⟩
    · unfold DayW DayD
      omega
    · unfold DayW DayD
      omega
def dy9 (T : TS) (seed : Int32) (v : Nat) : DY := runDay (tsO T) (tsK T 0).2.1 (tsK T 0).2.2 (tsH T) seed v
theorem c_drawn {G : GC} {σ : PS} {Q : Option Value → PS → Prop} {X : String → Nat → PS → Prop} {b : Nat} {A : Nat → Nat} {CA : Nat → Nat × Nat × Nat} {E : Nat × Nat × Option Nat × Nat × Nat × Nat × Nat} {T : TS} {seed to : Int32} {Tn : Nat} (hC : CI σ A CA E T) (hb : 24 ≤ b) (hTn : Tn ≤ (tsK T 0).1) (hto : ∀ i, i ≤ 24 → (to < nI i ↔ Tn ≤ i)) (k : ∀ τ, CI τ A CA E T → DayO τ (A 15) (A 16) E.1 Tn (dy9 T seed Tn) → KpD (scr A) σ τ → Q (some (.ref (A 15))) τ) : Call G mX1_drawn 203 b [.ref (A 0), .int seed, .int to] σ Q X := by
  have hn := n24 hC.2.2
  have hx := hC.1.x
  obtain ⟨hf, b1, b2, b3⟩ := hC.1.2.2.2.1
  obtain ⟨v1, v2, v3, v4, v5, v6, l, y1, y2, y3⟩ := hC.2.1.2.1
  have ho := hC.2.2.1
  refine eX1_drawn (bX1_drawn_0 ⟨A 15, ⟨_, hx, rfl⟩, E.1, ⟨_, hx, rfl⟩, (CA 0).1, ⟨_, hx, rfl⟩, A 9, ⟨_, hx, rfl⟩, b, Nat.le_refl _, ⟨_, y1⟩, k_days hC.1.off (hC.1.cal (i := 0) (by decide)) hn (hC.2.2.2.2.1 0 (by decide)).2 b1 b2 y1 y2 y3 ho.1 (by have := ho.2.2.1; have := ho.1; omega) ho.2.2.2.1 ho.2.2.2.2.1 ho.2.2.2.2.2.2.1 (by omega) hTn hto (fun τ hD hF => ⟨_, rfl, ?_⟩)⟩)
  obtain ⟨q1, q2⟩ := CI.dy hC hD hF
  exact k τ q1 hD q2
def dayV (w : Nat) (y : DY) : Int32 := match y with
  | (_, dr, wa, lo, s, c, d, k, _) => if w = 0 then nI c else if w = 1 then nI d else if w = 2 then nI k else if w = 3 then dr else if w = 4 then wa else if w = 5 then lo else nI s - 1
theorem c_day {G : GC} {σ : PS} {Q : Option Value → PS → Prop} {X : String → Nat → PS → Prop} {b : Nat} {A : Nat → Nat} {CA : Nat → Nat × Nat × Nat} {E : Nat × Nat × Option Nat × Nat × Nat × Nat × Nat} {T : TS} {seed x y : Int32} (hC : CI σ A CA E T) (hb : 40 ≤ b) (kq : ∀ v w, v < (tsK T 0).1 → x = nI v → w < 7 → y = nI w → ∀ τ, CI τ A CA E T → KpD (own A CA) σ τ → Q (some (.int (dayV w (dy9 T seed (v + 1))))) τ) (k0 : ¬ inN x (tsK T 0).1 → ∀ τ q, CI τ A CA E (bu0 T) → KpD (own A CA) σ τ → X "java/util/NoSuchElementException" q τ) (k1 : inN x (tsK T 0).1 → ¬ inN y 7 → ∀ τ q, CI τ A CA E (bu1 T) → KpD (own A CA) σ τ → X "java/lang/IllegalArgumentException" q τ) : Call G mX1_day 204 b [.ref (A 0), .int seed, .int x, .int y] σ Q X := by
  refine eX1_day (bX1_day_0 ⟨1, by omega, ⟨_, hC.1.x⟩, c_visitOf hC (Nat.le_refl _) (fun v hv hx => ⟨rfl, 1, by omega, ⟨_, hC.1.x⟩, c_in (n := 6) hC (Nat.le_refl _) (by decide) rfl (fun w hw hy => ⟨rfl, 24, by omega, ⟨_, hC.1.x⟩, ?_⟩) (k1 ⟨v, hv, hx⟩)⟩) k0⟩)
  have hn := n24 hC.2.2
  subst hx
  subst hy
  refine c_drawn hC (Nat.le_refl _) hv (to_v (by omega)) (fun τ C1 hD K1 => ⟨_, rfl, ?_⟩)
  have kk := kq v w hv rfl hw rfl τ C1 (own_scr K1)
  have hx1 := C1.1.x
  revert hD kk
  generalize dy9 T seed (v + 1) = yy
  obtain ⟨l, dr, wa, lo, s, c, d, k, e⟩ := yy
  intro hD kk
  have h5 := hD.1
  have h4 := hD.2
  unfold stL at h4
  unfold dayV at kk
  dsimp only at kk
  refine ⟨A 16, ⟨_, h5, rfl⟩, ?_⟩
  rw [nI_toInt (show w < 2 ^ 31 by omega)]
  have lt : ∀ j : Nat, j < 7 → (nI w = nI j ↔ w = j) := fun j hj => nI_eq (by omega) (by omega)
  rw [show (nI w = (0 : Int32)) = (w = 0) from propext (lt 0 (by decide)), show (nI w = (1 : Int32)) = (w = 1) from propext (lt 1 (by decide)), show (nI w = (2 : Int32)) = (w = 2) from propext (lt 2 (by decide)), show (nI w = (3 : Int32)) = (w = 3) from propext (lt 3 (by decide)), show (nI w = (4 : Int32)) = (w = 4) from propext (lt 4 (by decide)), show (nI w = (5 : Int32)) = (w = 5) from propext (lt 5 (by decide))]
  refine ⟨fun q => ⟨_, ⟨_, h4, rfl⟩, ?_⟩, fun q => ⟨_, ⟨_, h4, rfl⟩, ?_⟩, fun q => ⟨_, ⟨_, h4, rfl⟩, ?_⟩, fun q => ⟨_, ⟨_, h4, rfl⟩, ?_⟩, fun q => ⟨A 15, ⟨_, hx1, rfl⟩, _, ⟨_, h5, rfl⟩, ?_⟩, fun q => ⟨A 15, ⟨_, hx1, rfl⟩, _, ⟨_, h5, rfl⟩, ?_⟩, fun q => ⟨A 15, ⟨_, hx1, rfl⟩, _, ⟨_, h5, rfl⟩, ?_⟩⟩
  · rw [if_neg (by omega), if_neg (by omega), if_neg (by omega), if_neg (by omega), if_neg (by omega), if_neg (by omega)] at kk
    exact kk
  all_goals
    subst q
    exact kk
/-- of so many seeds: true, in all, the most -/
def spS (T : TS) (seed : Int32) : Nat → Int32 × Int32 × Int32
  | 0 => (0, 0, 0)
  | i + 1 => match dy9 T (seed + nI i) (tsK T 0).1 with
    | (_, dr, _, _, _, _, d, k, _) => ((if k = 1 ↔ d = 0 then (spS T seed i).1 + 1 else (spS T seed i).1), (spS T seed i).2.1 + dr, if (spS T seed i).2.2 < dr then dr else (spS T seed i).2.2)
def spV (w : Nat) (s : Int32 × Int32 × Int32) : Int32 := if w = 0 then s.1 else if w = 1 then s.2.1 else s.2.2
theorem dy_ok {T : TS} (h : tsOK T) (seed : Int32) (v : Nat) : dyB v (dy9 T seed v) := runDay_ok h.1.1 (by have := h.1.2.2.1; have := h.1.1; omega) h.1.2.2.2.1 v
theorem c_span {G : GC} {σ : PS} {Q : Option Value → PS → Prop} {X : String → Nat → PS → Prop} {b : Nat} {A : Nat → Nat} {CA : Nat → Nat × Nat × Nat} {E : Nat × Nat × Option Nat × Nat × Nat × Nat × Nat} {T : TS} {seed x y : Int32} (hC : CI σ A CA E T) (hb : 1000 ≤ b) (kq : ∀ m w, m < 40 → x = nI (m + 1) → w < 3 → y = nI w → ∀ τ, CI τ A CA E T → KpD (own A CA) σ τ → Q (some (.int (spV w (spS T seed (m + 1))))) τ) (k1 : ¬ ((∃ m, m < 40 ∧ x = nI (m + 1)) ∧ inN y 3) → ∀ τ q, CI τ A CA E (bu1 T) → KpD (own A CA) σ τ → X "java/lang/IllegalArgumentException" q τ) : Call G mX1_span 204 b [.ref (A 0), .int seed, .int x, .int y] σ Q X := by
  refine eX1_span (bX1_span_0 ⟨1, by omega, ⟨_, hC.1.x⟩, c_within hC (Nat.le_refl _) (fun l1 l2 => ⟨rfl, 1, by omega, ⟨_, hC.1.x⟩, c_in (n := 2) hC (Nat.le_refl _) (by decide) rfl (fun w hw hy => ⟨rfl, ?_⟩) (fun n9 => k1 (fun q => n9 q.2))⟩) (fun n9 => k1 (fun ⟨⟨q, hq, e⟩, _⟩ => n9 ⟨by rw [e]; exact nI_le (a := 1) (by omega) (by omega), by rw [e]; exact nI_le (b := 40) (by omega) (by decide)⟩))⟩)
  have hn := n24 hC.2.2
  have l0 : ¬ x < 0 := fun y => by
    rw [fa_lt9] at y
    rw [fa_le9] at l1
    have e1 : (1 : Int32).toInt = 1 := rfl
    have e0 : (0 : Int32).toInt = 0 := rfl
    omega
  obtain ⟨j, hj, rfl⟩ := nI_of l0
  have j1 := (nI_leI (a := 1) (by decide) hj).mp l1
  have j2 := (nI_leI (b := 40) hj (by decide)).mp l2
  obtain ⟨m, rfl⟩ : ∃ m, j = m + 1 := ⟨j - 1, by omega⟩
  subst hy
  have w0 : nI w = 0 ↔ w = 0 := nI_eq (b := 0) (by omega) (by decide)
  have w1 : nI w = 1 ↔ w = 1 := nI_eq (b := 1) (by omega) (by decide)
  have L : ∀ d i, i + d = m + 1 → ∀ b', 24 * d ≤ b' → ∀ τ, CI τ A CA E T → KpD (scr A) σ τ → At G mX1_span 204 Q X b' 27 [(0, .ref (A 0)), (1, .int seed), (2, .int (nI (m + 1))), (3, .int (nI w)), (4, .int (spS T seed i).1), (5, .int (spS T seed i).2.1), (6, .int (spS T seed i).2.2), (7, .int (nI i))] [] τ := by
    intro d
    induction d with
    | zero =>
      intro i hi b' hb' τ hC' hK'
      have hi : i = m + 1 := by omega
      subst hi
      have kk := kq m w (by omega) rfl hw rfl τ hC' (own_scr hK')
      unfold spV at kk
      refine bX1_span_27 ⟨fun _ => ⟨fun y => ⟨fun z => ?_, fun z => ?_⟩, fun y => ?_⟩, fun q => absurd (nI_le (Nat.le_refl _) (by omega)) q⟩
      · rw [if_neg (fun u => y (w0.mpr u)), if_neg (fun u => z (w1.mpr u))] at kk
        exact kk
      · rw [if_neg (fun u => y (w0.mpr u)), if_pos (w1.mp z)] at kk
        exact kk
      · rw [if_pos (w0.mp y)] at kk
        exact kk
    | succ d ih =>
      intro i hi b' hb' τ hC' hK'
      refine bX1_span_27 ⟨fun q => absurd q (nI_ge (by omega) (by omega)), fun _ => ⟨(CA 0).1, ⟨_, hC'.1.x, rfl⟩, _, ⟨_, (hC'.1.cal (i := 0) (by decide)).1, rfl⟩, 24, by omega, ⟨_, hC'.1.x⟩, c_drawn hC' (Nat.le_refl _) (Nat.le_refl _) (to_all hn) (fun τ2 C2 hD K2 => ⟨_, rfl, A 15, ⟨_, C2.1.x, rfl⟩, A 16, ?_⟩)⟩⟩
      have ih1 := ih (i + 1) (by omega) (b' - 24) (by omega) τ2 C2 (hK'.tr K2)
      have hx1 := C2.1.x
      have hdo := dy_ok hC.2.2 (seed + nI i) (tsK T 0).1
      rw [spS] at ih1
      revert hD ih1 hdo
      generalize dy9 T (seed + nI i) (tsK T 0).1 = yy
      obtain ⟨l, dr, wa, lo, s, c, dd, k, e⟩ := yy
      intro hD ih1 hdo
      have hc12 : c + dd ≤ 12 := hdo.2.1
      have hk2 : k < 2 := hdo.2.2.1
      have h5 := hD.1
      have h4 := hD.2
      have h4' := h4
      unfold stL at h4'
      dsimp only at ih1
      refine ⟨⟨_, h5, rfl⟩, ⟨_, h4⟩, k_isTrue (k := .null) (by omega) h4' ⟨_, rfl, ?_⟩⟩
      have zk : nI k = 1 ↔ k = 1 := nI_eq (b := 1) (by omega) (by decide)
      have M : ∀ v4, v4 = (if k = 1 ↔ dd = 0 then (spS T seed i).1 + 1 else (spS T seed i).1) → At G mX1_span 204 Q X (b' - 24) 67 [(0, .ref (A 0)), (1, .int seed), (2, .int (nI (m + 1))), (3, .int (nI w)), (4, .int v4), (5, .int (spS T seed i).2.1), (6, .int (spS T seed i).2.2), (7, .int (nI i))] [] τ2 := by
        intro v4 e4
        refine bX1_span_67 ⟨A 15, ⟨_, hx1, rfl⟩, _, ⟨_, h5, rfl⟩, fun v5 e5 => ⟨A 15, ⟨_, hx1, rfl⟩, _, ⟨_, h5, rfl⟩, fun w9 e9 v7 e7 => ?_⟩⟩
        rw [e4, e5, e9, e7, nI_1]
        exact ih1
      by_cases z : k = 1 ↔ dd = 0
      · rw [if_pos (zk.trans z)]
        refine ⟨fun y => absurd y (by decide), fun _ v4 e4 => M v4 (by rw [e4, if_pos z])⟩
      · rw [if_neg (fun u => z (zk.symm.trans u))]
        refine ⟨fun _ => M _ (by rw [if_neg z]), fun y => absurd rfl y⟩
  exact L (m + 1) 0 (by omega) _ (by omega) σ hC KpD.rf
