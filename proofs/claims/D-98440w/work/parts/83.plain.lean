/-! Part B: what is told, on both sides -/
def toldV (T : TS) (w : Nat) : Int32 := if w < 7 then nI (tsO T w) else if w = 7 then nI (tsP T) else if w = 8 then nI (tsK T 0).1 else nI (tsB T).length
def visV (T : TS) (v w : Nat) : Int32 := if w = 0 then (tsK T 0).2.1 v else if w = 1 then (tsK T 0).2.2 v else if w = 2 then nI (cn (tsK T 0).2.1 ((tsK T 0).2.1 v) (v + 1)) else la (tsK T 0).2.1 (tsK T 0).2.2 v v
def perV (T : TS) (p w : Nat) : Int32 := if w = 0 then nI (tsH T p).length else if w = 1 then nI (cn (tsK T 0).2.1 (nI p) (tsK T 0).1) else fi (tsK T 0).2.1 (nI p) (tsK T 0).1 0
def staV (T : TS) (x : Int32) : Int32 := if x = 0 then tsR0 T else if x = 1 then tsR1 T else -1
def couV (T : TS) (x : Int32) : Int32 := if x = 0 then nI (tsI T) else if x = 1 then nI (tsF T) else if x = 2 then nI (tsC T) else -1
theorem c_told {G : GC} {σ : PS} {Q : Option Value → PS → Prop} {X : String → Nat → PS → Prop} {b : Nat} {A : Nat → Nat} {CA : Nat → Nat × Nat × Nat} {E : Nat × Nat × Option Nat × Nat × Nat × Nat × Nat} {T : TS} {x : Int32} (hC : CI σ A CA E T) (hb : 1 ≤ b) (kq : ∀ w, w < 10 → x = nI w → ∀ τ, CI τ A CA E T → KpD (own A CA) σ τ → Q (some (.int (toldV T w))) τ) (k1 : ¬ inN x 10 → ∀ τ q, CI τ A CA E (bu1 T) → KpD (own A CA) σ τ → X "java/lang/IllegalArgumentException" q τ) : Call G mX1_told 11 b [.ref (A 0), .int x] σ Q X := by
  refine eX1_told (bX1_told_0 ⟨1, hb, ⟨_, hC.1.x⟩, c_in (n := 9) hC (Nat.le_refl _) (by decide) rfl (fun w hw hx => ⟨rfl, ?_⟩) k1⟩)
  subst hx
  have kk := kq w hw rfl σ hC KpD.rf
  unfold toldV at kk
  have hx := hC.1.x
  have ho := hC.1.off.1
  obtain ⟨g1, g2, g3, hb8, -⟩ := hC.1.2.2.2.2.1.1
  have hcal := (hC.1.cal (i := 0) (by decide)).1
  rw [nI_toInt (show w < 2 ^ 31 by omega)]
  have lt : ∀ j : Nat, j < 10 → (nI w = nI j ↔ w = j) := fun j hj => nI_eq (by omega) (by omega)
  refine ⟨fun q => ⟨_, ⟨_, hx, rfl⟩, _, ⟨_, hb8, rfl⟩, ?_⟩, fun q => ⟨_, ⟨_, hx, rfl⟩, _, ⟨_, ho, rfl⟩, ?_⟩, fun q => ⟨_, ⟨_, hx, rfl⟩, _, ⟨_, ho, rfl⟩, ?_⟩, fun q => ⟨_, ⟨_, hx, rfl⟩, _, ⟨_, ho, rfl⟩, ?_⟩, fun q => ⟨_, ⟨_, hx, rfl⟩, _, ⟨_, ho, rfl⟩, ?_⟩, fun q => ⟨_, ⟨_, hx, rfl⟩, _, ⟨_, ho, rfl⟩, ?_⟩, fun q => ⟨_, ⟨_, hx, rfl⟩, _, ⟨_, ho, rfl⟩, ?_⟩, fun q => ⟨_, ⟨_, hx, rfl⟩, _, ⟨_, ho, rfl⟩, ?_⟩, fun q => ⟨_, ⟨_, hx, rfl⟩, _, ⟨_, ho, rfl⟩, ?_⟩, fun q => ⟨_, ⟨_, hx, rfl⟩, _, ⟨_, hcal, rfl⟩, ?_⟩⟩
  · rw [if_neg (by omega), if_neg (by omega), if_neg (by omega)] at kk
    exact kk
  · have q := (lt 0 (by decide)).mp q
    subst q
    exact kk
  · have q := (lt 1 (by decide)).mp q
    subst q
    exact kk
  · have q := (lt 2 (by decide)).mp q
    subst q
    exact kk
  · have q := (lt 3 (by decide)).mp q
    subst q
    exact kk
  · have q := (lt 4 (by decide)).mp q
    subst q
    exact kk
  · have q := (lt 5 (by decide)).mp q
    subst q
    exact kk
  · have q := (lt 6 (by decide)).mp q
    subst q
    exact kk
  · have q := (lt 7 (by decide)).mp q
    subst q
    exact kk
  · have q := (lt 8 (by decide)).mp q
    subst q
    exact kk
theorem m_told {G : GC} {ad : Nat → Nat} {o : Nat} {F : Nat → Int32} {L : Nat → Int64} {I : Nat → Nat → Int32} {J : Nat → Nat → Int64} {Q : MPost} {T : TS} {x : Int32} (hM : MI F L I J T) (kq : ∀ w, w < 10 → x = nI w → ∀ F' L' I' J', MI F' L' I' J' T → F' 0 = 0 → Q (some (.int (toldV T w))) F' L' I' J') (k1 : ¬ inN x 10 → ∀ F' L' I' J', MI F' L' I' J' (bu1 T) → F' 0 = 1 → Q (some (.int 0)) F' L' I' J') : CallM G mX9_told 4 ad o [.ref o, .int x] F L I J Q := by
  refine eX9_told (fun σ0 => bX9_told_0 (fun F1 e1 => ?_))
  subst e1
  refine w_in (n := 9) rfl (by decide) (fun w hw hx => ⟨_, rfl, w_mayT fU_at ?_⟩) (fun h => ⟨_, rfl, w_mayF hM.th fU_at (by decide) (fun F' I' q1 q2 => k1 h F' L I' J q1 q2)⟩)
  subst hx
  have kk := kq w hw rfl _ L I J hM.th fU_at
  unfold toldV at kk
  have l7 : (7 : Int32) ≤ nI w ↔ 7 ≤ w := nI_leI (a := 7) (by decide) (by omega)
  have lt : ∀ j : Nat, j < 10 → (nI w = nI j ↔ w = j) := fun j hj => nI_eq (by omega) (by omega)
  refine ⟨fun q => ⟨fun q7 => ⟨fun q8 => ?_, fun q8 => ?_⟩, fun q7 => ?_⟩, fun q => ⟨vp_in_nI (by omega) (by decide), ?_⟩⟩
  · have := l7.mp q
    rw [if_neg (by omega), if_neg (fun u => q7 ((lt 7 (by decide)).mpr u)), if_neg (fun u => q8 ((lt 8 (by decide)).mpr u))] at kk
    rw [fU_ne (by decide), hM.2.2.2.1.1]
    exact kk
  · have q8 := (lt 8 (by decide)).mp q8
    subst q8
    rw [fU_ne (by decide), hM.2.1.2]
    exact kk
  · have q7 := (lt 7 (by decide)).mp q7
    subst q7
    rw [fU_ne (by decide), hM.2.1.1]
    exact kk
  · have : ¬ 7 ≤ w := fun u => q (l7.mpr u)
    rw [if_pos (by omega)] at kk
    rw [nI_clamp (by omega), hM.1.1 w (by omega)]
    exact kk
theorem c_visit {G : GC} {σ : PS} {Q : Option Value → PS → Prop} {X : String → Nat → PS → Prop} {b : Nat} {A : Nat → Nat} {CA : Nat → Nat × Nat × Nat} {E : Nat × Nat × Option Nat × Nat × Nat × Nat × Nat} {T : TS} {x y : Int32} (hC : CI σ A CA E T) (hb : 2 ≤ b) (kq : ∀ v w, v < (tsK T 0).1 → x = nI v → w < 4 → y = nI w → ∀ τ, CI τ A CA E T → KpD (own A CA) σ τ → Q (some (.int (visV T v w))) τ) (k0 : ¬ inN x (tsK T 0).1 → ∀ τ q, CI τ A CA E (bu0 T) → KpD (own A CA) σ τ → X "java/util/NoSuchElementException" q τ) (k1 : inN x (tsK T 0).1 → ¬ inN y 4 → ∀ τ q, CI τ A CA E (bu1 T) → KpD (own A CA) σ τ → X "java/lang/IllegalArgumentException" q τ) : Call G mX1_visit 12 b [.ref (A 0), .int x, .int y] σ Q X := by
  refine eX1_visit (bX1_visit_0 ⟨1, by omega, ⟨_, hC.1.x⟩, c_visitOf hC (Nat.le_refl _) (fun v hv hx => ⟨rfl, 1, by omega, ⟨_, hC.1.x⟩, c_in (n := 3) hC (Nat.le_refl _) (by decide) rfl (fun w hw hy => ⟨rfl, ?_⟩) (k1 ⟨v, hv, hx⟩)⟩) k0⟩)
  have hn := n24 hC.2.2
  subst hx
  subst hy
  have kk := kq v w hv rfl hw rfl σ hC KpD.rf
  unfold visV at kk
  have hx := hC.1.x
  have hcal := hC.1.cal (i := 0) (by decide)
  obtain ⟨c1, c2, c3, -⟩ := id hcal
  rw [nI_toInt (show w < 2 ^ 31 by omega)]
  have lt : ∀ j : Nat, j < 10 → (nI w = nI j ↔ w = j) := fun j hj => nI_eq (by omega) (by omega)
  refine ⟨fun q => ⟨_, ⟨_, hx, rfl⟩, ⟨_, c1⟩, k_last hcal (by omega) ⟨_, rfl, ?_⟩⟩, fun q => ⟨_, ⟨_, hx, rfl⟩, _, ⟨_, c1, rfl⟩, _, _, c2, vp_in_nI (by omega) (by decide), ?_⟩, fun q => ⟨_, ⟨_, hx, rfl⟩, _, ⟨_, c1, rfl⟩, _, _, c3, vp_in_nI (by omega) (by decide), ?_⟩, fun q => ⟨_, ⟨_, hx, rfl⟩, ⟨_, c1⟩, k_count hcal (by omega) ⟨_, rfl, ?_⟩⟩⟩
  · rw [if_neg (by omega), if_neg (by omega), if_neg (by omega)] at kk
    exact kk
  · have q := (lt 0 (by decide)).mp q
    subst q
    rw [nI_clamp (by omega)]
    exact kk
  · have q := (lt 1 (by decide)).mp q
    subst q
    rw [nI_clamp (by omega)]
    exact kk
  · have q := (lt 2 (by decide)).mp q
    subst q
    exact kk
theorem m_visit {G : GC} {ad : Nat → Nat} {o : Nat} {F : Nat → Int32} {L : Nat → Int64} {I : Nat → Nat → Int32} {J : Nat → Nat → Int64} {Q : MPost} {T : TS} {x y : Int32} (hM : MI F L I J T) (kq : ∀ v w, v < (tsK T 0).1 → x = nI v → w < 4 → y = nI w → ∀ F' L' I' J', MI F' L' I' J' T → F' 0 = 0 → Q (some (.int (visV T v w))) F' L' I' J') (k0 : ¬ inN x (tsK T 0).1 → ∀ F' L' I' J', MI F' L' I' J' (bu0 T) → F' 0 = 1 → Q (some (.int 0)) F' L' I' J') (k1 : inN x (tsK T 0).1 → ¬ inN y 4 → ∀ F' L' I' J', MI F' L' I' J' (bu1 T) → F' 0 = 2 → Q (some (.int 0)) F' L' I' J') : CallM G mX9_visit 5 ad o [.ref o, .int x, .int y] F L I J Q := by
  refine eX9_visit (fun σ0 => bX9_visit_0 (fun F1 e1 => ?_))
  subst e1
  refine w_isVisit hM.th fU_at (fun v hv hx => ⟨_, rfl, fun z => absurd z (by decide), fun _ => ?_⟩) (fun h F' I' q1 q2 => ⟨_, rfl, fun _ => k0 h F' L I' J q1 q2, fun z => absurd rfl z⟩)
  refine w_in (n := 3) rfl (by decide) (fun w hw hy => ⟨_, rfl, w_mayT fU_at ?_⟩) (fun h => ⟨_, rfl, w_mayF hM.th fU_at (by decide) (fun F' I' q1 q2 => k1 ⟨v, hv, hx⟩ h F' L I' J q1 q2)⟩)
  have hn := n24 hM.ok
  subst hx
  subst hy
  have kk := kq v w hv rfl hw rfl _ L I J hM.th fU_at
  unfold visV at kk
  have hag := hM.1.2
  have lt : ∀ j : Nat, j < 10 → (nI w = nI j ↔ w = j) := fun j hj => nI_eq (by omega) (by omega)
  refine ⟨fun q0 => ⟨fun q1 => ⟨fun q2 => w_sinceOf (by omega) ⟨_, rfl, ?_⟩, fun q2 => w_whichOf (by omega) ⟨_, rfl, ?_⟩⟩, fun q1 => ⟨vp_in_nI (by omega) (by decide), ?_⟩⟩, fun q0 => ⟨vp_in_nI (by omega) (by decide), ?_⟩⟩
  · rw [if_neg (fun u => q0 ((lt 0 (by decide)).mpr u)), if_neg (fun u => q1 ((lt 1 (by decide)).mpr u)), if_neg (fun u => q2 ((lt 2 (by decide)).mpr u))] at kk
    rw [la_cong hv (fun i hi => hag i hi) (Nat.le_refl _)]
    exact kk
  · have q2 := (lt 2 (by decide)).mp q2
    subst q2
    rw [(hag v hv).1, cn_cong (fun i hi => (hag i (by omega)).1)]
    exact kk
  · have q1 := (lt 1 (by decide)).mp q1
    subst q1
    rw [nI_clamp (by omega), (hag v hv).2]
    exact kk
  · have q0 := (lt 0 (by decide)).mp q0
    subst q0
    rw [nI_clamp (by omega), (hag v hv).1]
    exact kk
theorem c_price {G : GC} {σ : PS} {Q : Option Value → PS → Prop} {X : String → Nat → PS → Prop} {b : Nat} {A : Nat → Nat} {CA : Nat → Nat × Nat × Nat} {E : Nat × Nat × Option Nat × Nat × Nat × Nat × Nat} {T : TS} {x : Int32} (hC : CI σ A CA E T) (hb : 1 ≤ b) (kq : ∀ w, w < 5 → x = nI w → ∀ τ, CI τ A CA E T → KpD (own A CA) σ τ → Q (some (.int (nI (tsO T (7 + w))))) τ) (k1 : ¬ inN x 5 → ∀ τ q, CI τ A CA E (bu1 T) → KpD (own A CA) σ τ → X "java/lang/IllegalArgumentException" q τ) : Call G mX1_price 11 b [.ref (A 0), .int x] σ Q X := by
  refine eX1_price (bX1_price_0 ⟨1, hb, ⟨_, hC.1.x⟩, c_in (n := 4) hC (Nat.le_refl _) (by decide) rfl (fun w hw hx => ⟨rfl, ?_⟩) k1⟩)
  subst hx
  obtain ⟨o1, f, o2, o3⟩ := hC.1.off
  refine ⟨_, ⟨_, hC.1.x, rfl⟩, _, ⟨_, o1, rfl⟩, _, _, o2, vp_in_nI (by omega) (by decide), ?_⟩
  rw [nI_clamp (by omega), o3 w (by omega)]
  exact kq w hw rfl σ hC KpD.rf
theorem m_price {G : GC} {ad : Nat → Nat} {o : Nat} {F : Nat → Int32} {L : Nat → Int64} {I : Nat → Nat → Int32} {J : Nat → Nat → Int64} {Q : MPost} {T : TS} {x : Int32} (hM : MI F L I J T) (kq : ∀ w, w < 5 → x = nI w → ∀ F' L' I' J', MI F' L' I' J' T → F' 0 = 0 → Q (some (.int (nI (tsO T (7 + w))))) F' L' I' J') (k1 : ¬ inN x 5 → ∀ F' L' I' J', MI F' L' I' J' (bu1 T) → F' 0 = 1 → Q (some (.int 0)) F' L' I' J') : CallM G mX9_price 4 ad o [.ref o, .int x] F L I J Q := by
  refine eX9_price (fun σ0 => bX9_price_0 (fun F1 e1 => ?_))
  subst e1
  refine w_in (n := 4) rfl (by decide) (fun w hw hx => ⟨_, rfl, w_mayT fU_at ?_⟩) (fun h => ⟨_, rfl, w_mayF hM.th fU_at (by decide) (fun F' I' q1 q2 => k1 h F' L I' J q1 q2)⟩)
  subst hx
  rw [show (7 : Int32) = nI 7 from rfl, nI_add]
  refine ⟨vp_in_nI (by omega) (by decide), ?_⟩
  rw [nI_clamp (by omega), hM.1.1 (7 + w) (by omega)]
  exact kq w hw rfl _ L I J hM.th fU_at
theorem m_thrown {G : GC} {ad : Nat → Nat} {o : Nat} {F : Nat → Int32} {L : Nat → Int64} {I : Nat → Nat → Int32} {J : Nat → Nat → Int64} {Q : MPost} (k : Q (some (.int (F 0))) F L I J) : CallM G mX9_thrown 3 ad o [.ref o] F L I J Q := eX9_thrown (fun σ0 => bX9_thrown_0 k)
theorem c_fault {G : GC} {σ : PS} {Q : Option Value → PS → Prop} {X : String → Nat → PS → Prop} {b : Nat} {A : Nat → Nat} {CA : Nat → Nat × Nat × Nat} {E : Nat × Nat × Option Nat × Nat × Nat × Nat × Nat} {T : TS} (hC : CI σ A CA E T) (kq : ∀ τ, CI τ A CA E T → KpD (own A CA) σ τ → Q (some (.int (tsL T))) τ) : Call G mX1_fault 3 b [.ref (A 0)] σ Q X :=
  eX1_fault (bX1_fault_0 ⟨_, ⟨_, hC.1.x, rfl⟩, kq σ hC KpD.rf⟩)
theorem m_fault {G : GC} {ad : Nat → Nat} {o : Nat} {F : Nat → Int32} {L : Nat → Int64} {I : Nat → Nat → Int32} {J : Nat → Nat → Int64} {Q : MPost} {T : TS} (hM : MI F L I J T) (kq : ∀ F' L' I' J', MI F' L' I' J' T → F' 0 = 0 → Q (some (.int (tsL T))) F' L' I' J') : CallM G mX9_fault 3 ad o [.ref o] F L I J Q := by
  refine eX9_fault (fun σ0 => bX9_fault_0 (fun F1 e1 => ?_))
  subst e1
  rw [fU_ne (by decide), hM.2.2.2.2.2.1.2.2]
  exact kq _ L I J hM.th fU_at
theorem c_count {G : GC} {σ : PS} {Q : Option Value → PS → Prop} {X : String → Nat → PS → Prop} {b : Nat} {A : Nat → Nat} {CA : Nat → Nat × Nat × Nat} {E : Nat × Nat × Option Nat × Nat × Nat × Nat × Nat} {T : TS} {x : Int32} (hC : CI σ A CA E T) (kq : ∀ τ, CI τ A CA E T → KpD (own A CA) σ τ → Q (some (.int (couV T x))) τ) : Call G mX1_count 3 b [.ref (A 0), .int x] σ Q X := by
  have kk := kq σ hC KpD.rf
  unfold couV at kk
  refine eX1_count (bX1_count_0 ⟨fun q0 => ⟨fun q1 => ⟨fun q2 => ?_, fun q2 => ⟨_, ⟨_, hC.1.x, rfl⟩, ?_⟩⟩, fun q1 => ⟨_, ⟨_, hC.1.x, rfl⟩, ?_⟩⟩, fun q0 => ⟨_, ⟨_, hC.1.x, rfl⟩, ?_⟩⟩)
  · rw [if_neg q0, if_neg q1, if_neg q2] at kk
    exact kk
  · rw [if_neg q0, if_neg q1, if_pos q2] at kk
    exact kk
  · rw [if_neg q0, if_pos q1] at kk
    exact kk
  · rw [if_pos q0] at kk
    exact kk
theorem m_count {G : GC} {ad : Nat → Nat} {o : Nat} {F : Nat → Int32} {L : Nat → Int64} {I : Nat → Nat → Int32} {J : Nat → Nat → Int64} {Q : MPost} {T : TS} {x : Int32} (hM : MI F L I J T) (kq : ∀ F' L' I' J', MI F' L' I' J' T → F' 0 = 0 → Q (some (.int (couV T x))) F' L' I' J') : CallM G mX9_count 3 ad o [.ref o, .int x] F L I J Q := by
  refine eX9_count (fun σ0 => bX9_count_0 (fun F1 e1 => ?_))
  subst e1
  have kk := kq _ L I J hM.th fU_at
  unfold couV at kk
  refine ⟨fun q0 => ⟨fun q1 => ⟨fun q2 => ?_, fun q2 => ?_⟩, fun q1 => ?_⟩, fun q0 => ?_⟩
  · rw [if_neg q0, if_neg q1, if_neg q2] at kk
    exact kk
  · rw [if_neg q0, if_neg q1, if_pos q2] at kk
    rw [fU_ne (by decide), hM.2.2.2.2.2.2.1.1]
    exact kk
  · rw [if_neg q0, if_pos q1] at kk
    rw [fU_ne (by decide), hM.2.2.2.2.2.1.1]
    exact kk
  · rw [if_pos q0] at kk
    rw [fU_ne (by decide), hM.2.2.2.2.2.2.2.1.1]
    exact kk
