/-! Part B: what the component answers, gone through as told -/
theorem qLik_le {what N W v u : Nat} {fm : (Nat → Int32)} {P : Nat → Nat} (h : GP u P) : qLik what N W v fm P ≤ 2 ^ 40 := Nat.le_trans (sm_le (fun x _ => by split <;> omega)) h.2
theorem qMean_lt {what u : Nat} {P : Nat → Nat} (h : GP u P) : qMean what P < 2 ^ 50 := by
  have h1 : qMean what P ≤ sm (fun x => P x * 13) 16900 := sm_le (fun x _ => Nat.mul_le_mul_left _ (by
    have := cC_lt x
    have := cD_lt x
    split <;> omega))
  rw [sm_mul] at h1
  have := h.2
  omega
theorem qCost_lt {O : Nat → Nat} {n : Nat} {S : FS} (h : FB n S) (hn : n ≤ 216) (hO : offOK O) : qCost O S < 2 ^ 60 := by
  obtain ⟨h1, h2, h3⟩ := h
  have o := hO.2.2.2.2.2.2.2
  have a1 : S.2.2.1 * O 8 ≤ (216 * 13194139533312) * 99 := Nat.mul_le_mul (Nat.le_trans h2 (Nat.mul_le_mul_right _ hn)) (o 8 (by decide) (by decide))
  have a2 : S.2.2.2 * O 9 ≤ (216 * 1099511627776) * 99 := Nat.mul_le_mul (Nat.le_trans h3 (Nat.mul_le_mul_right _ hn)) (o 9 (by decide) (by decide))
  have a3 : sm (fun p => S.2.1 p * O 7) 6 ≤ sm (fun _ => (216 * 1099511627776) * 99) 6 := sm_le (fun p _ => Nat.mul_le_mul (Nat.le_trans (h1 p) (Nat.mul_le_mul_right _ hn)) (o 7 (by decide) (by decide)))
  have a4 : sm (fun _ => (216 * 1099511627776) * 99) 6 = 6 * ((216 * 1099511627776) * 99) := by
    simp only [sm_s, sm_z]
  rw [a4] at a3
  unfold qCost
  generalize S.2.2.1 * O 8 = x1 at *
  generalize S.2.2.2 * O 9 = x2 at *
  generalize sm (fun p => S.2.1 p * O 7) 6 = x3 at *
  omega
theorem one9 : (1099511627776 : Int64) = lN 1099511627776 := rfl
theorem k_part1 {G : GC} {σ : PS} {up part : Nat} {P : Option Value → Prop} (hu : up < 2 ^ 63) (hp : part < 2) (k : P (some (.long (lN (fr up 1099511627776 part))))) : CallO G mX1_part 3 [.long (lN up), .long 1099511627776, .int (nI part)] σ P := k_part hu (by decide) (by decide) hp k
theorem c_state {G : GC} {σ : PS} {Q : Option Value → PS → Prop} {X : String → Nat → PS → Prop} {b : Nat} {A : Nat → Nat} {CA : Nat → Nat × Nat × Nat} {E : Nat × Nat × Option Nat × Nat × Nat × Nat × Nat} {T : TS} {x y z w : Int32} (hC : CI σ A CA E T) (hb : 30 ≤ b) (kq : ∀ v c d ka, v < (tsK T 0).1 → x = nI v → c < 13 → y = nI c → d < 13 → z = nI d → ka < 2 → w = nI ka → ∀ τ, CI τ A CA E T → KpD (own A CA) σ τ → Q (some (.long (lN (qAt c d ka (rn9 T (tsH0 T) (v + 1)).1)))) τ) (k0 : ¬ inN x (tsK T 0).1 → ∀ τ q, CI τ A CA E (bu0 T) → KpD (own A CA) σ τ → X "java/util/NoSuchElementException" q τ) (k1 : inN x (tsK T 0).1 → ¬ (inN y 13 ∧ inN z 13 ∧ inN w 2) → ∀ τ q, CI τ A CA E (bu1 T) → KpD (own A CA) σ τ → X "java/lang/IllegalArgumentException" q τ) : Call G mX1_state 205 b [.ref (A 0), .int x, .int y, .int z, .int w] σ Q X := by
  refine eX1_state (bX1_state_0 ⟨1, by omega, ⟨_, hC.1.x⟩, c_visitOf hC (Nat.le_refl _) (fun v hv hx => ⟨rfl, 1, by omega, ⟨_, hC.1.x⟩, c_in (n := 12) hC (Nat.le_refl _) (by decide) rfl (fun c hc hy => ⟨rfl, 1, by omega, ⟨_, hC.1.x⟩, c_in (n := 12) hC (Nat.le_refl _) (by decide) rfl (fun d hd hz => ⟨rfl, 1, by omega, ⟨_, hC.1.x⟩, c_in (n := 1) hC (Nat.le_refl _) (by decide) rfl (fun ka hk hw => ⟨rfl, ⟨_, hC.1.x⟩, c_asTold hC (fun τ1 C1 W1 K1 => ⟨_, rfl, ⟨_, W1.1⟩, c_to C1 W1 (fun τ2 C2 W2 K2 => ⟨_, rfl, 25, by omega, ⟨_, C2.1.x⟩, ?_⟩)⟩)⟩) (fun n9 => k1 ⟨v, hv, hx⟩ (fun q => n9 q.2.2))⟩) (fun n9 => k1 ⟨v, hv, hx⟩ (fun q => n9 q.2.1))⟩) (fun n9 => k1 ⟨v, hv, hx⟩ (fun q => n9 q.1))⟩) k0⟩)
  have hn := n24 hC.2.2
  subst hx
  subst hy
  subst hz
  subst hw
  refine c_run0 C2 W2 (show v + 1 + 1 ≤ 25 by omega) hv (to_v (by omega)) (fun τ3 C3 R3 K3 => ⟨_, rfl, ?_⟩)
  obtain ⟨nw, nx, V, who, e, hM⟩ := R3
  exact ⟨⟨_, hM.1⟩, k_fat hM (by omega) (by omega) hk ⟨_, rfl, kq v c d ka hv rfl hc rfl hd rfl hk rfl τ3 C3 (own_scr ((K2 _ K1).tr K3))⟩⟩
theorem c_mean {G : GC} {σ : PS} {Q : Option Value → PS → Prop} {X : String → Nat → PS → Prop} {b : Nat} {A : Nat → Nat} {CA : Nat → Nat × Nat × Nat} {E : Nat × Nat × Option Nat × Nat × Nat × Nat × Nat} {T : TS} {x y z : Int32} (hC : CI σ A CA E T) (hb : 30 ≤ b) (kq : ∀ v w p, v < (tsK T 0).1 → x = nI v → w < 2 → y = nI w → p < 2 → z = nI p → ∀ τ, CI τ A CA E T → KpD (own A CA) σ τ → Q (some (.long (lN (fr (qMean w (rn9 T (tsH0 T) (v + 1)).1) 1099511627776 p)))) τ) (k0 : ¬ inN x (tsK T 0).1 → ∀ τ q, CI τ A CA E (bu0 T) → KpD (own A CA) σ τ → X "java/util/NoSuchElementException" q τ) (k1 : inN x (tsK T 0).1 → ¬ (inN y 2 ∧ inN z 2) → ∀ τ q, CI τ A CA E (bu1 T) → KpD (own A CA) σ τ → X "java/lang/IllegalArgumentException" q τ) : Call G mX1_mean 205 b [.ref (A 0), .int x, .int y, .int z] σ Q X := by
  refine eX1_mean (bX1_mean_0 ⟨1, by omega, ⟨_, hC.1.x⟩, c_visitOf hC (Nat.le_refl _) (fun v hv hx => ⟨rfl, 1, by omega, ⟨_, hC.1.x⟩, c_in (n := 1) hC (Nat.le_refl _) (by decide) rfl (fun w hw hy => ⟨rfl, 1, by omega, ⟨_, hC.1.x⟩, c_partOf hC (Nat.le_refl _) (fun p hp hz => ⟨rfl, ⟨_, hC.1.x⟩, c_asTold hC (fun τ1 C1 W1 K1 => ⟨_, rfl, ⟨_, W1.1⟩, c_to C1 W1 (fun τ2 C2 W2 K2 => ⟨_, rfl, 25, by omega, ⟨_, C2.1.x⟩, ?_⟩)⟩)⟩) (fun n9 => k1 ⟨v, hv, hx⟩ (fun q => n9 q.2))⟩) (fun n9 => k1 ⟨v, hv, hx⟩ (fun q => n9 q.1))⟩) k0⟩)
  have hn := n24 hC.2.2
  subst hx
  subst hy
  subst hz
  refine c_run0 C2 W2 (show v + 1 + 1 ≤ 25 by omega) hv (to_v (by omega)) (fun τ3 C3 R3 K3 => ⟨_, rfl, ?_⟩)
  obtain ⟨nw, nx, V, who, e, hM⟩ := R3
  refine ⟨⟨_, hM.1⟩, k_fmean hM hw (go_le (go0 hC.2.2) hv) (fun τ4 hM4 F4 => ⟨_, rfl, ?_⟩)⟩
  obtain ⟨C4, K4⟩ := CI.fl C3 e e hM4 F4
  exact k_part1 (Nat.lt_trans (qMean_lt (go_run (go0 hC.2.2) _ hv).1) (by decide)) hp ⟨_, rfl, kq v w p hv rfl hw rfl hp rfl τ4 C4 (own_scr (((K2 _ K1).tr K3).tr K4))⟩
theorem c_drunk {G : GC} {σ : PS} {Q : Option Value → PS → Prop} {X : String → Nat → PS → Prop} {b : Nat} {A : Nat → Nat} {CA : Nat → Nat × Nat × Nat} {E : Nat × Nat × Option Nat × Nat × Nat × Nat × Nat} {T : TS} {x z : Int32} (hC : CI σ A CA E T) (hb : 30 ≤ b) (kq : ∀ v p, v < tsP T → x = nI v → p < 2 → z = nI p → ∀ τ, CI τ A CA E T → KpD (own A CA) σ τ → Q (some (.long (lN (fr ((rn9 T (tsH0 T) (tsK T 0).1).2.1 v) 1099511627776 p)))) τ) (k0 : ¬ inN x (tsP T) → ∀ τ q, CI τ A CA E (bu0 T) → KpD (own A CA) σ τ → X "java/util/NoSuchElementException" q τ) (k1 : inN x (tsP T) → ¬ inN z 2 → ∀ τ q, CI τ A CA E (bu1 T) → KpD (own A CA) σ τ → X "java/lang/IllegalArgumentException" q τ) : Call G mX1_drunk 205 b [.ref (A 0), .int x, .int z] σ Q X := by
  refine eX1_drunk (bX1_drunk_0 ⟨1, by omega, ⟨_, hC.1.x⟩, c_personOf hC (Nat.le_refl _) (fun v hv hx => ⟨rfl, 1, by omega, ⟨_, hC.1.x⟩, c_partOf hC (Nat.le_refl _) (fun p hp hz => ⟨rfl, ⟨_, hC.1.x⟩, c_asTold hC (fun τ1 C1 W1 K1 => ⟨_, rfl, 25, by omega, ⟨_, C1.1.x⟩, ?_⟩)⟩) (k1 ⟨v, hv, hx⟩)⟩) k0⟩)
  have hn := n24 hC.2.2
  have hP6 := hC.2.2.2.1
  subst hx
  subst hz
  refine c_run0 C1 W1 (show (tsK T 0).1 + 1 ≤ 25 by omega) (Nat.le_refl _) (to_all hn) (fun τ3 C3 R3 K3 => ⟨_, rfl, ?_⟩)
  obtain ⟨nw, nx, V, who, e, hM⟩ := R3
  obtain ⟨fd, h4, h5⟩ := hM.2.2.1
  refine ⟨A 12, ⟨_, hM.1, rfl⟩, 6, fd, h4, vp_in_nI (by omega) (by decide), ?_⟩
  rw [nI_clamp (by omega), h5 v (by omega)]
  exact k_part1 (by
    have := (go_run (go0 hC.2.2) (fm := (tsK T 0).2.2) _ (Nat.le_refl _)).2.1 v
    unfold rn9
    omega) hp ⟨_, rfl, kq v p hv rfl hp rfl τ3 C3 (own_scr (K1.tr K3))⟩
theorem c_done {G : GC} {σ : PS} {Q : Option Value → PS → Prop} {X : String → Nat → PS → Prop} {b : Nat} {A : Nat → Nat} {CA : Nat → Nat × Nat × Nat} {E : Nat × Nat × Option Nat × Nat × Nat × Nat × Nat} {T : TS} {x z : Int32} (hC : CI σ A CA E T) (hb : 30 ≤ b) (kq : ∀ w p, w < 2 → x = nI w → p < 2 → z = nI p → ∀ τ, CI τ A CA E T → KpD (own A CA) σ τ → Q (some (.long (lN (fr (if w = 0 then (rn9 T (tsH0 T) (tsK T 0).1).2.2.1 else (rn9 T (tsH0 T) (tsK T 0).1).2.2.2) 1099511627776 p)))) τ) (k1 : ¬ (inN x 2 ∧ inN z 2) → ∀ τ q, CI τ A CA E (bu1 T) → KpD (own A CA) σ τ → X "java/lang/IllegalArgumentException" q τ) : Call G mX1_done 205 b [.ref (A 0), .int x, .int z] σ Q X := by
  refine eX1_done (bX1_done_0 ⟨1, by omega, ⟨_, hC.1.x⟩, c_in (n := 1) hC (Nat.le_refl _) (by decide) rfl (fun w hw hx => ⟨rfl, 1, by omega, ⟨_, hC.1.x⟩, c_partOf hC (Nat.le_refl _) (fun p hp hz => ⟨rfl, ⟨_, hC.1.x⟩, c_asTold hC (fun τ1 C1 W1 K1 => ⟨_, rfl, 25, by omega, ⟨_, C1.1.x⟩, ?_⟩)⟩) (fun n9 => k1 (fun q => n9 q.2))⟩) (fun n9 => k1 (fun q => n9 q.1))⟩)
  have hn := n24 hC.2.2
  subst hx
  subst hz
  have w0 : nI w = 0 ↔ w = 0 := nI_eq (b := 0) (by omega) (by decide)
  have hf := (go_run (go0 hC.2.2) (fm := (tsK T 0).2.2) _ (Nat.le_refl _)).2
  refine c_run0 C1 W1 (show (tsK T 0).1 + 1 ≤ 25 by omega) (Nat.le_refl _) (to_all hn) (fun τ3 C3 R3 K3 => ⟨_, rfl, ?_⟩)
  obtain ⟨nw, nx, V, who, e, hM⟩ := R3
  have kk := kq w p hw rfl hp rfl τ3 C3 (own_scr (K1.tr K3))
  refine ⟨fun y => ⟨A 10, ⟨_, C3.1.x, rfl⟩, _, ⟨_, hM.1, rfl⟩, ?_⟩, fun y => ⟨A 10, ⟨_, C3.1.x, rfl⟩, _, ⟨_, hM.1, rfl⟩, ?_⟩⟩
  · rw [if_neg (fun u => y (w0.mpr u))] at kk
    exact k_part1 (by
      have := hf.2.2
      unfold rn9
      omega) hp ⟨_, rfl, kk⟩
  · rw [if_pos (w0.mp y)] at kk
    exact k_part1 (by
      have := hf.2.1
      unfold rn9
      omega) hp ⟨_, rfl, kk⟩
theorem cost_lt {T : TS} (h : tsOK T) {hh : HW} (g : GoOK (tsO T) hh (tsK T 0).2.1 (tsK T 0).1) {v : Nat} (hv : v ≤ (tsK T 0).1) : qCost (tsO T) (rn9 T hh v) < 2 ^ 60 :=
  qCost_lt (go_run g v hv).2 (by have := g.1; omega) h.1
theorem c_cost {G : GC} {σ : PS} {Q : Option Value → PS → Prop} {X : String → Nat → PS → Prop} {b : Nat} {A : Nat → Nat} {CA : Nat → Nat × Nat × Nat} {E : Nat × Nat × Option Nat × Nat × Nat × Nat × Nat} {T : TS} {z : Int32} (hC : CI σ A CA E T) (hb : 30 ≤ b) (kq : ∀ p, p < 2 → z = nI p → ∀ τ, CI τ A CA E T → KpD (own A CA) σ τ → Q (some (.long (lN (fr (qCost (tsO T) (rn9 T (tsH0 T) (tsK T 0).1)) 1099511627776 p)))) τ) (k1 : ¬ inN z 2 → ∀ τ q, CI τ A CA E (bu1 T) → KpD (own A CA) σ τ → X "java/lang/IllegalArgumentException" q τ) : Call G mX1_cost 205 b [.ref (A 0), .int z] σ Q X := by
  refine eX1_cost (bX1_cost_0 ⟨1, by omega, ⟨_, hC.1.x⟩, c_partOf hC (Nat.le_refl _) (fun p hp hz => ⟨rfl, ⟨_, hC.1.x⟩, c_asTold hC (fun τ1 C1 W1 K1 => ⟨_, rfl, 25, by omega, ⟨_, C1.1.x⟩, ?_⟩)⟩) k1⟩)
  have hn := n24 hC.2.2
  subst hz
  refine c_run0 C1 W1 (show (tsK T 0).1 + 1 ≤ 25 by omega) (Nat.le_refl _) (to_all hn) (fun τ3 C3 R3 K3 => ⟨_, rfl, ?_⟩)
  obtain ⟨nw, nx, V, who, e, hM⟩ := R3
  exact ⟨⟨_, hM.1⟩, k_fcost hM C3.1.off hC.2.2.1.lt ⟨_, rfl, k_part1 (Nat.lt_trans (cost_lt hC.2.2 (go0 hC.2.2) (Nat.le_refl _)) (by decide)) hp ⟨_, rfl, kq p hp rfl τ3 C3 (own_scr (K1.tr K3))⟩⟩⟩
/-- how, with the book -/
def hB9 (T : TS) : HW := (tsO T 4, tsO T 6, 0, -1, tsH T, some (tsB T))
theorem goB {T : TS} (h : tsOK T) : GoOK (tsO T) (hB9 T) (tsK T 0).2.1 (tsK T 0).1 :=
  h.go h.1.2.2.2.2.1 h.1.2.2.2.2.2.2.1 (Nat.zero_le _) (fun p hp => h.2.2.2.1 p (by omega))
theorem CP.bk {σ : PS} {A : Nat → Nat} {CA : Nat → Nat × Nat × Nat} {E : Nat × Nat × Option Nat × Nat × Nat × Nat × Nat} {T : TS} (h : CP σ A CA E T) : BkQ σ (some E.2.2.2.1) (some (tsB T)) := Or.inr ⟨_, _, rfl, rfl, h.2.2.2.2.1.1.o⟩
theorem c_fits {G : GC} {σ : PS} {Q : Option Value → PS → Prop} {X : String → Nat → PS → Prop} {b : Nat} {A : Nat → Nat} {CA : Nat → Nat × Nat × Nat} {E : Nat × Nat × Option Nat × Nat × Nat × Nat × Nat} {T : TS} {z : Int32} (hC : CI σ A CA E T) (hb : 30 ≤ b) (kq : ∀ p, p < 2 → z = nI p → ∀ τ, CI τ A CA E T → KpD (own A CA) σ τ → Q (some (.long (lN (fr (qAll (rn9 T (hB9 T) (tsK T 0).1).1) 1099511627776 p)))) τ) (k1 : ¬ inN z 2 → ∀ τ q, CI τ A CA E (bu1 T) → KpD (own A CA) σ τ → X "java/lang/IllegalArgumentException" q τ) : Call G mX1_fits 205 b [.ref (A 0), .int z] σ Q X := by
  refine eX1_fits (bX1_fits_0 ⟨1, by omega, ⟨_, hC.1.x⟩, c_partOf hC (Nat.le_refl _) (fun p hp hz => ⟨rfl, ⟨_, hC.1.x⟩, c_asTold hC (fun τ1 C1 W1 K1 => ⟨_, rfl, _, ⟨_, C1.1.x, rfl⟩, ⟨_, W1.1⟩, c_hgiven C1 W1 (fun τ2 C2 W2 K2 => ⟨_, rfl, 25, by omega, ⟨_, C2.1.x⟩, ?_⟩)⟩)⟩) k1⟩)
  have hn := n24 hC.2.2
  subst hz
  refine c_run (h := hB9 T) (Tn := (tsK T 0).1) C2 W2 C2.1.bk stt0 (goB hC.2.2) (by omega) (Nat.le_refl _) (Or.inl ⟨rfl, to_all hn⟩) (fun τ3 C3 R3 K3 => ⟨_, rfl, ?_⟩)
  rw [fR0] at R3
  obtain ⟨nw, nx, V, who, e, hM⟩ := R3
  exact ⟨⟨_, hM.1⟩, k_fall hM ⟨_, rfl, k_part1 (Nat.lt_of_le_of_lt (go_run (goB hC.2.2) _ (Nat.le_refl _)).1.2 (by decide)) hp ⟨_, rfl, kq p hp rfl τ3 C3 (own_scr ((K2 _ K1).tr K3))⟩⟩⟩
/-- as a visit begins, given the book -/
def bg9 (T : TS) (v : Nat) : FS := fBeg (tsO T) (hB9 T) (tsK T 0).2.2 v (rn9 T (hB9 T) v)
theorem bg_GP {T : TS} (h : tsOK T) {v : Nat} (hv : v < (tsK T 0).1) : GP (v + 1) (bg9 T v).1 := by
  have hn := n24 h
  have g := go_run (goB h) (fm := (tsK T 0).2.2) v (by omega)
  exact (fBeg_ok (O := tsO T) (h := hB9 T) (fm := (tsK T 0).2.2) g.1 g.2 (goB h).2.2.2.2.2.2.1 (by omega)).1
theorem vis_ne {T : TS} (h : tsOK T) {v : Nat} (hv : v < (tsK T 0).1) : ¬ (tsK T 0).2.1 v = -1 := by
  obtain ⟨p, hp, e⟩ := (h.2.2.1 0 (by decide)).2 v hv
  rw [e]
  exact m1_nI (by omega)
theorem c_begun {G : GC} {σ : PS} {Q : Option Value → PS → Prop} {X : String → Nat → PS → Prop} {b : Nat} {A : Nat → Nat} {CA : Nat → Nat × Nat × Nat} {E : Nat × Nat × Option Nat × Nat × Nat × Nat × Nat} {T : TS} {v : Nat} (hC : CI σ A CA E T) (hb : 25 ≤ b) (hv : v < (tsK T 0).1) (k : ∀ τ, CI τ A CA E T → FR τ A CA E (tsO T 6) (bg9 T v) → KpD (scr A) σ τ → Q (some (.ref (A 10))) τ) : Call G mX1_begun 205 b [.ref (A 0), .int (nI v)] σ Q X := by
  have hn := n24 hC.2.2
  refine eX1_begun (bX1_begun_0 ⟨⟨_, hC.1.x⟩, c_asTold hC (fun τ1 C1 W1 K1 => ⟨_, rfl, ⟨_, W1.1⟩, c_to C1 W1 (fun τ2 C2 W2 K2 => ⟨_, rfl, _, ⟨_, C2.1.x, rfl⟩, ⟨_, W2.1⟩, c_hgiven C2 W2 (fun τ3 C3 W3 K3 => ⟨_, rfl, ⟨_, W3.1⟩, c_hbegun C3 W3 (fun τ4 C4 W4 K4 => ⟨_, rfl, b, Nat.le_refl _, ⟨_, C4.1.x⟩, ?_⟩)⟩)⟩)⟩)⟩)
  refine c_run (h := hB9 T) (Tn := v) C4 W4 C4.1.bk stt0 (goB hC.2.2) (by omega) (by omega) (Or.inr ⟨rfl, hv, rfl, vis_ne hC.2.2 hv⟩) (fun τ5 C5 R5 K5 => ⟨_, rfl, ?_⟩)
  rw [fR1] at R5
  exact k τ5 C5 R5 ((K4 _ (K3 _ (K2 _ K1))).tr K5)
theorem c_given {G : GC} {σ : PS} {Q : Option Value → PS → Prop} {X : String → Nat → PS → Prop} {b : Nat} {A : Nat → Nat} {CA : Nat → Nat × Nat × Nat} {E : Nat × Nat × Option Nat × Nat × Nat × Nat × Nat} {T : TS} {x y z : Int32} (hC : CI σ A CA E T) (hb : 40 ≤ b) (kq : ∀ v w p, v < (tsK T 0).1 → x = nI v → w < 6 → y = nI w → p < 2 → z = nI p → ∀ τ, CI τ A CA E T → KpD (own A CA) σ τ → Q (some (.long (lN (frA (qLik w (tsO T 0) (tsO T 5) v (tsK T 0).2.2 (bg9 T v).1) (qAll (bg9 T v).1) p)))) τ) (k0 : ¬ inN x (tsK T 0).1 → ∀ τ q, CI τ A CA E (bu0 T) → KpD (own A CA) σ τ → X "java/util/NoSuchElementException" q τ) (k1 : inN x (tsK T 0).1 → ¬ (inN y 6 ∧ inN z 2) → ∀ τ q, CI τ A CA E (bu1 T) → KpD (own A CA) σ τ → X "java/lang/IllegalArgumentException" q τ) : Call G mX1_given 206 b [.ref (A 0), .int x, .int y, .int z] σ Q X := by
  refine eX1_given (bX1_given_0 ⟨1, by omega, ⟨_, hC.1.x⟩, c_visitOf hC (Nat.le_refl _) (fun v hv hx => ⟨rfl, 1, by omega, ⟨_, hC.1.x⟩, c_in (n := 5) hC (Nat.le_refl _) (by decide) rfl (fun w hw hy => ⟨rfl, 1, by omega, ⟨_, hC.1.x⟩, c_partOf hC (Nat.le_refl _) (fun p hp hz => ⟨rfl, 25, by omega, ⟨_, hC.1.x⟩, ?_⟩) (fun n9 => k1 ⟨v, hv, hx⟩ (fun q => n9 q.2))⟩) (fun n9 => k1 ⟨v, hv, hx⟩ (fun q => n9 q.1))⟩) k0⟩)
  have hn := n24 hC.2.2
  subst hx
  subst hy
  subst hz
  have hG := bg_GP hC.2.2 hv
  refine c_begun hC (Nat.le_refl _) hv (fun τ3 C3 R3 K3 => ⟨_, rfl, ?_⟩)
  obtain ⟨nw, nx, V, who, e, hM⟩ := R3
  have hA : qAll (bg9 T v).1 < 2 ^ 63 := Nat.lt_of_le_of_lt hG.2 (by decide)
  refine ⟨⟨_, hM.1⟩, k_fall hM ⟨_, rfl, fun y => ⟨A 10, ⟨_, C3.1.x, rfl⟩, 1, by omega, ⟨_, hM.1⟩, ?_⟩, fun y => ?_⟩⟩
  · have y1 : ¬ qAll (bg9 T v).1 = 0 := fun u => y (by rw [u]; rfl)
    refine k_flikely (vs := v) (by omega) hM (fun x => hG.le (by omega) x) C3.1.off hC.2.2.1.1 (C3.1.cal (i := 0) (by decide)) (Or.inr ⟨rfl, Nat.le_refl _⟩) (by omega) (fun τ4 hM4 F4 => ⟨_, rfl, ?_⟩)
    obtain ⟨C4, K4⟩ := CI.fl C3 e e hM4 F4
    have kk := kq v w p hv rfl hw rfl hp rfl τ4 C4 (own_scr (K3.tr K4))
    unfold frA at kk
    rw [if_neg y1] at kk
    exact k_part (Nat.lt_of_le_of_lt (qLik_le hG) (by decide)) (by omega) hA hp ⟨_, rfl, kk⟩
  · have y1 : qAll (bg9 T v).1 = 0 := (pk_lEQ (b := 0) hA (by decide)).mp y
    have kk := kq v w p hv rfl hw rfl hp rfl τ3 C3 (own_scr K3)
    unfold frA at kk
    rw [if_pos y1] at kk
    rw [nI_l (by omega)]
    exact kk
theorem qWorth_lt {O : Nat → Nat} {v see way : Nat} {P : Nat → Nat} (hG : GP v P) (hs : see ≤ 16) (hO : offOK O) : qWorth O see way P < 2 ^ 63 := by
  have hp := hO.lt
  have o := hO.2.2.2.2.2.2.2
  unfold qWorth
  split
  · exact Nat.lt_trans (qTake_le hG hs hp) (by decide)
  · split
    · exact Nat.lt_trans (qOwn_le hG hs hp) (by decide)
    · split
      · have h1 : qAll P * O 9 ≤ 2 ^ 40 * 99 := Nat.mul_le_mul hG.2 (o 9 (by decide) (by decide))
        have h2 := Nat.min_le_left (qTake O see 0 P) (qOwn O see 0 P)
        have h3 := Nat.min_le_left (qTake O see 1 P) (qOwn O see 1 P)
        have h4 := qTake_le (which := 0) hG hs hp
        have h5 := qTake_le (which := 1) hG hs hp
        generalize qAll P * O 9 = a at *
        omega
      · have h1 : qAll P * O 11 ≤ 2 ^ 40 * 99 := Nat.mul_le_mul hG.2 (o 11 (by decide) (by decide))
        have h2 : sm (fun x => P x * cC x * O 8 + if cC x + cD x = 0 then P x * O 10 else 0) 16900 ≤ sm (fun x => P x * 1400) 16900 := sm_le (fun x _ => by
          have q1 := cC_lt x
          have q2 : P x * cC x * O 8 ≤ P x * 12 * 99 := Nat.mul_le_mul (Nat.mul_le_mul_left _ (by omega)) (o 8 (by decide) (by decide))
          have q3 : P x * O 10 ≤ P x * 99 := Nat.mul_le_mul_left _ (o 10 (by decide) (by decide))
          split <;> omega)
        rw [sm_mul] at h2
        have h3 := Nat.mul_le_mul_right 1400 hG.2
        generalize qAll P * O 11 = a at *
        omega
theorem c_worth {G : GC} {σ : PS} {Q : Option Value → PS → Prop} {X : String → Nat → PS → Prop} {b : Nat} {A : Nat → Nat} {CA : Nat → Nat × Nat × Nat} {E : Nat × Nat × Option Nat × Nat × Nat × Nat × Nat} {T : TS} {x y z : Int32} (hC : CI σ A CA E T) (hb : 40 ≤ b) (kq : ∀ v w p, v < (tsK T 0).1 → x = nI v → w < 4 → y = nI w → p < 2 → z = nI p → ∀ τ, CI τ A CA E T → KpD (own A CA) σ τ → Q (some (.long (lN (frA (qWorth (tsO T) (tsO T 6) w (bg9 T v).1) (qAll (bg9 T v).1) p)))) τ) (k0 : ¬ inN x (tsK T 0).1 → ∀ τ q, CI τ A CA E (bu0 T) → KpD (own A CA) σ τ → X "java/util/NoSuchElementException" q τ) (k1 : inN x (tsK T 0).1 → ¬ (inN y 4 ∧ inN z 2) → ∀ τ q, CI τ A CA E (bu1 T) → KpD (own A CA) σ τ → X "java/lang/IllegalArgumentException" q τ) : Call G mX1_worth 206 b [.ref (A 0), .int x, .int y, .int z] σ Q X := by
  refine eX1_worth (bX1_worth_0 ⟨1, by omega, ⟨_, hC.1.x⟩, c_visitOf hC (Nat.le_refl _) (fun v hv hx => ⟨rfl, 1, by omega, ⟨_, hC.1.x⟩, c_in (n := 3) hC (Nat.le_refl _) (by decide) rfl (fun w hw hy => ⟨rfl, 1, by omega, ⟨_, hC.1.x⟩, c_partOf hC (Nat.le_refl _) (fun p hp hz => ⟨rfl, 25, by omega, ⟨_, hC.1.x⟩, ?_⟩) (fun n9 => k1 ⟨v, hv, hx⟩ (fun q => n9 q.2))⟩) (fun n9 => k1 ⟨v, hv, hx⟩ (fun q => n9 q.1))⟩) k0⟩)
  have hn := n24 hC.2.2
  subst hx
  subst hy
  subst hz
  have hG := bg_GP hC.2.2 hv
  have hs := hC.2.2.1.2.2.2.2.2.2.1
  refine c_begun hC (Nat.le_refl _) hv (fun τ3 C3 R3 K3 => ⟨_, rfl, ?_⟩)
  obtain ⟨nw, nx, V, who, e, hM⟩ := R3
  have hA : qAll (bg9 T v).1 < 2 ^ 63 := Nat.lt_of_le_of_lt hG.2 (by decide)
  refine ⟨⟨_, hM.1⟩, k_fall hM ⟨_, rfl, fun y => ⟨A 10, ⟨_, C3.1.x, rfl⟩, ⟨_, hM.1⟩, ?_⟩, fun y => ?_⟩⟩
  · have y1 : ¬ qAll (bg9 T v).1 = 0 := fun u => y (by rw [u]; rfl)
    refine k_fworth hM hs (by omega) hG (fun x => hG.le (by omega) x) C3.1.off hC.2.2.1.lt (fun τ4 hM4 F4 => ⟨_, rfl, ?_⟩)
    obtain ⟨C4, K4⟩ := CI.fl C3 e e hM4 F4
    have kk := kq v w p hv rfl hw rfl hp rfl τ4 C4 (own_scr (K3.tr K4))
    unfold frA at kk
    rw [if_neg y1] at kk
    exact k_part (qWorth_lt hG hs hC.2.2.1) (by omega) hA hp ⟨_, rfl, kk⟩
  · have y1 : qAll (bg9 T v).1 = 0 := (pk_lEQ (b := 0) hA (by decide)).mp y
    have kk := kq v w p hv rfl hw rfl hp rfl τ3 C3 (own_scr K3)
    unfold frA at kk
    rw [if_pos y1] at kk
    rw [nI_l (by omega)]
    exact kk
def gain9 (T : TS) (v : Nat) : Nat := min (qWorth (tsO T) (tsO T 6) 0 (bg9 T v).1) (qWorth (tsO T) (tsO T 6) 1 (bg9 T v).1) - qWorth (tsO T) (tsO T 6) 2 (bg9 T v).1
theorem lN_sub0 {a c : Nat} (ha : a < 2 ^ 63) (hc : c < 2 ^ 63) : (lN a - lN c < 0 ↔ a < c) := by
  rw [Int64.lt_iff_toInt_lt, Int64.toInt_sub, pk_lT ha, pk_lT hc, Int.bmod_eq_of_le (by omega) (by omega), show (0 : Int64).toInt = 0 from rfl]
  omega
