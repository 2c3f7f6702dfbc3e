/-! Part B: what the component answers: the least, the most, days -/
/-- the first with the least, of the first i -/
def amS (f : Nat → Nat) : Nat → Int32 × Nat
  | 0 => (-1, 0)
  | i + 1 => if (amS f i).1 = -1 ∨ f i < (amS f i).2 then (nI i, f i) else amS f i
theorem amS_b {f : Nat → Nat} {c : Nat} (h : ∀ i, f i < c) (hc : 0 < c) : ∀ i, (amS f i).2 < c
  | 0 => hc
  | i + 1 => by
    rw [amS]
    split
    · exact h i
    · exact amS_b h hc i
theorem c_keeper {G : GC} {σ : PS} {Q : Option Value → PS → Prop} {X : String → Nat → PS → Prop} {b : Nat} {A : Nat → Nat} {CA : Nat → Nat × Nat × Nat} {E : Nat × Nat × Option Nat × Nat × Nat × Nat × Nat} {T : TS} (hC : CI σ A CA E T) (hb : 200 ≤ b) (kq : ∀ τ, CI τ A CA E T → KpD (own A CA) σ τ → Q (some (.int (amS (fun p => tr9 T (hWo T p) (tsK T 0).1) (tsP T)).1)) τ) : Call G mX1_keeper 205 b [.ref (A 0)] σ Q X := by
  have hP6 := hC.2.2.2.1
  have hf : ∀ p, tr9 T (hWo T p) (tsK T 0).1 < 2 ^ 41 := fun p => Nat.lt_of_le_of_lt (tr9_le (go_Wo hC.2.2 p) (Nat.le_refl _)) (by decide)
  have L : ∀ d i, i + d = tsP T → ∀ b', 25 * d ≤ b' → ∀ τ, CI τ A CA E T → KpD (scr A) σ τ → At G mX1_keeper 205 Q X b' 7 [(0, .ref (A 0)), (1, .int (amS (fun p => tr9 T (hWo T p) (tsK T 0).1) i).1), (2, .long (lN (amS (fun p => tr9 T (hWo T p) (tsK T 0).1) i).2)), (4, .int (nI i))] [] τ := by
    intro d
    induction d with
    | zero =>
      intro i hi b' hb' τ hC' hK'
      have hi : i = tsP T := by omega
      subst hi
      exact bX1_keeper_7 ⟨E.1, ⟨_, hC'.1.x, rfl⟩, _, ⟨_, hC'.1.off.1, rfl⟩, fun _ => kq τ hC' (own_scr hK'), fun q => absurd (nI_le (Nat.le_refl _) (by omega)) q⟩
    | succ d ih =>
      intro i hi b' hb' τ hC' hK'
      refine bX1_keeper_7 ⟨E.1, ⟨_, hC'.1.x, rfl⟩, _, ⟨_, hC'.1.off.1, rfl⟩, fun q => absurd q (nI_ge (by omega) (by omega)), fun _ => ⟨⟨_, hC'.1.x⟩, c_asTold hC' (fun τ1 C1 W1 K1 => ⟨_, rfl, ⟨_, W1.1⟩, c_without C1 W1 (fun τ2 C2 W2 K2 => ⟨_, rfl, 25, by omega, ⟨_, C2.1.x⟩, c_rWo C2 W2 (Nat.le_refl _) (fun τ3 C3 R3 K3 => ⟨_, rfl, 0, Nat.zero_le _, c_truly C3 R3 (go_Wo hC.2.2 i) (Nat.le_refl _) (fun τ4 C4 R4 K4 => ⟨_, rfl, ?_⟩)⟩)⟩)⟩)⟩⟩
      have ih1 := ih (i + 1) (by omega) (b' - 25 - 0) (by omega) τ4 C4 (hK'.tr (((K2 _ K1).tr K3).tr K4))
      have hb2 := amS_b hf (by decide) i
      have hfi := hf i
      have cmp : lN (tr9 T (hWo T i) (tsK T 0).1) < lN (amS (fun p => tr9 T (hWo T p) (tsK T 0).1) i).2 ↔ tr9 T (hWo T i) (tsK T 0).1 < (amS (fun p => tr9 T (hWo T p) (tsK T 0).1) i).2 := pk_lLT (by omega) (by omega)
      rw [amS] at ih1
      refine ⟨fun y v4 h4 => ?_, fun y => ⟨fun z v4 h4 => ?_, fun z v4 h4 => ?_⟩⟩
      · rw [if_pos (Or.inl y)] at ih1
        rw [h4, nI_1]
        exact ih1
      · rw [if_pos (Or.inr (cmp.mp z))] at ih1
        rw [h4, nI_1]
        exact ih1
      · rw [if_neg (fun u => u.elim y (fun w => z (cmp.mpr w)))] at ih1
        rw [h4, nI_1]
        exact ih1
  exact eX1_keeper (bX1_keeper_0 (L (tsP T) 0 (by omega) b (by omega) σ hC KpD.rf))
theorem c_spoiler {G : GC} {σ : PS} {Q : Option Value → PS → Prop} {X : String → Nat → PS → Prop} {b : Nat} {A : Nat → Nat} {CA : Nat → Nat × Nat × Nat} {E : Nat × Nat × Option Nat × Nat × Nat × Nat × Nat} {T : TS} (hC : CI σ A CA E T) (hb : 200 ≤ b) (kq : ∀ τ, CI τ A CA E T → KpD (own A CA) σ τ → Q (some (.int (amS (fun p => co9 T (hWo T p)) (tsP T)).1)) τ) : Call G mX1_spoiler 205 b [.ref (A 0)] σ Q X := by
  have hP6 := hC.2.2.2.1
  have hf : ∀ p, co9 T (hWo T p) < 2 ^ 60 := fun p => co9_lt hC.2.2 (go_Wo hC.2.2 p)
  have L : ∀ d i, i + d = tsP T → ∀ b', 25 * d ≤ b' → ∀ τ, CI τ A CA E T → KpD (scr A) σ τ → At G mX1_spoiler 205 Q X b' 7 [(0, .ref (A 0)), (1, .int (amS (fun p => co9 T (hWo T p)) i).1), (2, .long (lN (amS (fun p => co9 T (hWo T p)) i).2)), (4, .int (nI i))] [] τ := by
    intro d
    induction d with
    | zero =>
      intro i hi b' hb' τ hC' hK'
      have hi : i = tsP T := by omega
      subst hi
      exact bX1_spoiler_7 ⟨E.1, ⟨_, hC'.1.x, rfl⟩, _, ⟨_, hC'.1.off.1, rfl⟩, fun _ => kq τ hC' (own_scr hK'), fun q => absurd (nI_le (Nat.le_refl _) (by omega)) q⟩
    | succ d ih =>
      intro i hi b' hb' τ hC' hK'
      refine bX1_spoiler_7 ⟨E.1, ⟨_, hC'.1.x, rfl⟩, _, ⟨_, hC'.1.off.1, rfl⟩, fun q => absurd q (nI_ge (by omega) (by omega)), fun _ => ⟨⟨_, hC'.1.x⟩, c_asTold hC' (fun τ1 C1 W1 K1 => ⟨_, rfl, ⟨_, W1.1⟩, c_without C1 W1 (fun τ2 C2 W2 K2 => ⟨_, rfl, 25, by omega, ⟨_, C2.1.x⟩, c_rWo C2 W2 (Nat.le_refl _) (fun τ3 C3 R3 K3 => ⟨_, rfl, c_tcost C3 R3 ⟨_, rfl, ?_⟩⟩)⟩)⟩)⟩⟩
      have ih1 := ih (i + 1) (by omega) (b' - 25) (by omega) τ3 C3 (hK'.tr ((K2 _ K1).tr K3))
      have hb2 := amS_b hf (by decide) i
      have hfi := hf i
      have cmp : lN (co9 T (hWo T i)) < lN (amS (fun p => co9 T (hWo T p)) i).2 ↔ co9 T (hWo T i) < (amS (fun p => co9 T (hWo T p)) i).2 := pk_lLT (by omega) (by omega)
      rw [amS] at ih1
      refine ⟨fun y v4 h4 => ?_, fun y => ⟨fun z v4 h4 => ?_, fun z v4 h4 => ?_⟩⟩
      · rw [if_pos (Or.inl y)] at ih1
        rw [h4, nI_1]
        exact ih1
      · rw [if_pos (Or.inr (cmp.mp z))] at ih1
        rw [h4, nI_1]
        exact ih1
      · rw [if_neg (fun u => u.elim y (fun w => z (cmp.mpr w)))] at ih1
        rw [h4, nI_1]
        exact ih1
  exact eX1_spoiler (bX1_spoiler_0 (L (tsP T) 0 (by omega) b (by omega) σ hC KpD.rf))
/-- from 1 on -/
def amT (f : Nat → Nat) : Nat → Int32 × Nat
  | 0 => (-1, 0)
  | i + 1 => if (amT f i).1 = -1 ∨ f (i + 1) < (amT f i).2 then (nI (i + 1), f (i + 1)) else amT f i
theorem amT_b {f : Nat → Nat} {c n : Nat} (h : ∀ i, i ≤ n → f i < c) (hc : 0 < c) : ∀ i, i ≤ n → (amT f i).2 < c
  | 0, _ => hc
  | i + 1, hi => by
    rw [amT]
    split
    · exact h (i + 1) hi
    · exact amT_b h hc i (by omega)
theorem amT_ne {f : Nat → Nat} : ∀ i, i < 2 ^ 20 → ¬ (amT f (i + 1)).1 = -1
  | 0, _ => by
    rw [show amT f (0 + 1) = (nI 1, f 1) from if_pos (Or.inl rfl)]
    exact m1_nI (by decide)
  | i + 1, hi => by
    rw [amT]
    split
    · exact m1_nI (by omega)
    · exact amT_ne i (by omega)
theorem c_fill {G : GC} {σ : PS} {Q : Option Value → PS → Prop} {X : String → Nat → PS → Prop} {b : Nat} {A : Nat → Nat} {CA : Nat → Nat × Nat × Nat} {E : Nat × Nat × Option Nat × Nat × Nat × Nat × Nat} {T : TS} (hC : CI σ A CA E T) (hb : 400 ≤ b) (kq : ∀ τ, CI τ A CA E T → KpD (own A CA) σ τ → Q (some (.int (amT (fun q => co9 T (hFi T q)) (tsO T 0)).1)) τ) : Call G mX1_fill 206 b [.ref (A 0)] σ Q X := by
  have h12 := hC.2.2.1.1
  have h1 := hC.2.2.1.2.1
  have hf : ∀ q, q ≤ 12 → co9 T (hFi T q) < 2 ^ 60 := fun q hq => co9_lt hC.2.2 (go_Fi hC.2.2 hq)
  have L : ∀ d i, i + 1 + d = tsO T 0 → ∀ b', 25 * d ≤ b' → ∀ τ, CI τ A CA E T → KpD (scr A) σ τ → At G mX1_fill 206 Q X b' 11 [(0, .ref (A 0)), (1, .int (amT (fun q => co9 T (hFi T q)) (i + 1)).1), (2, .long (lN (amT (fun q => co9 T (hFi T q)) (i + 1)).2)), (4, .int (nI (i + 2)))] [] τ := by
    intro d
    induction d with
    | zero =>
      intro i hi b' hb' τ hC' hK'
      have kk := kq τ hC' (own_scr hK')
      rw [← hi] at kk
      exact bX1_fill_11 ⟨E.1, ⟨_, hC'.1.x, rfl⟩, _, ⟨_, hC'.1.off.1, rfl⟩, fun _ => kk, fun q => absurd (nI_lt (by omega) (by omega)) q⟩
    | succ d ih =>
      intro i hi b' hb' τ hC' hK'
      refine bX1_fill_11 ⟨E.1, ⟨_, hC'.1.x, rfl⟩, _, ⟨_, hC'.1.off.1, rfl⟩, fun q => absurd q (nI_nlt (by omega) (by omega)), fun _ => ⟨25, by omega, ⟨_, hC'.1.x⟩, c_starting hC' (Nat.le_refl _) (by omega) (by omega) (fun τ3 C3 K3 => ⟨_, rfl, ?_⟩)⟩⟩
      have ih1 := ih (i + 1) (by omega) (b' - 25) (by omega) τ3 C3 (hK'.tr K3)
      have hb2 := amT_b (n := 12) hf (by decide) (i + 1) (by omega)
      have hfi := hf (i + 2) (by omega)
      have cmp : lN (co9 T (hFi T (i + 2))) < lN (amT (fun q => co9 T (hFi T q)) (i + 1)).2 ↔ co9 T (hFi T (i + 2)) < (amT (fun q => co9 T (hFi T q)) (i + 1)).2 := pk_lLT (by omega) (by omega)
      have ne := amT_ne (f := fun q => co9 T (hFi T q)) i (by omega)
      rw [show amT (fun q => co9 T (hFi T q)) (i + 1 + 1) = if (amT (fun q => co9 T (hFi T q)) (i + 1)).1 = -1 ∨ co9 T (hFi T (i + 2)) < (amT (fun q => co9 T (hFi T q)) (i + 1)).2 then (nI (i + 2), co9 T (hFi T (i + 2))) else amT (fun q => co9 T (hFi T q)) (i + 1) from rfl] at ih1
      refine ⟨fun z v4 h4 => ?_, fun z v4 h4 => ?_⟩
      · rw [if_pos (Or.inr (cmp.mp z))] at ih1
        rw [h4, nI_1]
        exact ih1
      · rw [if_neg (fun u => u.elim ne (fun w => z (cmp.mpr w)))] at ih1
        rw [h4, nI_1]
        exact ih1
  refine eX1_fill (bX1_fill_0 ⟨25, by omega, ⟨_, hC.1.x⟩, c_starting (q := 1) hC (Nat.le_refl _) (Nat.le_refl _) (by decide) (fun τ3 C3 K3 => ⟨_, rfl, ?_⟩)⟩)
  have L0 := L (tsO T 0 - 1) 0 (by omega) (b - 25) (by omega) τ3 C3 K3
  rw [show amT (fun q => co9 T (hFi T q)) (0 + 1) = (nI 1, co9 T (hFi T 1)) from if_pos (Or.inl rfl)] at L0
  exact L0
def swI (f : Nat → Nat → Nat) (p : Nat) : Nat → Int32 × Nat → Int32 × Nat
  | 0, s => s
  | i + 1, s => if f p (p + 1 + i) < (swI f p i s).2 then (nI (10 * p + (p + 1 + i)), f p (p + 1 + i)) else swI f p i s
def swO (f : Nat → Nat → Nat) (P : Nat) (s : Int32 × Nat) : Nat → Int32 × Nat
  | 0 => s
  | p + 1 => swI f p (P - 1 - p) (swO f P s p)
theorem swI_b {f : Nat → Nat → Nat} {c p n : Nat} {s : Int32 × Nat} (h : ∀ q, q < n → f p q < c) (hs : s.2 < c) : ∀ i, p + 1 + i ≤ n → (swI f p i s).2 < c
  | 0, _ => hs
  | i + 1, hi => by
    rw [swI]
    split
    · exact h _ (by omega)
    · exact swI_b h hs i (by omega)
theorem swO_b {f : Nat → Nat → Nat} {c P : Nat} {s : Int32 × Nat} (h : ∀ p q, p < P → q < P → f p q < c) (hs : s.2 < c) : ∀ p, p ≤ P → (swO f P s p).2 < c
  | 0, _ => hs
  | p + 1, hp => by
    rw [swO]
    exact swI_b (fun q hq => h p q (by omega) hq) (swO_b h hs p (by omega)) (P - 1 - p) (by omega)
theorem c_swap {G : GC} {σ : PS} {Q : Option Value → PS → Prop} {X : String → Nat → PS → Prop} {b : Nat} {A : Nat → Nat} {CA : Nat → Nat × Nat × Nat} {E : Nat × Nat × Option Nat × Nat × Nat × Nat × Nat} {T : TS} (hC : CI σ A CA E T) (hb : 1000 ≤ b) (kq : ∀ τ, CI τ A CA E T → KpD (own A CA) σ τ → Q (some (.int (swO (fun p q => co9 T (hSw T p q)) (tsP T) (-1, co9 T (tsH0 T)) (tsP T)).1)) τ) : Call G mX1_swap 205 b [.ref (A 0)] σ Q X := by
  have hn := n24 hC.2.2
  have hP6 := hC.2.2.2.1
  have hf : ∀ p q, p < tsP T → q < tsP T → co9 T (hSw T p q) < 2 ^ 60 := fun p q hp hq => co9_lt hC.2.2 (go_Sw hC.2.2 (by omega) (by omega))
  have h0 : co9 T (tsH0 T) < 2 ^ 60 := co9_lt hC.2.2 (go0 hC.2.2)
  have L : ∀ d p, p + d = tsP T → ∀ b', 150 * d ≤ b' → ∀ τ, CI τ A CA E T → KpD (scr A) σ τ → At G mX1_swap 205 Q X b' 17 [(0, .ref (A 0)), (1, .int (swO (fun p q => co9 T (hSw T p q)) (tsP T) (-1, co9 T (tsH0 T)) p).1), (2, .long (lN (swO (fun p q => co9 T (hSw T p q)) (tsP T) (-1, co9 T (tsH0 T)) p).2)), (4, .int (nI p))] [] τ := by
    intro d
    induction d with
    | zero =>
      intro p hp b' hb' τ hC' hK'
      have hp : p = tsP T := by omega
      subst hp
      exact bX1_swap_17 ⟨E.1, ⟨_, hC'.1.x, rfl⟩, _, ⟨_, hC'.1.off.1, rfl⟩, fun _ => kq τ hC' (own_scr hK'), fun q => absurd (nI_le (Nat.le_refl _) (by omega)) q⟩
    | succ d ih =>
      intro p hp b' hb' τ hC' hK'
      refine bX1_swap_17 ⟨E.1, ⟨_, hC'.1.x, rfl⟩, _, ⟨_, hC'.1.off.1, rfl⟩, fun q => absurd q (nI_ge (by omega) (by omega)), fun _ v5 h5 => ?_⟩
      rw [h5, nI_1]
      have sb := swO_b (s := (-1, co9 T (tsH0 T))) hf h0 p (by omega)
      have ih1 := ih (p + 1) (by omega)
      rw [swO] at ih1
      revert sb ih1
      generalize swO (fun p q => co9 T (hSw T p q)) (tsP T) (-1, co9 T (tsH0 T)) p = s
      intro sb ih1
      have In : ∀ e i, i + e = tsP T - 1 - p → ∀ b2, 25 * e + 150 * d ≤ b2 → ∀ τ2, CI τ2 A CA E T → KpD (scr A) σ τ2 → At G mX1_swap 205 Q X b2 35 [(0, .ref (A 0)), (1, .int (swI (fun p q => co9 T (hSw T p q)) p i s).1), (2, .long (lN (swI (fun p q => co9 T (hSw T p q)) p i s).2)), (4, .int (nI p)), (5, .int (nI (p + 1 + i)))] [] τ2 := by
        intro e
        induction e with
        | zero =>
          intro i hi b2 hb2 τ2 hC2 hK2
          have hi : i = tsP T - 1 - p := by omega
          subst hi
          refine bX1_swap_35 ⟨E.1, ⟨_, hC2.1.x, rfl⟩, _, ⟨_, hC2.1.off.1, rfl⟩, fun _ v4 h4 => ?_, fun q => absurd (nI_le (by omega) (by omega)) q⟩
          rw [h4, nI_1]
          exact ih1 b2 (by omega) τ2 hC2 hK2
        | succ e ihe =>
          intro i hi b2 hb2 τ2 hC2 hK2
          have hq : p + 1 + i < tsP T := by omega
          refine bX1_swap_35 ⟨E.1, ⟨_, hC2.1.x, rfl⟩, _, ⟨_, hC2.1.off.1, rfl⟩, fun q => absurd q (nI_ge hq (by omega)), fun _ => ⟨⟨_, hC2.1.x⟩, c_asTold hC2 (fun τ3 C3 W3 K3 => ⟨_, rfl, ⟨_, W3.1⟩, c_hswapped (show p < 6 by omega) (show p + 1 + i < 6 by omega) C3 W3 (fun τ4 C4 W4 K4 => ⟨_, rfl, 25, by omega, ⟨_, C4.1.x⟩, c_rSw (show p < 6 by omega) (show p + 1 + i < 6 by omega) C4 W4 (Nat.le_refl _) (fun τ5 C5 R5 K5 => ⟨_, rfl, c_tcost C5 R5 ⟨_, rfl, ?_⟩⟩)⟩)⟩)⟩⟩
          have ih2 := ihe (i + 1) (by omega) (b2 - 25) (by omega) τ5 C5 (hK2.tr ((K4 _ K3).tr K5))
          have sb2 := swI_b (f := fun p q => co9 T (hSw T p q)) (p := p) (n := tsP T) (fun q hq => hf p q (by omega) hq) sb i (by omega)
          have hfi := hf p (p + 1 + i) (by omega) hq
          have cmp : lN (co9 T (hSw T p (p + 1 + i))) < lN (swI (fun p q => co9 T (hSw T p q)) p i s).2 ↔ co9 T (hSw T p (p + 1 + i)) < (swI (fun p q => co9 T (hSw T p q)) p i s).2 := pk_lLT (by omega) (by omega)
          rw [swI] at ih2
          refine ⟨fun z v1 h1 v5 h5 => ?_, fun z v5 h5 => ?_⟩
          · rw [if_pos (cmp.mp z)] at ih2
            rw [h1, h5, nI_1, show (10 : Int32) = nI 10 from rfl, pk_mul, nI_add]
            exact ih2
          · rw [if_neg (fun u => z (cmp.mpr u))] at ih2
            rw [h5, nI_1]
            exact ih2
      exact In (tsP T - 1 - p) 0 (by omega) b' (by omega) τ hC' hK'
  refine eX1_swap (bX1_swap_0 ⟨⟨_, hC.1.x⟩, c_asTold hC (fun τ1 C1 W1 K1 => ⟨_, rfl, 25, by omega, ⟨_, C1.1.x⟩, c_run0 C1 W1 (show (tsK T 0).1 + 1 ≤ 25 by omega) (Nat.le_refl _) (to_all hn) (fun τ3 C3 R3 K3 => ⟨_, rfl, c_tcost C3 R3 ⟨_, rfl, L (tsP T) 0 (by omega) (b - 25) (by omega) τ3 C3 (K1.tr K3)⟩⟩)⟩)⟩)
/-- the likeliest of the first j -/
def lkS (f : Nat → Nat) : Nat → Int32 × Nat
  | 0 => (-1, 0)
  | j + 1 => if (lkS f j).2 < f j then (nI (100 * (j / 26) + j % 26), f j) else lkS f j
theorem lkS_b {f : Nat → Nat} {c : Nat} (h : ∀ i, f i < c) (hc : 0 < c) : ∀ i, (lkS f i).2 < c
  | 0 => hc
  | i + 1 => by
    rw [lkS]
    split
    · exact h i
    · exact lkS_b h hc i
def atJ (P : Nat → Nat) (j : Nat) : Nat := qAt (j / 26) (j % 26 / 2) (j % 26 % 2) P
theorem qAt_le {v c d k : Nat} {P : Nat → Nat} (hG : GP v P) (hv : v ≤ 24) : qAt c d k P < 2 ^ 46 := by
  have h1 : qAt c d k P ≤ sm (fun _ => 2 ^ 40) 25 := sm_le (fun s _ => hG.le hv _)
  have h2 : sm (fun _ => 2 ^ 40) 25 = 25 * 2 ^ 40 := by simp only [sm_s, sm_z]
  omega
theorem c_likeliest {G : GC} {σ : PS} {Q : Option Value → PS → Prop} {X : String → Nat → PS → Prop} {b : Nat} {A : Nat → Nat} {CA : Nat → Nat × Nat × Nat} {E : Nat × Nat × Option Nat × Nat × Nat × Nat × Nat} {T : TS} {x : Int32} (hC : CI σ A CA E T) (hb : 40 ≤ b) (kq : ∀ v, v < (tsK T 0).1 → x = nI v → ∀ τ, CI τ A CA E T → KpD (own A CA) σ τ → Q (some (.int (lkS (atJ (rn9 T (tsH0 T) (v + 1)).1) 338).1)) τ) (k0 : ¬ inN x (tsK T 0).1 → ∀ τ q, CI τ A CA E (bu0 T) → KpD (own A CA) σ τ → X "java/util/NoSuchElementException" q τ) : Call G mX1_likeliest 205 b [.ref (A 0), .int x] σ Q X := by
  refine eX1_likeliest (bX1_likeliest_0 ⟨1, by omega, ⟨_, hC.1.x⟩, c_visitOf hC (Nat.le_refl _) (fun v hv hx => ⟨rfl, ⟨_, hC.1.x⟩, c_asTold hC (fun τ1 C1 W1 K1 => ⟨_, rfl, ⟨_, W1.1⟩, c_to C1 W1 (fun τ2 C2 W2 K2 => ⟨_, rfl, 25, by omega, ⟨_, C2.1.x⟩, ?_⟩)⟩)⟩) k0⟩)
  have hn := n24 hC.2.2
  subst hx
  refine c_run0 C2 W2 (show v + 1 + 1 ≤ 25 by omega) hv (to_v (by omega)) (fun τ3 C3 R3 K3 => ⟨_, rfl, ?_⟩)
  obtain ⟨nw, nx, V, who, e, hM⟩ := R3
  have hG := (go_run (go0 hC.2.2) (fm := (tsK T 0).2.2) (v + 1) hv).1
  have hf : ∀ j, atJ (rn9 T (tsH0 T) (v + 1)).1 j < 2 ^ 46 := fun j => qAt_le hG (by omega)
  have kk := kq v hv rfl τ3 C3 (own_scr ((K2 _ K1).tr K3))
  have Lk : ∀ c, c < 13 → ∀ b', (At G mX1_likeliest 205 Q X b' 25 [(0, .ref (A 0)), (2, .int (lkS (atJ (rn9 T (tsH0 T) (v + 1)).1) (26 * (c + 1))).1), (3, .long (lN (lkS (atJ (rn9 T (tsH0 T) (v + 1)).1) (26 * (c + 1))).2)), (5, .int (nI (c + 1)))] [] τ3) → ∀ d k, k + d = 26 → At G mX1_likeliest 205 Q X b' 35 [(0, .ref (A 0)), (2, .int (lkS (atJ (rn9 T (tsH0 T) (v + 1)).1) (26 * c + k)).1), (3, .long (lN (lkS (atJ (rn9 T (tsH0 T) (v + 1)).1) (26 * c + k)).2)), (5, .int (nI c)), (6, .int (nI k))] [] τ3 := by
    intro c hc b' nxt d
    induction d with
    | zero =>
      intro k hk
      have hk : k = 26 := by omega
      subst hk
      refine bX1_likeliest_35 ⟨fun _ v5 h5 => ?_, fun q => absurd (nI_lt (a := 25) (b := 26) (by decide) (by decide)) q⟩
      rw [h5, nI_1]
      exact nxt
    | succ d ih =>
      intro k hk
      have ih1 := ih (k + 1) (by omega)
      rw [← Nat.add_assoc, lkS] at ih1
      have hj1 : (26 * c + k) / 26 = c := by omega
      have hj2 : (26 * c + k) % 26 = k := by omega
      have hfj := hf (26 * c + k)
      have hb2 := lkS_b hf (by decide) (26 * c + k)
      rw [hj1, hj2] at ih1
      have eat : atJ (rn9 T (tsH0 T) (v + 1)).1 (26 * c + k) = qAt c (k / 2) (k % 2) (rn9 T (tsH0 T) (v + 1)).1 := by
        unfold atJ
        rw [hj1, hj2]
      refine bX1_likeliest_35 ⟨fun q => absurd q (nI_nlt (a := 25) (by omega) (by decide)), fun _ => ⟨A 10, ⟨_, C3.1.x, rfl⟩, ⟨_, hM.1⟩, ?_⟩⟩
      rw [show (2 : Int32) = nI 2 from rfl, pk_rem (a := k) (by omega) (by decide) (by decide), pk_div (a := k) (by omega) (by decide) (by decide)]
      refine k_fat hM (by omega) (by omega) (by omega) ⟨_, rfl, ?_⟩
      rw [← eat]
      have cmp : lN (lkS (atJ (rn9 T (tsH0 T) (v + 1)).1) (26 * c + k)).2 < lN (atJ (rn9 T (tsH0 T) (v + 1)).1 (26 * c + k)) ↔ (lkS (atJ (rn9 T (tsH0 T) (v + 1)).1) (26 * c + k)).2 < atJ (rn9 T (tsH0 T) (v + 1)).1 (26 * c + k) := pk_lLT (by omega) (by omega)
      refine ⟨fun z v2 h2 v6 h6 => ?_, fun z v6 h6 => ?_⟩
      · rw [if_pos (cmp.mp z)] at ih1
        rw [h2, h6, nI_1, show (100 : Int32) = nI 100 from rfl, pk_mul, nI_add]
        exact ih1
      · rw [if_neg (fun u => z (cmp.mpr u))] at ih1
        rw [h6, nI_1]
        exact ih1
  have Lc : ∀ d c, c + d = 13 → ∀ b', At G mX1_likeliest 205 Q X b' 25 [(0, .ref (A 0)), (2, .int (lkS (atJ (rn9 T (tsH0 T) (v + 1)).1) (26 * c)).1), (3, .long (lN (lkS (atJ (rn9 T (tsH0 T) (v + 1)).1) (26 * c)).2)), (5, .int (nI c))] [] τ3 := by
    intro d
    induction d with
    | zero =>
      intro c hc b'
      have hc : c = 13 := by omega
      subst hc
      exact bX1_likeliest_25 ⟨fun _ => kk, fun q => absurd (nI_lt (a := 12) (b := 13) (by decide) (by decide)) q⟩
    | succ d ih =>
      intro c hc b'
      exact bX1_likeliest_25 ⟨fun q => absurd q (nI_nlt (a := 12) (by omega) (by decide)), fun _ => Lk c (by omega) b' (ih (c + 1) (by omega) b') 26 0 (by omega)⟩
  exact Lc 13 0 (by omega) _
def ofS (T : TS) : Nat → Nat
  | 0 => 0
  | v + 1 => ofS T v + tr9 T (tsH0 T) (v + 1)
theorem ofS_le {T : TS} (h : tsOK T) : ∀ v, v ≤ (tsK T 0).1 → ofS T v ≤ v * 1099511627776
  | 0, _ => Nat.zero_le _
  | v + 1, hv => by
    have h1 := ofS_le h v (by omega)
    have h2 : tr9 T (tsH0 T) (v + 1) ≤ 2 ^ 40 := tr9_le (go0 h) hv
    rw [ofS]
    omega
theorem c_often {G : GC} {σ : PS} {Q : Option Value → PS → Prop} {X : String → Nat → PS → Prop} {b : Nat} {A : Nat → Nat} {CA : Nat → Nat × Nat × Nat} {E : Nat × Nat × Option Nat × Nat × Nat × Nat × Nat} {T : TS} {z : Int32} (hC : CI σ A CA E T) (hb : 1000 ≤ b) (kq : ∀ p, p < 2 → z = nI p → ∀ τ, CI τ A CA E T → KpD (own A CA) σ τ → Q (some (.long (lN (if (tsK T 0).1 = 0 then p else fr (ofS T (tsK T 0).1) (1099511627776 * (tsK T 0).1) p)))) τ) (k1 : ¬ inN z 2 → ∀ τ q, CI τ A CA E (bu1 T) → KpD (own A CA) σ τ → X "java/lang/IllegalArgumentException" q τ) : Call G mX1_often 205 b [.ref (A 0), .int z] σ Q X := by
  have hn := n24 hC.2.2
  refine eX1_often (bX1_often_0 ⟨1, by omega, ⟨_, hC.1.x⟩, c_partOf hC (Nat.le_refl _) (fun p hp hz => ⟨rfl, ?_⟩) k1⟩)
  subst hz
  have L : ∀ d v, v + d = (tsK T 0).1 → ∀ b', 25 * d ≤ b' → ∀ τ, CI τ A CA E T → KpD (scr A) σ τ → At G mX1_often 205 Q X b' 10 [(0, .ref (A 0)), (1, .int (nI p)), (2, .long (lN (ofS T v))), (4, .int (nI v))] [] τ := by
    intro d
    induction d with
    | zero =>
      intro v hv b' hb' τ hC' hK'
      have hv : v = (tsK T 0).1 := by omega
      have hcal := (hC'.1.cal (i := 0) (by decide)).1
      have kk := kq p hp rfl τ hC' (own_scr hK')
      have z0 : nI (tsK T 0).1 = 0 ↔ (tsK T 0).1 = 0 := nI_eq (b := 0) (by omega) (by decide)
      have hle := ofS_le hC.2.2 (tsK T 0).1 (Nat.le_refl _)
      rw [hv]
      refine bX1_often_10 ⟨(CA 0).1, ⟨_, hC'.1.x, rfl⟩, _, ⟨_, hcal, rfl⟩, fun _ => ⟨(CA 0).1, ⟨_, hC'.1.x, rfl⟩, _, ⟨_, hcal, rfl⟩, fun y => ⟨(CA 0).1, ⟨_, hC'.1.x, rfl⟩, _, ⟨_, hcal, rfl⟩, fun w hw => ?_⟩, fun y => ?_⟩, fun q => absurd (nI_le (Nat.le_refl _) (by omega)) q⟩
      · have y1 : ¬ (tsK T 0).1 = 0 := fun u => y (z0.mpr u)
        rw [if_neg y1] at kk
        rw [nI_l (by omega), one9, lN_mul] at hw
        rw [hw]
        exact k_part (by omega) (by omega) (by omega) hp ⟨_, rfl, kk⟩
      · rw [if_pos (z0.mp y)] at kk
        rw [nI_l (by omega)]
        exact kk
    | succ d ih =>
      intro v hv b' hb' τ hC' hK'
      have hcal := (hC'.1.cal (i := 0) (by decide)).1
      refine bX1_often_10 ⟨(CA 0).1, ⟨_, hC'.1.x, rfl⟩, _, ⟨_, hcal, rfl⟩, fun q => absurd q (nI_ge (by omega) (by omega)), fun _ => ⟨⟨_, hC'.1.x⟩, c_asTold hC' (fun τ1 C1 W1 K1 => ⟨_, rfl, ⟨_, W1.1⟩, c_to C1 W1 (fun τ2 C2 W2 K2 => ⟨_, rfl, 25, by omega, ⟨_, C2.1.x⟩, c_run0 C2 W2 (show v + 1 + 1 ≤ 25 by omega) (by omega) (to_v (by omega)) (fun τ3 C3 R3 K3 => ⟨_, rfl, 0, Nat.zero_le _, c_truly C3 R3 (go0 hC.2.2) (by omega) (fun τ4 C4 R4 K4 => ⟨_, rfl, fun v2 h2 v4 h4 => ?_⟩)⟩)⟩)⟩)⟩⟩
      rw [lN_add] at h2
      rw [h2, h4, nI_1]
      exact ih (v + 1) (by omega) (b' - 25 - 0) (by omega) τ4 C4 (hK'.tr (((K2 _ K1).tr K3).tr K4))
  exact L (tsK T 0).1 0 (by omega) (b - 1) (by omega) σ hC KpD.rf
def siS (g : Nat → Nat) : Nat → Nat → Int32
  | 0, _ => -1
  | d + 1, i => if g i < 549755813888 then nI i else siS g d (i + 1)
theorem c_since {G : GC} {σ : PS} {Q : Option Value → PS → Prop} {X : String → Nat → PS → Prop} {b : Nat} {A : Nat → Nat} {CA : Nat → Nat × Nat × Nat} {E : Nat × Nat × Option Nat × Nat × Nat × Nat × Nat} {T : TS} (hC : CI σ A CA E T) (hb : 1000 ≤ b) (kq : ∀ τ, CI τ A CA E T → KpD (own A CA) σ τ → Q (some (.int (siS (fun v => tr9 T (tsH0 T) (v + 1)) (tsK T 0).1 0))) τ) : Call G mX1_since 205 b [.ref (A 0)] σ Q X := by
  have hn := n24 hC.2.2
  have L : ∀ d v, v + d = (tsK T 0).1 → siS (fun v => tr9 T (tsH0 T) (v + 1)) d v = siS (fun v => tr9 T (tsH0 T) (v + 1)) (tsK T 0).1 0 → ∀ b', 25 * d ≤ b' → ∀ τ, CI τ A CA E T → KpD (scr A) σ τ → At G mX1_since 205 Q X b' 2 [(0, .ref (A 0)), (1, .int (nI v))] [] τ := by
    intro d
    induction d with
    | zero =>
      intro v hv hs b' hb' τ hC' hK'
      have kk := kq τ hC' (own_scr hK')
      rw [← hs] at kk
      exact bX1_since_2 ⟨(CA 0).1, ⟨_, hC'.1.x, rfl⟩, _, ⟨_, (hC'.1.cal (i := 0) (by decide)).1, rfl⟩, fun _ => kk, fun q => absurd (nI_le (by omega) (by omega)) q⟩
    | succ d ih =>
      intro v hv hs b' hb' τ hC' hK'
      refine bX1_since_2 ⟨(CA 0).1, ⟨_, hC'.1.x, rfl⟩, _, ⟨_, (hC'.1.cal (i := 0) (by decide)).1, rfl⟩, fun q => absurd q (nI_ge (by omega) (by omega)), fun _ => ⟨⟨_, hC'.1.x⟩, c_asTold hC' (fun τ1 C1 W1 K1 => ⟨_, rfl, ⟨_, W1.1⟩, c_to C1 W1 (fun τ2 C2 W2 K2 => ⟨_, rfl, 25, by omega, ⟨_, C2.1.x⟩, c_run0 C2 W2 (show v + 1 + 1 ≤ 25 by omega) (by omega) (to_v (by omega)) (fun τ3 C3 R3 K3 => ⟨_, rfl, 0, Nat.zero_le _, c_truly C3 R3 (go0 hC.2.2) (by omega) (fun τ4 C4 R4 K4 => ⟨_, rfl, ?_⟩)⟩)⟩)⟩)⟩⟩
      have hle : tr9 T (tsH0 T) (v + 1) ≤ 2 ^ 40 := tr9_le (go0 hC.2.2) (by omega)
      have cmp : (549755813888 : Int64) ≤ lN (tr9 T (tsH0 T) (v + 1)) ↔ 549755813888 ≤ tr9 T (tsH0 T) (v + 1) := pk_lLE (a := 549755813888) (by decide) (by omega)
      rw [siS] at hs
      refine ⟨fun z v1 h1 => ?_, fun z => ?_⟩
      · rw [if_neg (by have := cmp.mp z; omega)] at hs
        rw [h1, nI_1]
        exact ih (v + 1) (by omega) hs (b' - 25 - 0) (by omega) τ4 C4 (hK'.tr (((K2 _ K1).tr K3).tr K4))
      · rw [if_pos (Nat.lt_of_not_le (fun u => z (cmp.mpr u)))] at hs
        have kk := kq τ4 C4 (own_scr (hK'.tr (((K2 _ K1).tr K3).tr K4)))
        rw [← hs] at kk
        exact kk
  exact eX1_since (bX1_since_0 (L (tsK T 0).1 0 (by omega) rfl b (by omega) σ hC KpD.rf))
