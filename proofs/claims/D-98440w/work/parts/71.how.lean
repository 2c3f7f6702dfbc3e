/-! Part B: the component: refusals, how, run -/
def inN (x : Int32) (n : Nat) : Prop := ∃ j, j < n ∧ x = nI j
theorem inN_no {x : Int32} {n : Nat} (hn : n < 2 ^ 31) (h : x < 0 ∨ nI n ≤ x) : ¬ inN x n := by
  rintro ⟨j, hj, rfl⟩
  rcases h with h | h
  · exact nI_pos (by omega) h
  · exact nI_ge hj hn h
theorem c_within {G : GC} {σ : PS} {Q : Option Value → PS → Prop} {X : String → Nat → PS → Prop} {b : Nat} {A : Nat → Nat} {CA : Nat → Nat × Nat × Nat} {E : Nat × Nat × Option Nat × Nat × Nat × Nat × Nat} {T : TS} {x lo hi : Int32} (hC : CI σ A CA E T) (hb : 1 ≤ b) (k0 : lo ≤ x → x ≤ hi → Q none σ) (k1 : ¬ (lo ≤ x ∧ x ≤ hi) → ∀ τ q, CI τ A CA E (bu1 T) → KpD (own A CA) σ τ → X "java/lang/IllegalArgumentException" q τ) : Call G mX1_within 10 b [.ref (A 0), .int x, .int lo, .int hi] σ Q X := by
  obtain ⟨f, h1, -, h3, h4⟩ := hC.ref0
  have hx := hC.1.x
  refine eX1_within (bX1_within_0 ⟨fun z => ⟨A 8, ⟨_, hx, rfl⟩, 2, f, h1, by decide, 2, f, h1, by decide, fun s1 hs1 => ⟨hb, fun q => ?_⟩⟩, fun z => ⟨fun y => ⟨A 8, ⟨_, hx, rfl⟩, 2, f, h1, by decide, 2, f, h1, by decide, fun s1 hs1 => ⟨hb, fun q => ?_⟩⟩, fun y => k0 (Int32.not_lt.mp z) (Int32.not_lt.mp y)⟩⟩)
  · subst hs1
    exact k1 (fun w => absurd w.1 (Int32.not_le.mpr z)) _ q h3 (h4 _)
  · subst hs1
    exact k1 (fun w => absurd w.2 (Int32.not_le.mpr y)) _ q h3 (h4 _)
/-- from 0 on -/
theorem c_in {G : GC} {σ : PS} {Q : Option Value → PS → Prop} {X : String → Nat → PS → Prop} {b : Nat} {A : Nat → Nat} {CA : Nat → Nat × Nat × Nat} {E : Nat × Nat × Option Nat × Nat × Nat × Nat × Nat} {T : TS} {x hi : Int32} {n : Nat} (hC : CI σ A CA E T) (hb : 1 ≤ b) (hn : n < 2 ^ 30) (hh : hi = nI n) (k0 : ∀ j, j < n + 1 → x = nI j → Q none σ) (k1 : ¬ inN x (n + 1) → ∀ τ q, CI τ A CA E (bu1 T) → KpD (own A CA) σ τ → X "java/lang/IllegalArgumentException" q τ) : Call G mX1_within 10 b [.ref (A 0), .int x, .int 0, .int hi] σ Q X := by
  subst hh
  refine c_within hC hb (fun h1 h2 => ?_) (fun h => k1 (fun ⟨j, hj, e⟩ => h ⟨by rw [e]; exact nI_pos' (by omega), by rw [e]; exact nI_le (by omega) (by omega)⟩))
  obtain ⟨j, hj, rfl⟩ := nI_of (Int32.not_lt.mpr h1)
  exact k0 j (by have := (nI_leI hj (by omega)).mp h2; omega) rfl
theorem c_isThere {G : GC} {σ : PS} {Q : Option Value → PS → Prop} {X : String → Nat → PS → Prop} {b : Nat} {A : Nat → Nat} {CA : Nat → Nat × Nat × Nat} {E : Nat × Nat × Option Nat × Nat × Nat × Nat × Nat} {T : TS} {x : Int32} {n : Nat} (hC : CI σ A CA E T) (hb : 1 ≤ b) (hn : n < 2 ^ 31) (k0 : ∀ j, j < n → x = nI j → Q none σ) (k1 : ¬ inN x n → ∀ τ q, CI τ A CA E (bu0 T) → KpD (own A CA) σ τ → X "java/util/NoSuchElementException" q τ) : Call G mX1_isThere 10 b [.ref (A 0), .int x, .int (nI n)] σ Q X := by
  obtain ⟨f, h1, h3, -, h4⟩ := hC.ref0
  have hx := hC.1.x
  refine eX1_isThere (bX1_isThere_0 ⟨fun z => ⟨A 8, ⟨_, hx, rfl⟩, 2, f, h1, by decide, 2, f, h1, by decide, fun s1 hs1 => ⟨hb, fun q => ?_⟩⟩, fun z => ⟨fun y => ⟨A 8, ⟨_, hx, rfl⟩, 2, f, h1, by decide, 2, f, h1, by decide, fun s1 hs1 => ⟨hb, fun q => ?_⟩⟩, fun y => ?_⟩⟩)
  · subst hs1
    exact k1 (inN_no hn (Or.inl z)) _ q h3 (h4 _)
  · subst hs1
    exact k1 (inN_no hn (Or.inr y)) _ q h3 (h4 _)
  · obtain ⟨j, hj, rfl⟩ := nI_of z
    refine k0 j ?_ rfl
    apply Classical.byContradiction
    intro w
    exact y ((nI_leI hn hj).mpr (by omega))
theorem c_personOf {G : GC} {σ : PS} {Q : Option Value → PS → Prop} {X : String → Nat → PS → Prop} {b : Nat} {A : Nat → Nat} {CA : Nat → Nat × Nat × Nat} {E : Nat × Nat × Option Nat × Nat × Nat × Nat × Nat} {T : TS} {x : Int32} (hC : CI σ A CA E T) (hb : 1 ≤ b) (k0 : ∀ j, j < tsP T → x = nI j → Q none σ) (k1 : ¬ inN x (tsP T) → ∀ τ q, CI τ A CA E (bu0 T) → KpD (own A CA) σ τ → X "java/util/NoSuchElementException" q τ) : Call G mX1_personOf 11 b [.ref (A 0), .int x] σ Q X :=
  eX1_personOf (bX1_personOf_0 ⟨E.1, ⟨_, hC.1.x, rfl⟩, _, ⟨_, hC.1.off.1, rfl⟩, b, Nat.le_refl _, ⟨_, hC.1.x⟩, c_isThere hC hb (by have := hC.2.2.2.1; omega) (fun j h1 h2 => ⟨rfl, k0 j h1 h2⟩) k1⟩)
theorem c_visitOf {G : GC} {σ : PS} {Q : Option Value → PS → Prop} {X : String → Nat → PS → Prop} {b : Nat} {A : Nat → Nat} {CA : Nat → Nat × Nat × Nat} {E : Nat × Nat × Option Nat × Nat × Nat × Nat × Nat} {T : TS} {x : Int32} (hC : CI σ A CA E T) (hb : 1 ≤ b) (k0 : ∀ j, j < (tsK T 0).1 → x = nI j → Q none σ) (k1 : ¬ inN x (tsK T 0).1 → ∀ τ q, CI τ A CA E (bu0 T) → KpD (own A CA) σ τ → X "java/util/NoSuchElementException" q τ) : Call G mX1_visitOf 11 b [.ref (A 0), .int x] σ Q X :=
  eX1_visitOf (bX1_visitOf_0 ⟨(CA 0).1, ⟨_, hC.1.x, rfl⟩, _, ⟨_, (hC.1.cal (i := 0) (by decide)).1, rfl⟩, b, Nat.le_refl _, ⟨_, hC.1.x⟩, c_isThere hC hb (by have := (hC.2.2.2.2.1 0 (by decide)).1; omega) (fun j h1 h2 => ⟨rfl, k0 j h1 h2⟩) k1⟩)
theorem c_partOf {G : GC} {σ : PS} {Q : Option Value → PS → Prop} {X : String → Nat → PS → Prop} {b : Nat} {A : Nat → Nat} {CA : Nat → Nat × Nat × Nat} {E : Nat × Nat × Option Nat × Nat × Nat × Nat × Nat} {T : TS} {x : Int32} (hC : CI σ A CA E T) (hb : 1 ≤ b) (k0 : ∀ j, j < 2 → x = nI j → Q none σ) (k1 : ¬ inN x 2 → ∀ τ q, CI τ A CA E (bu1 T) → KpD (own A CA) σ τ → X "java/lang/IllegalArgumentException" q τ) : Call G mX1_partOf 11 b [.ref (A 0), .int x] σ Q X :=
  eX1_partOf (bX1_partOf_0 ⟨b, Nat.le_refl _, ⟨_, hC.1.x⟩, c_in (n := 1) hC hb (by decide) rfl (fun j h1 h2 => ⟨rfl, k0 j h1 h2⟩) k1⟩)
/-- how, told: the habits gone by -/
def HwI (σ : PS) (A : Nat → Nat) (bk : Option Nat) (to wo : Int32) (fall see : Nat) (sta bg : Int32) (H : Nat → List StT) : Prop := HowO σ (A 17) (A 18) bk to wo fall see sta bg ∧ ∃ g, σ 105 (A 18) = some (.inr (6, .inr (.inr g))) ∧ (∀ p, p < 6 → HabQ σ (g p) (H p)) ∧ ∀ p, p < 6 → ∀ y, g p = some y → ∃ vs, σ 14 y = some (.inl vs)
theorem scr17 {A : Nat → Nat} : scr A 6 (A 17) := Or.inr (Or.inr (Or.inr (Or.inl ⟨rfl, rfl⟩)))
theorem scr18 {A : Nat → Nat} : scr A 105 (A 18) := Or.inr (Or.inr (Or.inr (Or.inr ⟨rfl, rfl⟩)))
theorem Sc.how {σ : PS} {A : Nat → Nat} {e : aE} {v1 v2 v3 v4 v5 v6 v7 : Value} (h : Sc σ A) (he : e = .inl [.ref (A 18), v1, v2, v3, v4, v5, v6, v7]) : Sc (up σ 6 (A 17) e) A := by
  subst he
  obtain ⟨z, ⟨u1, u2, u3, u4, u5, u6, l2, y1, y2, y3⟩, ⟨w1, w2, w3, w4, w5, w6, w7, gg, y4, y5⟩⟩ := h
  have kk : ∀ κ a e' e, σ κ a = some e' → κ ≠ 6 → up σ 6 (A 17) e κ a = some e' := fun κ a e' e hh hn => (up_k hn).trans hh
  exact ⟨z.mv (fun κ x e hk hh => kk _ _ _ _ hh (by omega)), ⟨u1, u2, u3, u4, u5, u6, l2, kk _ _ _ _ y1 (by decide), kk _ _ _ _ y2 (by decide), y3⟩, ⟨v1, v2, v3, v4, v5, v6, v7, gg, up_eq, kk _ _ _ _ y5 (by decide)⟩⟩
theorem Sc.hab {σ : PS} {A : Nat → Nat} {g : Nat → Option Nat} (h : Sc σ A) : Sc (up σ 105 (A 18) (.inr (6, .inr (.inr g)))) A := by
  obtain ⟨z, ⟨u1, u2, u3, u4, u5, u6, l2, y1, y2, y3⟩, ⟨w1, w2, w3, w4, w5, w6, w7, gg, y4, y5⟩⟩ := h
  have kk : ∀ κ a e' e, σ κ a = some e' → κ ≠ 105 → up σ 105 (A 18) e κ a = some e' := fun κ a e' e hh hn => (up_k hn).trans hh
  exact ⟨z.mv (fun κ x e hk hh => kk _ _ _ _ hh (by omega)), ⟨u1, u2, u3, u4, u5, u6, l2, kk _ _ _ _ y1 (by decide), kk _ _ _ _ y2 (by decide), y3⟩, ⟨w1, w2, w3, w4, w5, w6, w7, g, kk _ _ _ _ y4 (by decide), up_eq⟩⟩
theorem CI.sc {σ τ : PS} {A : Nat → Nat} {CA : Nat → Nat × Nat × Nat} {E : Nat × Nat × Option Nat × Nat × Nat × Nat × Nat} {T : TS} (h : CI σ A CA E T) (f : KpD (scr A) σ τ) (s : Sc τ A) : CI τ A CA E T := ⟨h.1.mv f, s, h.2.2⟩
theorem habq_up {σ : PS} {u : Option Nat} {l : List StT} {κ a : Nat} {e : aE} (h : HabQ σ u l) (hk : κ < 14 ∨ (25 < κ ∧ κ ≠ 106)) : HabQ (up σ κ a e) u l :=
  h.kept (fun κ' q1 q2 a' e' hh => (up_k (by omega)).trans hh) (fun a' e' hh => (up_k (by omega)).trans hh)
theorem c_asTold {G : GC} {σ : PS} {Q : Option Value → PS → Prop} {X : String → Nat → PS → Prop} {b : Nat} {A : Nat → Nat} {CA : Nat → Nat × Nat × Nat} {E : Nat × Nat × Option Nat × Nat × Nat × Nat × Nat} {T : TS} (hC : CI σ A CA E T) (k : ∀ τ, CI τ A CA E T → HwI τ A none (nI (tsK T 0).1 - 1) (-1) (tsO T 4) (tsO T 6) (-1) 0 (tsH T) → KpD (scr A) σ τ → Q (some (.ref (A 17))) τ) : Call G mX1_asTold 4 b [.ref (A 0)] σ Q X := by
  have hx := hC.1.x
  obtain ⟨hf, b1, b2, b3⟩ := hC.1.2.2.2.1
  obtain ⟨o1, -⟩ := hC.1.off
  obtain ⟨v1, v2, v3, v4, v5, v6, v7, g, y4, y5⟩ := hC.2.1.2.2
  refine eX1_asTold (bX1_asTold_0 ⟨A 17, ⟨_, hx, rfl⟩, A 9, ⟨_, hx, rfl⟩, E.1, ⟨_, hx, rfl⟩, (CA 0).1, ⟨_, hx, rfl⟩, _, ⟨_, (hC.1.cal (i := 0) (by decide)).1, rfl⟩, ⟨_, y4⟩, eX6_asTold (bX6_asTold_0 ⟨A 18, ⟨_, y4, rfl⟩, 6, 6, hf, g, b1, y5, fun i y hy => b3 i y hy, by decide, by decide, fun s1 hs1 => ?_⟩)⟩)
  subst hs1
  have K1 : KpD (scr A) σ (up σ 105 (A 18) (.inr (6, .inr (.inr (va_cpy hf g (0 : Int32).toNatClampNeg (0 : Int32).toNatClampNeg (6 : Int32).toNatClampNeg))))) := KpD.rf.up scr18
  have S1 : Sc (up σ 105 (A 18) (.inr (6, .inr (.inr (va_cpy hf g (0 : Int32).toNatClampNeg (0 : Int32).toNatClampNeg (6 : Int32).toNatClampNeg))))) A := hC.2.1.hab
  have h1 : (up σ 105 (A 18) (.inr (6, .inr (.inr (va_cpy hf g (0 : Int32).toNatClampNeg (0 : Int32).toNatClampNeg (6 : Int32).toNatClampNeg))))) 6 (A 17) = some (.inl [.ref (A 18), v1, v2, v3, v4, v5, v6, v7]) := (up_k (by decide)).trans y4
  have h2 : (up σ 105 (A 18) (.inr (6, .inr (.inr (va_cpy hf g (0 : Int32).toNatClampNeg (0 : Int32).toNatClampNeg (6 : Int32).toNatClampNeg))))) 105 (A 18) = some (.inr (6, .inr (.inr (va_cpy hf g (0 : Int32).toNatClampNeg (0 : Int32).toNatClampNeg (6 : Int32).toNatClampNeg)))) := up_eq
  revert K1 S1 h1 h2
  generalize (up σ 105 (A 18) (.inr (6, .inr (.inr (va_cpy hf g (0 : Int32).toNatClampNeg (0 : Int32).toNatClampNeg (6 : Int32).toNatClampNeg))))) = τ1
  intro K1 S1 h1 h2
  have o2 : τ1 7 E.1 = _ := K1 7 E.1 _ o1 (scr_not (by decide) (by decide) (by decide) (by decide) (by decide) (by decide) (by decide))
  refine ⟨_, h1, by simp, fun s2 hs2 => ?_⟩
  subst hs2
  refine ⟨_, up_eq, by simp, fun s2 hs2 => ?_⟩
  rw [up_up] at hs2
  subst hs2
  refine ⟨_, up_eq, by simp, fun s2 hs2 => ?_⟩
  rw [up_up] at hs2
  subst hs2
  refine ⟨_, ⟨_, (up_k (by decide)).trans o2, rfl⟩, _, up_eq, by simp, fun s2 hs2 => ?_⟩
  rw [up_up] at hs2
  subst hs2
  refine ⟨_, ⟨_, (up_k (by decide)).trans o2, rfl⟩, _, up_eq, by simp, fun s2 hs2 => ?_⟩
  rw [up_up] at hs2
  subst hs2
  refine ⟨_, up_eq, by simp, fun s2 hs2 => ?_⟩
  rw [up_up] at hs2
  subst hs2
  refine ⟨_, up_eq, by simp, fun s2 hs2 => ?_⟩
  rw [up_up] at hs2
  subst hs2
  have hcp : ∀ p, p < 6 → va_cpy hf g (0 : Int32).toNatClampNeg (0 : Int32).toNatClampNeg (6 : Int32).toNatClampNeg p = hf p := by
    intro p hp
    show va_cpy hf g 0 0 6 p = hf p
    rw [pk_cpy_in (Nat.zero_le p) (by omega)]
    simp
  have k14 : ∀ κ, 14 ≤ κ → κ ≤ 25 → Kp κ σ τ1 := fun κ q1 q2 a e hh => K1 κ a e hh (scr_not (by omega) (by omega) (by omega) (by omega) (by omega) (by omega) (by omega))
  have k106 : Kp 106 σ τ1 := fun a e hh => K1 106 a e hh (scr_not (by decide) (by decide) (by decide) (by decide) (by decide) (by decide) (by decide))
  refine ⟨_, rfl, k _ (hC.sc (K1.up scr17) (S1.how rfl)) ⟨up_eq, _, (up_k (by decide)).trans h2, fun p hp => ?_, fun p hp y hy => ?_⟩ (K1.up scr17)⟩
  · rw [hcp p hp]
    exact habq_up ((b2 p hp).kept k14 k106) (Or.inl (by decide))
  · rw [hcp p hp] at hy
    obtain ⟨vs, hv⟩ := b3 p y hy
    exact ⟨vs, (up_k (by decide)).trans (k14 14 (by decide) (by decide) _ _ hv)⟩
/-- a field of how set -/
theorem HwI.set {σ : PS} {A : Nat → Nat} {CA : Nat → Nat × Nat × Nat} {E : Nat × Nat × Option Nat × Nat × Nat × Nat × Nat} {T : TS} {bk bk' : Option Nat} {to wo to' wo' : Int32} {fall see fall' see' : Nat} {sta bg sta' bg' : Int32} {H : Nat → List StT} {e : aE} (hC : CI σ A CA E T) (h : HwI σ A bk to wo fall see sta bg H) (he : e = .inl [.ref (A 18), va_rf bk', .int to', .int wo', .int (nI fall'), .int (nI see'), .int sta', .int bg']) : CI (up σ 6 (A 17) e) A CA E T ∧ HwI (up σ 6 (A 17) e) A bk' to' wo' fall' see' sta' bg' H ∧ ∀ σ0, KpD (scr A) σ0 σ → KpD (scr A) σ0 (up σ 6 (A 17) e) := by
  subst he
  obtain ⟨h1, g, h2, h3, h4⟩ := h
  refine ⟨hC.sc (KpD.rf.up scr17) (hC.2.1.how rfl), ⟨up_eq, g, (up_k (by decide)).trans h2, fun p hp => habq_up (h3 p hp) (Or.inl (by decide)), fun p hp y hy => ?_⟩, fun σ0 hk => hk.up scr17⟩
  obtain ⟨vs, hv⟩ := h4 p hp y hy
  exact ⟨vs, (up_k (by decide)).trans hv⟩
theorem c_to {G : GC} {σ : PS} {Q : Option Value → PS → Prop} {X : String → Nat → PS → Prop} {b : Nat} {A : Nat → Nat} {CA : Nat → Nat × Nat × Nat} {E : Nat × Nat × Option Nat × Nat × Nat × Nat × Nat} {T : TS} {bk : Option Nat} {to wo x : Int32} {fall see : Nat} {sta bg : Int32} {H : Nat → List StT} (hC : CI σ A CA E T) (h : HwI σ A bk to wo fall see sta bg H) (k : ∀ τ, CI τ A CA E T → HwI τ A bk x wo fall see sta bg H → (∀ σ0, KpD (scr A) σ0 σ → KpD (scr A) σ0 τ) → Q (some (.ref (A 17))) τ) : Call G mX6_to 3 b [.ref (A 17), .int x] σ Q X := by
  refine eX6_to (bX6_to_0 ⟨_, h.1, by simp, fun s1 hs1 => ?_⟩)
  subst hs1
  obtain ⟨a, b, c⟩ := HwI.set (bk' := bk) (to' := x) (wo' := wo) (fall' := fall) (see' := see) (sta' := sta) (bg' := bg) hC h rfl
  exact k _ a b c
theorem c_without {G : GC} {σ : PS} {Q : Option Value → PS → Prop} {X : String → Nat → PS → Prop} {b : Nat} {A : Nat → Nat} {CA : Nat → Nat × Nat × Nat} {E : Nat × Nat × Option Nat × Nat × Nat × Nat × Nat} {T : TS} {bk : Option Nat} {to wo x : Int32} {fall see : Nat} {sta bg : Int32} {H : Nat → List StT} (hC : CI σ A CA E T) (h : HwI σ A bk to wo fall see sta bg H) (k : ∀ τ, CI τ A CA E T → HwI τ A bk to x fall see sta bg H → (∀ σ0, KpD (scr A) σ0 σ → KpD (scr A) σ0 τ) → Q (some (.ref (A 17))) τ) : Call G mX6_without 3 b [.ref (A 17), .int x] σ Q X := by
  refine eX6_without (bX6_without_0 ⟨_, h.1, by simp, fun s1 hs1 => ?_⟩)
  subst hs1
  obtain ⟨a, b, c⟩ := HwI.set (bk' := bk) (to' := to) (wo' := x) (fall' := fall) (see' := see) (sta' := sta) (bg' := bg) hC h rfl
  exact k _ a b c
theorem c_hgiven {G : GC} {σ : PS} {Q : Option Value → PS → Prop} {X : String → Nat → PS → Prop} {b : Nat} {A : Nat → Nat} {CA : Nat → Nat × Nat × Nat} {E : Nat × Nat × Option Nat × Nat × Nat × Nat × Nat} {T : TS} {bk : Option Nat} {x : Nat} {to wo : Int32} {fall see : Nat} {sta bg : Int32} {H : Nat → List StT} (hC : CI σ A CA E T) (h : HwI σ A bk to wo fall see sta bg H) (k : ∀ τ, CI τ A CA E T → HwI τ A (some x) to wo fall see sta bg H → (∀ σ0, KpD (scr A) σ0 σ → KpD (scr A) σ0 τ) → Q (some (.ref (A 17))) τ) : Call G mX6_given 3 b [.ref (A 17), .ref x] σ Q X := by
  refine eX6_given (bX6_given_0 ⟨_, h.1, by simp, fun s1 hs1 => ?_⟩)
  subst hs1
  obtain ⟨a, b, c⟩ := HwI.set (bk' := some x) (to' := to) (wo' := wo) (fall' := fall) (see' := see) (sta' := sta) (bg' := bg) hC h rfl
  exact k _ a b c
theorem c_hbegun {G : GC} {σ : PS} {Q : Option Value → PS → Prop} {X : String → Nat → PS → Prop} {b : Nat} {A : Nat → Nat} {CA : Nat → Nat × Nat × Nat} {E : Nat × Nat × Option Nat × Nat × Nat × Nat × Nat} {T : TS} {bk : Option Nat} {to wo : Int32} {fall see : Nat} {sta bg : Int32} {H : Nat → List StT} (hC : CI σ A CA E T) (h : HwI σ A bk to wo fall see sta bg H) (k : ∀ τ, CI τ A CA E T → HwI τ A bk to wo fall see sta 1 H → (∀ σ0, KpD (scr A) σ0 σ → KpD (scr A) σ0 τ) → Q (some (.ref (A 17))) τ) : Call G mX6_begun 3 b [.ref (A 17)] σ Q X := by
  refine eX6_begun (bX6_begun_0 ⟨_, h.1, by simp, fun s1 hs1 => ?_⟩)
  subst hs1
  obtain ⟨a, b, c⟩ := HwI.set (bk' := bk) (to' := to) (wo' := wo) (fall' := fall) (see' := see) (sta' := sta) (bg' := 1) hC h rfl
  exact k _ a b c
theorem up105 {σ : PS} {A : Nat → Nat} {CA : Nat → Nat × Nat × Nat} {E : Nat × Nat × Option Nat × Nat × Nat × Nat × Nat} {T : TS} {bk : Option Nat} {to wo : Int32} {fall see : Nat} {sta bg : Int32} {H' : Nat → List StT} {g g' : Nat → Option Nat} (hC : CI σ A CA E T) (h : HowO σ (A 17) (A 18) bk to wo fall see sta bg) (h2 : σ 105 (A 18) = some (.inr (6, .inr (.inr g)))) (h3 : ∀ p, p < 6 → HabQ σ (g' p) (H' p)) (h4 : ∀ p, p < 6 → ∀ y, g' p = some y → ∃ vs, σ 14 y = some (.inl vs)) : CI (up σ 105 (A 18) (.inr (6, .inr (.inr g')))) A CA E T ∧ HwI (up σ 105 (A 18) (.inr (6, .inr (.inr g')))) A bk to wo fall see sta bg H' ∧ ∀ σ0, KpD (scr A) σ0 σ → KpD (scr A) σ0 (up σ 105 (A 18) (.inr (6, .inr (.inr g')))) := by
  refine ⟨hC.sc (KpD.rf.up scr18) hC.2.1.hab, ⟨(up_k (by decide)).trans h, g', up_eq, fun p hp => habq_up (h3 p hp) (Or.inr (by decide)), fun p hp y hy => ?_⟩, fun σ0 hk => hk.up scr18⟩
  obtain ⟨vs, hv⟩ := h4 p hp y hy
  exact ⟨vs, (up_k (by decide)).trans hv⟩
theorem c_hswapped {G : GC} {σ : PS} {Q : Option Value → PS → Prop} {X : String → Nat → PS → Prop} {b : Nat} {A : Nat → Nat} {CA : Nat → Nat × Nat × Nat} {E : Nat × Nat × Option Nat × Nat × Nat × Nat × Nat} {T : TS} {bk : Option Nat} {to wo : Int32} {fall see p q : Nat} {sta bg : Int32} {H : Nat → List StT} (hp : p < 6) (hq : q < 6) (hC : CI σ A CA E T) (h : HwI σ A bk to wo fall see sta bg H) (k : ∀ τ, CI τ A CA E T → HwI τ A bk to wo fall see sta bg (swH H p q) → (∀ σ0, KpD (scr A) σ0 σ → KpD (scr A) σ0 τ) → Q (some (.ref (A 17))) τ) : Call G mX6_swapped 3 b [.ref (A 17), .int (nI p), .int (nI q)] σ Q X := by
  obtain ⟨h1, g, h2, h3, h4⟩ := h
  have cp := nI_clamp (show p < 2 ^ 31 by omega)
  have cq := nI_clamp (show q < 2 ^ 31 by omega)
  have pp := vp_in_nI hp (by decide)
  have pq := vp_in_nI hq (by decide)
  refine eX6_swapped (bX6_swapped_0 ⟨A 18, ⟨_, h1, rfl⟩, 6, g, h2, pp, A 18, ⟨_, h1, rfl⟩, A 18, ⟨_, h1, rfl⟩, 6, g, h2, pq, 6, g, h2, ?_⟩)
  rw [cp, cq]
  refine ⟨fun y hy => h4 q hq y hy, pp, fun s1 hs1 => ?_⟩
  subst hs1
  refine ⟨A 18, ⟨_, (up_k (by decide)).trans h1, rfl⟩, 6, _, up_eq, fun y hy => ?_, pq, fun s2 hs2 => ?_⟩
  · obtain ⟨vs, hv⟩ := h4 p hp y hy
    exact ⟨vs, (up_k (by decide)).trans hv⟩
  · rw [up_up] at hs2
    subst hs2
    have hg : ∀ x, va_up (va_up g p (g q)) q (g p) x = if x = q then g p else if x = p then g q else g x := by
      intro x
      unfold va_up
      rfl
    have hA : ∀ x, x < 6 → HabQ σ (va_up (va_up g p (g q)) q (g p) x) (swH H p q x) := by
      intro x hx
      rw [hg]
      unfold swH
      by_cases z1 : x = p
      · by_cases z2 : x = q
        · rw [if_pos z2, if_pos z1, ← z2, z1]
          exact h3 p hp
        · rw [if_neg z2, if_pos z1, if_pos z1]
          exact h3 q hq
      · by_cases z2 : x = q
        · rw [if_pos z2, if_neg z1, if_pos z2]
          exact h3 p hp
        · rw [if_neg z2, if_neg z1, if_neg z1, if_neg z2]
          exact h3 x hx
    have hB : ∀ x, x < 6 → ∀ y, va_up (va_up g p (g q)) q (g p) x = some y → ∃ vs, σ 14 y = some (.inl vs) := by
      intro x hx y hy
      rw [hg] at hy
      split at hy
      · exact h4 p hp y hy
      · split at hy
        · exact h4 q hq y hy
        · exact h4 x hx y hy
    obtain ⟨a, b, c⟩ := up105 hC h1 h2 hA hB
    exact k _ a b c
theorem c_hruled {G : GC} {σ : PS} {Q : Option Value → PS → Prop} {X : String → Nat → PS → Prop} {b : Nat} {A : Nat → Nat} {CA : Nat → Nat × Nat × Nat} {E : Nat × Nat × Option Nat × Nat × Nat × Nat × Nat} {T : TS} {bk : Option Nat} {to wo : Int32} {fall see : Nat} {sta bg : Int32} {H : Nat → List StT} (hC : CI σ A CA E T) (h : HwI σ A bk to wo fall see sta bg H) (k : ∀ τ, CI τ A CA E T → HwI τ A bk to wo fall see sta bg (fun _ => tsH T 6) → (∀ σ0, KpD (scr A) σ0 σ → KpD (scr A) σ0 τ) → Q (some (.ref (A 17))) τ) : Call G mX6_ruled 3 b [.ref (A 17), va_rf E.2.2.1] σ Q X := by
  have L : ∀ d i, i + d = 6 → ∀ τ, CI τ A CA E T → HwI τ A bk to wo fall see sta bg (fun p => if p < i then tsH T 6 else H p) → (∀ σ0, KpD (scr A) σ0 σ → KpD (scr A) σ0 τ) → At G mX6_ruled 3 Q X b 2 [(0, .ref (A 17)), (1, va_rf E.2.2.1), (2, .int (nI i))] [] τ := by
    intro d
    induction d with
    | zero =>
      intro i hi τ hC h hK
      have hi : i = 6 := by omega
      subst hi
      obtain ⟨h1, g, h2, h3, h4⟩ := h
      refine bX6_ruled_2 ⟨fun _ => k τ hC ⟨h1, g, h2, fun p hp => ?_, h4⟩ hK, fun q => absurd (nI_le (a := 6) (Nat.le_refl _) (by decide)) q⟩
      have := h3 p hp
      dsimp only at this
      rw [if_pos hp] at this
      exact this
    | succ d ih =>
      intro i hi τ hC h hK
      obtain ⟨h1, g, h2, h3, h4⟩ := h
      have hr := hC.1.2.2.1
      refine bX6_ruled_2 ⟨fun q => absurd q (nI_ge (b := 6) (by omega) (by decide)), fun _ => ⟨A 18, ⟨_, h1, rfl⟩, 6, g, h2, fun y hy => hr.2 y hy, vp_in_nI (by omega) (by decide), fun s1 hs1 v2 e2 => ?_⟩⟩
      subst hs1
      rw [e2, nI_1, nI_clamp (by omega)]
      have hA : ∀ x, x < 6 → HabQ τ (va_up g i E.2.2.1 x) ((fun p => if p < i + 1 then tsH T 6 else H p) x) := by
        intro x hx
        dsimp only
        unfold va_up
        by_cases z : x = i
        · rw [if_pos z, if_pos (by omega)]
          exact hr.1
        · rw [if_neg z]
          have := h3 x hx
          dsimp only at this
          by_cases z2 : x < i
          · rw [if_pos z2] at this
            rw [if_pos (by omega)]
            exact this
          · rw [if_neg z2] at this
            rw [if_neg (by omega)]
            exact this
      have hB : ∀ x, x < 6 → ∀ y, va_up g i E.2.2.1 x = some y → ∃ vs, τ 14 y = some (.inl vs) := by
        intro x hx y hy
        unfold va_up at hy
        split at hy
        · exact hr.2 y hy
        · exact h4 x hx y hy
      obtain ⟨a, b, c⟩ := up105 hC h1 h2 hA hB
      exact ih (i + 1) (by omega) _ a b (fun σ0 h0 => c σ0 (hK σ0 h0))
  refine eX6_ruled (bX6_ruled_0 (L 6 0 (by omega) σ hC ?_ (fun _ h0 => h0)))
  obtain ⟨h1, g, h2, h3, h4⟩ := h
  exact ⟨h1, g, h2, fun p hp => by dsimp only; rw [if_neg (by omega)]; exact h3 p hp, h4⟩
