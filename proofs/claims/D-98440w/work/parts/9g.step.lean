/-! Part B: the component's reader of habits: steps -/
abbrev nup (σ : PS) (κ a : Nat) (e : aE) : PS := up σ κ a e
theorem KpD.upf {D : Nat → Nat → Prop} {σ τ : PS} {κ q : Nat} {e : aE} (h : KpD D σ τ) (hq : ∀ κ, σ κ q = none) : KpD D σ (nup τ κ q e) := fun κ' a' e' h' n => by
  show nup τ κ q e κ' a' = _
  unfold nup
  rw [up_ne]
  · exact h κ' a' e' h' n
  · by_cases c : a' = q
    · subst c
      rw [hq] at h'
      cases h'
    · exact Or.inr c
theorem nw_fr {σ τ : PS} {κ0 q : Nat} {e : aE} (hq : ∀ κ, σ κ q = none) (f : Fr (fun κ x => κ = κ0 ∧ x = q) (up σ κ0 q e) τ) : ∀ κ a e', σ κ a = some e' → τ κ a = some e' := fun κ a e' hh => by
  have na : ¬ (κ = κ0 ∧ a = q) := fun w => by
    rw [w.2, hq] at hh
    cases hh
  rw [f κ a na]
  exact nw_al hq κ a e' hh
theorem k_st19 {G : GC} {σ : PS} {Q : Option Value → PS → Prop} {X : String → Nat → PS → Prop} {b κ0 q : Nat} {x : Int32} {u : Option Nat} {l0 l1 : Value} {lr : List Value} (hκ : 20 ≤ κ0 ∧ κ0 ≤ 25) (h : σ κ0 q = some (.inl (l0 :: l1 :: lr))) (k : ∀ τ, τ κ0 q = some (.inl (.int x :: va_rf u :: lr)) → Fr (fun κ y => κ = κ0 ∧ y = q) σ τ → Q none τ) : Call G mX19_init 4 b [.ref q, .int x, va_rf u] σ Q X := by
  refine eX19_init hκ (bX19_init_0 hκ ⟨_, h, by simp, fun s1 e1 => ?_⟩)
  subst e1
  refine ⟨_, up_eq, by simp, fun s2 e2 => ?_⟩
  subst e2
  exact k _ up_eq ((Fr.rf.up ⟨rfl, rfl⟩).up ⟨rfl, rfl⟩)
theorem k_st25 {G : GC} {σ : PS} {Q : Option Value → PS → Prop} {X : String → Nat → PS → Prop} {b q : Nat} {x y : Int32} {u : Option Nat} {l0 l1 l2 : Value} (h : σ 25 q = some (.inl [l0, l1, l2])) (k : ∀ τ, τ 25 q = some (.inl [.int x, va_rf u, .int y]) → Fr (fun κ y => κ = 25 ∧ y = q) σ τ → Q none τ) : Call G mX25_init 5 b [.ref q, .int x, va_rf u, .int y] σ Q X := by
  refine eX25_init (bX25_init_0 (k_st19 (κ0 := 25) (by decide) h (fun τ h1 hF => ⟨rfl, _, h1, by simp, fun s2 e2 => ?_⟩)))
  subst e2
  exact k _ up_eq (hF.up ⟨rfl, rfl⟩)
theorem k_step {G : GC} {σ : PS} {Q : Option Value → PS → Prop} {X : String → Nat → PS → Prop} {b k w : Nat} {u : Option Nat} {cs : CS} (hb : 1 ≤ b) (hk : k < 8) (hu : tstAt σ u cs) (kq : ∀ q τ, StpO τ q (k, w, cs) → (∀ κ a e, σ κ a = some e → τ κ a = some e) → (∃ vs, τ (kOf k) q = some (.inl vs)) → Q (some (.ref q)) τ) : Call G mX13_step 6 b [.int (nI k), .int (nI w), va_rf u] σ Q X := by
  refine eX13_step (bX13_step_0 ?_)
  have fin : ∀ q τ, (∀ κ a e, σ κ a = some e → τ κ a = some e) → τ (kOf k) q = some (.inl (.int (nI w) :: va_rf u :: if 5 ≤ k then [.int (nI (says k))] else [])) → Q (some (.ref q)) τ := fun q τ al h1 => kq q τ ⟨u, hu.kept (fun κ _ _ a e hh => al κ a e hh), h1⟩ al ⟨_, h1⟩
  match k, hk, fin with
  | 0, _, fin => exact ⟨fun z => absurd z (by decide), fun _ => ⟨hb, fun q hq s1 e1 => by
      subst e1
      exact eX20_init (bX20_init_0 (k_st19 (κ0 := 20) (by decide) up_eq (fun τ h1 hF => ⟨rfl, rfl, fin q τ (nw_fr hq hF) h1⟩)))⟩, fun z => absurd z (by decide), fun z => absurd z (by decide), fun z => absurd z (by decide), fun z => absurd z (by decide), fun z => absurd z (by decide), fun z => absurd z (by decide)⟩
  | 1, _, fin => exact ⟨fun z => absurd z (by decide), fun z => absurd z (by decide), fun _ => ⟨hb, fun q hq s1 e1 => by
      subst e1
      exact eX21_init (bX21_init_0 (k_st19 (κ0 := 21) (by decide) up_eq (fun τ h1 hF => ⟨rfl, rfl, fin q τ (nw_fr hq hF) h1⟩)))⟩, fun z => absurd z (by decide), fun z => absurd z (by decide), fun z => absurd z (by decide), fun z => absurd z (by decide), fun z => absurd z (by decide)⟩
  | 2, _, fin => exact ⟨fun z => absurd z (by decide), fun z => absurd z (by decide), fun z => absurd z (by decide), fun _ => ⟨hb, fun q hq s1 e1 => by
      subst e1
      exact eX22_init (bX22_init_0 (k_st19 (κ0 := 22) (by decide) up_eq (fun τ h1 hF => ⟨rfl, rfl, fin q τ (nw_fr hq hF) h1⟩)))⟩, fun z => absurd z (by decide), fun z => absurd z (by decide), fun z => absurd z (by decide), fun z => absurd z (by decide)⟩
  | 3, _, fin => exact ⟨fun z => absurd z (by decide), fun z => absurd z (by decide), fun z => absurd z (by decide), fun z => absurd z (by decide), fun _ => ⟨hb, fun q hq s1 e1 => by
      subst e1
      exact eX23_init (bX23_init_0 (k_st19 (κ0 := 23) (by decide) up_eq (fun τ h1 hF => ⟨rfl, rfl, fin q τ (nw_fr hq hF) h1⟩)))⟩, fun z => absurd z (by decide), fun z => absurd z (by decide), fun z => absurd z (by decide)⟩
  | 4, _, fin => exact ⟨fun z => absurd z (by decide), fun z => absurd z (by decide), fun z => absurd z (by decide), fun z => absurd z (by decide), fun z => absurd z (by decide), fun _ => ⟨hb, fun q hq s1 e1 => by
      subst e1
      exact eX24_init (bX24_init_0 (k_st19 (κ0 := 24) (by decide) up_eq (fun τ h1 hF => ⟨rfl, rfl, fin q τ (nw_fr hq hF) h1⟩)))⟩, fun z => absurd z (by decide), fun z => absurd z (by decide)⟩
  | 5, _, fin => exact ⟨fun z => absurd z (by decide), fun z => absurd z (by decide), fun z => absurd z (by decide), fun z => absurd z (by decide), fun z => absurd z (by decide), fun z => absurd z (by decide), fun _ => ⟨hb, fun q hq s1 e1 => by
      subst e1
      exact k_st25 (y := 1) up_eq (fun τ h1 hF => ⟨rfl, fin q τ (nw_fr hq hF) h1⟩)⟩, fun z => absurd z (by decide)⟩
  | 6, _, fin => exact ⟨fun z => absurd z (by decide), fun z => absurd z (by decide), fun z => absurd z (by decide), fun z => absurd z (by decide), fun z => absurd z (by decide), fun z => absurd z (by decide), fun z => absurd z (by decide), fun _ => ⟨hb, fun q hq s1 e1 => by
      subst e1
      exact k_st25 (y := 0) up_eq (fun τ h1 hF => ⟨rfl, fin q τ (nw_fr hq hF) h1⟩)⟩⟩
  | 7, _, fin => exact ⟨fun _ => ⟨hb, fun q hq s1 e1 => by
      subst e1
      exact k_st25 (y := 2) up_eq (fun τ h1 hF => ⟨rfl, fin q τ (nw_fr hq hF) h1⟩)⟩, fun z => absurd z (by decide), fun z => absurd z (by decide), fun z => absurd z (by decide), fun z => absurd z (by decide), fun z => absurd z (by decide), fun z => absurd z (by decide), fun z => absurd z (by decide)⟩
/-- a habit g, its row ar -/
def HabP (σ : PS) (g ar : Nat) (L : List StT) : Prop := σ 14 g = some (.inl [.ref ar, .int (nI L.length)]) ∧ L.length ≤ 8 ∧ ∃ f, σ 106 ar = some (.inr (8, .inr (.inr f))) ∧ ∀ i S, L[i]? = some S → stOK S ∧ ∃ q, f i = some q ∧ StpO σ q S
theorem HabP.o {σ : PS} {g ar : Nat} {L : List StT} (h : HabP σ g ar L) : HabO σ g L := ⟨ar, h⟩
theorem HabP.kp {σ τ : PS} {g ar r : Nat} {L : List StT} (h : HabP σ g ar L) (k : KpD (RdD r) σ τ) : HabP τ g ar L := by
  obtain ⟨h1, h2, f, h3, h4⟩ := h
  refine ⟨k _ _ _ h1 (fun w => absurd w.1 (by decide)), h2, f, k _ _ _ h3 (fun w => absurd w.1 (by decide)), fun i S hi => ?_⟩
  obtain ⟨s1, q, s2, s3⟩ := h4 i S hi
  exact ⟨s1, q, s2, s3.kept (fun κ q1 q2 a e hh => k κ a e hh (fun w => by
    have := w.1
    omega))⟩
theorem tstAt.kp {σ τ : PS} {r : Nat} {u : Option Nat} {cs : CS} (h : tstAt σ u cs) (k : KpD (RdD r) σ τ) : tstAt τ u cs := h.kept (fun κ q1 q2 a e hh => k κ a e hh (fun w => by
  have := w.1
  omega))
theorem pHab_e {t : Nat → Nat} {n f a : Nat} {l : List StT} (h : ¬ sk t n a < n) : pHab t n (f + 1) l a = .inr (l, sk t n a) := by rw [pHab, if_neg h]
theorem pHab_s {t : Nat → Nat} {n f a : Nat} {l : List StT} (h : sk t n a < n) : pHab t n (f + 1) l a = bnd (pStep t n a l.length) (fun S a1 => pHab t n f (l ++ [S]) a1) := by rw [pHab, if_pos h]
/-- a step's end, its test, its odds -/
def stE (t : Nat → Nat) (n k q : Nat) (c : CS) (a2 : Nat) : PR StT := bnd (sgU t n 59 a2) (fun _ a3 => .inr ((k, q, c), a3))
def stF (t : Nat → Nat) (n a1 : Nat) : PR CS := if wd t n (sk t n a1) = [105, 102] then pAny t n (sk t n a1 + 2) else .inr ([], sk t n a1)
def stB (t : Nat → Nat) (n a1 : Nat) : PR Nat := if wd t n (sk t n a1) = [98, 121] then nm t n 1 17 (sk t n a1 + 2) else .inr (0, sk t n a1)
def stW (t : Nat → Nat) (n k a1 : Nat) : PR StT := bnd (stB t n a1) (fun q a1 => bnd (stF t n a1) (fun c a2 => stE t n k q c a2))
theorem pStep_n {t : Nat → Nat} {n a m : Nat} (h : idx (wd t n (sk t n a)) acW 0 = none) : pStep t n a m = .inl (1, sk t n a) := by
  unfold pStep
  rw [h]
theorem pStep_8 {t : Nat → Nat} {n a k : Nat} (h : idx (wd t n (sk t n a)) acW 0 = some k) : pStep t n a 8 = .inl (3, sk t n a) := by
  unfold pStep
  rw [h]
  exact if_pos rfl
theorem pStep_k {t : Nat → Nat} {n a m k : Nat} (h : idx (wd t n (sk t n a)) acW 0 = some k) (hm : m ≠ 8) : pStep t n a m = stW t n k (sk t n a + (wd t n (sk t n a)).length) := by
  unfold pStep
  rw [h]
  exact if_neg hm
theorem stE_ge {t : Nat → Nat} {n k q a2 : Nat} {c : CS} (ha : a2 ≤ n) : ∀ S a3, stE t n k q c a2 = .inr (S, a3) → sg t n 59 a2 ∧ a3 = sk t n a2 + 1 ∧ a3 ≤ n ∧ a2 ≤ a3 ∧ S = (k, q, c) := by
  intro S a3 h
  obtain ⟨u, a4, h1, h2⟩ := bnd_ok h
  cases h2
  have z := sgU_gd h1
  have y := sk_b (t := t) ha
  exact ⟨z.1, z.2.1, z.2.2, by omega, rfl⟩
theorem stF_ge {t : Nat → Nat} {n a1 : Nat} (ha : a1 ≤ n) : ∀ c a2, stF t n a1 = .inr (c, a2) → a1 + c.length ≤ a2 ∧ a2 ≤ n ∧ (c = [] ∨ WT c.length true c) := by
  intro c a2 h
  have y := sk_b (t := t) ha
  unfold stF at h
  split at h
  · rename_i q
    have hl := wd_le (t := t) y.2.1
    rw [q] at hl
    have hl2 : sk t n a1 + 2 ≤ n := hl
    have r := pAny_gd _ hl2 c a2 h
    exact ⟨by omega, r.2.1, Or.inr r.2.2⟩
  · cases h
    exact ⟨y.1, y.2.1, Or.inl rfl⟩
theorem stB_ge {t : Nat → Nat} {n a1 : Nat} (ha : a1 ≤ n) : ∀ q a2, stB t n a1 = .inr (q, a2) → a1 ≤ a2 ∧ a2 ≤ n ∧ q ≤ 16 := by
  intro q a2 h
  have y := sk_b (t := t) ha
  unfold stB at h
  split at h
  · rename_i z
    have hl := wd_le (t := t) y.2.1
    rw [z] at hl
    have hl2 : sk t n a1 + 2 ≤ n := hl
    have r := nm_gd hl2 h
    have y2 := sk_b (t := t) hl2
    exact ⟨by omega, r.2.1, by omega⟩
  · cases h
    exact ⟨y.1, y.2.1, Nat.zero_le _⟩
theorem stW_ge {t : Nat → Nat} {n k a1 : Nat} (ha : a1 ≤ n) : ∀ S a3, stW t n k a1 = .inr (S, a3) → a1 + S.2.2.length ≤ a3 ∧ a3 ≤ n ∧ S.1 = k ∧ S.2.1 ≤ 16 ∧ (S.2.2 = [] ∨ WT S.2.2.length true S.2.2) := by
  intro S a3 h
  obtain ⟨q, a2, h1, h2⟩ := bnd_ok h
  obtain ⟨c, a4, h3, h4⟩ := bnd_ok h2
  have g1 := stB_ge ha _ _ h1
  have g2 := stF_ge g1.2.1 _ _ h3
  have g3 := stE_ge g2.2.1 _ _ h4
  rw [g3.2.2.2.2]
  exact ⟨by
    show a1 + c.length ≤ a3
    omega, g3.2.2.1, rfl, g1.2.2, g2.2.2⟩
theorem pStep_ge {t : Nat → Nat} {n a m : Nat} (ha : a ≤ n) : ∀ S a3, pStep t n a m = .inr (S, a3) → a + 1 + S.2.2.length ≤ a3 ∧ a3 ≤ n ∧ m ≠ 8 ∧ stOK S ∧ (S.2.2 = [] ∨ WT S.2.2.length true S.2.2) := by
  intro S a3 h
  have hs := sk_b (t := t) ha
  cases hi : idx (wd t n (sk t n a)) acW 0 with
  | none =>
    rw [pStep_n hi] at h
    cases h
  | some k =>
    by_cases hm : m = 8
    · rw [hm, pStep_8 hi] at h
      cases h
    · rw [pStep_k hi hm] at h
      have hl := wd_le (t := t) hs.2.1
      have hp := idx_pos acW_pos hi
      have hk : k < 8 := (idx_lt hi).1
      have g := stW_ge hl _ _ h
      refine ⟨by omega, g.2.1, hm, ⟨?_, g.2.2.2.1⟩, g.2.2.2.2⟩
      rw [g.2.2.1]
      omega
theorem pHab_ge {t : Nat → Nat} {n : Nat} : ∀ (f : Nat) (l : List StT) (a : Nat), a ≤ n → ∀ l' a', pHab t n f l a = .inr (l', a') → a ≤ a' ∧ a' ≤ n := by
  intro f
  induction f with
  | zero =>
    intro l a ha l' a' h
    cases h
    exact ⟨Nat.le_refl _, ha⟩
  | succ f ih =>
    intro l a ha l' a' h
    have hs := sk_b (t := t) ha
    by_cases q : sk t n a < n
    · rw [pHab_s q] at h
      obtain ⟨S, a1, h1, h2⟩ := bnd_ok h
      have g := pStep_ge ha _ _ h1
      have r := ih _ a1 g.2.1 _ _ h2
      exact ⟨by omega, r.2⟩
    · rw [pHab_e q] at h
      cases h
      exact ⟨hs.1, hs.2.1⟩
