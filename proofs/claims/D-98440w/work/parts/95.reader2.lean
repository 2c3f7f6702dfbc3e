/-! Part B: the component's reader: what is wrong, numbers, signs -/
/-- what is wrong, and where -/
def WrO (σ : PS) (q why where9 : Nat) : Prop := ∃ v0 v1 v2 v3 v4 v5, σ 12 q = some (.inl [v0, v1, v2, v3, v4, v5, .int (nI why), .int (nI where9)])
theorem k_wrong {G : GC} {σ : PS} {Q : Option Value → PS → Prop} {X : String → Nat → PS → Prop} {b q why where9 : Nat} {l0 l1 l2 l3 l4 l5 l6 l7 : Value} (h : σ 12 q = some (.inl [l0, l1, l2, l3, l4, l5, l6, l7])) (k : ∀ τ, WrO τ q why where9 → Fr (fun κ x => κ = 12 ∧ x = q) σ τ → Q none τ) : Call G mX12_init 6 b [.ref q, .int (nI why), .int (nI where9)] σ Q X := by
  refine eX12_init (bX12_init_0 (eJ1_init_2 (bJ1_init_2_0 (u1 := none) (u2 := none) (eJ0_init_2 (bJ0_init_2_0 (u1 := none) (u2 := none) ⟨_, h, by simp, fun s1 e1 x => ?_⟩)))))
  subst e1
  refine ⟨_, up_eq, by simp, fun s2 e2 y => ?_⟩
  subst e2
  refine ⟨_, up_eq, by simp, fun s3 e3 => ⟨fun _ => ?_, fun z => absurd rfl z⟩⟩
  subst e3
  refine ⟨_, up_eq, by simp, fun s4 e4 => ?_⟩
  subst e4
  refine ⟨_, up_eq, by simp, fun s5 e5 => ?_⟩
  subst e5
  refine ⟨_, up_eq, by simp, fun s6 e6 => ⟨fun z => absurd rfl z, fun _ => ?_⟩⟩
  subst e6
  refine ⟨_, up_eq, by simp, fun s7 e7 => ⟨rfl, ⟨rfl, ?_⟩⟩⟩
  subst e7
  refine ⟨_, up_eq, by simp, fun s8 e8 => ?_⟩
  subst e8
  refine ⟨_, up_eq, by simp, fun s9 e9 => ?_⟩
  subst e9
  exact k _ ⟨_, _, _, _, _, _, up_eq⟩ (((((((((Fr.rf.up ⟨rfl, rfl⟩).up ⟨rfl, rfl⟩).up ⟨rfl, rfl⟩).up ⟨rfl, rfl⟩).up ⟨rfl, rfl⟩).up ⟨rfl, rfl⟩).up ⟨rfl, rfl⟩).up ⟨rfl, rfl⟩).up ⟨rfl, rfl⟩)
/-- a fresh one is thrown -/
def Thr (X : String → Nat → PS → Prop) (r : Nat) (σ : PS) (why where9 : Nat) : Prop := ∀ q τ, WrO τ q why where9 → KpD (RdD r) σ τ → X "CardCups$Wrong" q τ
theorem fresh_kp {σ τ : PS} {r q : Nat} {e : aE} (hq : ∀ κ, σ κ q = none) (f : Fr (fun κ x => κ = 12 ∧ x = q) (up σ 12 q e) τ) : KpD (RdD r) σ τ := fun κ a e' hh _ => by
  have na : ¬ (κ = 12 ∧ a = q) := fun w => by
    rw [w.2, hq] at hh
    cases hh
  rw [f κ a na, up_ne (by
    by_cases z : a = q
    · rw [z, hq] at hh
      cases hh
    · exact Or.inr z)]
  exact hh
theorem k_place {G : GC} {σ : PS} {Q : Option Value → PS → Prop} {X : String → Nat → PS → Prop} {b r tb n a o : Nat} {t : Nat → Nat} (h : RdO σ r tb t n a o) (k : ∀ τ, RdO τ r tb t n (sk t n a) o → Fr (RdD r) σ τ → Q (some (.int (nI (sk t n a)))) τ) : Call G mX11_place 5 b [.ref r] σ Q X :=
  eX11_place (bX11_place_0 ⟨⟨_, h.1⟩, k_now h (fun τ hO hF => ⟨_, rfl, _, ⟨_, hO.1, rfl⟩, k τ hO hF⟩)⟩)
theorem k_isDigit {G : GC} {σ : PS} {t : Nat → Nat} {n k : Nat} {P : Option Value → Prop} (ht : ∀ i, i < n → t i < 256) (kq : P (some (.int (if k < n ∧ digit (t k) then 1 else 0)))) : CallO G mX11_isDigit 3 [.int (bt t n k)] σ P := by
  refine eX11_isDigit (bX11_isDigit_0 ?_)
  by_cases h : k < n
  · have := ht k h
    rw [bt_lt h]
    refine ⟨fun z => ⟨rfl, ?_⟩, fun z => ⟨fun y => ⟨rfl, ?_⟩, fun y => ⟨rfl, ?_⟩⟩⟩
    · have z1 := (nI_ltI (b := 48) (by omega) (by decide)).mp z
      rw [if_neg (fun w => by
        have := w.2.1
        omega)] at kq
      exact kq
    · have y1 := (nI_ltI (a := 57) (by decide) (by omega)).mp y
      rw [if_neg (fun w => by
        have := w.2.2
        omega)] at kq
      exact kq
    · have z1 : ¬ t k < 48 := fun u => z ((nI_ltI (b := 48) (by omega) (by decide)).mpr u)
      have y1 : ¬ 57 < t k := fun u => y ((nI_ltI (a := 57) (by decide) (by omega)).mpr u)
      rw [if_pos ⟨h, by omega, by omega⟩] at kq
      exact kq
  · rw [bt_ge (by omega)]
    rw [if_neg (fun w => h w.1)] at kq
    exact ⟨fun _ => ⟨rfl, kq⟩, fun z => absurd (by decide) z⟩
theorem k_isSmall {G : GC} {σ : PS} {t : Nat → Nat} {n k : Nat} {P : Option Value → Prop} (ht : ∀ i, i < n → t i < 256) (kq : P (some (.int (if k < n ∧ small (t k) then 1 else 0)))) : CallO G mX11_isSmall 3 [.int (bt t n k)] σ P := by
  refine eX11_isSmall (bX11_isSmall_0 ?_)
  by_cases h : k < n
  · have := ht k h
    rw [bt_lt h]
    refine ⟨fun z => ⟨rfl, ?_⟩, fun z => ⟨fun y => ⟨rfl, ?_⟩, fun y => ⟨rfl, ?_⟩⟩⟩
    · have z1 := (nI_ltI (b := 97) (by omega) (by decide)).mp z
      rw [if_neg (fun w => by
        have := w.2.1
        omega)] at kq
      exact kq
    · have y1 := (nI_ltI (a := 122) (by decide) (by omega)).mp y
      rw [if_neg (fun w => by
        have := w.2.2
        omega)] at kq
      exact kq
    · have z1 : ¬ t k < 97 := fun u => z ((nI_ltI (b := 97) (by omega) (by decide)).mpr u)
      have y1 : ¬ 122 < t k := fun u => y ((nI_ltI (a := 122) (by decide) (by omega)).mpr u)
      rw [if_pos ⟨h, by omega, by omega⟩] at kq
      exact kq
  · rw [bt_ge (by omega)]
    rw [if_neg (fun w => h w.1)] at kq
    exact ⟨fun _ => ⟨rfl, kq⟩, fun z => absurd (by decide) z⟩
