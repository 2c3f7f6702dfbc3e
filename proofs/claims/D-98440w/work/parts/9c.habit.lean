/-! Part B: the component's reader of habits: terms -/
def HRO (G : GC) (σ : PS) (h r : Nat) : Prop := ∃ wa wk, σ 13 h = some (.inl [.ref wa, .ref wk, .ref r]) ∧ WsO G σ wa 9 8 ∧ WsO G σ wk 17 8
theorem WsO.kp {G : GC} {σ τ : PS} {a i n r : Nat} (h : WsO G σ a i n) (k : KpD (RdD r) σ τ) : WsO G τ a i n := by
  obtain ⟨f, h1, h2⟩ := h
  exact ⟨f, k _ _ _ h1 (fun w => absurd w.1 (by decide)), h2⟩
theorem HRO.kp {G : GC} {σ τ : PS} {h r r' : Nat} (H : HRO G σ h r) (k : KpD (RdD r') σ τ) : HRO G τ h r := by
  obtain ⟨wa, wk, h1, h2, h3⟩ := H
  exact ⟨wa, wk, k _ _ _ h1 (fun w => absurd w.1 (by decide)), h2.kp k, h3.kp k⟩
theorem HRO.ob {G : GC} {σ : PS} {h r : Nat} (H : HRO G σ h r) : ∃ fs, Ob σ 13 h fs := by
  obtain ⟨wa, wk, h1, -⟩ := H
  exact ⟨_, h1⟩
theorem HRO.fg {G : GC} {σ : PS} {h r : Nat} (H : HRO G σ h r) : Fg σ 13 h 2 (.ref r) := by
  obtain ⟨wa, wk, h1, -⟩ := H
  exact ⟨_, h1, rfl⟩
theorem TermAt.kp {d : Nat} {σ τ : PS} {a r : Nat} {cs : CS} (h : TermAt d σ a cs) (k : KpD (RdD r) σ τ) : TermAt d τ a cs := h.kept (fun κ q1 q2 a e hh => k κ a e hh (fun w => by
  have := w.1
  omega))
theorem nw_al {σ : PS} {κ0 q : Nat} {e0 : aE} (hq : ∀ κ, σ κ q = none) : ∀ κ a e, σ κ a = some e → up σ κ0 q e0 κ a = some e := fun κ a e hh => KpD.nw (D := fun _ _ => False) hq κ a e hh id
theorem RdO.al {σ τ : PS} {r b n a o : Nat} {t : Nat → Nat} (h : RdO σ r b t n a o) (k : ∀ κ a e, σ κ a = some e → τ κ a = some e) : RdO τ r b t n a o := by
  obtain ⟨h1, ⟨ft, h2, h3⟩, h4⟩ := h
  exact ⟨k _ _ _ h1, ⟨ft, k _ _ _ h2, h3⟩, h4⟩
theorem RdO.fr {σ τ : PS} {r b n a o κ0 q : Nat} {t : Nat → Nat} (h : RdO σ r b t n a o) (f : Fr (fun κ x => κ = κ0 ∧ x = q) σ τ) (h1 : κ0 ≠ 11) (h2 : κ0 ≠ 102) : RdO τ r b t n a o := by
  obtain ⟨g1, ⟨ft, g2, g3⟩, g4⟩ := h
  exact ⟨(f 11 r (fun w => h1 w.1.symm)).trans g1, ⟨ft, (f 102 b (fun w => h2 w.1.symm)).trans g2, g3⟩, g4⟩
theorem RdO.a2 {σ τ : PS} {r b n a o : Nat} {t : Nat → Nat} (h : RdO σ r b t n a o) (k : ∀ κ a e, (κ = 11 ∨ κ = 102) → σ κ a = some e → τ κ a = some e) : RdO τ r b t n a o := by
  obtain ⟨h1, ⟨ft, h2, h3⟩, h4⟩ := h
  exact ⟨k _ _ _ (Or.inl rfl) h1, ⟨ft, k _ _ _ (Or.inr rfl) h2, h3⟩, h4⟩
theorem HRO.a2 {G : GC} {σ τ : PS} {h r : Nat} (H : HRO G σ h r) (k : ∀ κ a e, (κ = 13 ∨ κ = 107) → σ κ a = some e → τ κ a = some e) : HRO G τ h r := by
  obtain ⟨wa, wk, h1, ⟨f, h2, h3⟩, ⟨f', h4, h5⟩⟩ := H
  exact ⟨wa, wk, k _ _ _ (Or.inl rfl) h1, ⟨f, k _ _ _ (Or.inr rfl) h2, h3⟩, ⟨f', k _ _ _ (Or.inr rfl) h4, h5⟩⟩
theorem nw_kp {σ τ υ : PS} {r κ0 q : Nat} {e : aE} (hq : ∀ κ, σ κ q = none) (h1 : KpD (RdD r) (up σ κ0 q e) τ) (f : Fr (fun κ x => κ = κ0 ∧ x = q) τ υ) : KpD (RdD r) σ υ := fun κ a e' hh hn => by
  have na : ¬ (κ = κ0 ∧ a = q) := fun w => by
    rw [w.2, hq] at hh
    cases hh
  rw [f κ a na]
  exact h1 κ a e' (nw_al hq κ a e' hh) hn
theorem Thr.ant {X : String → Nat → PS → Prop} {r : Nat} {σ τ : PS} {w p : Nat} (h : Thr X r σ w p) (k : KpD (RdD r) σ τ) : Thr X r τ w p := fun q υ z kk => h q υ z (k.tr kk)
theorem TermAt.set {τ υ : PS} {κ0 q : Nat} (hf : Fr (fun κ x => κ = κ0 ∧ x = q) τ υ) (h0 : (κ0 = 18 ∧ τ 18 q = some (.inl [.int 0, .null, .null])) ∨ (κ0 = 15 ∧ τ 15 q = some (.inl [.null]))) : ∀ {d : Nat} {a : Nat} {cs : CS}, TermAt d τ a cs → TermAt d υ a cs
  | 0, _, _, h => h.elim
  | d + 1, a, cs, h => by
    have hk : κ0 = 18 ∨ κ0 = 15 := h0.elim (fun z => Or.inl z.1) (fun z => Or.inr z.1)
    rcases h with ⟨n, h1, h2⟩ | ⟨i, h3, h1, h2⟩ | ⟨t, c1, h1, h2, h3⟩ | ⟨w, t, u, c1, c2, hw, h1, h2, h3, h4⟩
    · exact Or.inl ⟨n, (hf 16 a (fun w => by
        have := w.1
        omega)).trans h1, h2⟩
    · exact Or.inr (Or.inl ⟨i, h3, (hf 17 a (fun w => by
        have := w.1
        omega)).trans h1, h2⟩)
    · refine Or.inr (Or.inr (Or.inl ⟨t, c1, (hf 15 a (fun w => ?_)).trans h1, TermAt.set hf h0 h2, h3⟩))
      rcases h0 with ⟨z, y⟩ | ⟨z, y⟩
      · have := w.1
        omega
      · rw [w.2, y] at h1
        simp at h1
    · refine Or.inr (Or.inr (Or.inr ⟨w, t, u, c1, c2, hw, (hf 18 a (fun w => ?_)).trans h1, TermAt.set hf h0 h2, TermAt.set hf h0 h3, h4⟩))
      rcases h0 with ⟨z, y⟩ | ⟨z, y⟩
      · rw [w.2, y] at h1
        simp at h1
      · have := w.1
        omega
theorem TermAt.two {τ : PS} {q l u x : Nat} {c1 c2 : CS} (hw : sgOK x) (h : τ 18 q = some (.inl [.int (nI (sgn x)), .ref l, .ref u])) (h1 : TermAt c1.length τ l c1) (h2 : TermAt c2.length τ u c2) : TermAt (c1 ++ c2 ++ [(x, 0)]).length τ q (c1 ++ c2 ++ [(x, 0)]) := by
  have e : (c1 ++ c2 ++ [(x, (0 : Int32))]).length = c1.length + c2.length + 1 := by
    rw [List.length_append, List.length_append]
    rfl
  rw [e]
  exact Or.inr (Or.inr (Or.inr ⟨x, l, u, c1, c2, hw, h, h1.mono (by omega), h2.mono (by omega), rfl⟩))
theorem k_two {G : GC} {σ : PS} {Q : Option Value → PS → Prop} {X : String → Nat → PS → Prop} {b q x l u : Nat} (hw : sgOK x) (h : σ 18 q = some (.inl [.int 0, .null, .null])) (k : ∀ τ, τ 18 q = some (.inl [.int (nI (sgn x)), .ref l, .ref u]) → Fr (fun κ y => κ = 18 ∧ y = q) σ τ → Q none τ) : Call G mX18_init 4 b [.ref q, .int (nI (sgn x)), .ref l, .ref u] σ Q X := by
  refine eX18_init (bX18_init_0 ⟨pk_charN ?_, _, h, by simp, fun s1 e1 => ?_⟩)
  · rcases hw with rfl | rfl | rfl | rfl | rfl | rfl | rfl | rfl <;> decide
  · subst e1
    refine ⟨_, up_eq, by simp, fun s2 e2 => ?_⟩
    subst e2
    refine ⟨_, up_eq, by simp, fun s3 e3 => ?_⟩
    subst e3
    exact k _ up_eq (((Fr.rf.up ⟨rfl, rfl⟩).up ⟨rfl, rfl⟩).up ⟨rfl, rfl⟩)
theorem k_told9 {G : GC} {σ : PS} {Q : Option Value → PS → Prop} {X : String → Nat → PS → Prop} {b q : Nat} {x y : Int32} (h : σ 16 q = some (.inl [.int y])) (k : ∀ τ, τ 16 q = some (.inl [.int x]) → Fr (fun κ y => κ = 16 ∧ y = q) σ τ → Q none τ) : Call G mX16_init 4 b [.ref q, .int x] σ Q X := by
  refine eX16_init (bX16_init_0 ⟨_, h, by simp, fun s1 e1 => ?_⟩)
  subst e1
  exact k _ up_eq (Fr.rf.up ⟨rfl, rfl⟩)
theorem k_known9 {G : GC} {σ : PS} {Q : Option Value → PS → Prop} {X : String → Nat → PS → Prop} {b q : Nat} {x y : Int32} (h : σ 17 q = some (.inl [.int y])) (k : ∀ τ, τ 17 q = some (.inl [.int x]) → Fr (fun κ y => κ = 17 ∧ y = q) σ τ → Q none τ) : Call G mX17_init 4 b [.ref q, .int x] σ Q X := by
  refine eX17_init (bX17_init_0 ⟨_, h, by simp, fun s1 e1 => ?_⟩)
  subst e1
  exact k _ up_eq (Fr.rf.up ⟨rfl, rfl⟩)
theorem k_not9 {G : GC} {σ : PS} {Q : Option Value → PS → Prop} {X : String → Nat → PS → Prop} {b q u : Nat} (h : σ 15 q = some (.inl [.null])) (k : ∀ τ, τ 15 q = some (.inl [.ref u]) → Fr (fun κ y => κ = 15 ∧ y = q) σ τ → Q none τ) : Call G mX15_init 4 b [.ref q, .ref u] σ Q X := by
  refine eX15_init (bX15_init_0 ⟨_, h, by simp, fun s1 e1 => ?_⟩)
  subst e1
  exact k _ up_eq (Fr.rf.up ⟨rfl, rfl⟩)
theorem bud_sh {n a a' : Nat} {α : Type} {x : PR α} (h : a ≤ a') (h2 : a' ≤ n) (hx : ∀ v a2, x = .inr (v, a2) → a' ≤ a2) : bud n a x = a' - a + bud n a' x := by
  cases x with
  | inl e =>
    rw [bud_l, bud_l]
    omega
  | inr p =>
    obtain ⟨w, a2⟩ := p
    have := hx w a2 rfl
    rw [bud_r, bud_r]
    omega
theorem bud_map {n a : Nat} {α β : Type} {x : PR α} {g : α → β} : bud n a (bnd x (fun v a1 => .inr (g v, a1))) = bud n a x := by
  cases x with
  | inl e => rfl
  | inr p => rfl
theorem bud_b {n a : Nat} {α β : Type} {x : PR α} {f : α → Nat → PR β} (h1 : ∀ v a1, x = .inr (v, a1) → a ≤ a1 ∧ a1 ≤ n) (h2 : ∀ v a1, x = .inr (v, a1) → ∀ w a2, f v a1 = .inr (w, a2) → a1 ≤ a2) : bud n a x ≤ bud n a (bnd x f) ∧ ∀ v a1, x = .inr (v, a1) → bud n a (bnd x f) = a1 - a + bud n a1 (f v a1) := by
  cases x with
  | inl e => exact ⟨Nat.le_refl _, fun v a1 h => by cases h⟩
  | inr p =>
    obtain ⟨v, a1⟩ := p
    have q1 := h1 v a1 rfl
    have q3 := bud_sh (n := n) q1.1 q1.2 (h2 v a1 rfl)
    rw [bnd_r, bud_r]
    refine ⟨by omega, fun v' a' h => ?_⟩
    cases h
    exact q3
/-- the contract of a parser of terms: what it tells, where it goes on -/
def PK (G : GC) (N : MD) (R n o : Nat) (t : Nat → Nat) (v : Nat → PR CS) : Prop := ∀ (σ : PS) (h r tb a b : Nat) (Q : Option Value → PS → Prop) (X : String → Nat → PS → Prop), HRO G σ h r → RdO σ r tb t n a o → bud n a (v a) ≤ b → (∀ cs a', v a = .inr (cs, a') → ∀ q τ, RdO τ r tb t n a' o → TermAt cs.length τ q cs → KpD (RdD r) σ τ → Q (some (.ref q)) τ) → (∀ w p, v a = .inl (w, p) → Thr X r σ w p) → Call G N R b [.ref h] σ Q X
/-- a sign was read: another one -/
theorem lp_step {G : GC} {σ : PS} {N : MD} {Rv R n o h r tb a1 x q b : Nat} {t : Nat → Nat} {v : Nat → PR CS} {c : CS} {X : String → Nat → PS → Prop} (Nx : Nat → Nat → PS → Prop) (hP : PK G N Rv n o t v) (hR : Rv + 1 ≤ R) (hR5 : 5 ≤ R) (hH : HRO G σ h r) (hO : RdO σ r tb t n a1 o) (hT : TermAt c.length σ q c) (hx : sgOK x) (hb : 1 + bud n a1 (v a1) ≤ b)
    (k : ∀ c2 a2, v a1 = .inr (c2, a2) → ∀ q9 τ, RdO τ r tb t n a2 o → TermAt (c ++ c2 ++ [(x, 0)]).length τ q9 (c ++ c2 ++ [(x, 0)]) → KpD (RdD r) σ τ → Nx (b - 1 - bud n a1 (v a1)) q9 τ)
    (kx : ∀ w p, v a1 = .inl (w, p) → Thr X r σ w p) :
    1 ≤ b ∧ (∀ q9 : Nat, (∀ κ, σ κ q9 = none) → (∀ s1 : PS, s1 = up σ 18 q9 (.inl [.int 0, .null, .null]) → ∃ rc : Nat, rc + 1 ≤ R ∧ ∃ bc : Nat, bc ≤ b - 1 ∧ (∃ fs : List Value, Ob s1 13 h fs) ∧ Call G N rc bc [.ref h] s1 (qR (fun ra s2 => 4 + 1 ≤ R ∧ Call G mX18_init 4 0 [.ref q9, .int (nI (sgn x)), .ref q, .ref ra] s2 (qV (fun s3 => Nx (b - 1 - bc) q9 s3)) X)) X)) := by
  refine ⟨by omega, fun q9 hq s1 e1 => ?_⟩
  subst e1
  have kn : KpD (RdD r) σ (up σ 18 q9 (.inl [.int 0, .null, .null])) := KpD.nw hq
  have hH1 := hH.kp kn
  refine ⟨Rv, hR, bud n a1 (v a1), by omega, hH1.ob, ?_⟩
  refine hP _ _ _ _ _ _ _ _ hH1 (hO.al (nw_al hq)) (Nat.le_refl _) (fun c2 a2 h2 u τ hO2 hT2 hK2 => ⟨_, rfl, hR5, ?_⟩) (fun w p e => (kx w p e).ant kn)
  have h18 : τ 18 q9 = some (.inl [.int 0, .null, .null]) := hK2 _ _ _ up_eq (fun w => absurd w.1 (by decide))
  refine k_two hx h18 (fun υ hυ hF => ⟨rfl, ?_⟩)
  refine k c2 a2 h2 q9 υ (hO2.fr hF (by decide) (by decide)) (TermAt.two hx hυ ?_ (TermAt.set hF (Or.inl ⟨rfl, h18⟩) hT2)) (nw_kp hq hK2 hF)
  exact hT.kp (nw_kp hq hK2 hF)
theorem sgN {t : Nat → Nat} {n a c : Nat} (ha : a ≤ n) : sg t n c (sk t n a) ↔ sg t n c a := by
  unfold sg
  rw [sk_sk ha]
theorem opM_y {t : Nat → Nat} {n a : Nat} (h : sg t n 42 a) : opM t n a = some (4, sk t n a + 1) := if_pos h
theorem opM_n {t : Nat → Nat} {n a : Nat} (h : ¬ sg t n 42 a) : opM t n a = none := if_neg h
theorem opP_y {t : Nat → Nat} {n a : Nat} (h : sg t n 43 a) : opP t n a = some (2, sk t n a + 1) := if_pos h
theorem opP_m {t : Nat → Nat} {n a : Nat} (h0 : ¬ sg t n 43 a) (h : sg t n 45 a) : opP t n a = some (3, sk t n a + 1) := by
  unfold opP
  rw [if_neg h0, if_pos h]
theorem opP_n {t : Nat → Nat} {n a : Nat} (h0 : ¬ sg t n 43 a) (h : ¬ sg t n 45 a) : opP t n a = none := by
  unfold opP
  rw [if_neg h0, if_neg h]
theorem opW_y {t : Nat → Nat} {n a x : Nat} {w : List Nat} (h : wd t n (sk t n a) = w) : opW t n w x a = some (x, sk t n a + w.length) := if_pos h
theorem opW_n {t : Nat → Nat} {n a x : Nat} {w : List Nat} (h : ¬ wd t n (sk t n a) = w) : opW t n w x a = none := if_neg h
/-- the loop's end: told by what a sign is -/
def LpK (G : GC) (M : MD) (R n o f : Nat) (t : Nat → Nat) (v : Nat → PR CS) (op : Nat → Option (Nat × Nat)) : Prop := ∀ (σ : PS) (h r tb a b q : Nat) (c : CS) (Q : Option Value → PS → Prop) (X : String → Nat → PS → Prop), n + 1 ≤ f + a → HRO G σ h r → RdO σ r tb t n a o → TermAt c.length σ q c → bud n a (lpS t n v op f c a) ≤ b → (∀ cs a', lpS t n v op f c a = .inr (cs, a') → ∀ q τ, RdO τ r tb t n a' o → TermAt cs.length τ q cs → KpD (RdD r) σ τ → Q (some (.ref q)) τ) → (∀ w p, lpS t n v op f c a = .inl (w, p) → Thr X r σ w p) → At G M R Q X b 5 [(0, .ref h), (1, .ref q)] [] σ
theorem lpS_ge {t : Nat → Nat} {n : Nat} {v : Nat → PR CS} {op : Nat → Option (Nat × Nat)} (hv : ∀ a, a ≤ n → ∀ c a2, v a = .inr (c, a2) → a ≤ a2 ∧ a2 ≤ n) (ho : ∀ a, a ≤ n → ∀ x a1, op a = some (x, a1) → a + 1 ≤ a1 ∧ a1 ≤ n) : ∀ (f : Nat) (c : CS) (a : Nat), a ≤ n → ∀ c' a', lpS t n v op f c a = .inr (c', a') → a ≤ a' ∧ a' ≤ n := by
  intro f
  induction f with
  | zero =>
    intro c a ha c' a' h
    rw [lpS_0] at h
    cases h
    exact ⟨Nat.le_refl _, ha⟩
  | succ f ih =>
    intro c a ha c' a' h
    cases ho9 : op a with
    | none =>
      rw [lpS_n ho9] at h
      cases h
      have := sk_b (t := t) ha
      exact ⟨by omega, this.2.1⟩
    | some y =>
      obtain ⟨x, a1⟩ := y
      rw [lpS_s ho9] at h
      obtain ⟨c2, a2, h1, h2⟩ := bnd_ok h
      obtain ⟨o1, o2⟩ := ho a ha x a1 ho9
      obtain ⟨v1, v2⟩ := hv a1 o2 c2 a2 h1
      obtain ⟨r1, r2⟩ := ih _ a2 v2 c' a' h2
      exact ⟨by omega, r2⟩
theorem Gd.ge {n : Nat} {tf : Bool} {v : Nat → PR CS} (h : Gd n tf v) : ∀ a, a ≤ n → ∀ c a2, v a = .inr (c, a2) → a ≤ a2 ∧ a2 ≤ n := fun a ha c a2 e => by
  have := h a ha c a2 e
  exact ⟨by omega, this.2.1⟩
theorem Go.ge {n : Nat} {tf : Bool} {op : Nat → Option (Nat × Nat)} (h : Go n tf op) : ∀ a, a ≤ n → ∀ x a1, op a = some (x, a1) → a + 1 ≤ a1 ∧ a1 ≤ n := fun a ha x a1 e => by
  have := h a ha x a1 e
  exact ⟨this.1, this.2.1⟩
/-- what a turn of the loop asks -/
theorem lp_turn {G : GC} {σ : PS} {N M : MD} {Rv R n o f h r tb a a1 x q b : Nat} {t : Nat → Nat} {tf : Bool} {v : Nat → PR CS} {op : Nat → Option (Nat × Nat)} {c : CS} {Q : Option Value → PS → Prop} {X : String → Nat → PS → Prop} (hP : PK G N Rv n o t v) (hv : Gd n tf v) (hop : Go n tf op) (ih : LpK G M R n o f t v op) (hR : Rv + 1 ≤ R) (hR5 : 5 ≤ R) (ha : a ≤ n) (hf : n + 1 ≤ f + 1 + a) (hH : HRO G σ h r) (hO : RdO σ r tb t n a1 o) (hT : TermAt c.length σ q c) (e : op a = some (x, a1)) (hx : sgOK x) (hb : bud n a (lpS t n v op (f + 1) c a) ≤ b)
    (ks : ∀ cs a', lpS t n v op (f + 1) c a = .inr (cs, a') → ∀ q τ, RdO τ r tb t n a' o → TermAt cs.length τ q cs → KpD (RdD r) σ τ → Q (some (.ref q)) τ) (kx : ∀ w p, lpS t n v op (f + 1) c a = .inl (w, p) → Thr X r σ w p) :
    1 ≤ b ∧ (∀ q9 : Nat, (∀ κ, σ κ q9 = none) → (∀ s1 : PS, s1 = up σ 18 q9 (.inl [.int 0, .null, .null]) → ∃ rc : Nat, rc + 1 ≤ R ∧ ∃ bc : Nat, bc ≤ b - 1 ∧ (∃ fs : List Value, Ob s1 13 h fs) ∧ Call G N rc bc [.ref h] s1 (qR (fun ra s2 => 4 + 1 ≤ R ∧ Call G mX18_init 4 0 [.ref q9, .int (nI (sgn x)), .ref q, .ref ra] s2 (qV (fun s3 => At G M R Q X (b - 1 - bc) 5 [(0, .ref h), (1, .ref q9)] [] s3)) X)) X)) := by
  rw [lpS_s e] at hb ks kx
  obtain ⟨o1, o2⟩ := hop.ge a ha x a1 e
  have vg := hv.ge a1 o2
  obtain ⟨B1, B2⟩ := bud_b (n := n) (a := a1) (x := v a1) (f := fun c2 a2 => lpS t n v op f (c ++ c2 ++ [(x, 0)]) a2) vg (fun c2 a2 h2 c3 a3 h3 => (lpS_ge hv.ge hop.ge f _ a2 (vg _ _ h2).2 c3 a3 h3).1)
  have B3 : bud n a (bnd (v a1) (fun c2 a2 => lpS t n v op f (c ++ c2 ++ [(x, 0)]) a2)) = a1 - a + bud n a1 (bnd (v a1) (fun c2 a2 => lpS t n v op f (c ++ c2 ++ [(x, 0)]) a2)) := bud_sh (by omega) o2 (fun w a3 h3 => by
    obtain ⟨c2, a2, h4, h5⟩ := bnd_ok h3
    have g1 := vg _ _ h4
    have g2 := (lpS_ge hv.ge hop.ge f _ a2 g1.2 _ _ h5).1
    omega)
  refine lp_step (fun b' q9 s => At G M R Q X b' 5 [(0, .ref h), (1, .ref q9)] [] s) hP hR hR5 hH hO hT hx (by omega) (fun c2 a2 h2 q9 τ hO2 hT2 hK2 => ?_) (fun w p e2 => kx w p (by rw [e2, bnd_l]))
  have g := vg c2 a2 h2
  have B4 := B2 c2 a2 h2
  have B5 : bud n a1 (v a1) = a2 - a1 := by rw [h2, bud_r]
  refine ih τ h r tb a2 _ q9 _ Q X (by omega) (hH.kp hK2) hO2 hT2 (by omega) (fun cs a' h3 q' υ y1 y2 y3 => ks cs a' (by rw [h2, bnd_r]; exact h3) q' υ y1 y2 (hK2.tr y3)) (fun w p h3 => (kx w p (by rw [h2, bnd_r]; exact h3)).ant hK2)
/-- a loop behind its first -/
theorem lp_first {G : GC} {σ : PS} {N M : MD} {Rv R n o h r tb a b : Nat} {t : Nat → Nat} {tf : Bool} {v : Nat → PR CS} {op : Nat → Option (Nat × Nat)} {Q : Option Value → PS → Prop} {X : String → Nat → PS → Prop} (hP : PK G N Rv n o t v) (hv : Gd n tf v) (hop : Go n tf op) (L : LpK G M R n o (n + 1) t v op) (hR : Rv + 1 ≤ R) (hH : HRO G σ h r) (hO : RdO σ r tb t n a o) (hb : bud n a (bnd (v a) (lpS t n v op (n + 1))) ≤ b) (ks : ∀ cs a', bnd (v a) (lpS t n v op (n + 1)) = .inr (cs, a') → ∀ q τ, RdO τ r tb t n a' o → TermAt cs.length τ q cs → KpD (RdD r) σ τ → Q (some (.ref q)) τ) (kx : ∀ w p, bnd (v a) (lpS t n v op (n + 1)) = .inl (w, p) → Thr X r σ w p) :
    ∃ rc : Nat, rc + 1 ≤ R ∧ ∃ bc : Nat, bc ≤ b ∧ (∃ fs : List Value, Ob (σ) 13 h fs) ∧ Call G N rc bc [.ref h] (σ) (qR (fun ra s1 => At G M R Q X (b - bc) 5 [(0, .ref h), (1, .ref ra)] [] s1)) X := by
  have ha := hO.2.2.2.2.1
  have vg := hv.ge a ha
  obtain ⟨B1, B2⟩ := bud_b (n := n) (a := a) (x := v a) (f := lpS t n v op (n + 1)) vg (fun c2 a2 h2 c3 a3 h3 => (lpS_ge hv.ge hop.ge (n + 1) _ a2 (vg _ _ h2).2 c3 a3 h3).1)
  refine ⟨Rv, hR, bud n a (v a), by omega, hH.ob, ?_⟩
  refine hP _ _ _ _ _ _ _ _ hH hO (Nat.le_refl _) (fun c1 a1 h1 q τ hO1 hT1 hK1 => ⟨_, rfl, ?_⟩) (fun w p e => kx w p (by rw [e, bnd_l]))
  have g := vg c1 a1 h1
  have B3 := B2 c1 a1 h1
  have B5 : bud n a (v a) = a1 - a := by rw [h1, bud_r]
  refine L τ h r tb a1 _ q _ Q X (by omega) (hH.kp hK1) hO1 hT1 (by omega) (fun cs a' h3 q' υ y1 y2 y3 => ks cs a' (by rw [h1, bnd_r]; exact h3) q' υ y1 y2 (hK1.tr y3)) (fun w p h3 => (kx w p (by rw [h1, bnd_r]; exact h3)).ant hK1)
theorem k_productL {G : GC} {Rv n o : Nat} {t : Nat → Nat} {v : Nat → PR CS} (hv : Gd n false v) (hP : PK G mX13_value Rv n o t v) (h7 : 8 ≤ Rv) : ∀ f, LpK G mX13_product (Rv + 1) n o f t v (opM t n) := by
  intro f
  induction f with
  | zero =>
    intro σ h r tb a b q c Q X hf hH hO
    have := hO.2.2.2.2.1
    omega
  | succ f ih =>
    intro σ h r tb a b q c Q X hf hH hO hT hb ks kx
    refine bX13_product_5 ⟨r, hH.fg, by omega, ⟨_, hO.1⟩, k_takesSign (c := 42) hO (by decide) (fun hs τ hO1 hF => ⟨_, rfl, fun z => absurd z (by decide), fun _ => ?_⟩) (fun hs τ hO1 hF => ⟨_, rfl, fun _ => ?_, fun z => absurd rfl z⟩)⟩
    · exact lp_turn (x := 4) hP hv opM_go ih (Nat.le_refl _) (by omega) hO.2.2.2.2.1 (by omega) (hH.kp hF.kp) hO1 (hT.kp hF.kp) (opM_y hs) (Or.inr (Or.inr (Or.inl rfl))) hb (fun cs a' e q' υ y1 y2 y3 => ks cs a' e q' υ y1 y2 (hF.kp.tr y3)) (fun w p e => (kx w p e).ant hF.kp)
    · exact ks c _ (lpS_n (opM_n hs)) q τ hO1 (hT.kp hF.kp) hF.kp
theorem k_product {G : GC} {Rv n o : Nat} {t : Nat → Nat} {v : Nat → PR CS} (hv : Gd n false v) (hP : PK G mX13_value Rv n o t v) (h7 : 8 ≤ Rv) : PK G mX13_product (Rv + 1) n o t (prodOf t n v) := by
  intro σ h r tb a b Q X hH hO hb ks kx
  exact eX13_product (bX13_product_0 (lp_first hP hv opM_go (k_productL hv hP h7 _) (Nat.le_refl _) hH hO hb ks kx))
theorem k_sumL {G : GC} {Rv n o : Nat} {t : Nat → Nat} {v : Nat → PR CS} (hv : Gd n false v) (hP : PK G mX13_product Rv n o t v) (h7 : 8 ≤ Rv) : ∀ f, LpK G mX13_sum (Rv + 1) n o f t v (opP t n) := by
  intro f
  induction f with
  | zero =>
    intro σ h r tb a b q c Q X hf hH hO
    have := hO.2.2.2.2.1
    omega
  | succ f ih =>
    intro σ h r tb a b q c Q X hf hH hO hT hb ks kx
    have ha := hO.2.2.2.2.1
    refine bX13_sum_5 ⟨r, hH.fg, by omega, ⟨_, hO.1⟩, k_takesSign (c := 43) hO (by decide) (fun hs τ hO1 hF => ⟨_, rfl, fun z => absurd z (by decide), fun _ => ?_⟩) (fun hs τ hO1 hF => ⟨_, rfl, fun _ => ?_, fun z => absurd rfl z⟩)⟩
    · exact lp_turn (x := 2) hP hv opP_go ih (Nat.le_refl _) (by omega) ha (by omega) (hH.kp hF.kp) hO1 (hT.kp hF.kp) (opP_y hs) (Or.inl rfl) hb (fun cs a' e q' υ y1 y2 y3 => ks cs a' e q' υ y1 y2 (hF.kp.tr y3)) (fun w p e => (kx w p e).ant hF.kp)
    · have hH1 := hH.kp hF.kp
      refine ⟨r, hH1.fg, by omega, ⟨_, hO1.1⟩, k_takesSign (c := 45) hO1 (by decide) (fun hs2 υ hO2 hF2 => ⟨_, rfl, fun z => absurd z (by decide), fun _ => ?_⟩) (fun hs2 υ hO2 hF2 => ⟨_, rfl, fun _ => ?_, fun z => absurd rfl z⟩)⟩
      · have kk := hF.kp.tr hF2.kp
        rw [sk_sk ha] at hO2
        exact lp_turn (x := 3) hP hv opP_go ih (Nat.le_refl _) (by omega) ha (by omega) (hH.kp kk) hO2 (hT.kp kk) (opP_m hs ((sgN ha).mp hs2)) (Or.inr (Or.inl rfl)) hb (fun cs a' e q' υ y1 y2 y3 => ks cs a' e q' υ y1 y2 (kk.tr y3)) (fun w p e => (kx w p e).ant kk)
      · have kk := hF.kp.tr hF2.kp
        rw [sk_sk ha] at hO2
        exact ks c _ (lpS_n (opP_n hs (fun w => hs2 ((sgN ha).mpr w)))) q υ hO2 (hT.kp kk) kk
theorem k_sum {G : GC} {Rv n o : Nat} {t : Nat → Nat} {v : Nat → PR CS} (hv : Gd n false v) (hP : PK G mX13_value Rv n o t v) (h7 : 8 ≤ Rv) : PK G mX13_sum (Rv + 2) n o t (sumOf t n v) := by
  intro σ h r tb a b Q X hH hO hb ks kx
  exact eX13_sum (bX13_sum_0 (lp_first (k_product hv hP h7) (prod_gd hv) opP_go (k_sumL (prod_gd hv) (k_product hv hP h7) (by omega) _) (Nat.le_refl _) hH hO hb ks kx))
