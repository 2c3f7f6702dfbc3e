/-! Part B: the component's run -/
theorem FlP.toA {σ : PS} {a st dr nw nx o cl v see : Nat} {who : Int32} {P N D : Nat → Nat} {wa lo : Nat} (h : FlP σ a st dr nw nx o cl v see who P N D wa lo) : FlA σ a st dr nw nx := by
  obtain ⟨h1, ⟨l, h2, h3⟩, ⟨fd, h4, -⟩, ⟨fn, h6, -⟩, ⟨fx, h8, -⟩, n1, n2, n3⟩ := h
  exact ⟨_, _, _, _, _, _, _, l, fd, fn, fx, h1, h2, h3, h4, h6, h8, n1, n2, n3⟩
def swp (A : Nat → Nat) (nw nx : Nat) : Prop := (nw = A 13 ∧ nx = A 14) ∨ (nw = A 14 ∧ nx = A 13)
theorem swp.scr {A : Nat → Nat} {nw nx κ x : Nat} (h : swp A nw nx) (q : FlW (A 10) (A 11) (A 12) nw nx κ x) : scr A κ x := by
  rcases h with ⟨rfl, rfl⟩ | ⟨rfl, rfl⟩
  · exact Or.inl q
  · exact Or.inl (q.elim (fun z => Or.inl z.sw) Or.inr)
theorem CI.fl {σ τ : PS} {A : Nat → Nat} {CA : Nat → Nat × Nat × Nat} {E : Nat × Nat × Option Nat × Nat × Nat × Nat × Nat} {T : TS} {nw nx n1 n2 o cl v see : Nat} {who : Int32} {P N D : Nat → Nat} {wa lo : Nat} (hC : CI σ A CA E T) (e : swp A nw nx) (e1 : swp A n1 n2) (h : FlP τ (A 10) (A 11) (A 12) nw nx o cl v see who P N D wa lo) (f : Fr (FlW (A 10) (A 11) (A 12) n1 n2) σ τ) : CI τ A CA E T ∧ KpD (scr A) σ τ := by
  have K : KpD (scr A) σ τ := f.kp.mono (fun κ x q => e1.scr q)
  have ap := hC.1.2.2.2.2.2.2.2.2.2.2.2.1
  refine ⟨hC.sc K ⟨?_, ?_, ?_⟩, K⟩
  · rcases e with ⟨rfl, rfl⟩ | ⟨rfl, rfl⟩
    · exact Or.inl h.toA
    · exact Or.inr h.toA
  · obtain ⟨v1, v2, v3, v4, v5, v6, l, y1, y2, y3⟩ := hC.2.1.2.1
    refine ⟨v1, v2, v3, v4, v5, v6, l, (f _ _ ?_).trans y1, (f _ _ ?_).trans y2, y3⟩
    · unfold FlW FlD
      omega
    · unfold FlW FlD
      omega
  · obtain ⟨v1, v2, v3, v4, v5, v6, v7, g, y4, y5⟩ := hC.2.1.2.2
    refine ⟨v1, v2, v3, v4, v5, v6, v7, g, (f _ _ ?_).trans y4, (f _ _ ?_).trans y5⟩
    · unfold FlW FlD
      omega
    · unfold FlW FlD
      omega
/-- the flow, run -/
def FR (τ : PS) (A : Nat → Nat) (CA : Nat → Nat × Nat × Nat) (E : Nat × Nat × Option Nat × Nat × Nat × Nat × Nat) (see : Nat) (S : FS) : Prop := ∃ nw nx V who, swp A nw nx ∧ FlP τ (A 10) (A 11) (A 12) nw nx E.1 (CA 0).1 V see who S.1 (fun _ => 0) S.2.1 S.2.2.1 S.2.2.2
theorem go_run {O : Nat → Nat} {h : HW} {fw fm : (Nat → Int32)} {nn : Nat} (g : GoOK O h fw nn) : ∀ v, v ≤ nn → GP v (fRun O h fw fm v).1 ∧ FB (9 * v) (fRun O h fw fm v) :=
  fRun_ok g.2.2.2.1 g.2.2.2.2.1 g.2.2.2.2.2.1 g.2.2.2.2.2.2.1 g.2.2.2.2.2.2.2.1 g.1 g.2.1 g.2.2.1
theorem own_scr {A : Nat → Nat} {CA : Nat → Nat × Nat × Nat} {σ τ : PS} (h : KpD (scr A) σ τ) : KpD (own A CA) σ τ := h.mono (fun _ _ q => scr_own q)
theorem c_run {G : GC} {σ : PS} {Q : Option Value → PS → Prop} {X : String → Nat → PS → Prop} {b : Nat} {A : Nat → Nat} {CA : Nat → Nat × Nat × Nat} {E : Nat × Nat × Option Nat × Nat × Nat × Nat × Nat} {T : TS} {bk : Option Nat} {to sta bg : Int32} {h : HW} {Tn : Nat} (hC : CI σ A CA E T) (hw : HwI σ A bk to h.2.2.2.1 h.1 h.2.1 sta bg h.2.2.2.2.1) (hB : BkQ σ bk h.2.2.2.2.2) (hst : stt h.2.2.1 sta) (hOK : GoOK (tsO T) h (tsK T 0).2.1 (tsK T 0).1) (hbud : Tn + 1 ≤ b) (hTn : Tn ≤ (tsK T 0).1)
    (hto : (bg = 0 ∧ ∀ i, i ≤ 24 → (to < nI i ↔ Tn ≤ i)) ∨ (bg = 1 ∧ Tn < (tsK T 0).1 ∧ to = nI Tn ∧ ¬ (tsK T 0).2.1 Tn = h.2.2.2.1))
    (k : ∀ τ, CI τ A CA E T → FR τ A CA E h.2.1 (fRes (tsO T) h (tsK T 0).2.1 (tsK T 0).2.2 bg Tn) → KpD (scr A) σ τ → Q (some (.ref (A 10))) τ) : Call G mX1_run 204 b [.ref (A 0), .ref (A 17)] σ Q X := by
  obtain ⟨h1, g, h2, h3, h4⟩ := hw
  have hx := hC.1.x
  have fin : ∀ n1 n2, swp A n1 n2 → FlA σ (A 10) (A 11) (A 12) n1 n2 → Call G mX3_runs 203 b [.ref (A 10), .ref E.1, .ref (CA 0).1, .ref (A 17)] σ (qV (fun s1 => ∃ a_flow_1 : Nat, Fg s1 1 (A 0) 7 (.ref a_flow_1) ∧ (Q (some (.ref a_flow_1)) s1))) X := by
    intro n1 n2 e hA
    refine k_fruns hC.1.off (hC.1.cal (i := 0) (by decide)) hOK.1 hOK.2.1 h1 h2 h3 hB hst hA hOK.2.2.2.1 hOK.2.2.2.2.1 hOK.2.2.2.2.2.1 hOK.2.2.2.2.2.2.1 hOK.2.2.2.2.2.2.2.1 hbud hTn hto (fun τ nw nx V who q hP hF => ⟨rfl, A 10, ?_, ?_⟩)
    · have e2 : swp A nw nx := by
        unfold swp at *
        omega
      exact ⟨_, (CI.fl hC e2 e hP hF).1.1.x, rfl⟩
    · have e2 : swp A nw nx := by
        unfold swp at *
        omega
      obtain ⟨q1, q2⟩ := CI.fl hC e2 e hP hF
      exact k τ q1 ⟨nw, nx, V, who, e2, hP⟩ q2
  have hf3 : ∃ fs, Ob σ 3 (A 10) fs := by
    rcases hC.2.1.1 with z | z
    · obtain ⟨x4, x5, x6, x7, x8, x9, x10, l', f, g', h', z3, -⟩ := z
      exact ⟨_, z3⟩
    · obtain ⟨x4, x5, x6, x7, x8, x9, x10, l', f, g', h', z3, -⟩ := z
      exact ⟨_, z3⟩
  refine eX1_run (bX1_run_0 ⟨A 10, ⟨_, hx, rfl⟩, E.1, ⟨_, hx, rfl⟩, (CA 0).1, ⟨_, hx, rfl⟩, b, Nat.le_refl _, hf3, ?_⟩)
  rcases hC.2.1.1 with z | z
  · exact fin _ _ (Or.inl ⟨rfl, rfl⟩) z
  · exact fin _ _ (Or.inr ⟨rfl, rfl⟩) z
/-- what the visits say, gone through as told -/
abbrev tsH0 (T : TS) : HW := pH (tsO T) (tsH T)
def rn9 (T : TS) (h : HW) (v : Nat) : FS := fRun (tsO T) h (tsK T 0).2.1 (tsK T 0).2.2 v
theorem go0 {T : TS} (h : tsOK T) : GoOK (tsO T) (tsH0 T) (tsK T 0).2.1 (tsK T 0).1 :=
  h.go h.1.2.2.2.2.1 h.1.2.2.2.2.2.2.1 (Nat.zero_le _) (fun p hp => h.2.2.2.1 p (by omega))
theorem n24 {T : TS} (h : tsOK T) : (tsK T 0).1 ≤ 24 := (h.2.2.1 0 (by decide)).1
theorem stt0 : stt 0 (-1) := Or.inl ⟨rfl, rfl⟩
theorem fR0 (O : Nat → Nat) (h : HW) (fw fm : Nat → Int32) (v : Nat) : fRes O h fw fm 0 v = fRun O h fw fm v := if_pos rfl
theorem fR1 (O : Nat → Nat) (h : HW) (fw fm : Nat → Int32) (v : Nat) : fRes O h fw fm 1 v = fBeg O h fm v (fRun O h fw fm v) := if_neg (by decide)
theorem c_run0 {G : GC} {σ : PS} {Q : Option Value → PS → Prop} {X : String → Nat → PS → Prop} {b : Nat} {A : Nat → Nat} {CA : Nat → Nat × Nat × Nat} {E : Nat × Nat × Option Nat × Nat × Nat × Nat × Nat} {T : TS} {to : Int32} {v : Nat} (hC : CI σ A CA E T) (hw : HwI σ A none to (-1) (tsO T 4) (tsO T 6) (-1) 0 (tsH T)) (hbud : v + 1 ≤ b) (hv : v ≤ (tsK T 0).1) (hto : ∀ i, i ≤ 24 → (to < nI i ↔ v ≤ i))
    (k : ∀ τ, CI τ A CA E T → FR τ A CA E (tsO T 6) (rn9 T (tsH0 T) v) → KpD (scr A) σ τ → Q (some (.ref (A 10))) τ) : Call G mX1_run 204 b [.ref (A 0), .ref (A 17)] σ Q X :=
  c_run (h := tsH0 T) hC hw (Or.inl ⟨rfl, rfl⟩) stt0 (go0 hC.2.2) hbud hv (Or.inl ⟨rfl, hto⟩) (fun τ q1 q2 q3 => k τ q1 (by rw [fR0] at q2; exact q2) q3)
theorem go_le {O : Nat → Nat} {h : HW} {fw fm : (Nat → Int32)} {nn v : Nat} (g : GoOK O h fw nn) (hv : v ≤ nn) (x : Nat) : (fRun O h fw fm v).1 x ≤ 2 ^ 40 := (go_run g v hv).1.le (by have := g.1; omega) x
theorem c_states {G : GC} {σ : PS} {Q : Option Value → PS → Prop} {X : String → Nat → PS → Prop} {b : Nat} {A : Nat → Nat} {CA : Nat → Nat × Nat × Nat} {E : Nat × Nat × Option Nat × Nat × Nat × Nat × Nat} {T : TS} {x : Int32} (hC : CI σ A CA E T) (hb : 30 ≤ b) (kq : ∀ v, v < (tsK T 0).1 → x = nI v → ∀ τ, CI τ A CA E T → KpD (own A CA) σ τ → Q (some (.int (nI (qMany (rn9 T (tsH0 T) (v + 1)).1)))) τ) (k0 : ¬ inN x ((tsK T 0).1) → ∀ τ q, CI τ A CA E (bu0 T) → KpD (own A CA) σ τ → X "java/util/NoSuchElementException" q τ) : Call G mX1_states 205 b [.ref (A 0), .int x] σ Q X := by
  refine eX1_states (bX1_states_0 ⟨1, by omega, ⟨_, hC.1.x⟩, c_visitOf hC (Nat.le_refl _) (fun v hv hx => ⟨rfl, ⟨_, hC.1.x⟩, c_asTold hC (fun τ1 C1 W1 K1 => ⟨_, rfl, ⟨_, W1.1⟩, c_to C1 W1 (fun τ2 C2 W2 K2 => ⟨_, rfl, 25, by omega, ⟨_, C2.1.x⟩, ?_⟩)⟩)⟩) k0⟩)
  have hn := n24 hC.2.2
  subst hx
  refine c_run0 C2 W2 (show v + 1 + 1 ≤ 25 by omega) hv (to_v (by omega)) (fun τ3 C3 R3 K3 => ⟨_, rfl, ?_⟩)
  obtain ⟨nw, nx, V, who, e, hM⟩ := R3
  exact ⟨⟨_, hM.1⟩, k_fmany hM (go_le (go0 hC.2.2) hv) ⟨_, rfl, kq v hv rfl τ3 C3 (own_scr ((K2 _ K1).tr K3))⟩⟩
theorem c_likely {G : GC} {σ : PS} {Q : Option Value → PS → Prop} {X : String → Nat → PS → Prop} {b : Nat} {A : Nat → Nat} {CA : Nat → Nat × Nat × Nat} {E : Nat × Nat × Option Nat × Nat × Nat × Nat × Nat} {T : TS} {x y : Int32} (hC : CI σ A CA E T) (hb : 30 ≤ b) (kq : ∀ v w, v < (tsK T 0).1 → x = nI v → w < 6 → y = nI w → ∀ τ, CI τ A CA E T → KpD (own A CA) σ τ → Q (some (.long (lN (qLik w (tsO T 0) (tsO T 5) v (tsK T 0).2.2 (rn9 T (tsH0 T) (v + 1)).1)))) τ) (k0 : ¬ inN x ((tsK T 0).1) → ∀ τ q, CI τ A CA E (bu0 T) → KpD (own A CA) σ τ → X "java/util/NoSuchElementException" q τ) (k1 : inN x ((tsK T 0).1) → ¬ inN y 6 → ∀ τ q, CI τ A CA E (bu1 T) → KpD (own A CA) σ τ → X "java/lang/IllegalArgumentException" q τ) : Call G mX1_likely 205 b [.ref (A 0), .int x, .int y] σ Q X := by
  refine eX1_likely (bX1_likely_0 ⟨1, by omega, ⟨_, hC.1.x⟩, c_visitOf hC (Nat.le_refl _) (fun v hv hx => ⟨rfl, 1, by omega, ⟨_, hC.1.x⟩, c_in (n := 5) hC (Nat.le_refl _) (by decide) rfl (fun w hw hy => ⟨rfl, ⟨_, hC.1.x⟩, c_asTold hC (fun τ1 C1 W1 K1 => ⟨_, rfl, ⟨_, W1.1⟩, c_to C1 W1 (fun τ2 C2 W2 K2 => ⟨_, rfl, 25, by omega, ⟨_, C2.1.x⟩, ?_⟩)⟩)⟩) (k1 ⟨v, hv, hx⟩)⟩) k0⟩)
  have hn := n24 hC.2.2
  subst hx
  subst hy
  refine c_run0 C2 W2 (show v + 1 + 1 ≤ 25 by omega) hv (to_v (by omega)) (fun τ3 C3 R3 K3 => ⟨_, rfl, 1, by omega, ?_⟩)
  obtain ⟨nw, nx, V, who, e, hM⟩ := R3
  refine ⟨⟨_, hM.1⟩, k_flikely (vs := v) (by omega) hM (go_le (go0 hC.2.2) hv) C3.1.off hC.2.2.1.1 (C3.1.cal (i := 0) (by decide)) (Or.inr ⟨rfl, Nat.le_refl _⟩) (by omega) (fun τ4 hM4 F4 => ⟨_, rfl, ?_⟩)⟩
  obtain ⟨C4, K4⟩ := CI.fl C3 e e hM4 F4
  exact kq v w hv rfl hw rfl τ4 C4 (own_scr (((K2 _ K1).tr K3).tr K4))
