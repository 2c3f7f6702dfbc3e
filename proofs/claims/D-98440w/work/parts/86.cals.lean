/-! Part B: the component's calendars change -/
def tsN (T : TS) (K : Nat → CL) (c i : Nat) (q : Nat → Nat) : TS := tsW T K (tsT T) (tsF T) (tsL T) c i q
def sameC (C D : CL) : Prop := D.1 = C.1 ∧ ∀ j, j < 24 → D.2.1 j = C.2.1 j ∧ D.2.2 j = C.2.2 j
theorem sameC.ok {C D : CL} (h : sameC C D) (hC : clOK C) : clOK D := by
  refine ⟨by rw [h.1]; exact hC.1, fun i hi => ?_⟩
  rw [h.1] at hi
  have := hC.1
  rw [(h.2 i (by omega)).1]
  exact hC.2 i hi
def kUp (K : Nat → CL) (i : Nat) (C : CL) : Nat → CL := fun j => if j = i then C else K j
theorem kUp_at {K : Nat → CL} {i : Nat} {C : CL} : kUp K i C i = C := if_pos rfl
theorem kUp_ne {K : Nat → CL} {i j : Nat} {C : CL} (h : j ≠ i) : kUp K i C j = K j := if_neg h
theorem tsN_ok {T : TS} (h : tsOK T) {K : Nat → CL} {c i : Nat} {q : Nat → Nat} (hK : ∀ i, i < 84 → clOK (K i)) (hc : c ≤ 20) (hi : i ≤ 3) (hq : ∀ j, j < i → q j ≤ 20) : tsOK (tsN T K c i q) :=
  ⟨h.1, h.2.1, hK, h.2.2.2.1, h.2.2.2.2.1, h.2.2.2.2.2.1, hc, hi, hq⟩
theorem CI.n {σ τ : PS} {A : Nat → Nat} {CA : Nat → Nat × Nat × Nat} {E : Nat × Nat × Option Nat × Nat × Nat × Nat × Nat} {T : TS} {c i : Nat} (h : CI σ A CA E T) (hc : c ≤ 20) (hi : i ≤ tsI T) (k : KpD (fun κ a => κ = 1 ∧ a = A 0) σ τ)
    (x : τ 1 (A 0) = some (.inl [.ref (A 1), .ref (CA 0).1, .ref (A 2), .ref (A 3), .ref (A 7), .ref (A 8), .ref (A 9), .ref (A 10), .ref (A 15), .ref (A 17), .ref E.1, va_rf E.2.2.1, .ref E.2.2.2.1, .int (nI (tsF T)), .int (tsL T), .int (nI c), .int (nI i)])) : CI τ A CA E (tsN T (tsK T) c i (tsQ T)) ∧ KpD (own A CA) σ τ := by
  have k9 : ∀ κ a e, σ κ a = some e → κ ≠ 1 → τ κ a = some e := fun κ a e hh n1 => k κ a e hh (fun w => n1 w.1)
  refine ⟨h.w (k.mono (fun κ a d => Or.inl d)) x ?_ (fun i hi => (h.1.cal hi).kept (fun a e hh => k9 2 a e hh (by decide)) (fun a e hh => k9 100 a e hh (by decide))) ?_ (tsN_ok h.2.2 h.2.2.2.2.1 hc (Nat.le_trans hi h.2.2.2.2.2.2.2.2.2.1) (fun j hj => h.2.2.2.2.2.2.2.2.2.2 j (Nat.lt_of_lt_of_le hj hi))), k.mono (fun κ a d => Or.inl d)⟩
  · obtain ⟨ft, d1, d2⟩ := h.1.2.2.2.2.2.1
    exact ⟨ft, k9 _ _ _ d1 (by decide), d2⟩
  · obtain ⟨g, g1, g2⟩ := h.1.2.2.2.2.2.2.2.2.1
    exact ⟨g, k9 _ _ _ g1 (by decide), fun j hj => g2 j (Nat.lt_of_lt_of_le hj hi)⟩
theorem CI.c {σ τ : PS} {A : Nat → Nat} {CA : Nat → Nat × Nat × Nat} {E : Nat × Nat × Option Nat × Nat × Nat × Nat × Nat} {T : TS} {i : Nat} {C : CL} (h : CI σ A CA E T) (hi : i < 84) (hcal : CalO τ (CA i).1 (CA i).2.1 (CA i).2.2 C.1 C.2.1 C.2.2) (f : Fr (CalD (CA i).1 (CA i).2.1 (CA i).2.2) σ τ) (ok : clOK C) : CI τ A CA E (tsN T (kUp (tsK T) i C) (tsC T) (tsI T) (tsQ T)) ∧ KpD (own A CA) σ τ := by
  have kp : KpD (wr A CA) σ τ := f.kp.mono (fun κ a d => d.elim (fun w => Or.inr (Or.inr (Or.inl ⟨w.1, i, hi, w.2⟩))) (fun w => Or.inr (Or.inr (Or.inr ⟨w.1, Or.inr ⟨i, hi, w.2⟩⟩))))
  have ap := h.1.2.2.2.2.2.2.2.2.2.2
  have nd : ∀ κ a, κ ≠ 2 → κ ≠ 100 → ¬ CalD (CA i).1 (CA i).2.1 (CA i).2.2 κ a := fun κ a n2 n1 d => d.elim (fun w => n2 w.1) (fun w => n1 w.1)
  refine ⟨h.w kp ((f _ _ (nd _ _ (by decide) (by decide))).trans h.1.x) ?_ (fun j hj => ?_) ?_ (tsN_ok h.2.2 (fun j hj => ?_) h.2.2.2.2.2.2.2.2.1 h.2.2.2.2.2.2.2.2.2.1 h.2.2.2.2.2.2.2.2.2.2), kp.mono (fun κ a d => wr_own d)⟩
  · obtain ⟨ft, d1, d2⟩ := h.1.2.2.2.2.2.1
    exact ⟨ft, (f _ _ (nd _ _ (by decide) (by decide))).trans d1, d2⟩
  · by_cases z : j = i
    · subst z
      rw [kUp_at]
      exact hcal
    · rw [kUp_ne z]
      have q := ap.2.2.2.2 j i hj hi z
      have q' := ap.2.2.2.2 i j hi hj (fun e => z e.symm)
      exact (h.1.cal hj).fr f (fun d => d.elim (fun w => q.1 w.2) (fun w => absurd w.1 (by decide))) (fun d => d.elim (fun w => absurd w.1 (by decide)) (fun w => w.2.elim (fun u => q.2.1 u) (fun u => q.2.2.2 u))) (fun d => d.elim (fun w => absurd w.1 (by decide)) (fun w => w.2.elim (fun u => q'.2.2.2 u.symm) (fun u => q.2.2.1 u)))
  · obtain ⟨g, g1, g2⟩ := h.1.2.2.2.2.2.2.2.2.1
    have q := ap.2.2.2.1 i hi
    exact ⟨g, (f _ _ (fun d => d.elim (fun w => absurd w.1 (by decide)) (fun w => w.2.elim (fun u => q.1 u) (fun u => q.2.1 u)))).trans g1, g2⟩
  · by_cases z : j = i
    · subst z
      rw [kUp_at]
      exact ok
    · rw [kUp_ne z]
      exact h.2.2.2.2.1 j hj
theorem CP.chg {σ : PS} {A : Nat → Nat} {CA : Nat → Nat × Nat × Nat} {E : Nat × Nat × Option Nat × Nat × Nat × Nat × Nat} {T : TS} (h : CP σ A CA E T) : ∃ f, σ 103 (A 2) = some (.inr (20, .inr (.inr f))) ∧ ∀ k, k < 20 → f k = some (CA (1 + k)).1 := h.2.2.2.2.2.2.2.1.1
theorem c_as9 {G : GC} {σ : PS} {Q : Option Value → PS → Prop} {X : String → Nat → PS → Prop} {b : Nat} {A : Nat → Nat} {CA : Nat → Nat × Nat × Nat} {E : Nat × Nat × Option Nat × Nat × Nat × Nat × Nat} {T : TS} {i j : Nat} (hC : CI σ A CA E T) (hi : i < 84) (hj : j < 84) (hij : i ≠ j) (k : ∀ τ C, CI τ A CA E (tsN T (kUp (tsK T) i C) (tsC T) (tsI T) (tsQ T)) → sameC (tsK T j) C → KpD (own A CA) σ τ → Q (some (.ref (CA i).1)) τ) : (∃ fs, Ob σ 2 (CA i).1 fs) ∧ Call G mX2_as 3 b [.ref (CA i).1, .ref (CA j).1] σ Q X := by
  have ap := hC.1.2.2.2.2.2.2.2.2.2.2
  have q := ap.2.2.2.2 i j hi hj hij
  refine ⟨⟨_, (hC.1.cal hi).1⟩, k_as (hC.1.cal hi) (hC.1.cal hj) (fun e => q.1 e.symm) (fun e => q.2.2.2 e.symm) (fun τ hw hm h1 h2 h3 h4 => ?_)⟩
  have hs : sameC (tsK T j) ((tsK T j).1, hw, hm) := ⟨rfl, fun x hx => ⟨h2 x hx, h3 x hx⟩⟩
  obtain ⟨c1, c2⟩ := hC.c hi (C := ((tsK T j).1, hw, hm)) h1 h4 (hs.ok (hC.2.2.2.2.1 j hj))
  exact k τ _ c1 hs c2
/-- a change is kept -/
theorem c_changes {G : GC} {σ : PS} {Q : Option Value → PS → Prop} {X : String → Nat → PS → Prop} {b : Nat} {A : Nat → Nat} {CA : Nat → Nat × Nat × Nat} {E : Nat × Nat × Option Nat × Nat × Nat × Nat × Nat} {T : TS} (hC : CI σ A CA E T) (hc : tsC T < 20) (k : ∀ τ C, CI τ A CA E (tsN T (kUp (tsK T) (1 + tsC T) C) (tsC T + 1) (tsI T) (tsQ T)) → sameC (tsK T 0) C → KpD (own A CA) σ τ → Q none τ) : Call G mX1_changes 4 b [.ref (A 0)] σ Q X := by
  obtain ⟨f, f1, f2⟩ := hC.1.chg
  refine eX1_changes (bX1_changes_0 ⟨_, ⟨_, hC.1.x, rfl⟩, _, ⟨_, hC.1.x, rfl⟩, _, hC.1.x, by simp, fun s1 e1 => ?_⟩)
  obtain ⟨C1, K1⟩ := hC.n (τ := s1) (c := tsC T + 1) (i := tsI T) (by omega) (Nat.le_refl _) (by
    rw [e1]
    exact KpD.rf.up ⟨rfl, rfl⟩) (by
    rw [e1, up_eq, ← nI_1]
    rfl)
  refine ⟨20, f, (CA (1 + tsC T)).1, by rw [e1]; exact (up_ne (Or.inl (by decide))).trans f1, vp_in_nI hc (by decide), ?_, (CA 0).1, ⟨_, C1.1.x, rfl⟩, c_as9 (i := 1 + tsC T) (j := 0) C1 (by omega) (by decide) (by omega) (fun τ C c1 hs c2 => ⟨_, rfl, k τ C c1 hs (K1.tr c2)⟩)⟩
  rw [nI_clamp (by omega)]
  exact f2 _ hc
def cmC (C : CL) (p m : Int32) : CL := (C.1 + 1, (co p m C.1 C.2.1 C.2.2).1, (co p m C.1 C.2.1 C.2.2).2.1)
def cmX (C : CL) (p m : Int32) : Nat := (co p m C.1 C.2.1 C.2.2).2.2
def skC (C : CL) (v : Nat) : CL := (C.1 - 1, (fun j => if v ≤ j ∧ j < C.1 - 1 then C.2.1 (j + 1) else C.2.1 j), fun j => if v ≤ j ∧ j < C.1 - 1 then C.2.2 (j + 1) else C.2.2 j)
/-- a change kept (C), and another calendar now -/
def chS (T : TS) (C D : CL) : TS := tsN T (kUp (kUp (tsK T) (1 + tsC T) C) 0 D) (tsC T + 1) (tsI T) (tsQ T)
def okP (x : Int32) : Prop := ∃ p, p < 6 ∧ x = nI p
theorem co_ok {p m : Int32} {n : Nat} (hp : okP p) : ∀ (k : Nat) (fw fm : (Nat → Int32)), k ≤ n → (∀ i, i < k → okP (fw i)) → (∀ i, k < i → i < n + 1 → okP (fw i)) → ∀ i, i < n + 1 → okP ((co p m k fw fm).1 i)
  | 0, fw, fm, _, _, h2, i, hi => by
    show okP (if i = 0 then p else fw i)
    split
    · exact hp
    · exact h2 i (by omega) hi
  | k + 1, fw, fm, hk, h1, h2, i, hi => by
    rw [co]
    split
    · show okP (if i = k + 1 then p else fw i)
      split
      · exact hp
      · by_cases z : i < k + 1
        · exact h1 i z
        · exact h2 i (by omega) hi
    · refine co_ok hp k _ _ (by omega) (fun j hj => ?_) (fun j hj hj2 => ?_) i hi
      · show okP (if j = k + 1 then fw k else fw j)
        rw [if_neg (by omega)]
        exact h1 j (by omega)
      · show okP (if j = k + 1 then fw k else fw j)
        split
        · exact h1 k (by omega)
        · exact h2 j (by omega) hj2
theorem cmC_ok {C : CL} {p m : Int32} (h : clOK C) (hn : C.1 < 24) (hp : okP p) : clOK (cmC C p m) :=
  ⟨hn, fun i hi => co_ok hp C.1 _ _ (Nat.le_refl _) (fun i hi => h.2 i hi) (fun i q1 q2 => absurd q1 (by omega)) i hi⟩
theorem skC_ok {C : CL} {v : Nat} (h : clOK C) : clOK (skC C v) := by
  refine ⟨Nat.le_trans (Nat.sub_le _ _) h.1, fun i hi => ?_⟩
  have hi : i < C.1 - 1 := hi
  show okP (if _ then _ else _)
  split
  · exact h.2 _ (by omega)
  · exact h.2 _ (by omega)
/-- calendar 0 changes behind a change kept -/
theorem CI.now {σ τ : PS} {A : Nat → Nat} {CA : Nat → Nat × Nat × Nat} {E : Nat × Nat × Option Nat × Nat × Nat × Nat × Nat} {T : TS} {C D : CL} (h : CI σ A CA E (tsN T (kUp (tsK T) (1 + tsC T) C) (tsC T + 1) (tsI T) (tsQ T))) (hcal : CalO τ (CA 0).1 (CA 0).2.1 (CA 0).2.2 D.1 D.2.1 D.2.2) (f : Fr (CalD (CA 0).1 (CA 0).2.1 (CA 0).2.2) σ τ) (ok : clOK D) : CI τ A CA E (chS T C D) ∧ KpD (own A CA) σ τ :=
  h.c (i := 0) (by decide) hcal f ok
theorem CI.cal0 {σ : PS} {A : Nat → Nat} {CA : Nat → Nat × Nat × Nat} {E : Nat × Nat × Option Nat × Nat × Nat × Nat × Nat} {T : TS} {C : CL} (h : CI σ A CA E (tsN T (kUp (tsK T) (1 + tsC T) C) (tsC T + 1) (tsI T) (tsQ T))) : CalO σ (CA 0).1 (CA 0).2.1 (CA 0).2.2 (tsK T 0).1 (tsK T 0).2.1 (tsK T 0).2.2 := by
  have q := h.1.cal (i := 0) (by decide)
  rw [show tsK (tsN T (kUp (tsK T) (1 + tsC T) C) (tsC T + 1) (tsI T) (tsQ T)) 0 = tsK T 0 from kUp_ne (by omega)] at q
  exact q
theorem c_come {G : GC} {σ : PS} {Q : Option Value → PS → Prop} {X : String → Nat → PS → Prop} {b : Nat} {A : Nat → Nat} {CA : Nat → Nat × Nat × Nat} {E : Nat × Nat × Option Nat × Nat × Nat × Nat × Nat} {T : TS} {x y : Int32} (hC : CI σ A CA E T) (hb : 2 ≤ b) (kq : ∀ v u, v < tsP T → x = nI v → u < 481 → y = nI u → (tsK T 0).1 ≠ 24 → tsC T ≠ 20 → ∀ τ C, sameC (tsK T 0) C → CI τ A CA E (chS T C (cmC (tsK T 0) x y)) → KpD (own A CA) σ τ → Q (some (.int (nI (cmX (tsK T 0) x y)))) τ)
    (kn : inN x (tsP T) → inN y 481 → ((tsK T 0).1 = 24 ∨ tsC T = 20) → ∀ τ, CI τ A CA E T → KpD (own A CA) σ τ → Q (some (.int (-1))) τ) (k0 : ¬ inN x (tsP T) → ∀ τ q, CI τ A CA E (bu0 T) → KpD (own A CA) σ τ → X "java/util/NoSuchElementException" q τ) (k1 : inN x (tsP T) → ¬ inN y 481 → ∀ τ q, CI τ A CA E (bu1 T) → KpD (own A CA) σ τ → X "java/lang/IllegalArgumentException" q τ) : Call G mX1_come 12 b [.ref (A 0), .int x, .int y] σ Q X := by
  have hn := n24 hC.2.2
  have hP6 := hC.2.2.2.1
  have hc := hC.2.2.2.2.2.2.2.2.1
  refine eX1_come (bX1_come_0 ⟨1, by omega, ⟨_, hC.1.x⟩, c_personOf hC (Nat.le_refl _) (fun v hv hx => ⟨rfl, 1, by omega, ⟨_, hC.1.x⟩, c_in (n := 480) hC (Nat.le_refl _) (by decide) rfl (fun u hu hy => ⟨rfl, (CA 0).1, ⟨_, hC.1.x, rfl⟩, _, ⟨_, (hC.1.cal (i := 0) (by decide)).1, rfl⟩, fun z => kn ⟨v, hv, hx⟩ ⟨u, hu, hy⟩ (Or.inl ((nI_eq (b := 24) (by omega) (by decide)).mp z)) σ hC KpD.rf, fun z => ⟨_, ⟨_, hC.1.x, rfl⟩, fun w => ⟨⟨_, hC.1.x⟩, ?_⟩, fun w => kn ⟨v, hv, hx⟩ ⟨u, hu, hy⟩ (Or.inr ((nI_eq (b := 20) (by omega) (by decide)).mp w)) σ hC KpD.rf⟩⟩) (k1 ⟨v, hv, hx⟩)⟩) k0⟩)
  have z1 : (tsK T 0).1 ≠ 24 := fun e => z ((nI_eq (b := 24) (by omega) (by decide)).mpr e)
  have w1 : tsC T ≠ 20 := fun e => w ((nI_eq (b := 20) (by omega) (by decide)).mpr e)
  refine c_changes hC (by omega) (fun τ C c1 hs K1 => ⟨rfl, (CA 0).1, ⟨_, c1.1.x, rfl⟩, ⟨_, (c1.1.cal (i := 0) (by decide)).1⟩, k_comes c1.cal0 (by omega) (fun τ2 h2 f2 => ⟨_, rfl, ?_⟩)⟩)
  obtain ⟨c2, K2⟩ := c1.now (D := cmC (tsK T 0) x y) h2 f2 (cmC_ok (hC.2.2.2.2.1 0 (by decide)) (by omega) ⟨v, by omega, hx⟩)
  exact kq v u hv hx hu hy z1 w1 τ2 C hs c2 (K1.tr K2)
theorem sk_c {τ : PS} {c w m n v : Nat} {fw fm gw gm : (Nat → Int32)} (h : CalO τ c w m n gw gm) (e1 : ∀ j, gw j = if v ≤ j ∧ j < n then fw (j + 1) else fw j) (e2 : ∀ j, gm j = if v ≤ j ∧ j < n then fm (j + 1) else fm j) : CalO τ c w m (skC (n + 1, fw, fm) v).1 (skC (n + 1, fw, fm) v).2.1 (skC (n + 1, fw, fm) v).2.2 := by
  have a1 : gw = (skC (n + 1, fw, fm) v).2.1 := funext e1
  have a2 : gm = (skC (n + 1, fw, fm) v).2.2 := funext e2
  rw [← a1, ← a2]
  exact h
theorem c_skip {G : GC} {σ : PS} {Q : Option Value → PS → Prop} {X : String → Nat → PS → Prop} {b : Nat} {A : Nat → Nat} {CA : Nat → Nat × Nat × Nat} {E : Nat × Nat × Option Nat × Nat × Nat × Nat × Nat} {T : TS} {x : Int32} (hC : CI σ A CA E T) (hb : 1 ≤ b) (kq : ∀ v, v < (tsK T 0).1 → x = nI v → tsC T ≠ 20 → ∀ τ C, sameC (tsK T 0) C → CI τ A CA E (chS T C (skC (tsK T 0) v)) → KpD (own A CA) σ τ → Q (some (.int (nI ((tsK T 0).1 - 1)))) τ)
    (kn : inN x (tsK T 0).1 → tsC T = 20 → ∀ τ, CI τ A CA E T → KpD (own A CA) σ τ → Q (some (.int (-1))) τ) (k0 : ¬ inN x (tsK T 0).1 → ∀ τ q, CI τ A CA E (bu0 T) → KpD (own A CA) σ τ → X "java/util/NoSuchElementException" q τ) : Call G mX1_skip 12 b [.ref (A 0), .int x] σ Q X := by
  have hn := n24 hC.2.2
  have hc := hC.2.2.2.2.2.2.2.2.1
  refine eX1_skip (bX1_skip_0 ⟨1, by omega, ⟨_, hC.1.x⟩, c_visitOf hC (Nat.le_refl _) (fun v hv hx => ⟨rfl, _, ⟨_, hC.1.x, rfl⟩, fun w => ⟨⟨_, hC.1.x⟩, ?_⟩, fun w => kn ⟨v, hv, hx⟩ ((nI_eq (b := 20) (by omega) (by decide)).mp w) σ hC KpD.rf⟩) k0⟩)
  have w1 : tsC T ≠ 20 := fun e => w ((nI_eq (b := 20) (by omega) (by decide)).mpr e)
  subst hx
  obtain ⟨n, en⟩ : ∃ n, (tsK T 0).1 = n + 1 := ⟨(tsK T 0).1 - 1, by omega⟩
  have hok := skC_ok (v := v) (hC.2.2.2.2.1 0 (by decide))
  refine c_changes hC (by omega) (fun τ C c1 hs K1 => ⟨rfl, (CA 0).1, ⟨_, c1.1.x, rfl⟩, ⟨_, (c1.1.cal (i := 0) (by decide)).1⟩, ?_⟩)
  have h0 := c1.cal0
  have kk := kq v hv rfl w1
  revert h0 kk hok
  generalize tsK T 0 = K0 at *
  obtain ⟨n0, fw, fm⟩ := K0
  intro hok h0 kk
  have en : n0 = n + 1 := en
  subst en
  refine k_skips h0 (by omega) (by omega) (fun τ2 gw gm h2 e1 e2 f2 => ⟨rfl, ?_⟩)
  obtain ⟨c2, K2⟩ := c1.now (D := skC (n + 1, fw, fm) v) (sk_c h2 e1 e2) f2 hok
  exact ⟨(CA 0).1, ⟨_, c2.1.x, rfl⟩, _, ⟨_, h2.1, rfl⟩, kk τ2 C hs c2 (K1.tr K2)⟩
theorem c_shift {G : GC} {σ : PS} {Q : Option Value → PS → Prop} {X : String → Nat → PS → Prop} {b : Nat} {A : Nat → Nat} {CA : Nat → Nat × Nat × Nat} {E : Nat × Nat × Option Nat × Nat × Nat × Nat × Nat} {T : TS} {x y : Int32} (hC : CI σ A CA E T) (hb : 2 ≤ b) (kq : ∀ v u, v < (tsK T 0).1 → x = nI v → u < 481 → y = nI u → tsC T ≠ 20 → ∀ τ C, sameC (tsK T 0) C → CI τ A CA E (chS T C (cmC (skC (tsK T 0) v) ((tsK T 0).2.1 v) y)) → KpD (own A CA) σ τ → Q (some (.int (nI (cmX (skC (tsK T 0) v) ((tsK T 0).2.1 v) y)))) τ)
    (kn : inN x (tsK T 0).1 → inN y 481 → tsC T = 20 → ∀ τ, CI τ A CA E T → KpD (own A CA) σ τ → Q (some (.int (-1))) τ) (k0 : ¬ inN x (tsK T 0).1 → ∀ τ q, CI τ A CA E (bu0 T) → KpD (own A CA) σ τ → X "java/util/NoSuchElementException" q τ) (k1 : inN x (tsK T 0).1 → ¬ inN y 481 → ∀ τ q, CI τ A CA E (bu1 T) → KpD (own A CA) σ τ → X "java/lang/IllegalArgumentException" q τ) : Call G mX1_shift 12 b [.ref (A 0), .int x, .int y] σ Q X := by
  have hn := n24 hC.2.2
  have hc := hC.2.2.2.2.2.2.2.2.1
  refine eX1_shift (bX1_shift_0 ⟨1, by omega, ⟨_, hC.1.x⟩, c_visitOf hC (Nat.le_refl _) (fun v hv hx => ⟨rfl, 1, by omega, ⟨_, hC.1.x⟩, c_in (n := 480) hC (Nat.le_refl _) (by decide) rfl (fun u hu hy => ⟨rfl, _, ⟨_, hC.1.x, rfl⟩, fun w => ⟨⟨_, hC.1.x⟩, ?_⟩, fun w => kn ⟨v, hv, hx⟩ ⟨u, hu, hy⟩ ((nI_eq (b := 20) (by omega) (by decide)).mp w) σ hC KpD.rf⟩) (k1 ⟨v, hv, hx⟩)⟩) k0⟩)
  have w1 : tsC T ≠ 20 := fun e => w ((nI_eq (b := 20) (by omega) (by decide)).mpr e)
  subst hx
  obtain ⟨n, en⟩ : ∃ n, (tsK T 0).1 = n + 1 := ⟨(tsK T 0).1 - 1, by omega⟩
  have hok := skC_ok (v := v) (hC.2.2.2.2.1 0 (by decide))
  have hpw := (hC.2.2.2.2.1 0 (by decide)).2 v hv
  refine c_changes hC (by omega) (fun τ C c1 hs K1 => ⟨rfl, (CA 0).1, ⟨_, c1.1.x, rfl⟩, ?_⟩)
  have h0 := c1.cal0
  have kk := kq v u hv rfl hu hy w1
  revert h0 kk hok hpw
  generalize tsK T 0 = K0 at *
  obtain ⟨n0, fw, fm⟩ := K0
  intro hok hpw h0 kk
  have en : n0 = n + 1 := en
  subst en
  refine ⟨_, ⟨_, h0.1, rfl⟩, _, _, h0.2.1, vp_in_nI (by omega) (by decide), fun v3 e3 => ⟨(CA 0).1, ⟨_, c1.1.x, rfl⟩, ⟨_, h0.1⟩, ?_⟩⟩
  rw [nI_clamp (by omega)] at e3
  subst e3
  refine k_skips h0 (by omega) (by omega) (fun τ2 gw gm h2 e1 e2 f2 => ⟨rfl, ?_⟩)
  obtain ⟨c2, K2⟩ := c1.now (D := skC (n + 1, fw, fm) v) (sk_c h2 e1 e2) f2 hok
  refine ⟨(CA 0).1, ⟨_, c2.1.x, rfl⟩, ⟨_, h2.1⟩, k_comes (sk_c h2 e1 e2) (show n < 24 by omega) (fun τ3 h3 f3 => ⟨_, rfl, ?_⟩)⟩
  obtain ⟨c3, K3⟩ := c1.now (D := cmC (skC (n + 1, fw, fm) v) (fw v) y) h3 (f2.tr f3) (cmC_ok hok (show n < 24 by omega) hpw)
  exact kk τ3 C hs c3 (K1.tr K3)
