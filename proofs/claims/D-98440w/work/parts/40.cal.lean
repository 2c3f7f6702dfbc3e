/-! Part B: numbers, calendars -/
def Fr (D : Nat → Nat → Prop) (σ τ : PS) : Prop := ∀ κ a, ¬ D κ a → τ κ a = σ κ a
theorem Fr.rf {D : Nat → Nat → Prop} {σ : PS} : Fr D σ σ := fun _ _ _ => rfl
theorem Fr.tr {D : Nat → Nat → Prop} {σ τ υ : PS} (h1 : Fr D σ τ) (h2 : Fr D τ υ) : Fr D σ υ := fun κ a h => (h2 κ a h).trans (h1 κ a h)
theorem Fr.up {D : Nat → Nat → Prop} {σ τ : PS} {κ a : Nat} {e : aE} (h : Fr D σ τ) (hd : D κ a) : Fr D σ (up τ κ a e) := by
  intro κ' a' hn
  rw [up_ne]
  · exact h κ' a' hn
  · by_cases h1 : κ' = κ
    · by_cases h2 : a' = a
      · subst h1; subst h2; exact absurd hd hn
      · exact Or.inr h2
    · exact Or.inl h1
theorem Fr.mono {D E : Nat → Nat → Prop} {σ τ : PS} (h : Fr D σ τ) (hd : ∀ κ a, D κ a → E κ a) : Fr E σ τ := fun κ a n => h κ a (fun q => n (hd κ a q))
theorem cl_0 : (0 : Int32).toNatClampNeg = 0 := rfl
theorem cl_24 : (24 : Int32).toNatClampNeg = 24 := rfl
def CalO (σ : PS) (c w m n : Nat) (fw fm : Nat → Int32) : Prop := σ 2 c = some (.inl [.ref w, .ref m, .int (nI n)]) ∧ σ 100 w = some (.inr (24, .inl fw)) ∧ σ 100 m = some (.inr (24, .inl fm)) ∧ w ≠ m ∧ m ≠ w
def CalD (c w m κ a : Nat) : Prop := (κ = 2 ∧ a = c) ∨ (κ = 100 ∧ (a = w ∨ a = m))
/-- how often x is among the first ones -/
def cn (f : Nat → Int32) (x : Int32) : Nat → Nat
  | 0 => 0
  | k + 1 => cn f x k + (if f k = x then 1 else 0)
theorem cn_yes {f : (Nat → Int32)} {x : Int32} {k : Nat} (h : f k = x) : cn f x (k + 1) = cn f x k + 1 := by rw [cn, if_pos h]
theorem cn_no {f : (Nat → Int32)} {x : Int32} {k : Nat} (h : ¬ f k = x) : cn f x (k + 1) = cn f x k := by rw [cn, if_neg h]; rfl
theorem k_count {G : GC} {σ : PS} {c w m n v : Nat} {fw fm : Nat → Int32} {P : Option Value → Prop} (h : CalO σ c w m n fw fm) (hv : v < 24) (k : P (some (.int (nI (cn fw (fw v) (v + 1)))))) : CallO G mX2_count 3 [.ref c, .int (nI v)] σ P := by
  obtain ⟨e1, e2, e3, ne, ne'⟩ := h
  have L : ∀ d i, i + d = v + 1 → At G mX2_count 3 (fun u s => s = σ ∧ P u) (fun _ _ _ => False) 0 4 [(0, .ref c), (1, .int (nI v)), (2, .int (nI (cn fw (fw v) i))), (3, .int (nI i))] [] σ := by
    intro d
    induction d with
    | zero =>
      intro i hi
      have hi : i = v + 1 := by omega
      subst hi
      exact bX2_count_4 ⟨fun _ => ⟨rfl, k⟩, fun q => absurd (nI_lt (Nat.lt_succ_self v) (by omega)) q⟩
    | succ d ih =>
      intro i hi
      have hi9 : i < 24 := by omega
      refine bX2_count_4 ⟨fun q => absurd q (nI_nlt (by omega) (by omega)), fun _ => ?_⟩
      have p1 := vp_in_nI hi9 (by decide)
      have p2 := vp_in_nI hv (by decide)
      have p3 := ih (i + 1) (by omega)
      by_cases q : fw i = fw v
      · rw [cn_yes q] at p3
        simp [-Int32.not_le, -Int32.not_lt, -Int64.not_le, -Int64.not_lt, Fg, Ob, Ia, La, Qa, nI_1, pk_m1, nI_pred, e1, e2, p1, p2, nI_clamp (show i < 2 ^ 31 by omega), nI_clamp (show v < 2 ^ 31 by omega), q, p3]
      · rw [cn_no q] at p3
        simp [-Int32.not_le, -Int32.not_lt, -Int64.not_le, -Int64.not_lt, Fg, Ob, Ia, La, Qa, nI_1, pk_m1, nI_pred, e1, e2, p1, p2, nI_clamp (show i < 2 ^ 31 by omega), nI_clamp (show v < 2 ^ 31 by omega), q, p3]
  exact eX2_count (bX2_count_0 (L (v + 1) 0 (by omega)))
/-- minutes since the one ahead of the same -/
def la (fw fm : Nat → Int32) (v : Nat) : Nat → Int32
  | 0 => 999
  | k + 1 => if fw k = fw v then fm v - fm k else la fw fm v k
theorem la_yes {fw fm : (Nat → Int32)} {v k : Nat} (h : fw k = fw v) : la fw fm v (k + 1) = fm v - fm k := by rw [la, if_pos h]
theorem la_no {fw fm : (Nat → Int32)} {v k : Nat} (h : ¬ fw k = fw v) : la fw fm v (k + 1) = la fw fm v k := by rw [la, if_neg h]
theorem k_last {G : GC} {σ : PS} {c w m n v : Nat} {fw fm : Nat → Int32} {P : Option Value → Prop} (h : CalO σ c w m n fw fm) (hv : v < 24) (k : P (some (.int (la fw fm v v)))) : CallO G mX2_last 3 [.ref c, .int (nI v)] σ P := by
  obtain ⟨e1, e2, e3, ne, ne'⟩ := h
  have L : ∀ i, i ≤ v → la fw fm v i = la fw fm v v → At G mX2_last 3 (fun u s => s = σ ∧ P u) (fun _ _ _ => False) 0 4 [(0, .ref c), (1, .int (nI v)), (2, .int (nI i + (-1)))] [] σ := by
    intro i
    induction i with
    | zero =>
      intro _ hi
      rw [← hi] at k
      exact bX2_last_4 ⟨fun _ => ⟨rfl, k⟩, fun q => absurd (by decide) q⟩
    | succ i ih =>
      intro hl hi
      rw [pk_m1]
      refine bX2_last_4 ⟨fun q => absurd q (nI_pos (by omega)), fun _ => ?_⟩
      have p1 := vp_in_nI (show i < 24 by omega) (by decide)
      have p2 := vp_in_nI hv (by decide)
      by_cases q : fw i = fw v
      · rw [la_yes q] at hi
        rw [← hi] at k
        simp [-Int32.not_le, -Int32.not_lt, -Int64.not_le, -Int64.not_lt, Fg, Ob, Ia, La, Qa, nI_1, pk_m1, nI_pred, e1, e2, e3, p1, p2, nI_clamp (show i < 2 ^ 31 by omega), nI_clamp (show v < 2 ^ 31 by omega), q, k]
      · rw [la_no q] at hi
        have p3 := ih (by omega) hi
        simp [-Int32.not_le, -Int32.not_lt, -Int64.not_le, -Int64.not_lt, Fg, Ob, Ia, La, Qa, nI_1, pk_m1, nI_pred, e1, e2, e3, p1, p2, nI_clamp (show i < 2 ^ 31 by omega), nI_clamp (show v < 2 ^ 31 by omega), q, p3]
  exact eX2_last (bX2_last_0 (fun v2 h2 => by rw [h2, Int32.sub_eq_add_neg]; exact L v (Nat.le_refl _) rfl))
theorem k_of {G : GC} {σ : PS} {c w m n : Nat} {p : Int32} {fw fm : Nat → Int32} {P : Option Value → Prop} (h : CalO σ c w m n fw fm) (hn : n ≤ 24) (k : P (some (.int (nI (cn fw p n))))) : CallO G mX2_of 3 [.ref c, .int p] σ P := by
  obtain ⟨e1, e2, e3, ne, ne'⟩ := h
  have L : ∀ d i, i + d = n → At G mX2_of 3 (fun u s => s = σ ∧ P u) (fun _ _ _ => False) 0 4 [(0, .ref c), (1, .int p), (2, .int (nI (cn fw p i))), (3, .int (nI i))] [] σ := by
    intro d
    induction d with
    | zero =>
      intro i hi
      have hi : i = n := by omega
      subst hi
      have p0 := nI_le (Nat.le_refl i) (show i < 2 ^ 31 by omega)
      refine bX2_of_4 ?_
      simp [-Int32.not_le, -Int32.not_lt, -Int64.not_le, -Int64.not_lt, Fg, Ob, Ia, La, Qa, nI_1, pk_m1, nI_pred, e1, e2, p0, k]
    | succ d ih =>
      intro i hi
      have hi9 : i < 24 := by omega
      have p0 := nI_ge (show i < n by omega) (show n < 2 ^ 31 by omega)
      have p1 := vp_in_nI hi9 (by decide)
      have p3 := ih (i + 1) (by omega)
      refine bX2_of_4 ?_
      by_cases q : fw i = p
      · rw [cn_yes q] at p3
        simp [-Int32.not_le, -Int32.not_lt, -Int64.not_le, -Int64.not_lt, Fg, Ob, Ia, La, Qa, nI_1, pk_m1, nI_pred, e1, e2, p0, p1, nI_clamp (show i < 2 ^ 31 by omega), q, p3]
      · rw [cn_no q] at p3
        simp [-Int32.not_le, -Int32.not_lt, -Int64.not_le, -Int64.not_lt, Fg, Ob, Ia, La, Qa, nI_1, pk_m1, nI_pred, e1, e2, p0, p1, nI_clamp (show i < 2 ^ 31 by omega), q, p3]
  exact eX2_of (bX2_of_0 (L n 0 (by omega)))
/-- the first place of one from i on -/
def fi (f : Nat → Int32) (p : Int32) : Nat → Nat → Int32
  | 0, _ => -1
  | d + 1, i => if f i = p then nI i else fi f p d (i + 1)
theorem k_first {G : GC} {σ : PS} {c w m n : Nat} {p : Int32} {fw fm : Nat → Int32} {P : Option Value → Prop} (h : CalO σ c w m n fw fm) (hn : n ≤ 24) (k : P (some (.int (fi fw p n 0)))) : CallO G mX2_first 3 [.ref c, .int p] σ P := by
  obtain ⟨e1, e2, e3, ne, ne'⟩ := h
  have L : ∀ d i, i + d = n → fi fw p d i = fi fw p n 0 → At G mX2_first 3 (fun u s => s = σ ∧ P u) (fun _ _ _ => False) 0 2 [(0, .ref c), (1, .int p), (2, .int (nI i))] [] σ := by
    intro d
    induction d with
    | zero =>
      intro i hi hf
      have hi : i = n := by omega
      subst hi
      rw [← hf] at k
      have p0 := nI_le (Nat.le_refl i) (show i < 2 ^ 31 by omega)
      refine bX2_first_2 ?_
      simp only [fi] at k
      simp [-Int32.not_le, -Int32.not_lt, -Int64.not_le, -Int64.not_lt, Fg, Ob, Ia, La, Qa, nI_1, pk_m1, nI_pred, e1, e2, p0, k]
    | succ d ih =>
      intro i hi hf
      have hi9 : i < 24 := by omega
      have p0 := nI_ge (show i < n by omega) (show n < 2 ^ 31 by omega)
      have p1 := vp_in_nI hi9 (by decide)
      refine bX2_first_2 ?_
      by_cases q : fw i = p
      · rw [fi, if_pos q] at hf
        rw [← hf] at k
        simp [-Int32.not_le, -Int32.not_lt, -Int64.not_le, -Int64.not_lt, Fg, Ob, Ia, La, Qa, nI_1, pk_m1, nI_pred, e1, e2, p0, p1, nI_clamp (show i < 2 ^ 31 by omega), q, k]
      · rw [fi, if_neg q] at hf
        have p3 := ih (i + 1) (by omega) hf
        simp [-Int32.not_le, -Int32.not_lt, -Int64.not_le, -Int64.not_lt, Fg, Ob, Ia, La, Qa, nI_1, pk_m1, nI_pred, e1, e2, p0, p1, nI_clamp (show i < 2 ^ 31 by omega), q, p3]
  exact eX2_first (bX2_first_0 (L n 0 (by omega) rfl))
/-- one more comes: shifted back from k on -/
def co (p m : Int32) : Nat → (Nat → Int32) → (Nat → Int32) → (Nat → Int32) × (Nat → Int32) × Nat
  | 0, fw, fm => (upd fw 0 p, upd fm 0 m, 0)
  | k + 1, fw, fm => if fm k ≤ m then (upd fw (k + 1) p, upd fm (k + 1) m, k + 1) else co p m k (upd fw (k + 1) (fw k)) (upd fm (k + 1) (fm k))
theorem CalO.fr {σ τ : PS} {c w m n : Nat} {fw fm : (Nat → Int32)} {D : Nat → Nat → Prop} (h : CalO σ c w m n fw fm) (f : Fr D σ τ) (h1 : ¬ D 2 c) (h2 : ¬ D 100 w) (h3 : ¬ D 100 m) : CalO τ c w m n fw fm := by
  obtain ⟨e1, e2, e3, ne, ne'⟩ := h
  exact ⟨(f _ _ h1).trans e1, (f _ _ h2).trans e2, (f _ _ h3).trans e3, ne, ne'⟩
theorem k_comes {G : GC} {σ : PS} {Q : Option Value → PS → Prop} {X : String → Nat → PS → Prop} {b c w m n : Nat} {p mi : Int32} {fw fm : (Nat → Int32)} (h : CalO σ c w m n fw fm) (hn : n < 24) (k : ∀ τ, CalO τ c w m (n + 1) (co p mi n fw fm).1 (co p mi n fw fm).2.1 → Fr (CalD c w m) σ τ → Q (some (.int (nI (co p mi n fw fm).2.2))) τ) : Call G mX2_comes 3 b [.ref c, .int p, .int mi] σ Q X := by
  have L : ∀ i, i ≤ n → ∀ (gw gm : (Nat → Int32)) (τ : PS), CalO τ c w m (n + 1) gw gm → Fr (CalD c w m) σ τ → co p mi i gw gm = co p mi n fw fm → At G mX2_comes 3 Q X b 12 [(0, .ref c), (1, .int p), (2, .int mi), (3, .int (nI i))] [] τ := by
    intro i
    induction i with
    | zero =>
      intro _ gw gm τ hC hF he
      obtain ⟨e1, e2, e3, ne, ne'⟩ := hC
      refine bX2_comes_12 ⟨fun _ => ?_, fun q => absurd (by decide) q⟩
      rw [← he] at k
      simp only [co] at k
      have p1 := vp_in_nI (show 0 < 24 by omega) (by decide)
      simp [-Int32.not_le, -Int32.not_lt, -Int64.not_le, -Int64.not_lt, up, Fg, Ob, Ia, La, Qa, nI_1, pk_m1, nI_pred, e1, e2, e3, p1, nI_clamp (show 0 < 2 ^ 31 by omega), ne, ne']
      refine k _ ⟨?_, ?_, ?_, ne, ne'⟩ ((hF.up ?_).up ?_)
      · simp [up, e1]
      · simp [up, ne]
      · simp [up]
      · simp [CalD]
      · simp [CalD]
    | succ i ih =>
      intro hi gw gm τ hC hF he
      have hC' := hC
      obtain ⟨e1, e2, e3, ne, ne'⟩ := hC
      have p1 := vp_in_nI (show i < 24 by omega) (by decide)
      have p2 := vp_in_nI (show i + 1 < 24 by omega) (by decide)
      refine bX2_comes_12 ⟨fun q => absurd q (nI_nle (Nat.succ_pos i) (by omega)), fun _ => ?_⟩
      by_cases q : gm i ≤ mi
      · rw [co, if_pos q] at he
        rw [← he] at k
        simp [-Int32.not_le, -Int32.not_lt, -Int64.not_le, -Int64.not_lt, up, Fg, Ob, Ia, La, Qa, nI_1, pk_m1, nI_pred, e1, e2, e3, p1, p2, nI_clamp (show i < 2 ^ 31 by omega), nI_clamp (show i + 1 < 2 ^ 31 by omega), ne, ne', q]
        refine k _ ⟨?_, ?_, ?_, ne, ne'⟩ ((hF.up ?_).up ?_)
        · simp [up, e1]
        · simp [up, ne]
        · simp [up]
        · simp [CalD]
        · simp [CalD]
      · rw [co, if_neg q] at he
        simp [-Int32.not_le, -Int32.not_lt, -Int64.not_le, -Int64.not_lt, up, Fg, Ob, Ia, La, Qa, nI_1, pk_m1, nI_pred, e1, e2, e3, p1, p2, nI_clamp (show i < 2 ^ 31 by omega), nI_clamp (show i + 1 < 2 ^ 31 by omega), ne, ne', q]
        refine ih (by omega) _ _ _ ⟨?_, ?_, ?_, ne, ne'⟩ ((hF.up ?_).up ?_) he
        · simp [up, e1]
        · simp [up, ne]
        · simp [up]
        · simp [CalD]
        · simp [CalD]
  obtain ⟨e1, e2, e3, ne, ne'⟩ := h
  refine eX2_comes (bX2_comes_0 ?_)
  simp [-Int32.not_le, -Int32.not_lt, -Int64.not_le, -Int64.not_lt, Fg, Ob, Ia, La, Qa, nI_1, pk_m1, nI_pred, e1]
  refine L n (Nat.le_refl _) fw fm _ ⟨?_, ?_, ?_, ne, ne'⟩ (Fr.rf.up ?_) rfl
  · simp [up]
  · simp [up, e2]
  · simp [up, e3]
  · simp [CalD]

theorem k_skips {G : GC} {σ : PS} {Q : Option Value → PS → Prop} {X : String → Nat → PS → Prop} {b c w m n v : Nat} {fw fm : (Nat → Int32)} (h : CalO σ c w m (n + 1) fw fm) (hn : n < 24) (hv : v ≤ n) (k : ∀ τ gw gm, CalO τ c w m n gw gm → (∀ j, gw j = if v ≤ j ∧ j < n then fw (j + 1) else fw j) → (∀ j, gm j = if v ≤ j ∧ j < n then fm (j + 1) else fm j) → Fr (CalD c w m) σ τ → Q none τ) : Call G mX2_skips 3 b [.ref c, .int (nI v)] σ Q X := by
  have L : ∀ d i, i + d = n → v ≤ i → ∀ (gw gm : (Nat → Int32)) (τ : PS), CalO τ c w m n gw gm → Fr (CalD c w m) σ τ → (∀ j, gw j = if v ≤ j ∧ j < i then fw (j + 1) else fw j) → (∀ j, gm j = if v ≤ j ∧ j < i then fm (j + 1) else fm j) → At G mX2_skips 3 Q X b 12 [(0, .ref c), (2, .int (nI i))] [] τ := by
    intro d
    induction d with
    | zero =>
      intro i hi hvi gw gm τ hC hF h1 h2
      have hi : i = n := by omega
      subst hi
      have hC' := hC
      obtain ⟨e1, e2, e3, ne, ne'⟩ := hC
      have p0 := nI_le (Nat.le_refl i) (show i < 2 ^ 31 by omega)
      refine bX2_skips_12 ?_
      simp [-Int32.not_le, -Int32.not_lt, -Int64.not_le, -Int64.not_lt, Fg, Ob, Ia, La, Qa, nI_1, pk_m1, nI_pred, e1, p0]
      exact k _ _ _ hC' h1 h2 hF
    | succ d ih =>
      intro i hi hvi gw gm τ hC hF h1 h2
      obtain ⟨e1, e2, e3, ne, ne'⟩ := hC
      have p0 := nI_ge (show i < n by omega) (show n < 2 ^ 31 by omega)
      have p1 := vp_in_nI (show i < 24 by omega) (by decide)
      have p2 := vp_in_nI (show i + 1 < 24 by omega) (by decide)
      refine bX2_skips_12 ?_
      simp [-Int32.not_le, -Int32.not_lt, -Int64.not_le, -Int64.not_lt, up, Fg, Ob, Ia, La, Qa, nI_1, pk_m1, nI_pred, e1, e2, e3, p0, p1, p2, nI_clamp (show i < 2 ^ 31 by omega), nI_clamp (show i + 1 < 2 ^ 31 by omega), ne, ne']
      refine ih (i + 1) (by omega) (by omega) (upd gw i (gw (i + 1))) (upd gm i (gm (i + 1))) _ ⟨?_, ?_, ?_, ne, ne'⟩ ((hF.up ?_).up ?_) ?_ ?_
      · simp [up, e1]
      · simp [up, ne]
      · simp [up]
      · simp [CalD]
      · simp [CalD]
      · intro j
        unfold upd
        by_cases q : j = i
        · subst q
          rw [if_pos rfl, if_pos (by omega), h1 (j + 1), if_neg (by omega)]
        · rw [if_neg q, h1 j]
          by_cases q2 : v ≤ j ∧ j < i
          · rw [if_pos q2, if_pos (by omega)]
          · rw [if_neg q2, if_neg (by omega)]
      · intro j
        unfold upd
        by_cases q : j = i
        · subst q
          rw [if_pos rfl, if_pos (by omega), h2 (j + 1), if_neg (by omega)]
        · rw [if_neg q, h2 j]
          by_cases q2 : v ≤ j ∧ j < i
          · rw [if_pos q2, if_pos (by omega)]
          · rw [if_neg q2, if_neg (by omega)]
  obtain ⟨e1, e2, e3, ne, ne'⟩ := h
  refine eX2_skips (bX2_skips_0 ?_)
  simp [-Int32.not_le, -Int32.not_lt, -Int64.not_le, -Int64.not_lt, Fg, Ob, Ia, La, Qa, nI_1, pk_m1, nI_pred, e1]
  refine L (n - v) v (by omega) (Nat.le_refl _) fw fm _ ⟨?_, ?_, ?_, ne, ne'⟩ (Fr.rf.up ?_) ?_ ?_
  · simp [up]
  · simp [up, e2]
  · simp [up, e3]
  · simp [CalD]
  · intro j; rw [if_neg (by omega)]
  · intro j; rw [if_neg (by omega)]
theorem k_as {G : GC} {σ : PS} {Q : Option Value → PS → Prop} {X : String → Nat → PS → Prop} {b c w m n c1 w1 m1 n1 : Nat} {fw fm gw gm : (Nat → Int32)} (h : CalO σ c w m n fw fm) (h1 : CalO σ c1 w1 m1 n1 gw gm) (hc : c1 ≠ c) (hm : m1 ≠ w) (k : ∀ τ hw hm, CalO τ c w m n1 hw hm → (∀ j, j < 24 → hw j = gw j) → (∀ j, j < 24 → hm j = gm j) → Fr (CalD c w m) σ τ → Q (some (.ref c)) τ) : Call G mX2_as 3 b [.ref c, .ref c1] σ Q X := by
  obtain ⟨e1, e2, e3, ne, ne'⟩ := h
  obtain ⟨d1, d2, d3, de, de'⟩ := h1
  refine eX2_as (bX2_as_0 ?_)
  simp [-Int32.not_le, -Int32.not_lt, -Int64.not_le, -Int64.not_lt, up, Fg, Ob, Ia, La, Qa, nI_1, pk_m1, nI_pred, e1, e2, e3, d1, d2, d3, hc, hc.symm, hm, hm.symm, ne, ne', cl_0, cl_24]
  refine ⟨24, 24, gw, ⟨rfl, rfl⟩, fw, ⟨rfl, rfl⟩, by decide, by decide, 24, 24, gm, ⟨rfl, rfl⟩, fm, ⟨rfl, rfl⟩, by decide, by decide, ?_⟩
  refine k _ (va_cpy gw fw 0 0 24) (va_cpy gm fm 0 0 24) ⟨?_, ?_, ?_, ne, ne'⟩ ?_ ?_ (((Fr.rf.up ?_).up ?_).up ?_)
  · simp [up]
  · simp [up, ne]
  · simp [up]
  · intro j hj; simp [va_cpy, hj]
  · intro j hj; simp [va_cpy, hj]
  · simp [CalD]
  · simp [CalD]
  · simp [CalD]
theorem k_cal {G : GC} {σ : PS} {Q : Option Value → PS → Prop} {X : String → Nat → PS → Prop} {b c : Nat} (h : σ 2 c = some (.inl [.null, .null, .int 0])) (hb : 2 ≤ b) (k : ∀ τ w m, CalO τ c w m 0 (fun _ => 0) (fun _ => 0) → (∀ κ, σ κ w = none) → (∀ κ, σ κ m = none) → Fr (CalD c w m) σ τ → Q none τ) : Call G mX2_init 4 b [.ref c] σ Q X := by
  refine eX2_init (bX2_init_0 ?_)
  refine ⟨by omega, fun w hw s1 hs1 => ?_⟩
  subst hs1
  simp [-Int32.not_le, -Int32.not_lt, -Int64.not_le, -Int64.not_lt, up, Fg, Ob, Ia, La, Qa, nI_1, pk_m1, nI_pred, h]
  refine ⟨by omega, fun m hm => ?_⟩
  have hm2 := hm 100
  have hm0 : ∀ κ, σ κ m = none := by
    intro κ
    have q := hm κ
    split at q
    · cases q
    · split at q
      · cases q
      · exact q
  have ne : m ≠ w := fun q => by subst q; simp at hm2
  refine k _ w m ⟨?_, ?_, ?_, ne.symm, ne⟩ hw hm0 ((((Fr.rf.up ?_).up ?_).up ?_).up ?_)
  · simp [up]
    rfl
  · simp [up, ne.symm]
  · simp [up]
  · simp [CalD]
  · simp [CalD]
  · simp [CalD]
  · simp [CalD]
