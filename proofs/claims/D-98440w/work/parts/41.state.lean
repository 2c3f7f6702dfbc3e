/-! Part B: states as numbers, what is known in a visit -/
theorem fa_lt9 (a b : Int32) : a < b ↔ a.toInt < b.toInt := Int32.lt_iff_toInt_lt
theorem fa_le9 (a b : Int32) : a ≤ b ↔ a.toInt ≤ b.toInt := Int32.le_iff_toInt_le
def cE (x : Nat) : Nat := x % 2
def cK (x : Nat) : Nat := x / 2 % 2
def cD (x : Nat) : Nat := x / 4 % 13
def cC (x : Nat) : Nat := x / 4 / 13 % 13
def cS (x : Nat) : Nat := x / 4 / 13 / 13
def cd (s c d k e : Nat) : Nat := (((s * 13 + c) * 13 + d) * 2 + k) * 2 + e
theorem cd_code (x : Nat) : cd (cS x) (cC x) (cD x) (cK x) (cE x) = x := by
  unfold cd cS cC cD cK cE
  omega
theorem cd_S {s c d k e : Nat} (hc : c < 13) (hd : d < 13) (hk : k < 2) (he : e < 2) : cS (cd s c d k e) = s := by
  unfold cd cS
  omega
theorem cd_C {s c d k e : Nat} (hc : c < 13) (hd : d < 13) (hk : k < 2) (he : e < 2) : cC (cd s c d k e) = c := by
  unfold cd cC
  omega
theorem cd_D {s c d k e : Nat} (hd : d < 13) (hk : k < 2) (he : e < 2) : cD (cd s c d k e) = d := by
  unfold cd cD
  omega
theorem cd_K {s c d k e : Nat} (hk : k < 2) (he : e < 2) : cK (cd s c d k e) = k := by
  unfold cd cK
  omega
theorem cd_E {s c d k e : Nat} (he : e < 2) : cE (cd s c d k e) = e := by
  unfold cd cE
  omega
theorem cd_lt {s c d k e n : Nat} (hs : s < n) (hc : c < 13) (hd : d < 13) (hk : k < 2) (he : e < 2) : cd s c d k e < n * 676 := by
  unfold cd
  omega
theorem cE_lt (x : Nat) : cE x < 2 := Nat.mod_lt _ (by decide)
theorem cK_lt (x : Nat) : cK x < 2 := Nat.mod_lt _ (by decide)
theorem cD_lt (x : Nat) : cD x < 13 := Nat.mod_lt _ (by decide)
theorem cC_lt (x : Nat) : cC x < 13 := Nat.mod_lt _ (by decide)
theorem cS_lt {x n : Nat} (h : x < n * 676) : cS x < n := by
  unfold cS
  omega
/-- the fields of a state -/
def stL (s c d k e : Nat) : List Value := [.int (nI s), .int (nI c), .int (nI d), .int (nI k), .int (nI e)]
def stX (x : Nat) : List Value := stL (cS x) (cC x) (cD x) (cK x) (cE x)
theorem k_codeOf {G : GC} {σ : PS} {s c d k e : Nat} {P : Option Value → Prop} (h : P (some (.int (nI (cd s c d k e))))) : CallO G mX4_codeOf 3 [.int (nI s), .int (nI c), .int (nI d), .int (nI k), .int (nI e)] σ P := by
  refine eX4_codeOf (bX4_codeOf_0 ?_)
  intro w hw w1 hw1
  refine ⟨rfl, ?_⟩
  rw [hw1, hw, show (13 : Int32) = nI 13 from rfl, show (2 : Int32) = nI 2 from rfl]
  simp only [pk_mul, nI_add]
  exact h
theorem k_code {G : GC} {σ : PS} {a s c d k e : Nat} {P : Option Value → Prop} (e1 : σ 4 a = some (.inl (stL s c d k e))) (h : P (some (.int (nI (cd s c d k e))))) : CallO G mX4_code 4 [.ref a] σ P := by
  refine eX4_code (bX4_code_0 ?_)
  simp [-Int32.not_le, -Int32.not_lt, -Int64.not_le, -Int64.not_lt, Fg, Ob, Ia, La, Qa, nI_1, pk_m1, nI_pred, e1, stL]
  exact k_codeOf ⟨_, rfl, h⟩
theorem k_in {G : GC} {σ : PS} {a c d : Nat} {s k e : Value} {P : Option Value → Prop} (e1 : σ 4 a = some (.inl [s, .int (nI c), .int (nI d), k, e])) (h : P (some (.int (nI (c + d))))) : CallO G mX4_in 3 [.ref a] σ P := by
  refine eX4_in (bX4_in_0 ?_)
  simp [-Int32.not_le, -Int32.not_lt, -Int64.not_le, -Int64.not_lt, Fg, Ob, Ia, La, Qa, nI_1, pk_m1, nI_pred, e1, nI_add, h]
theorem k_stOf {G : GC} {σ : PS} {Q : Option Value → PS → Prop} {X : String → Nat → PS → Prop} {b a x : Nat} {l : List Value} (hx : x < 2 ^ 20) (e1 : σ 4 a = some (.inl l)) (hl : l.length = 5) (h : Q (some (.ref a)) (up σ 4 a (.inl (stX x)))) : Call G mX4_of 3 b [.ref a, .int (nI x)] σ Q X := by
  obtain ⟨l0, l1, l2, l3, l4, rfl⟩ : ∃ l0 l1 l2 l3 l4, l = [l0, l1, l2, l3, l4] := by
    match l, hl with
    | [l0, l1, l2, l3, l4], _ => exact ⟨l0, l1, l2, l3, l4, rfl⟩
  refine eX4_of (bX4_of_0 ?_)
  have q1 : nI x &&& 1 = nI (cE x) := pk_andN (by omega) 1 (by decide)
  have q2 : nI x >>> (1 &&& 31) = nI (x / 2) := pk_shrN (by omega) _ 1 (by decide)
  have q3 : nI (x / 2) &&& 1 = nI (cK x) := pk_andN (by omega) 1 (by decide)
  have q4 : nI x >>> (2 &&& 31) = nI (x / 4) := pk_shrN (by omega) _ 2 (by decide)
  have q5 : nI (x / 4) - nI (x / 4) / 13 * 13 = nI (cD x) := pk_rem (by omega) (by decide) (by decide)
  have q6 : nI (x / 4) / 13 = nI (x / 4 / 13) := pk_div (by omega) (by decide) (by decide)
  have q7 : nI (x / 4 / 13) - nI (x / 4 / 13) / 13 * 13 = nI (cC x) := pk_rem (by omega) (by decide) (by decide)
  have q8 : nI (x / 4 / 13) / 13 = nI (cS x) := pk_div (by omega) (by decide) (by decide)
  rw [q6] at q5
  rw [show nI (x / 4 / 13) / 13 = nI (cS x) from q8] at q7
  simp only [q1, q2, q3, q4]
  simp [-Int32.not_le, -Int32.not_lt, -Int64.not_le, -Int64.not_lt, Fg, Ob, Ia, La, Qa, nI_1, pk_m1, nI_pred, e1, up_eq, up_up, List.set]
  simp only [stX, stL] at h
  simp only [q5, q6, q7, q8]
  exact h
theorem k_isTrue {G : GC} {σ : PS} {a c d : Nat} {s k e : Value} {kk : Int32} {P : Option Value → Prop} (hd : d < 2 ^ 31) (e1 : σ 4 a = some (.inl [s, .int (nI c), .int (nI d), .int kk, e])) (h : P (some (.int (if (kk = 1 ↔ d = 0) then 1 else 0)))) : CallO G mX4_isTrue 3 [.ref a] σ P := by
  have hd0 : nI d = 0 ↔ d = 0 := nI_eq (b := 0) hd (by decide)
  refine eX4_isTrue (bX4_isTrue_0 ?_)
  simp [-Int32.not_le, -Int32.not_lt, -Int64.not_le, -Int64.not_lt, Fg, Ob, Ia, La, Qa, nI_1, pk_m1, nI_pred, e1]
  constructor
  · intro q
    refine bX4_isTrue_13 ?_
    by_cases z : d = 0
    · simp [-Int32.not_le, -Int32.not_lt, -Int64.not_le, -Int64.not_lt, Fg, Ob, Ia, La, Qa, nI_1, pk_m1, nI_pred, e1, z, hd0, q] at h ⊢; simp [z, show nI 0 = 0 from rfl, h]
    · simp [-Int32.not_le, -Int32.not_lt, -Int64.not_le, -Int64.not_lt, Fg, Ob, Ia, La, Qa, nI_1, pk_m1, nI_pred, e1, z, hd0, q] at h ⊢; simp [z, hd0, h]
  · intro q
    refine bX4_isTrue_13 ?_
    by_cases z : d = 0
    · simp [-Int32.not_le, -Int32.not_lt, -Int64.not_le, -Int64.not_lt, Fg, Ob, Ia, La, Qa, nI_1, pk_m1, nI_pred, e1, z, hd0, q] at h ⊢; simp [z, show nI 0 = 0 from rfl, h]
    · simp [-Int32.not_le, -Int32.not_lt, -Int64.not_le, -Int64.not_lt, Fg, Ob, Ia, La, Qa, nI_1, pk_m1, nI_pred, e1, z, hd0, q] at h ⊢; simp [z, hd0, h]
theorem k_starts {G : GC} {σ : PS} {Q : Option Value → PS → Prop} {X : String → Nat → PS → Prop} {b a s c d k e v : Nat} (hcd : c + d < 2 ^ 20) (e1 : σ 4 a = some (.inl (stL s c d k e))) (h0 : c + d = 0 → Q (some (.int (nI 0))) σ) (h1 : c + d ≠ 0 → Q (some (.int (nI c))) (up σ 4 a (.inl (stL (v + 1) (c + d) 0 k e)))) : Call G mX4_starts 4 b [.ref a, .int (nI v)] σ Q X := by
  have hd0 : nI (c + d) = 0 ↔ c + d = 0 := nI_eq (b := 0) (by omega) (by decide)
  have e2 := e1
  unfold stL at e2
  refine eX4_starts (bX4_starts_0 ⟨⟨_, e1⟩, k_in e2 ⟨_, rfl, fun q => ?_, fun q => h0 (hd0.mp q)⟩⟩)
  have h2 := h1 (fun z => q (hd0.mpr z))
  simp [-Int32.not_le, -Int32.not_lt, -Int64.not_le, -Int64.not_lt, Fg, Ob, Ia, La, Qa, nI_1, pk_m1, nI_pred, e2, up_eq, up_up, List.set, nI_add]
  exact h2

/-- an office: what it says (in the order of told, then prices), how many people -/
def OffO (σ : PS) (o p : Nat) (O : Nat → Nat) (P : Nat) : Prop := σ 7 o = some (.inl [.ref p, .int (nI (O 0)), .int (nI (O 1)), .int (nI (O 2)), .int (nI (O 3)), .int (nI (O 4)), .int (nI (O 5)), .int (nI (O 6)), .int (nI P)]) ∧ ∃ f, σ 100 p = some (.inr (5, .inl f)) ∧ ∀ i, i < 5 → f i = nI (O (7 + i))
/-- warm -/
def wm (fm : Nat → Int32) (W v s : Nat) : Bool := decide (0 < s) && decide (fm v - fm (s - 1) < nI W)
/-- what is known in a visit, of a state -/
def fac (N W : Nat) (fw fm : Nat → Int32) (v s c d k e : Nat) : Nat → Int32
  | 0 => nI k
  | 1 => if wm fm W v s = true then 1 else 0
  | 2 => nI (c + d)
  | 3 => nI N - nI (c + d)
  | 4 => fm v
  | 5 => nI e
  | 6 => la fw fm v v
  | _ => nI (cn fw (fw v) (v + 1))

def SigO (σ : PS) (a o c v : Nat) (fw fm : Nat → Int32) (s : Value) : Prop := σ 26 a = some (.inl [.ref o, .ref c, .int (nI v), .int (nI (cn fw (fw v) (v + 1))), .int (la fw fm v v), s])
theorem k_sight {G : GC} {σ : PS} {Q : Option Value → PS → Prop} {X : String → Nat → PS → Prop} {b a o c w m n v : Nat} {fw fm : (Nat → Int32)} {l : List Value} (hl : l.length = 6) (h5 : l[5]? = some .null) (e1 : σ 26 a = some (.inl l)) (hC : CalO σ c w m n fw fm) (hv : v < 24) (h : Q none (up σ 26 a (.inl [.ref o, .ref c, .int (nI v), .int (nI (cn fw (fw v) (v + 1))), .int (la fw fm v v), .null]))) : Call G mX26_init 4 b [.ref a, .ref o, .ref c, .int (nI v)] σ Q X := by
  obtain ⟨l0, l1, l2, l3, l4, l5, rfl⟩ : ∃ l0 l1 l2 l3 l4 l5, l = [l0, l1, l2, l3, l4, l5] := by
    match l, hl with
    | [l0, l1, l2, l3, l4, l5], _ => exact ⟨l0, l1, l2, l3, l4, l5, rfl⟩
  have h5' : l5 = .null := Option.some.inj h5
  subst h5'
  have hC1 : ∀ e, CalO (up σ 26 a e) c w m n fw fm := fun e => hC.fr (D := fun κ a' => κ = 26 ∧ a' = a) (Fr.rf.up ⟨rfl, rfl⟩) (by simp) (by simp) (by simp)
  refine eX26_init (bX26_init_0 ?_)
  simp [-Int32.not_le, -Int32.not_lt, -Int64.not_le, -Int64.not_lt, Fg, Ob, Ia, La, Qa, nI_1, pk_m1, nI_pred, e1, up_eq, up_up, List.set]
  refine ⟨⟨_, (hC1 _).1⟩, k_count (hC1 _) hv ⟨_, rfl, ?_⟩⟩
  simp [-Int32.not_le, -Int32.not_lt, -Int64.not_le, -Int64.not_lt, Fg, Ob, Ia, La, Qa, nI_1, pk_m1, nI_pred, e1, up_eq, up_up, List.set]
  refine ⟨⟨_, (hC1 _).1⟩, k_last (hC1 _) hv ⟨_, rfl, ?_⟩⟩
  simp [-Int32.not_le, -Int32.not_lt, -Int64.not_le, -Int64.not_lt, Fg, Ob, Ia, La, Qa, nI_1, pk_m1, nI_pred, e1, up_eq, up_up, List.set]
  exact h
theorem k_at {G : GC} {σ : PS} {Q : Option Value → PS → Prop} {X : String → Nat → PS → Prop} {b a o c v s : Nat} {fw fm : (Nat → Int32)} {s0 : Value} (h : SigO σ a o c v fw fm s0) (k : Q (some (.ref a)) (up σ 26 a (.inl [.ref o, .ref c, .int (nI v), .int (nI (cn fw (fw v) (v + 1))), .int (la fw fm v v), .ref s]))) : Call G mX26_at 3 b [.ref a, .ref s] σ Q X := by
  unfold SigO at h
  refine eX26_at (bX26_at_0 ?_)
  simp [-Int32.not_le, -Int32.not_lt, -Int64.not_le, -Int64.not_lt, Fg, Ob, Ia, La, Qa, nI_1, pk_m1, nI_pred, h, up_eq, up_up, List.set]
  exact k
theorem k_isWarm {G : GC} {σ : PS} {a o p c w m n v st s cc d k e P' : Nat} {O : Nat → Nat} {fw fm : (Nat → Int32)} {P : Option Value → Prop} (h : SigO σ a o c v fw fm (.ref st)) (hO : OffO σ o p O P') (hC : CalO σ c w m n fw fm) (hS : σ 4 st = some (.inl (stL s cc d k e))) (hv : v < 24) (hs : s ≤ 24) (k : P (some (.int (if wm fm (O 5) v s = true then 1 else 0)))) : CallO G mX26_isWarm 3 [.ref a] σ P := by
  unfold SigO at h
  obtain ⟨o1, -⟩ := hO
  obtain ⟨c1, c2, c3, -, -⟩ := hC
  unfold stL at hS
  refine eX26_isWarm (bX26_isWarm_0 ?_)
  have p1 := vp_in_nI (show v < 24 from hv) (by decide)
  by_cases z : s = 0
  · subst z
    simp [wm] at k
    simp [-Int32.not_le, -Int32.not_lt, -Int64.not_le, -Int64.not_lt, Fg, Ob, Ia, La, Qa, nI_1, pk_m1, nI_pred, h, o1, c1, c2, c3, hS, show nI 0 ≤ 0 by decide, k]
  · obtain ⟨s, rfl⟩ := Nat.exists_eq_succ_of_ne_zero z
    have p2 := vp_in_nI (show s < 24 by omega) (by decide)
    have p3 := nI_nle (Nat.succ_pos s) (show s + 1 < 2 ^ 31 by omega)
    have p4 : nI (s + 1) - 1 = nI s := nI_pred s
    simp [-Int32.not_le, -Int32.not_lt, -Int64.not_le, -Int64.not_lt, Fg, Ob, Ia, La, Qa, nI_1, pk_m1, nI_pred, h, o1, c1, c2, c3, hS, p1, p3, p4, p2, nI_clamp (show v < 2 ^ 31 by omega), nI_clamp (show s < 2 ^ 31 by omega)]
    simp [wm] at k
    constructor
    · intro q
      rw [if_neg (by rw [fa_lt9]; rw [fa_le9] at q; omega)] at k
      exact k
    · intro q
      rw [if_pos (by rw [fa_lt9]; rw [fa_le9] at q; omega)] at k
      exact k
theorem k_known {G : GC} {σ : PS} {a o p c w m n v st s cc d k e P' i : Nat} {O : Nat → Nat} {fw fm : (Nat → Int32)} {P : Option Value → Prop} (h : SigO σ a o c v fw fm (.ref st)) (hO : OffO σ o p O P') (hC : CalO σ c w m n fw fm) (hS : σ 4 st = some (.inl (stL s cc d k e))) (hv : v < 24) (hs : s ≤ 24) (hi : i < 8) (k : P (some (.int (fac (O 0) (O 5) fw fm v s cc d k e i)))) : CallO G mX26_known 4 [.ref a, .int (nI i)] σ P := by
  have h' := h
  have hO' := hO
  have hC' := hC
  have hS' := hS
  unfold SigO at h
  obtain ⟨o1, -⟩ := hO
  obtain ⟨c1, c2, c3, -, -⟩ := hC
  unfold stL at hS
  have p1 := vp_in_nI (show v < 24 from hv) (by decide)
  refine eX26_known (bX26_known_0 ?_)
  have ix : i = 0 ∨ i = 1 ∨ i = 2 ∨ i = 3 ∨ i = 4 ∨ i = 5 ∨ i = 6 ∨ i = 7 := by omega
  rw [nI_toInt (show i < 2 ^ 31 by omega)]
  have lt : ∀ j : Nat, j < 2 ^ 31 → (nI i = (nI j) ↔ i = j) := fun j hj => nI_eq (by omega) hj
  have l0 := lt 0 (by decide)
  have l1 := lt 1 (by decide)
  have l2 := lt 2 (by decide)
  have l3 := lt 3 (by decide)
  have l4 := lt 4 (by decide)
  have l5 := lt 5 (by decide)
  have l6 := lt 6 (by decide)
  have y0 : (0 : Int32) = nI 0 := rfl
  have y1 : (1 : Int32) = nI 1 := rfl
  have y2 : (2 : Int32) = nI 2 := rfl
  have y3 : (3 : Int32) = nI 3 := rfl
  have y4 : (4 : Int32) = nI 4 := rfl
  have y5 : (5 : Int32) = nI 5 := rfl
  have y6 : (6 : Int32) = nI 6 := rfl
  rw [show (nI i = (0 : Int32)) = (i = 0) from propext l0, show (nI i = (1 : Int32)) = (i = 1) from propext l1, show (nI i = (2 : Int32)) = (i = 2) from propext l2, show (nI i = (3 : Int32)) = (i = 3) from propext l3, show (nI i = (4 : Int32)) = (i = 4) from propext l4, show (nI i = (5 : Int32)) = (i = 5) from propext l5, show (nI i = (6 : Int32)) = (i = 6) from propext l6]
  refine ⟨fun q => ?_, fun q => ?_, fun q => ?_, fun q => ?_, fun q => ?_, fun q => ?_, fun q => ?_, fun q => ?_⟩
  · have : i = 7 := by omega
    subst this
    simp only [fac] at k
    simp [-Int32.not_le, -Int32.not_lt, -Int64.not_le, -Int64.not_lt, Fg, Ob, Ia, La, Qa, nI_1, pk_m1, nI_pred, h, k]
  · subst q
    simp only [fac] at k
    simp [-Int32.not_le, -Int32.not_lt, -Int64.not_le, -Int64.not_lt, Fg, Ob, Ia, La, Qa, nI_1, pk_m1, nI_pred, h, hS, k]
  · subst q
    simp only [fac] at k
    refine ⟨⟨_, h⟩, k_isWarm h' hO' hC' hS' hv hs ⟨_, rfl, ?_⟩⟩
    split at k
    · rename_i q; simp [q, k]
    · rename_i q; simp [q, k]
  · subst q
    simp only [fac] at k
    simp [-Int32.not_le, -Int32.not_lt, -Int64.not_le, -Int64.not_lt, Fg, Ob, Ia, La, Qa, nI_1, pk_m1, nI_pred, h, hS]
    exact k_in hS ⟨_, rfl, k⟩
  · subst q
    simp only [fac] at k
    simp [-Int32.not_le, -Int32.not_lt, -Int64.not_le, -Int64.not_lt, Fg, Ob, Ia, La, Qa, nI_1, pk_m1, nI_pred, h, hS, o1]
    exact k_in hS ⟨_, rfl, k⟩
  · subst q
    simp only [fac] at k
    simp [-Int32.not_le, -Int32.not_lt, -Int64.not_le, -Int64.not_lt, Fg, Ob, Ia, La, Qa, nI_1, pk_m1, nI_pred, h, c1, c3, p1, nI_clamp (show v < 2 ^ 31 by omega), k]
  · subst q
    simp only [fac] at k
    simp [-Int32.not_le, -Int32.not_lt, -Int64.not_le, -Int64.not_lt, Fg, Ob, Ia, La, Qa, nI_1, pk_m1, nI_pred, h, hS, k]
  · subst q
    simp only [fac] at k
    simp [-Int32.not_le, -Int32.not_lt, -Int64.not_le, -Int64.not_lt, Fg, Ob, Ia, La, Qa, nI_1, pk_m1, nI_pred, h, k]
