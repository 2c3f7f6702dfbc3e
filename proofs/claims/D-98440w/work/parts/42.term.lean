/-! Part B: terms as codes behind what they are of; steps -/
def opv (w : Nat) (u v : Int32) : Int32 := match w with
  | 2 => u + v
  | 3 => u - v
  | 4 => u * v
  | 5 => if u < v then 1 else 0
  | 6 => if v < u then 1 else 0
  | 7 => if u = v then 1 else 0
  | 9 => u &&& v
  | _ => u ||| v
/-- one code on a row of values -/
def rn1 (F : Nat → Int32) (q : Nat × Int32) (st : List Int32) : List Int32 :=
  if q.1 = 0 then q.2 :: st else if q.1 = 1 then F q.2.toNatClampNeg :: st else if q.1 = 8 then (match st with
    | a :: t => (1 - a) :: t
    | [] => []) else (match st with
    | v :: u :: t => opv q.1 u v :: t
    | _ => [])
def rn (F : Nat → Int32) : List (Nat × Int32) → List Int32 → List Int32
  | [], st => st
  | q :: cs, st => rn F cs (rn1 F q st)
theorem rn_app (F : Nat → Int32) (a b : List (Nat × Int32)) (st : List Int32) : rn F (a ++ b) st = rn F b (rn F a st) := by
  induction a generalizing st with
  | nil => rfl
  | cons q a ih => exact ih _
def sgn (w : Nat) : Nat := match w with
  | 2 => 43
  | 3 => 45
  | 4 => 42
  | 5 => 60
  | 6 => 62
  | 7 => 61
  | 9 => 38
  | _ => 124
def sgOK (w : Nat) : Prop := w = 2 ∨ w = 3 ∨ w = 4 ∨ w = 5 ∨ w = 6 ∨ w = 7 ∨ w = 9 ∨ w = 10
def TermAt : Nat → PS → Nat → List (Nat × Int32) → Prop
  | 0, _, _, _ => False
  | d + 1, σ, a, cs => (∃ n : Int32, σ 16 a = some (.inl [.int n]) ∧ cs = [(0, n)]) ∨ (∃ i, i < 8 ∧ σ 17 a = some (.inl [.int (nI i)]) ∧ cs = [(1, nI i)]) ∨
    (∃ t c1, σ 15 a = some (.inl [.ref t]) ∧ TermAt d σ t c1 ∧ cs = c1 ++ [(8, 0)]) ∨
    (∃ w t u c1 c2, sgOK w ∧ σ 18 a = some (.inl [.int (nI (sgn w)), .ref t, .ref u]) ∧ TermAt d σ t c1 ∧ TermAt d σ u c2 ∧ cs = c1 ++ c2 ++ [(w, 0)])
theorem TermAt.ne : ∀ {d : Nat} {σ : PS} {a : Nat} {cs : List (Nat × Int32)}, TermAt d σ a cs → cs ≠ []
  | 0, _, _, _, h => h.elim
  | d + 1, σ, a, cs, h => by
    rcases h with ⟨n, _, rfl⟩ | ⟨i, _, _, rfl⟩ | ⟨t, c1, _, _, rfl⟩ | ⟨w, t, u, c1, c2, _, _, _, _, rfl⟩ <;> simp
theorem TermAt.mono : ∀ {d e : Nat} {σ : PS} {a : Nat} {cs : List (Nat × Int32)}, TermAt d σ a cs → d ≤ e → TermAt e σ a cs
  | 0, _, _, _, _, h, _ => h.elim
  | d + 1, 0, _, _, _, _, h => absurd h (by omega)
  | d + 1, e + 1, σ, a, cs, h, hl => by
    rcases h with h | h | ⟨t, c1, h1, h2, h3⟩ | ⟨w, t, u, c1, c2, h0, h1, h2, h3, h4⟩
    · exact Or.inl h
    · exact Or.inr (Or.inl h)
    · exact Or.inr (Or.inr (Or.inl ⟨t, c1, h1, h2.mono (by omega), h3⟩))
    · exact Or.inr (Or.inr (Or.inr ⟨w, t, u, c1, c2, h0, h1, h2.mono (by omega), h3.mono (by omega), h4⟩))
/-- what is known stays known -/
def Kp (κ : Nat) (σ τ : PS) : Prop := ∀ a e, σ κ a = some e → τ κ a = some e
theorem TermAt.kept : ∀ {d : Nat} {σ τ : PS} {a : Nat} {cs : List (Nat × Int32)}, (∀ κ, 15 ≤ κ → κ ≤ 18 → Kp κ σ τ) → TermAt d σ a cs → TermAt d τ a cs
  | 0, _, _, _, _, _, h => h.elim
  | d + 1, σ, τ, a, cs, f, h => by
    rcases h with ⟨n, h1, h2⟩ | ⟨i, h0, h1, h2⟩ | ⟨t, c1, h1, h2, h3⟩ | ⟨w, t, u, c1, c2, h0, h1, h2, h3, h4⟩
    · exact Or.inl ⟨n, f 16 (by decide) (by decide) _ _ h1, h2⟩
    · exact Or.inr (Or.inl ⟨i, h0, f 17 (by decide) (by decide) _ _ h1, h2⟩)
    · exact Or.inr (Or.inr (Or.inl ⟨t, c1, f 15 (by decide) (by decide) _ _ h1, h2.kept f, h3⟩))
    · exact Or.inr (Or.inr (Or.inr ⟨w, t, u, c1, c2, h0, f 18 (by decide) (by decide) _ _ h1, h2.kept f, h3.kept f, h4⟩))
/-- what is asked with: a sight on a state, its office, calendar -/
def Asks (σ : PS) (a v N W : Nat) (fw fm : Nat → Int32) (s c d k e : Nat) : Prop := ∃ (o p cl w m n st P' : Nat) (O : Nat → Nat), O 0 = N ∧ O 5 = W ∧ SigO σ a o cl v fw fm (.ref st) ∧ OffO σ o p O P' ∧ CalO σ cl w m n fw fm ∧ σ 4 st = some (.inl (stL s c d k e)) ∧ v < 24 ∧ s ≤ 24
theorem k_ask {G : GC} {σ : PS} {a v N W s c d k e i : Nat} {fw fm : (Nat → Int32)} {P : Option Value → Prop} (h : Asks σ a v N W fw fm s c d k e) (hi : i < 8) (kk : P (some (.int (fac N W fw fm v s c d k e i)))) : CallO G mX26_known 4 [.ref a, .int (nI i)] σ P := by
  obtain ⟨o, p, cl, w, m, n, st, P', O, rfl, rfl, h1, h2, h3, h4, h5, h6⟩ := h
  exact k_known h1 h2 h3 h4 h5 h6 hi kk
theorem Asks.ob {σ : PS} {a v N W s c d k e : Nat} {fw fm : (Nat → Int32)} (h : Asks σ a v N W fw fm s c d k e) : ∃ fs, Ob σ 26 a fs := by
  obtain ⟨o, p, cl, w, m, n, st, P', O, rfl, rfl, h1, h2, h3, h4, h5, h6⟩ := h
  exact ⟨_, h1⟩
theorem k_term {G : GC} {σ : PS} {a v N W s c d k e : Nat} {fw fm : (Nat → Int32)} (hA : Asks σ a v N W fw fm s c d k e) : ∀ (D : Nat) (t : Nat) (cs : List (Nat × Int32)), TermAt D σ t cs → ∃ x : Int32, (∀ st, rn (fac N W fw fm v s c d k e) cs st = x :: st) ∧ ∀ (r : Nat) (P : Option Value → Prop), D + 5 ≤ r → P (some (.int x)) → CallT G r t [.ref a] σ P := by
  intro D
  induction D with
  | zero => intro t cs h; exact h.elim
  | succ D ih =>
    intro t cs h
    rcases h with ⟨n, h1, rfl⟩ | ⟨i, h0, h1, rfl⟩ | ⟨u, c1, h1, h2, rfl⟩ | ⟨w, u, u2, c1, c2, h0, h1, h2, h3, rfl⟩
    · refine ⟨n, fun st => rfl, fun r P hr hP => Or.inr (Or.inl ⟨_, h1, ?_⟩)⟩
      refine eX16_on (bX16_on_0 ?_)
      simp [-Int32.not_le, -Int32.not_lt, -Int64.not_le, -Int64.not_lt, Fg, Ob, Ia, La, Qa, nI_1, pk_m1, nI_pred, h1, hP]
    · refine ⟨fac N W fw fm v s c d k e i, fun st => ?_, fun r P hr hP => Or.inr (Or.inr (Or.inl ⟨_, h1, ?_⟩))⟩
      · simp [rn, rn1, nI_clamp (show i < 2 ^ 31 by omega)]
      · refine eX17_on (bX17_on_0 ?_)
        exact ⟨_, ⟨_, h1, rfl⟩, by omega, hA.ob, k_ask hA h0 ⟨_, rfl, rfl, hP⟩⟩
    · obtain ⟨x, hx, hc⟩ := ih u c1 h2
      refine ⟨1 - x, fun st => ?_, fun r P hr hP => Or.inl ⟨_, h1, ?_⟩⟩
      · rw [rn_app, hx]; rfl
      · refine eX15_on (bX15_on_0 ⟨u, ⟨_, h1, rfl⟩, r - 1, by omega, hc _ _ (by omega) ⟨_, rfl, rfl, hP⟩⟩)
    · obtain ⟨x, hx, hc⟩ := ih u c1 h2
      obtain ⟨y, hy, hd⟩ := ih u2 c2 h3
      refine ⟨opv w x y, fun st => ?_, fun r P hr hP => Or.inr (Or.inr (Or.inr ⟨_, h1, ?_⟩))⟩
      · rw [rn_app, rn_app, hx, hy]
        rcases h0 with rfl | rfl | rfl | rfl | rfl | rfl | rfl | rfl <;> rfl
      · refine eX18_on (bX18_on_0 ⟨u, ⟨_, h1, rfl⟩, r - 1, by omega, hc _ _ (by omega) ⟨_, rfl, u2, ⟨_, h1, rfl⟩, r - 1, by omega, hd _ _ (by omega) ⟨_, rfl, _, ⟨_, h1, rfl⟩, ?_⟩⟩⟩)
        rcases h0 with rfl | rfl | rfl | rfl | rfl | rfl | rfl | rfl
        · refine ⟨fun q => absurd rfl q.2.2.1, fun q => absurd q (by decide), fun q => absurd q (by decide), fun _ => ⟨rfl, hP⟩, fun q => absurd q (by decide), fun q => absurd q (by decide), fun q => absurd q (by decide), fun q => absurd q (by decide)⟩
        · refine ⟨fun q => absurd rfl q.2.2.2.1, fun q => absurd q (by decide), fun q => absurd q (by decide), fun q => absurd q (by decide), fun _ => ⟨rfl, hP⟩, fun q => absurd q (by decide), fun q => absurd q (by decide), fun q => absurd q (by decide)⟩
        · refine ⟨fun q => absurd rfl q.2.1, fun q => absurd q (by decide), fun _ => ⟨rfl, hP⟩, fun q => absurd q (by decide), fun q => absurd q (by decide), fun q => absurd q (by decide), fun q => absurd q (by decide), fun q => absurd q (by decide)⟩
        · refine ⟨fun q => absurd rfl q.2.2.2.2.1, fun q => absurd q (by decide), fun q => absurd q (by decide), fun q => absurd q (by decide), fun q => absurd q (by decide), fun _ => ⟨fun q => ⟨rfl, ?_⟩, fun q => ⟨rfl, ?_⟩⟩, fun q => absurd q (by decide), fun q => absurd q (by decide)⟩
          · rw [show opv 5 x y = 0 from if_neg (by rw [fa_lt9]; rw [fa_le9] at q; omega)] at hP; exact hP
          · rw [show opv 5 x y = 1 from if_pos (by rw [fa_lt9]; rw [fa_le9] at q; omega)] at hP; exact hP
        · refine ⟨fun q => absurd rfl q.2.2.2.2.2.2, fun q => absurd q (by decide), fun q => absurd q (by decide), fun q => absurd q (by decide), fun q => absurd q (by decide), fun q => absurd q (by decide), fun q => absurd q (by decide), fun _ => ⟨fun q => ⟨rfl, ?_⟩, fun q => ⟨rfl, ?_⟩⟩⟩
          · rw [show opv 6 x y = 0 from if_neg (by rw [fa_lt9]; rw [fa_le9] at q; omega)] at hP; exact hP
          · rw [show opv 6 x y = 1 from if_pos (by rw [fa_lt9]; rw [fa_le9] at q; omega)] at hP; exact hP
        · refine ⟨fun q => absurd rfl q.2.2.2.2.2.1, fun q => absurd q (by decide), fun q => absurd q (by decide), fun q => absurd q (by decide), fun q => absurd q (by decide), fun q => absurd q (by decide), fun _ => ⟨fun q => ⟨rfl, ?_⟩, fun q => ⟨rfl, ?_⟩⟩, fun q => absurd q (by decide)⟩
          · rw [show opv 7 x y = 0 from if_neg q] at hP; exact hP
          · rw [show opv 7 x y = 1 from if_pos q] at hP; exact hP
        · refine ⟨fun q => absurd rfl q.1, fun _ => ⟨rfl, hP⟩, fun q => absurd q (by decide), fun q => absurd q (by decide), fun q => absurd q (by decide), fun q => absurd q (by decide), fun q => absurd q (by decide), fun q => absurd q (by decide)⟩
        · refine ⟨fun _ => bX18_on_189 ⟨rfl, hP⟩, fun q => absurd q (by decide), fun q => absurd q (by decide), fun q => absurd q (by decide), fun q => absurd q (by decide), fun q => absurd q (by decide), fun q => absurd q (by decide), fun q => absurd q (by decide)⟩

/-- a step: what, by how much, what must be so -/
def StT : Type := Nat × Nat × List (Nat × Int32)
def kOf (act : Nat) : Nat := match act with
  | 0 => 20
  | 1 => 21
  | 2 => 22
  | 3 => 23
  | 4 => 24
  | _ => 25
def says (act : Nat) : Nat := match act with
  | 5 => 1
  | 6 => 0
  | _ => 2
def tstAt (σ : PS) (tv : Option Nat) (cs : List (Nat × Int32)) : Prop := (tv = none ∧ cs = []) ∨ ∃ t, tv = some t ∧ TermAt 150 σ t cs
def StpO (σ : PS) (a : Nat) (s : StT) : Prop := ∃ tv, tstAt σ tv s.2.2 ∧ σ (kOf s.1) a = some (.inl (.int (nI s.2.1) :: va_rf tv :: if 5 ≤ s.1 then [.int (nI (says s.1))] else []))
theorem kOf_in (act : Nat) : 20 ≤ kOf act ∧ kOf act ≤ 25 := by
  unfold kOf
  split <;> decide
theorem tstAt.kept {σ τ : PS} {tv : Option Nat} {cs : List (Nat × Int32)} (f : ∀ κ, 15 ≤ κ → κ ≤ 18 → Kp κ σ τ) (h : tstAt σ tv cs) : tstAt τ tv cs := by
  rcases h with h | ⟨t, h1, h2⟩
  · exact Or.inl h
  · exact Or.inr ⟨t, h1, h2.kept f⟩
theorem StpO.kept {σ τ : PS} {a : Nat} {s : StT} (f : ∀ κ, 15 ≤ κ → κ ≤ 25 → Kp κ σ τ) (h : StpO σ a s) : StpO τ a s := by
  obtain ⟨tv, h1, h2⟩ := h
  exact ⟨tv, h1.kept (fun κ a b => f κ a (by omega)), f _ (by have := (kOf_in s.1).1; omega) (kOf_in s.1).2 _ _ h2⟩
/-- whether the test holds -/
def so (F : Nat → Int32) (cs : List (Nat × Int32)) : Bool := cs.isEmpty || decide (rn F cs [] = [1])
theorem k_isSo {G : GC} {σ : PS} {a q v N W s c d k e : Nat} {fw fm : (Nat → Int32)} {S : StT} {P : Option Value → Prop} (hS : StpO σ q S) (hA : Asks σ a v N W fw fm s c d k e) (h : P (some (.int (if so (fac N W fw fm v s c d k e) S.2.2 = true then 1 else 0)))) : CallS_isSo G 201 q [.ref a] σ P := by
  obtain ⟨tv, h1, h2⟩ := hS
  have h2g : Fg σ (kOf S.1) q 1 (va_rf tv) := ⟨_, h2, rfl⟩
  refine ⟨_, _, kOf_in S.1, h2, eX19_isSo (kOf_in S.1) (bX19_isSo_0 (kOf_in S.1) ⟨tv, h2g, fun z => ?_, fun z hz => ⟨tv, h2g, z, hz, ?_⟩⟩)⟩
  · subst z
    rcases h1 with ⟨_, h3⟩ | ⟨t, h3, _⟩
    · rw [h3] at h
      exact ⟨rfl, h⟩
    · cases h3
  · subst hz
    rcases h1 with ⟨h3, _⟩ | ⟨t, h3, h4⟩
    · cases h3
    · cases h3
      obtain ⟨x, hx, hc⟩ := k_term hA _ _ _ h4
      refine ⟨200, by omega, hc _ _ (by omega) ⟨x, rfl, fun hn => ⟨rfl, ?_⟩, fun hn => ⟨rfl, ?_⟩⟩⟩
      · have e : so (fac N W fw fm v s c d k e) S.2.2 = false := by
          simp [so, hx, hn, h4.ne]
        rw [e] at h
        exact h
      · have e : so (fac N W fw fm v s c d k e) S.2.2 = true := by
          simp [so, hx, hn]
        rw [e] at h
        exact h
