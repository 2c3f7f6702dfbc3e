/-! Part B: all that there is, on both sides -/
/-- visits: how many, whose, when -/
abbrev CL : Type := Nat × (Nat → Int32) × (Nat → Int32)
/-- office, people, calendars (0 now, 1 + k ahead of change k, 21 + 21 i + k of image i), habits (6: the rule), book, tape, fed, place, changes, images, changes of images, refused -/
abbrev TS : Type := (Nat → Nat) × Nat × (Nat → CL) × (Nat → List StT) × BK × (Nat → Nat) × Nat × Int32 × Nat × Nat × (Nat → Nat) × Int32 × Int32
abbrev tsO (T : TS) : Nat → Nat := T.1
abbrev tsP (T : TS) : Nat := T.2.1
abbrev tsK (T : TS) : Nat → CL := T.2.2.1
abbrev tsH (T : TS) : Nat → List StT := T.2.2.2.1
abbrev tsB (T : TS) : BK := T.2.2.2.2.1
abbrev tsT (T : TS) : Nat → Nat := T.2.2.2.2.2.1
abbrev tsF (T : TS) : Nat := T.2.2.2.2.2.2.1
abbrev tsL (T : TS) : Int32 := T.2.2.2.2.2.2.2.1
abbrev tsC (T : TS) : Nat := T.2.2.2.2.2.2.2.2.1
abbrev tsI (T : TS) : Nat := T.2.2.2.2.2.2.2.2.2.1
abbrev tsQ (T : TS) : Nat → Nat := T.2.2.2.2.2.2.2.2.2.2.1
abbrev tsR0 (T : TS) : Int32 := T.2.2.2.2.2.2.2.2.2.2.2.1
abbrev tsR1 (T : TS) : Int32 := T.2.2.2.2.2.2.2.2.2.2.2.2
/-- one more refused -/
def bu0 (T : TS) : TS := match T with | (O, P, K, H, B, t, f, l, c, i, q, r0, r1) => (O, P, K, H, B, t, f, l, c, i, q, r0 + 1, r1)
def bu1 (T : TS) : TS := match T with | (O, P, K, H, B, t, f, l, c, i, q, r0, r1) => (O, P, K, H, B, t, f, l, c, i, q, r0, r1 + 1)
def clOK (C : CL) : Prop := C.1 ≤ 24 ∧ ∀ i, i < C.1 → ∃ p, p < 6 ∧ C.2.1 i = nI p
def offOK (O : Nat → Nat) : Prop := O 0 ≤ 12 ∧ 1 ≤ O 0 ∧ O 1 + O 2 ≤ O 0 ∧ O 3 < 2 ∧ O 4 ≤ 16 ∧ O 5 ≤ 99 ∧ O 6 ≤ 16 ∧ ∀ i, 7 ≤ i → i < 12 → O i ≤ 99
def tsOK (T : TS) : Prop := offOK (tsO T) ∧ tsP T ≤ 6 ∧ (∀ i, i < 84 → clOK (tsK T i)) ∧ (∀ p, p < 7 → (∀ Z, Z ∈ tsH T p → stOK Z) ∧ (tsH T p).length ≤ 8) ∧ tsF T ≤ 600 ∧ (∀ i, i < tsF T → tsT T i < 256) ∧ tsC T ≤ 20 ∧ tsI T ≤ 3 ∧ (∀ i, i < tsI T → tsQ T i ≤ 20)
theorem tsOK.b0 {T : TS} (h : tsOK T) : tsOK (bu0 T) := h
theorem tsOK.b1 {T : TS} (h : tsOK T) : tsOK (bu1 T) := h
theorem offOK.lt {O : Nat → Nat} (h : offOK O) : ∀ i, i < 12 → O i < 2 ^ 20 := by
  intro i hi
  obtain ⟨a, b, c, d, e, f, g, k⟩ := h
  by_cases q : 7 ≤ i
  · have := k i q hi
    omega
  · have : i = 0 ∨ i = 1 ∨ i = 2 ∨ i = 3 ∨ i = 4 ∨ i = 5 ∨ i = 6 := by omega
    rcases this with rfl | rfl | rfl | rfl | rfl | rfl | rfl <;> omega
theorem tsOK.go {T : TS} (h : tsOK T) {hh : HW} (h1 : hh.1 ≤ 16) (h2 : hh.2.1 ≤ 16) (h3 : hh.2.2.1 ≤ 12) (h4 : ∀ p, p < 6 → (∀ Z, Z ∈ hh.2.2.2.2.1 p → stOK Z) ∧ (hh.2.2.2.2.1 p).length ≤ 8) : GoOK (tsO T) hh (tsK T 0).2.1 (tsK T 0).1 := by
  obtain ⟨a, b, c, d, -⟩ := h
  have c0 := c 0 (by decide)
  exact ⟨c0.1, c0.2, h4, a.1, by have := a.2.2.1; have := a.1; omega, a.2.2.2.1, h1, h2, h3⟩
/-- what the component may write -/
def own (A : Nat → Nat) (CA : Nat → Nat × Nat × Nat) (κ a : Nat) : Prop :=
  (κ = 1 ∧ a = A 0) ∨ (κ = 102 ∧ a = A 1) ∨ (κ = 100 ∧ (a = A 7 ∨ a = A 8 ∨ ∃ i, i < 84 ∧ (a = (CA i).2.1 ∨ a = (CA i).2.2))) ∨ (κ = 2 ∧ ∃ i, i < 84 ∧ a = (CA i).1) ∨ (κ = 105 ∧ (a = A 9 ∨ a = A 18)) ∨ FlW (A 10) (A 11) (A 12) (A 13) (A 14) κ a ∨ (κ = 5 ∧ a = A 15) ∨ (κ = 4 ∧ a = A 16) ∨ (κ = 6 ∧ a = A 17)
/-- scratch: flow, day, how, sights -/
def scr (A : Nat → Nat) (κ a : Nat) : Prop := FlW (A 10) (A 11) (A 12) (A 13) (A 14) κ a ∨ (κ = 5 ∧ a = A 15) ∨ (κ = 4 ∧ a = A 16) ∨ (κ = 6 ∧ a = A 17) ∨ (κ = 105 ∧ a = A 18)
theorem scr_own {A : Nat → Nat} {CA : Nat → Nat × Nat × Nat} {κ a : Nat} (h : scr A κ a) : own A CA κ a := by
  unfold scr at h
  unfold own
  rcases h with h | h | h | h | ⟨h1, h2⟩
  · exact Or.inr (Or.inr (Or.inr (Or.inr (Or.inr (Or.inl h)))))
  · exact Or.inr (Or.inr (Or.inr (Or.inr (Or.inr (Or.inr (Or.inl h))))))
  · exact Or.inr (Or.inr (Or.inr (Or.inr (Or.inr (Or.inr (Or.inr (Or.inl h)))))))
  · exact Or.inr (Or.inr (Or.inr (Or.inr (Or.inr (Or.inr (Or.inr (Or.inr h)))))))
  · exact Or.inr (Or.inr (Or.inr (Or.inr (Or.inl ⟨h1, Or.inr h2⟩))))
/-- what is there stays, but for D -/
def KpD (D : Nat → Nat → Prop) (σ τ : PS) : Prop := ∀ κ a e, σ κ a = some e → ¬ D κ a → τ κ a = some e
theorem KpD.rf {D : Nat → Nat → Prop} {σ : PS} : KpD D σ σ := fun _ _ _ h _ => h
theorem KpD.tr {D : Nat → Nat → Prop} {σ τ υ : PS} (h : KpD D σ τ) (h2 : KpD D τ υ) : KpD D σ υ := fun κ a e q n => h2 κ a e (h κ a e q n) n
theorem KpD.mono {D E : Nat → Nat → Prop} {σ τ : PS} (h : KpD D σ τ) (f : ∀ κ a, D κ a → E κ a) : KpD E σ τ := fun κ a e q n => h κ a e q (fun d => n (f κ a d))
theorem Fr.kp {D : Nat → Nat → Prop} {σ τ : PS} (h : Fr D σ τ) : KpD D σ τ := fun κ a e q n => by rw [h κ a n]; exact q
theorem KpD.nw {D : Nat → Nat → Prop} {σ : PS} {κ q : Nat} {e : aE} (h : ∀ κ, σ κ q = none) : KpD D σ (up σ κ q e) := fun κ' a' e' h' _ => by
  rw [up_ne]
  · exact h'
  · by_cases c : a' = q
    · subst c
      rw [h] at h'
      cases h'
    · exact Or.inr c
theorem KpD.up {D : Nat → Nat → Prop} {σ τ : PS} {κ a : Nat} {e : aE} (h : KpD D σ τ) (hd : D κ a) : KpD D σ (up τ κ a e) := fun κ' a' e' h' n => by
  rw [up_ne]
  · exact h κ' a' e' h' n
  · by_cases h1 : κ' = κ
    · by_cases h2 : a' = a
      · subst h1; subst h2; exact absurd hd n
      · exact Or.inr h2
    · exact Or.inl h1
def BkA (σ : PS) (bk va wa ma : Nat) (B : BK) : Prop := ∃ f g h : Nat → Int32, σ 8 bk = some (.inl [.ref va, .ref wa, .ref ma, .int (nI B.length)]) ∧ B.length ≤ 10 ∧ σ 100 va = some (.inr (10, .inl f)) ∧ σ 100 wa = some (.inr (10, .inl g)) ∧ σ 100 ma = some (.inr (10, .inl h)) ∧ ∀ i q, B[i]? = some q → f i = nI q.1 ∧ g i = nI q.2.1 ∧ h i = nI q.2.2 ∧ q.1 < 24 ∧ q.2.1 < 3 ∧ q.2.2 ≤ 12
theorem BkA.o {σ : PS} {bk va wa ma : Nat} {B : BK} (h : BkA σ bk va wa ma B) : BkO σ bk B := by
  obtain ⟨f, g, h, e⟩ := h
  exact ⟨va, wa, ma, f, g, h, e⟩
/-- cells are apart -/
def Apt (A : Nat → Nat) (CA : Nat → Nat × Nat × Nat) : Prop := A 9 ≠ A 18 ∧ A 11 ≠ A 16 ∧ A 7 ≠ A 8 ∧ (∀ i, i < 84 → A 7 ≠ (CA i).2.1 ∧ A 7 ≠ (CA i).2.2 ∧ A 8 ≠ (CA i).2.1 ∧ A 8 ≠ (CA i).2.2) ∧ ∀ i j, i < 84 → j < 84 → i ≠ j → (CA i).1 ≠ (CA j).1 ∧ (CA i).2.1 ≠ (CA j).2.1 ∧ (CA i).2.2 ≠ (CA j).2.2 ∧ (CA i).2.1 ≠ (CA j).2.2
/-- the component's own objects, without scratch: E = office, its prices, rule, book, its three rows -/
def CP (σ : PS) (A : Nat → Nat) (CA : Nat → Nat × Nat × Nat) (E : Nat × Nat × Option Nat × Nat × Nat × Nat × Nat) (T : TS) : Prop :=
  σ 1 (A 0) = some (.inl [.ref (A 1), .ref (CA 0).1, .ref (A 2), .ref (A 3), .ref (A 7), .ref (A 8), .ref (A 9), .ref (A 10), .ref (A 15), .ref (A 17), .ref E.1, va_rf E.2.2.1, .ref E.2.2.2.1, .int (nI (tsF T)), .int (tsL T), .int (nI (tsC T)), .int (nI (tsI T))]) ∧
  (OffO σ E.1 E.2.1 (tsO T) (tsP T) ∧ ¬ own A CA 100 E.2.1) ∧
  (HabQ σ E.2.2.1 (tsH T 6) ∧ ∀ y, E.2.2.1 = some y → ∃ vs, σ 14 y = some (.inl vs)) ∧
  (∃ hf, σ 105 (A 9) = some (.inr (6, .inr (.inr hf))) ∧ (∀ p, p < 6 → HabQ σ (hf p) (tsH T p)) ∧ ∀ i y, hf i = some y → ∃ vs, σ 14 y = some (.inl vs)) ∧
  (BkA σ E.2.2.2.1 E.2.2.2.2.1 E.2.2.2.2.2.1 E.2.2.2.2.2.2 (tsB T) ∧ ¬ own A CA 100 E.2.2.2.2.1 ∧ ¬ own A CA 100 E.2.2.2.2.2.1 ∧ ¬ own A CA 100 E.2.2.2.2.2.2) ∧
  (∃ ft, σ 102 (A 1) = some (.inr (600, .inl ft)) ∧ ∀ i, i < tsF T → ft i &&& 255 = nI (tsT T i)) ∧
  (∀ i, i < 84 → CalO σ (CA i).1 (CA i).2.1 (CA i).2.2 (tsK T i).1 (tsK T i).2.1 (tsK T i).2.2) ∧
  ((∃ f, σ 103 (A 2) = some (.inr (20, .inr (.inr f))) ∧ ∀ k, k < 20 → f k = some (CA (1 + k)).1) ∧ (∃ f, σ 104 (A 3) = some (.inr (3, .inr (.inr f))) ∧ ∀ i, i < 3 → f i = some (A (4 + i))) ∧ ∀ i, i < 3 → ∃ f, σ 103 (A (4 + i)) = some (.inr (21, .inr (.inr f))) ∧ ∀ k, k < 21 → f k = some (CA (21 + 21 * i + k)).1) ∧
  (∃ f, σ 100 (A 7) = some (.inr (3, .inl f)) ∧ ∀ i, i < tsI T → f i = nI (tsQ T i)) ∧
  (∃ f, σ 100 (A 8) = some (.inr (2, .inl f)) ∧ f 0 = tsR0 T ∧ f 1 = tsR1 T) ∧ Apt A CA
theorem FlA.mv {σ τ : PS} {a st dr n1 n2 : Nat} (h : FlA σ a st dr n1 n2) (f : ∀ κ x e, (κ = 3 ∨ κ = 4 ∨ κ = 101) → σ κ x = some e → τ κ x = some e) : FlA τ a st dr n1 n2 := by
  obtain ⟨x4, x5, x6, x7, x8, x9, x10, l', f', g, h', z3, z4, z4', z5, z6, z7, zn⟩ := h
  exact ⟨x4, x5, x6, x7, x8, x9, x10, l', f', g, h', f _ _ _ (Or.inl rfl) z3, f _ _ _ (Or.inr (Or.inl rfl)) z4, z4', f _ _ _ (Or.inr (Or.inr rfl)) z5, f _ _ _ (Or.inr (Or.inr rfl)) z6, f _ _ _ (Or.inr (Or.inr rfl)) z7, zn⟩
/-- the flow's two rows change places -/
def FlB (σ : PS) (A : Nat → Nat) : Prop := FlA σ (A 10) (A 11) (A 12) (A 13) (A 14) ∨ FlA σ (A 10) (A 11) (A 12) (A 14) (A 13)
theorem FlB.mv {σ τ : PS} {A : Nat → Nat} (h : FlB σ A) (f : ∀ κ x e, (κ = 3 ∨ κ = 4 ∨ κ = 101) → σ κ x = some e → τ κ x = some e) : FlB τ A := h.elim (fun z => Or.inl (z.mv f)) (fun z => Or.inr (z.mv f))
def Sc (σ : PS) (A : Nat → Nat) : Prop := FlB σ A ∧ (∃ v1 v2 v3 v4 v5 v6 l, σ 5 (A 15) = some (.inl [.ref (A 16), v1, v2, v3, v4, v5, v6]) ∧ σ 4 (A 16) = some (.inl l) ∧ l.length = 5) ∧ ∃ v1 v2 v3 v4 v5 v6 v7 g, σ 6 (A 17) = some (.inl [.ref (A 18), v1, v2, v3, v4, v5, v6, v7]) ∧ σ 105 (A 18) = some (.inr (6, .inr (.inr g)))
def CI (σ : PS) (A : Nat → Nat) (CA : Nat → Nat × Nat × Nat) (E : Nat × Nat × Option Nat × Nat × Nat × Nat × Nat) (T : TS) : Prop := CP σ A CA E T ∧ Sc σ A ∧ tsOK T
theorem scr_not {A : Nat → Nat} {κ a : Nat} (h3 : κ ≠ 3) (h4 : κ ≠ 4) (h1 : κ ≠ 101) (h6 : κ ≠ 26) (h5 : κ ≠ 5) (h7 : κ ≠ 6) (h8 : κ ≠ 105) : ¬ scr A κ a := by
  unfold scr FlW FlD
  omega
theorem CP.mv {σ τ : PS} {A : Nat → Nat} {CA : Nat → Nat × Nat × Nat} {E : Nat × Nat × Option Nat × Nat × Nat × Nat × Nat} {T : TS} (h : CP σ A CA E T) (f : KpD (scr A) σ τ) : CP τ A CA E T := by
  have kp : ∀ κ, κ ≠ 3 → κ ≠ 4 → κ ≠ 101 → κ ≠ 26 → κ ≠ 5 → κ ≠ 6 → κ ≠ 105 → Kp κ σ τ := fun κ h3 h4 h1 h6 h5 h7 h8 a e hh => f κ a e hh (scr_not h3 h4 h1 h6 h5 h7 h8)
  obtain ⟨a1, ⟨a2, a2'⟩, ⟨a3, a3'⟩, ⟨hf, b1, b2, b3⟩, ⟨⟨g1, g2, g3, c1, c2, c3, c4, c5, c6⟩, c7⟩, ⟨ft, d1, d2⟩, e1, ⟨⟨f1, i1, i2⟩, ⟨f2, i3, i4⟩, i5⟩, ⟨f4, j1, j2⟩, ⟨f5, k1, k2⟩, l⟩ := h
  have k100 : Kp 100 σ τ := kp 100 (by decide) (by decide) (by decide) (by decide) (by decide) (by decide) (by decide)
  have kc2 : Kp 2 σ τ := kp 2 (by decide) (by decide) (by decide) (by decide) (by decide) (by decide) (by decide)
  have k7 : Kp 7 σ τ := kp 7 (by decide) (by decide) (by decide) (by decide) (by decide) (by decide) (by decide)
  have k8 : Kp 8 σ τ := kp 8 (by decide) (by decide) (by decide) (by decide) (by decide) (by decide) (by decide)
  have k14 : ∀ κ, 14 ≤ κ → κ ≤ 25 → Kp κ σ τ := fun κ q1 q2 => kp κ (by omega) (by omega) (by omega) (by omega) (by omega) (by omega) (by omega)
  have k106 : Kp 106 σ τ := kp 106 (by decide) (by decide) (by decide) (by decide) (by decide) (by decide) (by decide)
  have k103 : Kp 103 σ τ := kp 103 (by decide) (by decide) (by decide) (by decide) (by decide) (by decide) (by decide)
  have k9 : τ 105 (A 9) = some (.inr (6, .inr (.inr hf))) := f 105 (A 9) _ b1 (by
    have := l.1
    unfold scr FlW FlD
    omega)
  refine ⟨kp 1 (by decide) (by decide) (by decide) (by decide) (by decide) (by decide) (by decide) _ _ a1, ⟨a2.kept k7 k100, a2'⟩, ⟨a3.kept k14 k106, fun y hy => ?_⟩, ⟨hf, k9, fun p hp => (b2 p hp).kept k14 k106, fun i y hy => ?_⟩, ⟨⟨g1, g2, g3, k8 _ _ c1, c2, k100 _ _ c3, k100 _ _ c4, k100 _ _ c5, c6⟩, c7⟩, ⟨ft, kp 102 (by decide) (by decide) (by decide) (by decide) (by decide) (by decide) (by decide) _ _ d1, d2⟩, fun i hi => (e1 i hi).kept kc2 k100, ⟨⟨f1, k103 _ _ i1, i2⟩, ⟨f2, kp 104 (by decide) (by decide) (by decide) (by decide) (by decide) (by decide) (by decide) _ _ i3, i4⟩, fun i hi => ?_⟩, ⟨f4, k100 _ _ j1, j2⟩, ⟨f5, k100 _ _ k1, k2⟩, l⟩
  · obtain ⟨vs, hv⟩ := a3' y hy
    exact ⟨vs, k14 14 (by decide) (by decide) _ _ hv⟩
  · obtain ⟨vs, hv⟩ := b3 i y hy
    exact ⟨vs, k14 14 (by decide) (by decide) _ _ hv⟩
  · obtain ⟨f, q1, q2⟩ := i5 i hi
    exact ⟨f, k103 _ _ q1, q2⟩
/-- the fields of the component's object -/
theorem CP.x {σ : PS} {A : Nat → Nat} {CA : Nat → Nat × Nat × Nat} {E : Nat × Nat × Option Nat × Nat × Nat × Nat × Nat} {T : TS} (h : CP σ A CA E T) : σ 1 (A 0) = some (.inl [.ref (A 1), .ref (CA 0).1, .ref (A 2), .ref (A 3), .ref (A 7), .ref (A 8), .ref (A 9), .ref (A 10), .ref (A 15), .ref (A 17), .ref E.1, va_rf E.2.2.1, .ref E.2.2.2.1, .int (nI (tsF T)), .int (tsL T), .int (nI (tsC T)), .int (nI (tsI T))]) := h.1
theorem CP.off {σ : PS} {A : Nat → Nat} {CA : Nat → Nat × Nat × Nat} {E : Nat × Nat × Option Nat × Nat × Nat × Nat × Nat} {T : TS} (h : CP σ A CA E T) : OffO σ E.1 E.2.1 (tsO T) (tsP T) := h.2.1.1
theorem CP.cal {σ : PS} {A : Nat → Nat} {CA : Nat → Nat × Nat × Nat} {E : Nat × Nat × Option Nat × Nat × Nat × Nat × Nat} {T : TS} (h : CP σ A CA E T) {i : Nat} (hi : i < 84) : CalO σ (CA i).1 (CA i).2.1 (CA i).2.2 (tsK T i).1 (tsK T i).2.1 (tsK T i).2.2 := h.2.2.2.2.2.2.1 i hi
/-- a refusal counted -/
theorem CI.ref0 {σ : PS} {A : Nat → Nat} {CA : Nat → Nat × Nat × Nat} {E : Nat × Nat × Option Nat × Nat × Nat × Nat × Nat} {T : TS} (h : CI σ A CA E T) : ∃ f, σ 100 (A 8) = some (.inr (2, .inl f)) ∧ CI (up σ 100 (A 8) (.inr (2, .inl (upd f 0 (f 0 + 1))))) A CA E (bu0 T) ∧ CI (up σ 100 (A 8) (.inr (2, .inl (upd f 1 (f 1 + 1))))) A CA E (bu1 T) ∧ ∀ e, KpD (own A CA) σ (up σ 100 (A 8) e) := by
  obtain ⟨⟨a1, ⟨a2, a2'⟩, ⟨a3, a3'⟩, b, ⟨c1, c7⟩, d, e1, i, ⟨f4, j1, j2⟩, ⟨f5, k1, k2, k3⟩, l⟩, s, t⟩ := h
  have hown : own A CA 100 (A 8) := Or.inr (Or.inr (Or.inl ⟨rfl, Or.inr (Or.inl rfl)⟩))
  refine ⟨f5, k1, ?_, ?_, fun e => KpD.rf.up hown⟩
  all_goals
    have kk : ∀ κ a e' e, σ κ a = some e' → (κ ≠ 100 ∨ a ≠ A 8) → up σ 100 (A 8) e κ a = some e' := fun κ a e' e hh hn => (up_ne hn).trans hh
    have ne : ∀ a e' e, σ 100 a = some e' → a ≠ A 8 → up σ 100 (A 8) e 100 a = some e' := fun a e' e hh hn => kk 100 a e' e hh (Or.inr hn)
    have k9 : ∀ κ e, κ ≠ 100 → Kp κ σ (up σ 100 (A 8) e) := fun κ e hn a e' hh => kk κ a e' e hh (Or.inl hn)
    have na : ∀ a, ¬ own A CA 100 a → a ≠ A 8 := fun a hn e => hn (e ▸ hown)
  · refine ⟨⟨kk _ _ _ _ a1 (Or.inl (by decide)), ⟨?_, a2'⟩, ⟨a3.kept (fun κ q1 q2 => k9 κ _ (by omega)) (k9 106 _ (by decide)), fun y hy => ?_⟩, ?_, ⟨?_, c7⟩, ?_, fun i hi => ?_, ?_, ⟨f4, ne _ _ _ j1 l.2.2.1, j2⟩, ⟨_, up_eq, ?_, ?_⟩, l⟩, ?_, t.b0⟩
    · obtain ⟨q1, fp, q2, q3⟩ := a2
      exact ⟨kk _ _ _ _ q1 (Or.inl (by decide)), fp, ne _ _ _ q2 (na _ a2'), q3⟩
    · obtain ⟨vs, hv⟩ := a3' y hy
      exact ⟨vs, kk _ _ _ _ hv (Or.inl (by decide))⟩
    · obtain ⟨hf, b1, b2, b3⟩ := b
      refine ⟨hf, kk _ _ _ _ b1 (Or.inl (by decide)), fun p hp => (b2 p hp).kept (fun κ q1 q2 => k9 κ _ (by omega)) (k9 106 _ (by decide)), fun i y hy => ?_⟩
      obtain ⟨vs, hv⟩ := b3 i y hy
      exact ⟨vs, kk _ _ _ _ hv (Or.inl (by decide))⟩
    · obtain ⟨g1, g2, g3, c1, c2, c3, c4, c5, c6⟩ := c1
      exact ⟨g1, g2, g3, kk _ _ _ _ c1 (Or.inl (by decide)), c2, ne _ _ _ c3 (na _ c7.1), ne _ _ _ c4 (na _ c7.2.1), ne _ _ _ c5 (na _ c7.2.2), c6⟩
    · obtain ⟨ft, d1, d2⟩ := d
      exact ⟨ft, kk _ _ _ _ d1 (Or.inl (by decide)), d2⟩
    · obtain ⟨q1, q2, q3, q4, q5⟩ := e1 i hi
      obtain ⟨_, _, z1, z2⟩ := l.2.2.2.1 i hi
      exact ⟨kk _ _ _ _ q1 (Or.inl (by decide)), ne _ _ _ q2 z1.symm, ne _ _ _ q3 z2.symm, q4, q5⟩
    · obtain ⟨⟨f1, i1, i2⟩, ⟨f2, i3, i4⟩, i5⟩ := i
      refine ⟨⟨f1, kk _ _ _ _ i1 (Or.inl (by decide)), i2⟩, ⟨f2, kk _ _ _ _ i3 (Or.inl (by decide)), i4⟩, fun i hi => ?_⟩
      obtain ⟨f, q1, q2⟩ := i5 i hi
      exact ⟨f, kk _ _ _ _ q1 (Or.inl (by decide)), q2⟩
    · show (if (0 : Nat) = 0 then _ else _) = tsR0 T + 1
      rw [if_pos rfl, k2]
    · show (if (1 : Nat) = 0 then _ else _) = tsR1 T
      rw [if_neg (by decide), k3]
    · obtain ⟨z, ⟨v1, v2, v3, v4, v5, v6, l2, y1, y2, y3⟩, ⟨w1, w2, w3, w4, w5, w6, w7, gg, y4, y5⟩⟩ := s
      exact ⟨z.mv (fun κ x e hk hh => kk _ _ _ _ hh (Or.inl (by omega))), ⟨v1, v2, v3, v4, v5, v6, l2, kk _ _ _ _ y1 (Or.inl (by decide)), kk _ _ _ _ y2 (Or.inl (by decide)), y3⟩, ⟨w1, w2, w3, w4, w5, w6, w7, gg, kk _ _ _ _ y4 (Or.inl (by decide)), kk _ _ _ _ y5 (Or.inl (by decide))⟩⟩
  · refine ⟨⟨kk _ _ _ _ a1 (Or.inl (by decide)), ⟨?_, a2'⟩, ⟨a3.kept (fun κ q1 q2 => k9 κ _ (by omega)) (k9 106 _ (by decide)), fun y hy => ?_⟩, ?_, ⟨?_, c7⟩, ?_, fun i hi => ?_, ?_, ⟨f4, ne _ _ _ j1 l.2.2.1, j2⟩, ⟨_, up_eq, ?_, ?_⟩, l⟩, ?_, t.b1⟩
    · obtain ⟨q1, fp, q2, q3⟩ := a2
      exact ⟨kk _ _ _ _ q1 (Or.inl (by decide)), fp, ne _ _ _ q2 (na _ a2'), q3⟩
    · obtain ⟨vs, hv⟩ := a3' y hy
      exact ⟨vs, kk _ _ _ _ hv (Or.inl (by decide))⟩
    · obtain ⟨hf, b1, b2, b3⟩ := b
      refine ⟨hf, kk _ _ _ _ b1 (Or.inl (by decide)), fun p hp => (b2 p hp).kept (fun κ q1 q2 => k9 κ _ (by omega)) (k9 106 _ (by decide)), fun i y hy => ?_⟩
      obtain ⟨vs, hv⟩ := b3 i y hy
      exact ⟨vs, kk _ _ _ _ hv (Or.inl (by decide))⟩
    · obtain ⟨g1, g2, g3, c1, c2, c3, c4, c5, c6⟩ := c1
      exact ⟨g1, g2, g3, kk _ _ _ _ c1 (Or.inl (by decide)), c2, ne _ _ _ c3 (na _ c7.1), ne _ _ _ c4 (na _ c7.2.1), ne _ _ _ c5 (na _ c7.2.2), c6⟩
    · obtain ⟨ft, d1, d2⟩ := d
      exact ⟨ft, kk _ _ _ _ d1 (Or.inl (by decide)), d2⟩
    · obtain ⟨q1, q2, q3, q4, q5⟩ := e1 i hi
      obtain ⟨_, _, z1, z2⟩ := l.2.2.2.1 i hi
      exact ⟨kk _ _ _ _ q1 (Or.inl (by decide)), ne _ _ _ q2 z1.symm, ne _ _ _ q3 z2.symm, q4, q5⟩
    · obtain ⟨⟨f1, i1, i2⟩, ⟨f2, i3, i4⟩, i5⟩ := i
      refine ⟨⟨f1, kk _ _ _ _ i1 (Or.inl (by decide)), i2⟩, ⟨f2, kk _ _ _ _ i3 (Or.inl (by decide)), i4⟩, fun i hi => ?_⟩
      obtain ⟨f, q1, q2⟩ := i5 i hi
      exact ⟨f, kk _ _ _ _ q1 (Or.inl (by decide)), q2⟩
    · show (if (0 : Nat) = 1 then _ else _) = tsR0 T
      rw [if_neg (by decide), k2]
    · show (if (1 : Nat) = 1 then _ else _) = tsR1 T + 1
      rw [if_pos rfl, k3]
    · obtain ⟨z, ⟨v1, v2, v3, v4, v5, v6, l2, y1, y2, y3⟩, ⟨w1, w2, w3, w4, w5, w6, w7, gg, y4, y5⟩⟩ := s
      exact ⟨z.mv (fun κ x e hk hh => kk _ _ _ _ hh (Or.inl (by omega))), ⟨v1, v2, v3, v4, v5, v6, l2, kk _ _ _ _ y1 (Or.inl (by decide)), kk _ _ _ _ y2 (Or.inl (by decide)), y3⟩, ⟨w1, w2, w3, w4, w5, w6, w7, gg, kk _ _ _ _ y4 (Or.inl (by decide)), kk _ _ _ _ y5 (Or.inl (by decide))⟩⟩
