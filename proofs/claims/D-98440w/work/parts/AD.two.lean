/-! Part B: the two worlds side by side -/
theorem CI.away {σ τ : PS} {A : Nat → Nat} {CA : Nat → Nat × Nat × Nat} {E : Nat × Nat × Option Nat × Nat × Nat × Nat × Nat} {T : TS} {B : Nat → Nat → Prop} (h : CI σ A CA E T) (hB : ∀ κ a, B κ a → (κ = 9 ∨ κ = 100 ∨ κ = 101) ∧ ¬ own A CA κ a) (n1 : ¬ B 100 E.2.1) (n2 : ¬ B 100 E.2.2.2.2.1) (n3 : ¬ B 100 E.2.2.2.2.2.1) (n4 : ¬ B 100 E.2.2.2.2.2.2) (k : KpD B σ τ) : CI τ A CA E T := by
  obtain ⟨⟨a1, ⟨⟨o1, fp, o2, o3⟩, a2'⟩, ⟨a3, a3'⟩, ⟨hf, b1, b2, b3⟩, ⟨⟨g1, g2, g3, c1, c2, c3, c4, c5, c6⟩, c7⟩, ⟨ft, d1, d2⟩, e1, ⟨⟨f1, i1, i2⟩, ⟨f2, i3, i4⟩, i5⟩, ⟨f4, j1, j2⟩, ⟨f5, k1, k2⟩, l⟩, ⟨z, ⟨v1, v2, v3, v4, v5, v6, l2, y1, y2, y3⟩, ⟨w1, w2, w3, w4, w5, w6, w7, gg, y4, y5⟩⟩, ok⟩ := h
  have kk : ∀ κ a e, κ ≠ 9 → κ ≠ 100 → κ ≠ 101 → σ κ a = some e → τ κ a = some e := fun κ a e q1 q2 q3 hh => k κ a e hh (fun w => by
    have := (hB κ a w).1
    omega)
  have ko : ∀ κ a e, own A CA κ a → σ κ a = some e → τ κ a = some e := fun κ a e q hh => k κ a e hh (fun w => (hB κ a w).2 q)
  have own100 : ∀ a, (a = A 7 ∨ a = A 8 ∨ ∃ i, i < 84 ∧ (a = (CA i).2.1 ∨ a = (CA i).2.2)) → own A CA 100 a := fun a w => Or.inr (Or.inr (Or.inl ⟨rfl, w⟩))
  have own101 : ∀ a, (a = A 12 ∨ a = A 13 ∨ a = A 14) → own A CA 101 a := fun a w => Or.inr (Or.inr (Or.inr (Or.inr (Or.inr (Or.inl (Or.inl (Or.inr (Or.inr ⟨rfl, w⟩))))))))
  have k14 : ∀ κ, 14 ≤ κ → κ ≤ 25 → Kp κ σ τ := fun κ q1 q2 a e hh => kk κ a e (by omega) (by omega) (by omega) hh
  have k106 : Kp 106 σ τ := fun a e hh => kk 106 a e (by decide) (by decide) (by decide) hh
  have fla : ∀ p q, (p = A 13 ∨ p = A 14) → (q = A 13 ∨ q = A 14) → FlA σ (A 10) (A 11) (A 12) p q → FlA τ (A 10) (A 11) (A 12) p q := fun p q hp hq w => by
    obtain ⟨x4, x5, x6, x7, x8, x9, x10, l', f', g, h', z3, z4, z4', z5, z6, z7, zn⟩ := w
    exact ⟨x4, x5, x6, x7, x8, x9, x10, l', f', g, h', kk _ _ _ (by decide) (by decide) (by decide) z3, kk _ _ _ (by decide) (by decide) (by decide) z4, z4', ko _ _ _ (own101 _ (Or.inl rfl)) z5, ko _ _ _ (own101 _ (Or.inr hp)) z6, ko _ _ _ (own101 _ (Or.inr hq)) z7, zn⟩
  refine ⟨⟨kk _ _ _ (by decide) (by decide) (by decide) a1, ⟨⟨kk _ _ _ (by decide) (by decide) (by decide) o1, fp, k _ _ _ o2 n1, o3⟩, a2'⟩, ⟨a3.kept k14 k106, fun y hy => ?_⟩, ⟨hf, kk _ _ _ (by decide) (by decide) (by decide) b1, fun p hp => (b2 p hp).kept k14 k106, fun i y hy => ?_⟩, ⟨⟨g1, g2, g3, kk _ _ _ (by decide) (by decide) (by decide) c1, c2, k _ _ _ c3 n2, k _ _ _ c4 n3, k _ _ _ c5 n4, c6⟩, c7⟩, ⟨ft, kk _ _ _ (by decide) (by decide) (by decide) d1, d2⟩, fun i hi => ?_, ⟨⟨f1, kk _ _ _ (by decide) (by decide) (by decide) i1, i2⟩, ⟨f2, kk _ _ _ (by decide) (by decide) (by decide) i3, i4⟩, fun i hi => ?_⟩, ⟨f4, ko _ _ _ (own100 _ (Or.inl rfl)) j1, j2⟩, ⟨f5, ko _ _ _ (own100 _ (Or.inr (Or.inl rfl))) k1, k2⟩, l⟩, ⟨?_, ⟨v1, v2, v3, v4, v5, v6, l2, kk _ _ _ (by decide) (by decide) (by decide) y1, kk _ _ _ (by decide) (by decide) (by decide) y2, y3⟩, ⟨w1, w2, w3, w4, w5, w6, w7, gg, kk _ _ _ (by decide) (by decide) (by decide) y4, kk _ _ _ (by decide) (by decide) (by decide) y5⟩⟩, ok⟩
  · obtain ⟨vs, hv⟩ := a3' y hy
    exact ⟨vs, k14 14 (by decide) (by decide) _ _ hv⟩
  · obtain ⟨vs, hv⟩ := b3 i y hy
    exact ⟨vs, k14 14 (by decide) (by decide) _ _ hv⟩
  · obtain ⟨q1, q2, q3, q4⟩ := e1 i hi
    exact ⟨kk _ _ _ (by decide) (by decide) (by decide) q1, ko _ _ _ (own100 _ (Or.inr (Or.inr ⟨i, hi, Or.inl rfl⟩))) q2, ko _ _ _ (own100 _ (Or.inr (Or.inr ⟨i, hi, Or.inr rfl⟩))) q3, q4⟩
  · obtain ⟨f, q1, q2⟩ := i5 i hi
    exact ⟨f, kk _ _ _ (by decide) (by decide) (by decide) q1, q2⟩
  · exact z.elim (fun w => Or.inl (fla _ _ (Or.inl rfl) (Or.inr rfl) w)) (fun w => Or.inr (fla _ _ (Or.inr rfl) (Or.inl rfl) w))
/-- the worlds' cells are apart -/
def DS (A : Nat → Nat) (CA : Nat → Nat × Nat × Nat) (ad : Nat → Nat) (o out : Nat) : Prop := (∀ κ a, mAd ad o κ a → ¬ own A CA κ a) ∧ ¬ own A CA 101 out ∧ ¬ mAd ad o 101 out
def LW (A : Nat → Nat) (CA : Nat → Nat × Nat × Nat) (ad : Nat → Nat) (o out : Nat) (T : TS) (σ : PS) : Prop := ∃ E F L I J f, CI σ A CA E T ∧ MW ad o F L I J σ ∧ MI F L I J T ∧ σ 101 out = some (.inr (1, .inr (.inl f)))
theorem mlen9 : ∀ k, k < 65 → mKind k = 2 → mLen k ≠ 5 ∧ mLen k ≠ 10 := by decide
theorem mAd_100 {ad : Nat → Nat} {o a : Nat} (h : mAd ad o 100 a) : ∃ k, k < 65 ∧ mKind k = 2 ∧ a = ad k := by
  rcases h with h | h | h
  · exact absurd h.1 (by decide)
  · exact h.2
  · exact absurd h.1 (by decide)
theorem MW.kp {ad : Nat → Nat} {o : Nat} {F : Nat → Int32} {L : Nat → Int64} {I : Nat → Nat → Int32} {J : Nat → Nat → Int64} {σ τ : PS} {D : Nat → Nat → Prop} (h : MW ad o F L I J σ) (k : KpD D σ τ) (n : ∀ κ a, mAd ad o κ a → ¬ D κ a) : MW ad o F L I J τ :=
  ⟨k _ _ _ h.1 (n _ _ (Or.inl ⟨rfl, rfl⟩)), fun j hj e => k _ _ _ (h.2.1 j hj e) (n _ _ (Or.inr (Or.inl ⟨rfl, j, hj, e, rfl⟩))), fun j hj e => k _ _ _ (h.2.2.1 j hj e) (n _ _ (Or.inr (Or.inr ⟨rfl, j, hj, e, rfl⟩))), h.2.2.2⟩
/-- the component's cells that the reference can't reach -/
theorem CI.no9 {σ : PS} {A : Nat → Nat} {CA : Nat → Nat × Nat × Nat} {E : Nat × Nat × Option Nat × Nat × Nat × Nat × Nat} {T : TS} {ad : Nat → Nat} {o : Nat} {F : Nat → Int32} {L : Nat → Int64} {I : Nat → Nat → Int32} {J : Nat → Nat → Int64} (h : CI σ A CA E T) (w : MW ad o F L I J σ) : ¬ mAd ad o 100 E.2.1 ∧ ¬ mAd ad o 100 E.2.2.2.2.1 ∧ ¬ mAd ad o 100 E.2.2.2.2.2.1 ∧ ¬ mAd ad o 100 E.2.2.2.2.2.2 := by
  have key : ∀ a n (f : Nat → Int32), σ 100 a = some (.inr (n, .inl f)) → (n = 5 ∨ n = 10) → ¬ mAd ad o 100 a := fun a n f e hn q => by
    obtain ⟨k, hk, hk2, rfl⟩ := mAd_100 q
    have e2 : σ 100 (ad k) = some (.inr (mLen k, .inl (I k))) := w.2.1 k hk hk2
    rw [e] at e2
    have e3 : n = mLen k := congrArg Prod.fst (Sum.inr.inj (Option.some.inj e2))
    have := mlen9 k hk hk2
    omega
  obtain ⟨⟨-, ⟨⟨-, fp, o2, -⟩, -⟩, -, -, ⟨⟨g1, g2, g3, -, -, c3, c4, c5, -⟩, -⟩, -⟩, -⟩ := h
  exact ⟨key _ _ _ o2 (Or.inl rfl), key _ _ _ c3 (Or.inr rfl), key _ _ _ c4 (Or.inr rfl), key _ _ _ c5 (Or.inr rfl)⟩
/-- the reference ran -/
theorem CI.mf {σ τ : PS} {A : Nat → Nat} {CA : Nat → Nat × Nat × Nat} {E : Nat × Nat × Option Nat × Nat × Nat × Nat × Nat} {T : TS} {ad : Nat → Nat} {o out : Nat} {F : Nat → Int32} {L : Nat → Int64} {I : Nat → Nat → Int32} {J : Nat → Nat → Int64} (d : DS A CA ad o out) (h : CI σ A CA E T) (w : MW ad o F L I J σ) (m : MF ad o σ τ) : CI τ A CA E T := by
  obtain ⟨z1, z2, z3, z4⟩ := h.no9 w
  refine h.away (B := mAd ad o) (fun κ a q => ⟨?_, d.1 κ a q⟩) z1 z2 z3 z4 (fun κ a e hh n => (m κ a n).trans hh)
  rcases q with q | q | q
  · exact Or.inl q.1
  · exact Or.inr (Or.inl q.1)
  · exact Or.inr (Or.inr q.1)
/-- out is written -/
theorem CI.outw {σ : PS} {A : Nat → Nat} {CA : Nat → Nat × Nat × Nat} {E : Nat × Nat × Option Nat × Nat × Nat × Nat × Nat} {T : TS} {ad : Nat → Nat} {o out : Nat} {e : aE} (d : DS A CA ad o out) (h : CI σ A CA E T) : CI (up σ 101 out e) A CA E T := by
  refine h.away (B := fun κ a => κ = 101 ∧ a = out) (fun κ a q => ⟨Or.inr (Or.inr q.1), by rw [q.1, q.2]; exact d.2.1⟩) (fun q => absurd q.1 (by decide)) (fun q => absurd q.1 (by decide)) (fun q => absurd q.1 (by decide)) (fun q => absurd q.1 (by decide)) (fun κ a e' hh n => ?_)
  rw [up_ne]
  · exact hh
  · by_cases c : κ = 101
    · exact Or.inr (fun w => n ⟨c, w⟩)
    · exact Or.inl c
theorem MW.outw {σ : PS} {A : Nat → Nat} {CA : Nat → Nat × Nat × Nat} {ad : Nat → Nat} {o out : Nat} {F : Nat → Int32} {L : Nat → Int64} {I : Nat → Nat → Int32} {J : Nat → Nat → Int64} {e : aE} (d : DS A CA ad o out) (h : MW ad o F L I J σ) : MW ad o F L I J (up σ 101 out e) := by
  refine h.kp (D := fun κ a => κ = 101 ∧ a = out) (KpD.rf.up ⟨rfl, rfl⟩) (fun κ a q w => ?_)
  rw [w.1, w.2] at q
  exact d.2.2 q
/-- what a wrapper makes of an answer and of the exceptions -/
def wI (out : Nat) (Q : Option Value → PS → Prop) : Option Value → PS → Prop := qI (fun x s => ∃ f, s 101 out = some (.inr (1, .inr (.inl f))) ∧ Q (some (.int 0)) (up s 101 out (.inr (1, .inr (.inl (vp_updL f 0 x.toInt64))))))
def wJ (out : Nat) (Q : Option Value → PS → Prop) : Option Value → PS → Prop := qJ (fun x s => ∃ f, s 101 out = some (.inr (1, .inr (.inl f))) ∧ Q (some (.int 0)) (up s 101 out (.inr (1, .inr (.inl (vp_updL f 0 x))))))
def wX1 (Q : Option Value → PS → Prop) : String → Nat → PS → Prop := fun E _ s => E = "java/lang/IllegalArgumentException" ∧ Q (some (.int 1)) s
def wX0 (Q : Option Value → PS → Prop) : String → Nat → PS → Prop := fun E _ s => E = "java/util/NoSuchElementException" ∧ Q (some (.int 1)) s
def wX2 (Q : Option Value → PS → Prop) : String → Nat → PS → Prop := fun E _ s => (E = "java/util/NoSuchElementException" ∧ Q (some (.int 1)) s) ∨ (E = "java/lang/IllegalArgumentException" ∧ Q (some (.int 2)) s)
