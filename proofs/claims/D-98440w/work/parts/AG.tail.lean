/-! Part B: the end of a case of the law -/
abbrev lsL (G : GC) (a1 a2 a3 : Nat) (x4 : Int32) : List (Nat × Value) := [(0, .ref (gsb G)), (1, .ref a1), (2, .ref a2), (3, .ref a3), (4, .int x4)]
theorem MW.same {ad : Nat → Nat} {o : Nat} {F : Nat → Int32} {L : Nat → Int64} {I : Nat → Nat → Int32} {J : Nat → Nat → Int64} {σ τ : PS} (h : MW ad o F L I J σ) (h' : MW ad o F L I J τ) (m : MF ad o σ τ) : τ = σ := by
  funext κ a
  by_cases c : mAd ad o κ a
  · rcases c with ⟨rfl, rfl⟩ | ⟨rfl, k, hk, e, rfl⟩ | ⟨rfl, k, hk, e, rfl⟩
    · exact h'.1.trans h.1.symm
    · exact (h'.2.1 k hk e).trans (h.2.1 k hk e).symm
    · exact (h'.2.2.1 k hk e).trans (h.2.2.1 k hk e).symm
  · exact m κ a c
theorem callThrown {G : GC} {ad : Nat → Nat} {o : Nat} {F : Nat → Int32} {L : Nat → Int64} {I : Nat → Nat → Int32} {J : Nat → Nat → Int64} {σ : PS} {P : Option Value → Prop} (h : MW ad o F L I J σ) (k : P (some (.int (F 0)))) : CallO G mX9_thrown 3 [.ref o] σ P := by
  refine (m_thrown (G := G) (L := L) (I := I) (J := J) (Q := fun v F' L' I' J' => F' = F ∧ L' = L ∧ I' = I ∧ J' = J ∧ v = some (.int (F 0))) ⟨rfl, rfl, rfl, rfl, rfl⟩ σ h).post (fun v s hq => ?_) (fun _ _ _ w => w)
  obtain ⟨F', L', I', J', w, m, e1, e2, e3, e4, e5⟩ := hq
  subst e1; subst e2; subst e3; subst e4; subst e5
  exact ⟨h.same w m, k⟩
section TAIL
variable {G : GC} {A : Nat → Nat} {CA : Nat → Nat × Nat × Nat} {E : Nat × Nat × Option Nat × Nat × Nat × Nat × Nat} {T : TS} {ad : Nat → Nat} {o out : Nat} {F : Nat → Int32} {L : Nat → Int64} {I : Nat → Nat → Int32} {J : Nat → Nat → Int64} {s σ τ : PS} {f : Nat → Int64} {N : MD} {rc : Nat} {av : List Value} {k : Int32} {AT Z : PS → Prop}
theorem tailI (d : DS A CA ad o out) (hC : CI s A CA E T) (hW : MW ad o F L I J s) (hf : s 101 out = some (.inr (1, .inr (.inl f)))) (hm : CallM G N rc ad o av F L I J (fun v F' L' I' J' => ∃ y : Int32, v = some (.int y) ∧ MI F' L' I' J' T ∧ F' 0 = k ∧ (k = 0 → f 0 = y.toInt64))) (hAT : ∀ s', LW A CA ad o out T s' → AT s') :
    (∃ fs : List Value, Ob s 9 o fs) ∧ Call G N rc 0 av s (qI (fun y s1 => (∃ fs : List Value, Ob s1 9 o fs) ∧ CallO G mX9_thrown 3 [.ref o] s1 (pI (fun t => ((t = k) → ((¬ k = 0) → AT s1) ∧ ((k = 0) → ∃ (n : Nat) (g : Nat → Int64), La s1 101 out n g ∧ vp_in 0 n ∧ ((((g (0 : Int32).toNatClampNeg) = y.toInt64) → AT s1) ∧ ((¬ (g (0 : Int32).toNatClampNeg) = y.toInt64) → Z s1)))) ∧ ((¬ t = k) → Z s1))))) (fun _ _ _ => False) := by
  refine ⟨⟨_, hW.1⟩, (hm s hW).post (fun v s1 hq => ?_) (fun _ _ _ h => h)⟩
  obtain ⟨F', L', I', J', w, mf, y, hy, hM, h0, he⟩ := hq
  have hf1 : s1 101 out = some (.inr (1, .inr (.inl f))) := (mf 101 out d.2.2).trans hf
  have hL : LW A CA ad o out T s1 := ⟨E, F', L', I', J', f, hC.mf d hW mf, w, hM, hf1⟩
  exact ⟨y, hy, ⟨_, w.1⟩, callThrown w ⟨_, rfl, fun _ => ⟨fun _ => hAT s1 hL, fun q => ⟨1, f, hf1, z_in, fun _ => hAT s1 hL, fun n => absurd (he q) n⟩⟩, fun n => absurd h0 n⟩⟩
theorem tailJ (d : DS A CA ad o out) (hC : CI s A CA E T) (hW : MW ad o F L I J s) (hf : s 101 out = some (.inr (1, .inr (.inl f)))) (hm : CallM G N rc ad o av F L I J (fun v F' L' I' J' => ∃ y : Int64, v = some (.long y) ∧ MI F' L' I' J' T ∧ F' 0 = k ∧ (k = 0 → f 0 = y))) (hAT : ∀ s', LW A CA ad o out T s' → AT s') :
    (∃ fs : List Value, Ob s 9 o fs) ∧ Call G N rc 0 av s (qJ (fun y s1 => (∃ fs : List Value, Ob s1 9 o fs) ∧ CallO G mX9_thrown 3 [.ref o] s1 (pI (fun t => ((t = k) → ((¬ k = 0) → AT s1) ∧ ((k = 0) → ∃ (n : Nat) (g : Nat → Int64), La s1 101 out n g ∧ vp_in 0 n ∧ ((((g (0 : Int32).toNatClampNeg) = y) → AT s1) ∧ ((¬ (g (0 : Int32).toNatClampNeg) = y) → Z s1)))) ∧ ((¬ t = k) → Z s1))))) (fun _ _ _ => False) := by
  refine ⟨⟨_, hW.1⟩, (hm s hW).post (fun v s1 hq => ?_) (fun _ _ _ h => h)⟩
  obtain ⟨F', L', I', J', w, mf, y, hy, hM, h0, he⟩ := hq
  have hf1 : s1 101 out = some (.inr (1, .inr (.inl f))) := (mf 101 out d.2.2).trans hf
  have hL : LW A CA ad o out T s1 := ⟨E, F', L', I', J', f, hC.mf d hW mf, w, hM, hf1⟩
  exact ⟨y, hy, ⟨_, w.1⟩, callThrown w ⟨_, rfl, fun _ => ⟨fun _ => hAT s1 hL, fun q => ⟨1, f, hf1, z_in, fun _ => hAT s1 hL, fun n => absurd (he q) n⟩⟩, fun n => absurd h0 n⟩⟩
/-- a case without an exception -/
theorem tail2 {x : Int32} (d : DS A CA ad o out) (hC : CI s A CA E T) (hW : MW ad o F L I J s) (hf : s 101 out = some (.inr (1, .inr (.inl f)))) (hm : CallM G N rc ad o av F L I J (fun v F' L' I' J' => v = some (.int x) ∧ MI F' L' I' J' T)) (hAT : ∀ s', LW A CA ad o out T s' → AT s') :
    (∃ fs : List Value, Ob s 9 o fs) ∧ Call G N rc 0 av s (qI (fun y s1 => ((x = y) → AT s1) ∧ ((¬ x = y) → Z s1))) (fun _ _ _ => False) := by
  refine ⟨⟨_, hW.1⟩, (hm s hW).post (fun v s1 hq => ?_) (fun _ _ _ h => h)⟩
  obtain ⟨F', L', I', J', w, mf, hy, hM⟩ := hq
  have hf1 : s1 101 out = some (.inr (1, .inr (.inl f))) := (mf 101 out d.2.2).trans hf
  exact ⟨x, hy, fun _ => hAT s1 ⟨E, F', L', I', J', f, hC.mf d hW mf, w, hM, hf1⟩, fun n => absurd rfl n⟩
theorem okI {P : Int32 → PS → Prop} {x : Int32} (d : DS A CA ad o out) (hf : σ 101 out = some (.inr (1, .inr (.inl f)))) (hK : KpD (own A CA) σ τ) (g : P 0 (up τ 101 out (.inr (1, .inr (.inl (vp_updL f 0 x.toInt64)))))) : wI out (qI P) (some (.int x)) τ := ⟨x, rfl, f, hK _ _ _ hf d.2.1, 0, rfl, g⟩
theorem okJ {P : Int32 → PS → Prop} {x : Int64} (d : DS A CA ad o out) (hf : σ 101 out = some (.inr (1, .inr (.inl f)))) (hK : KpD (own A CA) σ τ) (g : P 0 (up τ 101 out (.inr (1, .inr (.inl (vp_updL f 0 x)))))) : wJ out (qI P) (some (.long x)) τ := ⟨x, rfl, f, hK _ _ _ hf d.2.1, 0, rfl, g⟩
end TAIL
theorem upL0 {f : Nat → Int64} {x : Int64} : vp_updL f 0 x 0 = x := if_pos rfl
theorem inN_mk {x : Int32} {n v : Nat} (h : v < n) (e : x = nI v) : inN x n := ⟨v, h, e⟩
theorem nI_one {x : Int32} {v w : Nat} (e : x = nI v) (e' : x = nI w) (h : v < 2 ^ 31) (h' : w < 2 ^ 31) : w = v := (nI_eq h' h).mp (e'.symm.trans e)
theorem sameC.rf {C : CL} : sameC C C := ⟨rfl, fun _ _ => ⟨rfl, rfl⟩⟩
