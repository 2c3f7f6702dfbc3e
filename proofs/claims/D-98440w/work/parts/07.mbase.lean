/-! the reference's world: F its ints, L its longs, I its int arrays, J its long arrays, each by the place of its field -/
set_option maxRecDepth 100000
def mKind : Nat → Nat := fun k => match k with
  | 1 => 2
  | 9 => 2
  | 10 => 2
  | 11 => 2
  | 12 => 2
  | 13 => 2
  | 14 => 2
  | 15 => 2
  | 20 => 2
  | 21 => 2
  | 22 => 2
  | 23 => 2
  | 24 => 2
  | 25 => 2
  | 26 => 2
  | 27 => 2
  | 30 => 2
  | 31 => 2
  | 33 => 2
  | 34 => 2
  | 37 => 3
  | 38 => 3
  | 39 => 3
  | 40 => 3
  | 41 => 1
  | 42 => 1
  | 56 => 2
  | 61 => 2
  | 63 => 2
  | _ => 0
def mLen : Nat → Nat := fun k => match k with
  | 1 => 2
  | 9 => 600
  | 10 => 12
  | 11 => 12
  | 12 => 24
  | 13 => 24
  | 14 => 24
  | 15 => 24
  | 20 => 150
  | 21 => 150
  | 22 => 32
  | 23 => 150
  | 24 => 1050
  | 25 => 1050
  | 26 => 224
  | 27 => 7
  | 30 => 30
  | 31 => 30
  | 33 => 16900
  | 34 => 16900
  | 37 => 16900
  | 38 => 16900
  | 39 => 6
  | 40 => 24
  | 56 => 8
  | 61 => 980
  | 63 => 3090
  | _ => 0
abbrev MPost : Type := Option Value → (Nat → Int32) → (Nat → Int64) → (Nat → Nat → Int32) → (Nat → Nat → Int64) → Prop
def fU {α : Type} (F : Nat → α) (k : Nat) (v : α) : Nat → α := fun j => if j = k then v else F j
def aU {α : Type} (I : Nat → Nat → α) (k i : Nat) (v : α) : Nat → Nat → α := fun j => if j = k then (fun i' => if i' = i then v else I j i') else I j
def mVal (ad : Nat → Nat) (F : Nat → Int32) (L : Nat → Int64) (k : Nat) : Value := match mKind k with
  | 0 => .int (F k)
  | 1 => .long (L k)
  | _ => .ref (ad k)
def mFs (ad : Nat → Nat) (F : Nat → Int32) (L : Nat → Int64) : List Value := (List.range 65).map (mVal ad F L)
theorem mFs_at {ad : Nat → Nat} {F : Nat → Int32} {L : Nat → Int64} {k : Nat} (h : k < 65) : (mFs ad F L)[k]? = some (mVal ad F L k) := by
  unfold mFs
  rw [List.getElem?_map, List.getElem?_range h]
  rfl
theorem mFs_set {ad : Nat → Nat} {F F' : Nat → Int32} {L L' : Nat → Int64} {k : Nat} {v : Value} (h : k < 65) (h1 : mVal ad F' L' k = v) (h2 : ∀ j, j < 65 → j ≠ k → mVal ad F' L' j = mVal ad F L j) : (mFs ad F L).set k v = mFs ad F' L' := by
  apply List.ext_getElem?
  intro j
  by_cases hj : j < 65
  · by_cases e : j = k
    · subst e
      rw [List.getElem?_set_self (by simp [mFs]; exact h), mFs_at h, h1]
    · rw [List.getElem?_set_ne (fun z => e z.symm), mFs_at hj, mFs_at hj, h2 j hj e]
  · rw [List.getElem?_eq_none (by simp [mFs]; omega), List.getElem?_eq_none (by simp [mFs]; omega)]
theorem mFs_setI {ad : Nat → Nat} {F : Nat → Int32} {L : Nat → Int64} {k : Nat} {x : Int32} (h : k < 65) (hk : mKind k = 0) : (mFs ad F L).set k (.int x) = mFs ad (fU F k x) L := by
  refine mFs_set h (by simp [mVal, hk, fU]) (fun j hj e => ?_)
  unfold mVal
  split <;> simp [fU, e]
theorem mFs_setL {ad : Nat → Nat} {F : Nat → Int32} {L : Nat → Int64} {k : Nat} {x : Int64} (h : k < 65) (hk : mKind k = 1) : (mFs ad F L).set k (.long x) = mFs ad F (fU L k x) := by
  refine mFs_set h (by simp [mVal, hk, fU]) (fun j hj e => ?_)
  unfold mVal
  split <;> simp [fU, e]
/-- the object at o, its arrays at ad k, hold F, L, I, J -/
def MW (ad : Nat → Nat) (o : Nat) (F : Nat → Int32) (L : Nat → Int64) (I : Nat → Nat → Int32) (J : Nat → Nat → Int64) (σ : PS) : Prop :=
  Ob σ 9 o (mFs ad F L) ∧ (∀ k, k < 65 → mKind k = 2 → Ia σ 100 (ad k) (mLen k) (I k)) ∧ (∀ k, k < 65 → mKind k = 3 → La σ 101 (ad k) (mLen k) (J k)) ∧ ∀ j k, j < 65 → k < 65 → 2 ≤ mKind j → 2 ≤ mKind k → ad j = ad k → j = k
def mAd (ad : Nat → Nat) (o κ a : Nat) : Prop := (κ = 9 ∧ a = o) ∨ (κ = 100 ∧ ∃ k, k < 65 ∧ mKind k = 2 ∧ a = ad k) ∨ (κ = 101 ∧ ∃ k, k < 65 ∧ mKind k = 3 ∧ a = ad k)
/-- all else stays -/
def MF (ad : Nat → Nat) (o : Nat) (σ0 σ : PS) : Prop := ∀ κ a, ¬ mAd ad o κ a → σ κ a = σ0 κ a
theorem MF.rf {ad : Nat → Nat} {o : Nat} {σ : PS} : MF ad o σ σ := fun _ _ _ => rfl
theorem MF.tr {ad : Nat → Nat} {o : Nat} {s t u : PS} (h1 : MF ad o s t) (h2 : MF ad o t u) : MF ad o s u := fun κ a h => (h2 κ a h).trans (h1 κ a h)
theorem MF.up {ad : Nat → Nat} {o κ a : Nat} {s t : PS} {e : aE} (h : MF ad o s t) (ha : mAd ad o κ a) : MF ad o s (up t κ a e) := by
  intro κ' a' hn
  rw [up_ne]
  · exact h κ' a' hn
  · by_cases h1 : κ' = κ
    · by_cases h2 : a' = a
      · subst h1; subst h2; exact absurd ha hn
      · exact Or.inr h2
    · exact Or.inl h1
theorem MW.putI {ad : Nat → Nat} {o k : Nat} {F : Nat → Int32} {L : Nat → Int64} {I : Nat → Nat → Int32} {J : Nat → Nat → Int64} {σ : PS} {x : Int32} (h : MW ad o F L I J σ) (hk : k < 65) (h0 : mKind k = 0) : MW ad o (fU F k x) L I J (up σ 9 o (.inl ((mFs ad F L).set k (.int x)))) := by
  refine ⟨by rw [mFs_setI hk h0]; exact up_eq, fun j hj e => ?_, fun j hj e => ?_, h.2.2.2⟩
  · exact (up_k (by decide)).trans (h.2.1 j hj e)
  · exact (up_k (by decide)).trans (h.2.2.1 j hj e)
theorem MW.putL {ad : Nat → Nat} {o k : Nat} {F : Nat → Int32} {L : Nat → Int64} {I : Nat → Nat → Int32} {J : Nat → Nat → Int64} {σ : PS} {x : Int64} (h : MW ad o F L I J σ) (hk : k < 65) (h0 : mKind k = 1) : MW ad o F (fU L k x) I J (up σ 9 o (.inl ((mFs ad F L).set k (.long x)))) := by
  refine ⟨by rw [mFs_setL hk h0]; exact up_eq, fun j hj e => ?_, fun j hj e => ?_, h.2.2.2⟩
  · exact (up_k (by decide)).trans (h.2.1 j hj e)
  · exact (up_k (by decide)).trans (h.2.2.1 j hj e)
theorem aU_self {α : Type} {I : Nat → Nat → α} {k i : Nat} {v : α} : aU I k i v k = fun j => if j = i then v else I k j := if_pos rfl
theorem MW.putA {ad : Nat → Nat} {o k i : Nat} {F : Nat → Int32} {L : Nat → Int64} {I : Nat → Nat → Int32} {J : Nat → Nat → Int64} {σ : PS} {x : Int32} (h : MW ad o F L I J σ) (hk : k < 65) (h0 : mKind k = 2) : MW ad o F L (aU I k i x) J (up σ 100 (ad k) (.inr (mLen k, .inl (upd (I k) i x)))) := by
  refine ⟨(up_k (by decide)).trans h.1, fun j hj e => ?_, fun j hj e => ?_, h.2.2.2⟩
  · by_cases hjk : j = k
    · subst hjk
      rw [aU_self]
      exact up_eq
    · rw [show aU I k i x j = I j from if_neg hjk]
      exact (up_a (fun q => hjk (h.2.2.2 j k hj hk (by omega) (by omega) q))).trans (h.2.1 j hj e)
  · exact (up_k (by decide)).trans (h.2.2.1 j hj e)
theorem MW.putB {ad : Nat → Nat} {o k i : Nat} {F : Nat → Int32} {L : Nat → Int64} {I : Nat → Nat → Int32} {J : Nat → Nat → Int64} {σ : PS} {x : Int64} (h : MW ad o F L I J σ) (hk : k < 65) (h0 : mKind k = 3) : MW ad o F L I (aU J k i x) (up σ 101 (ad k) (.inr (mLen k, .inr (.inl (vp_updL (J k) i x))))) := by
  refine ⟨(up_k (by decide)).trans h.1, fun j hj e => ?_, fun j hj e => ?_, h.2.2.2⟩
  · exact (up_k (by decide)).trans (h.2.1 j hj e)
  · by_cases hjk : j = k
    · subst hjk
      rw [aU_self]
      exact up_eq
    · rw [show aU J k i x j = J j from if_neg hjk]
      exact (up_a (fun q => hjk (h.2.2.2 j k hj hk (by omega) (by omega) q))).trans (h.2.2.1 j hj e)
/-- a call that changes nothing -/
abbrev CallO (G : GC) (N : MD) (r : Nat) (av : List Value) (σ : PS) (P : Option Value → Prop) : Prop := Call G N r 0 av σ (fun v s => s = σ ∧ P v) (fun _ _ _ => False)
def pV (P : Prop) : Option Value → Prop := fun v => v = none ∧ P
def pI (P : Int32 → Prop) : Option Value → Prop := fun v => ∃ x : Int32, v = some (.int x) ∧ P x
def pJ (P : Int64 → Prop) : Option Value → Prop := fun v => ∃ x : Int64, v = some (.long x) ∧ P x
def pR (P : Nat → Prop) : Option Value → Prop := fun v => ∃ x : Nat, v = some (.ref x) ∧ P x
def mQ (ad : Nat → Nat) (o : Nat) (σ0 : PS) (Q : MPost) : Option Value → PS → Prop := fun v s => ∃ (F : Nat → Int32) (L : Nat → Int64) (I : Nat → Nat → Int32) (J : Nat → Nat → Int64), MW ad o F L I J s ∧ MF ad o σ0 s ∧ Q v F L I J
def AtM (G : GC) (M : MD) (r : Nat) (ad : Nat → Nat) (o : Nat) (σ0 : PS) (Q : MPost) (pc : Nat) (ls : List (Nat × Value)) (st : List Value) (F : Nat → Int32) (L : Nat → Int64) (I : Nat → Nat → Int32) (J : Nat → Nat → Int64) : Prop :=
  ∀ σ : PS, MW ad o F L I J σ → MF ad o σ0 σ → At G M r (mQ ad o σ0 Q) (fun _ _ _ => False) 0 pc ls st σ
def CallM (G : GC) (N : MD) (r : Nat) (ad : Nat → Nat) (o : Nat) (av : List Value) (F : Nat → Int32) (L : Nat → Int64) (I : Nat → Nat → Int32) (J : Nat → Nat → Int64) (Q : MPost) : Prop :=
  ∀ σ : PS, MW ad o F L I J σ → Call G N r 0 av σ (mQ ad o σ Q) (fun _ _ _ => False)
abbrev CallMO (G : GC) (N : MD) (r : Nat) (ad : Nat → Nat) (o : Nat) (av : List Value) (F : Nat → Int32) (L : Nat → Int64) (I : Nat → Nat → Int32) (J : Nat → Nat → Int64) (P : Option Value → Prop) : Prop := CallM G N r ad o av F L I J (fun v F' L' I' J' => F' = F ∧ L' = L ∧ I' = I ∧ J' = J ∧ P v)
def CallP (G : GC) (N : MD) (r : Nat) (av : List Value) (P : Option Value → Prop) : Prop := ∀ σ : PS, CallO G N r av σ P
theorem CallM.of {G : GC} {N : MD} {r : Nat} {ad : Nat → Nat} {o : Nat} {av : List Value} {F : Nat → Int32} {L : Nat → Int64} {I : Nat → Nat → Int32} {J : Nat → Nat → Int64} {Q : MPost} (hy : plainName N.1.cls = true) (hw : wsM N = ws_ N.1 N.2.1 N.2.2.1 N.2.2.2.1) (hh : N.2.2.2.2 = []) (hL : (lg_sl av).length ≤ N.2.2.1)
    (k : ∀ σ0, AtM G N r ad o σ0 Q 0 (lv_args 0 av) [] F L I J) : CallM G N r ad o av F L I J Q := fun σ hW => Call.of hy hw hh hL (k σ σ hW MF.rf)
theorem CallM.post {G : GC} {N : MD} {r : Nat} {ad : Nat → Nat} {o : Nat} {av : List Value} {F : Nat → Int32} {L : Nat → Int64} {I : Nat → Nat → Int32} {J : Nat → Nat → Int64} {Q Q' : MPost} (k : CallM G N r ad o av F L I J Q') (h : ∀ v F' L' I' J', Q' v F' L' I' J' → Q v F' L' I' J') : CallM G N r ad o av F L I J Q :=
  fun σ hW => (k σ hW).post (fun v s ⟨F', L', I', J', h1, h2, h3⟩ => ⟨F', L', I', J', h1, h2, h _ _ _ _ _ h3⟩) (fun _ _ _ h => h)
theorem CallP.post {G : GC} {N : MD} {r : Nat} {av : List Value} {P P' : Option Value → Prop} (k : CallP G N r av P') (h : ∀ v, P' v → P v) : CallP G N r av P := fun σ => (k σ).post (fun v s h1 => ⟨h1.1, h v h1.2⟩) (fun _ _ _ h => h)
def mqV (P : (Nat → Int32) → (Nat → Int64) → (Nat → Nat → Int32) → (Nat → Nat → Int64) → Prop) : MPost := fun v F L I J => v = none ∧ P F L I J
def mqI (P : Int32 → (Nat → Int32) → (Nat → Int64) → (Nat → Nat → Int32) → (Nat → Nat → Int64) → Prop) : MPost := fun v F L I J => ∃ x : Int32, v = some (.int x) ∧ P x F L I J
def mqJ (P : Int64 → (Nat → Int32) → (Nat → Int64) → (Nat → Nat → Int32) → (Nat → Nat → Int64) → Prop) : MPost := fun v F L I J => ∃ x : Int64, v = some (.long x) ∧ P x F L I J

section MROWS
variable {G : GC} {M : MD} {r : Nat} {ad : Nat → Nat} {o : Nat} {σ0 : PS} {Q : MPost} {pc : Nat} {ls : List (Nat × Value)} {st : List Value} {F : Nat → Int32} {L : Nat → Int64} {I : Nat → Nat → Int32} {J : Nat → Nat → Int64}
theorem m_iconst {n : Int} {v : Int32} (d : decode M.2.1 pc = .ok (.iconst n, 1)) (hv : Int32.ofInt n = v) (k : AtM G M r ad o σ0 Q (pc + 1) ls (.int v :: st) F L I J) : AtM G M r ad o σ0 Q (pc) ls (st) F L I J := fun σ hW hF => g_iconst d hv (k σ hW hF)
theorem m_bipush {n : Int} {v : Int32} (d : decode M.2.1 pc = .ok (.bipush n, 2)) (hv : (Int8.ofInt n).toInt32 = v) (k : AtM G M r ad o σ0 Q (pc + 2) ls (.int v :: st) F L I J) : AtM G M r ad o σ0 Q (pc) ls (st) F L I J := fun σ hW hF => g_bipush d hv (k σ hW hF)
theorem m_sipush {n : Int} {v : Int32} (d : decode M.2.1 pc = .ok (.sipush n, 3)) (hv : (Int16.ofInt n).toInt32 = v) (k : AtM G M r ad o σ0 Q (pc + 3) ls (.int v :: st) F L I J) : AtM G M r ad o σ0 Q (pc) ls (st) F L I J := fun σ hW hF => g_sipush d hv (k σ hW hF)
theorem m_lconst {n : Fin 2} {v : Int64} (d : decode M.2.1 pc = .ok (.lconst n, 1)) (hv : Int64.ofNat (n : Nat) = v) (k : AtM G M r ad o σ0 Q (pc + 1) ls (.long v :: st) F L I J) : AtM G M r ad o σ0 Q (pc) ls (st) F L I J := fun σ hW hF => g_lconst d hv (k σ hW hF)
theorem m_iadd {x y : Int32} (d : decode M.2.1 pc = .ok (.iadd, 1)) (k : AtM G M r ad o σ0 Q (pc + 1) ls (.int (x + y) :: st) F L I J) : AtM G M r ad o σ0 Q (pc) ls (.int y :: .int x :: st) F L I J := fun σ hW hF => g_iadd d (k σ hW hF)
theorem m_isub {x y : Int32} (d : decode M.2.1 pc = .ok (.isub, 1)) (k : AtM G M r ad o σ0 Q (pc + 1) ls (.int (x - y) :: st) F L I J) : AtM G M r ad o σ0 Q (pc) ls (.int y :: .int x :: st) F L I J := fun σ hW hF => g_isub d (k σ hW hF)
theorem m_imul {x y : Int32} (d : decode M.2.1 pc = .ok (.imul, 1)) (k : AtM G M r ad o σ0 Q (pc + 1) ls (.int (x * y) :: st) F L I J) : AtM G M r ad o σ0 Q (pc) ls (.int y :: .int x :: st) F L I J := fun σ hW hF => g_imul d (k σ hW hF)
theorem m_iand {x y : Int32} (d : decode M.2.1 pc = .ok (.iand, 1)) (k : AtM G M r ad o σ0 Q (pc + 1) ls (.int (x &&& y) :: st) F L I J) : AtM G M r ad o σ0 Q (pc) ls (.int y :: .int x :: st) F L I J := fun σ hW hF => g_iand d (k σ hW hF)
theorem m_ior {x y : Int32} (d : decode M.2.1 pc = .ok (.ior, 1)) (k : AtM G M r ad o σ0 Q (pc + 1) ls (.int (x ||| y) :: st) F L I J) : AtM G M r ad o σ0 Q (pc) ls (.int y :: .int x :: st) F L I J := fun σ hW hF => g_ior d (k σ hW hF)
theorem m_ixor {x y : Int32} (d : decode M.2.1 pc = .ok (.ixor, 1)) (k : AtM G M r ad o σ0 Q (pc + 1) ls (.int (x ^^^ y) :: st) F L I J) : AtM G M r ad o σ0 Q (pc) ls (.int y :: .int x :: st) F L I J := fun σ hW hF => g_ixor d (k σ hW hF)
theorem m_ladd {x y : Int64} (d : decode M.2.1 pc = .ok (.ladd, 1)) (k : AtM G M r ad o σ0 Q (pc + 1) ls (.long (x + y) :: st) F L I J) : AtM G M r ad o σ0 Q (pc) ls (.long y :: .long x :: st) F L I J := fun σ hW hF => g_ladd d (k σ hW hF)
theorem m_lsub {x y : Int64} (d : decode M.2.1 pc = .ok (.lsub, 1)) (k : AtM G M r ad o σ0 Q (pc + 1) ls (.long (x - y) :: st) F L I J) : AtM G M r ad o σ0 Q (pc) ls (.long y :: .long x :: st) F L I J := fun σ hW hF => g_lsub d (k σ hW hF)
theorem m_lmul {x y : Int64} (d : decode M.2.1 pc = .ok (.lmul, 1)) (k : AtM G M r ad o σ0 Q (pc + 1) ls (.long (x * y) :: st) F L I J) : AtM G M r ad o σ0 Q (pc) ls (.long y :: .long x :: st) F L I J := fun σ hW hF => g_lmul d (k σ hW hF)
theorem m_idiv {x y : Int32} (d : decode M.2.1 pc = .ok (.idiv, 1)) (h0 : ¬ y = 0) (k : AtM G M r ad o σ0 Q (pc + 1) ls (.int (x / y) :: st) F L I J) : AtM G M r ad o σ0 Q (pc) ls (.int y :: .int x :: st) F L I J := fun σ hW hF => g_idiv d h0 (k σ hW hF)
theorem m_irem {x y : Int32} (d : decode M.2.1 pc = .ok (.irem, 1)) (h0 : ¬ y = 0) (k : AtM G M r ad o σ0 Q (pc + 1) ls (.int (x - x / y * y) :: st) F L I J) : AtM G M r ad o σ0 Q (pc) ls (.int y :: .int x :: st) F L I J := fun σ hW hF => g_irem d h0 (k σ hW hF)
theorem m_ldiv {x y : Int64} (d : decode M.2.1 pc = .ok (.ldiv, 1)) (h0 : ¬ y = 0) (k : AtM G M r ad o σ0 Q (pc + 1) ls (.long (x / y) :: st) F L I J) : AtM G M r ad o σ0 Q (pc) ls (.long y :: .long x :: st) F L I J := fun σ hW hF => g_ldiv d h0 (k σ hW hF)
theorem m_lrem {x y : Int64} (d : decode M.2.1 pc = .ok (.lrem, 1)) (h0 : ¬ y = 0) (k : AtM G M r ad o σ0 Q (pc + 1) ls (.long (x - x / y * y) :: st) F L I J) : AtM G M r ad o σ0 Q (pc) ls (.long y :: .long x :: st) F L I J := fun σ hW hF => g_lrem d h0 (k σ hW hF)
theorem m_ineg {x : Int32} (d : decode M.2.1 pc = .ok (.ineg, 1)) (k : AtM G M r ad o σ0 Q (pc + 1) ls (.int (-x) :: st) F L I J) : AtM G M r ad o σ0 Q (pc) ls (.int x :: st) F L I J := fun σ hW hF => g_ineg d (k σ hW hF)
theorem m_ishl {x y : Int32} (d : decode M.2.1 pc = .ok (.ishl, 1)) (k : AtM G M r ad o σ0 Q (pc + 1) ls (.int (x <<< (y &&& 31)) :: st) F L I J) : AtM G M r ad o σ0 Q (pc) ls (.int y :: .int x :: st) F L I J := fun σ hW hF => g_ishl d (k σ hW hF)
theorem m_ishr {x y : Int32} (d : decode M.2.1 pc = .ok (.ishr, 1)) (k : AtM G M r ad o σ0 Q (pc + 1) ls (.int (x >>> (y &&& 31)) :: st) F L I J) : AtM G M r ad o σ0 Q (pc) ls (.int y :: .int x :: st) F L I J := fun σ hW hF => g_ishr d (k σ hW hF)
theorem m_i2l {x : Int32} (d : decode M.2.1 pc = .ok (.i2l, 1)) (k : AtM G M r ad o σ0 Q (pc + 1) ls (.long x.toInt64 :: st) F L I J) : AtM G M r ad o σ0 Q (pc) ls (.int x :: st) F L I J := fun σ hW hF => g_i2l d (k σ hW hF)
theorem m_l2i {x : Int64} (d : decode M.2.1 pc = .ok (.l2i, 1)) (k : AtM G M r ad o σ0 Q (pc + 1) ls (.int x.toInt32 :: st) F L I J) : AtM G M r ad o σ0 Q (pc) ls (.long x :: st) F L I J := fun σ hW hF => g_l2i d (k σ hW hF)
theorem m_i2b {x : Int32} (d : decode M.2.1 pc = .ok (.i2b, 1)) (k : AtM G M r ad o σ0 Q (pc + 1) ls (.int x.toInt8.toInt32 :: st) F L I J) : AtM G M r ad o σ0 Q (pc) ls (.int x :: st) F L I J := fun σ hW hF => g_i2b d (k σ hW hF)
theorem m_dup {v : Value} (d : decode M.2.1 pc = .ok (.dup, 1)) (h1 : v.category = 1) (k : AtM G M r ad o σ0 Q (pc + 1) ls (v :: v :: st) F L I J) : AtM G M r ad o σ0 Q (pc) ls (v :: st) F L I J := fun σ hW hF => g_dup d h1 (k σ hW hF)
theorem m_pop {v : Value} (d : decode M.2.1 pc = .ok (.pop, 1)) (h1 : v.category = 1) (k : AtM G M r ad o σ0 Q (pc + 1) ls (st) F L I J) : AtM G M r ad o σ0 Q (pc) ls (v :: st) F L I J := fun σ hW hF => g_pop d h1 (k σ hW hF)
theorem m_dup_x1 {v w : Value} (d : decode M.2.1 pc = .ok (.dup_x1, 1)) (h1 : v.category = 1) (h2 : w.category = 1) (k : AtM G M r ad o σ0 Q (pc + 1) ls (v :: w :: v :: st) F L I J) : AtM G M r ad o σ0 Q (pc) ls (v :: w :: st) F L I J := fun σ hW hF => g_dup_x1 d h1 h2 (k σ hW hF)
theorem m_dup2 {v w : Value} (d : decode M.2.1 pc = .ok (.dup2, 1)) (h1 : v.category = 1) (h2 : w.category = 1) (k : AtM G M r ad o σ0 Q (pc + 1) ls (v :: w :: v :: w :: st) F L I J) : AtM G M r ad o σ0 Q (pc) ls (v :: w :: st) F L I J := fun σ hW hF => g_dup2 d h1 h2 (k σ hW hF)
theorem m_dup2l {v : Value} (d : decode M.2.1 pc = .ok (.dup2, 1)) (h1 : v.category = 2) (k : AtM G M r ad o σ0 Q (pc + 1) ls (v :: v :: st) F L I J) : AtM G M r ad o σ0 Q (pc) ls (v :: st) F L I J := fun σ hW hF => g_dup2l d h1 (k σ hW hF)
theorem m_iload {i : Nat} {x : Int32} (d : decode M.2.1 pc = .ok (.iload i, 2)) (j : Nat) (hj : ls[j]? = some (i, .int x)) (k : AtM G M r ad o σ0 Q (pc + 2) ls (.int x :: st) F L I J) : AtM G M r ad o σ0 Q (pc) ls (st) F L I J := fun σ hW hF => g_iload d j hj (k σ hW hF)
theorem m_iload_n {i : Nat} {n : Fin 4} {x : Int32} (d : decode M.2.1 pc = .ok (.iload_n n, 1)) (hi : (n : Nat) = i) (j : Nat) (hj : ls[j]? = some (i, .int x)) (k : AtM G M r ad o σ0 Q (pc + 1) ls (.int x :: st) F L I J) : AtM G M r ad o σ0 Q (pc) ls (st) F L I J := fun σ hW hF => g_iload_n d hi j hj (k σ hW hF)
theorem m_istore {i : Nat} {x : Int32} {ls1 : List (Nat × Value)} (d : decode M.2.1 pc = .ok (.istore i, 2)) (hn : i < M.2.2.1) (hl1 : (i, Value.int x) :: ls.filter (fun q => !(q.1 == i) && !(q.1 + 1 == i && q.2.category == 2)) = ls1) (k : AtM G M r ad o σ0 Q (pc + 2) ls1 (st) F L I J) : AtM G M r ad o σ0 Q (pc) ls (.int x :: st) F L I J := fun σ hW hF => g_istore d hn hl1 (k σ hW hF)
theorem m_istore_n {i : Nat} {n : Fin 4} {x : Int32} {ls1 : List (Nat × Value)} (d : decode M.2.1 pc = .ok (.istore_n n, 1)) (hi : (n : Nat) = i) (hn : i < M.2.2.1) (hl1 : (i, Value.int x) :: ls.filter (fun q => !(q.1 == i) && !(q.1 + 1 == i && q.2.category == 2)) = ls1) (k : AtM G M r ad o σ0 Q (pc + 1) ls1 (st) F L I J) : AtM G M r ad o σ0 Q (pc) ls (.int x :: st) F L I J := fun σ hW hF => g_istore_n d hi hn hl1 (k σ hW hF)
theorem m_lload {i : Nat} {x : Int64} (d : decode M.2.1 pc = .ok (.lload i, 2)) (j : Nat) (hj : ls[j]? = some (i, .long x)) (k : AtM G M r ad o σ0 Q (pc + 2) ls (.long x :: st) F L I J) : AtM G M r ad o σ0 Q (pc) ls (st) F L I J := fun σ hW hF => g_lload d j hj (k σ hW hF)
theorem m_lload_n {i : Nat} {n : Fin 4} {x : Int64} (d : decode M.2.1 pc = .ok (.lload_n n, 1)) (hi : (n : Nat) = i) (j : Nat) (hj : ls[j]? = some (i, .long x)) (k : AtM G M r ad o σ0 Q (pc + 1) ls (.long x :: st) F L I J) : AtM G M r ad o σ0 Q (pc) ls (st) F L I J := fun σ hW hF => g_lload_n d hi j hj (k σ hW hF)
theorem m_lstore {i : Nat} {x : Int64} {ls1 : List (Nat × Value)} (d : decode M.2.1 pc = .ok (.lstore i, 2)) (hn : i + 1 < M.2.2.1) (hl1 : (i, Value.long x) :: ls.filter (fun q => !(q.1 == i) && (!(q.1 == i + 1) && !(q.1 + 1 == i && q.2.category == 2))) = ls1) (k : AtM G M r ad o σ0 Q (pc + 2) ls1 (st) F L I J) : AtM G M r ad o σ0 Q (pc) ls (.long x :: st) F L I J := fun σ hW hF => g_lstore d hn hl1 (k σ hW hF)
theorem m_lstore_n {i : Nat} {n : Fin 4} {x : Int64} {ls1 : List (Nat × Value)} (d : decode M.2.1 pc = .ok (.lstore_n n, 1)) (hi : (n : Nat) = i) (hn : i + 1 < M.2.2.1) (hl1 : (i, Value.long x) :: ls.filter (fun q => !(q.1 == i) && (!(q.1 == i + 1) && !(q.1 + 1 == i && q.2.category == 2))) = ls1) (k : AtM G M r ad o σ0 Q (pc + 1) ls1 (st) F L I J) : AtM G M r ad o σ0 Q (pc) ls (.long x :: st) F L I J := fun σ hW hF => g_lstore_n d hi hn hl1 (k σ hW hF)
theorem m_aload {i : Nat} {x : Nat} (d : decode M.2.1 pc = .ok (.aload i, 2)) (j : Nat) (hj : ls[j]? = some (i, .ref x)) (k : AtM G M r ad o σ0 Q (pc + 2) ls (.ref x :: st) F L I J) : AtM G M r ad o σ0 Q (pc) ls (st) F L I J := fun σ hW hF => g_aload d j hj (k σ hW hF)
theorem m_aload_n {i : Nat} {n : Fin 4} {x : Nat} (d : decode M.2.1 pc = .ok (.aload_n n, 1)) (hi : (n : Nat) = i) (j : Nat) (hj : ls[j]? = some (i, .ref x)) (k : AtM G M r ad o σ0 Q (pc + 1) ls (.ref x :: st) F L I J) : AtM G M r ad o σ0 Q (pc) ls (st) F L I J := fun σ hW hF => g_aload_n d hi j hj (k σ hW hF)
theorem m_astore {i : Nat} {x : Nat} {ls1 : List (Nat × Value)} (d : decode M.2.1 pc = .ok (.astore i, 2)) (hn : i < M.2.2.1) (hl1 : (i, Value.ref x) :: ls.filter (fun q => !(q.1 == i) && !(q.1 + 1 == i && q.2.category == 2)) = ls1) (k : AtM G M r ad o σ0 Q (pc + 2) ls1 (st) F L I J) : AtM G M r ad o σ0 Q (pc) ls (.ref x :: st) F L I J := fun σ hW hF => g_astore d hn hl1 (k σ hW hF)
theorem m_astore_n {i : Nat} {n : Fin 4} {x : Nat} {ls1 : List (Nat × Value)} (d : decode M.2.1 pc = .ok (.astore_n n, 1)) (hi : (n : Nat) = i) (hn : i < M.2.2.1) (hl1 : (i, Value.ref x) :: ls.filter (fun q => !(q.1 == i) && !(q.1 + 1 == i && q.2.category == 2)) = ls1) (k : AtM G M r ad o σ0 Q (pc + 1) ls1 (st) F L I J) : AtM G M r ad o σ0 Q (pc) ls (.ref x :: st) F L I J := fun σ hW hF => g_astore_n d hi hn hl1 (k σ hW hF)
theorem m_iinc {i : Nat} {n : Int} {x v : Int32} {ls1 : List (Nat × Value)} (d : decode M.2.1 pc = .ok (.iinc i n, 3)) (j : Nat) (hj : ls[j]? = some (i, .int x)) (hv : x + Int32.ofInt n = v) (hn : i < M.2.2.1) (hl1 : (i, Value.int v) :: ls.filter (fun q => !(q.1 == i) && !(q.1 + 1 == i && q.2.category == 2)) = ls1) (k : AtM G M r ad o σ0 Q (pc + 3) ls1 (st) F L I J) : AtM G M r ad o σ0 Q (pc) ls (st) F L I J := fun σ hW hF => g_iinc d j hj hv hn hl1 (k σ hW hF)
theorem m_if_eq {x : Int32} {off : Int} {tgt : Nat} (d : decode M.2.1 pc = .ok (.ifCond .eq off, 3)) (ht : (pc : Int) + off = (tgt : Int)) (kt : x = 0 → AtM G M r ad o σ0 Q (tgt) ls (st) F L I J) (kf : ¬ x = 0 → AtM G M r ad o σ0 Q (pc + 3) ls (st) F L I J) : AtM G M r ad o σ0 Q (pc) ls (.int x :: st) F L I J := fun σ hW hF => g_if_eq d ht (fun q => kt q σ hW hF) (fun q => kf q σ hW hF)
theorem m_icmp_eq {x y : Int32} {off : Int} {tgt : Nat} (d : decode M.2.1 pc = .ok (.if_icmp .eq off, 3)) (ht : (pc : Int) + off = (tgt : Int)) (kt : x = y → AtM G M r ad o σ0 Q (tgt) ls (st) F L I J) (kf : ¬ x = y → AtM G M r ad o σ0 Q (pc + 3) ls (st) F L I J) : AtM G M r ad o σ0 Q (pc) ls (.int y :: .int x :: st) F L I J := fun σ hW hF => g_icmp_eq d ht (fun q => kt q σ hW hF) (fun q => kf q σ hW hF)
theorem m_lcmp_eq {x y : Int64} {off : Int} {tgt : Nat} (d : decode M.2.1 pc = .ok (.lcmp, 1)) (d2 : decode M.2.1 (pc + 1) = .ok (.ifCond .eq off, 3)) (ht : ((pc + 1 : Nat) : Int) + off = (tgt : Int)) (kt : x = y → AtM G M r ad o σ0 Q (tgt) ls (st) F L I J) (kf : ¬ x = y → AtM G M r ad o σ0 Q (pc + 4) ls (st) F L I J) : AtM G M r ad o σ0 Q (pc) ls (.long y :: .long x :: st) F L I J := fun σ hW hF => g_lcmp_eq d d2 ht (fun q => kt q σ hW hF) (fun q => kf q σ hW hF)
theorem m_if_ne {x : Int32} {off : Int} {tgt : Nat} (d : decode M.2.1 pc = .ok (.ifCond .ne off, 3)) (ht : (pc : Int) + off = (tgt : Int)) (kt : ¬ x = 0 → AtM G M r ad o σ0 Q (tgt) ls (st) F L I J) (kf : x = 0 → AtM G M r ad o σ0 Q (pc + 3) ls (st) F L I J) : AtM G M r ad o σ0 Q (pc) ls (.int x :: st) F L I J := fun σ hW hF => g_if_ne d ht (fun q => kt q σ hW hF) (fun q => kf q σ hW hF)
theorem m_icmp_ne {x y : Int32} {off : Int} {tgt : Nat} (d : decode M.2.1 pc = .ok (.if_icmp .ne off, 3)) (ht : (pc : Int) + off = (tgt : Int)) (kt : ¬ x = y → AtM G M r ad o σ0 Q (tgt) ls (st) F L I J) (kf : x = y → AtM G M r ad o σ0 Q (pc + 3) ls (st) F L I J) : AtM G M r ad o σ0 Q (pc) ls (.int y :: .int x :: st) F L I J := fun σ hW hF => g_icmp_ne d ht (fun q => kt q σ hW hF) (fun q => kf q σ hW hF)
theorem m_lcmp_ne {x y : Int64} {off : Int} {tgt : Nat} (d : decode M.2.1 pc = .ok (.lcmp, 1)) (d2 : decode M.2.1 (pc + 1) = .ok (.ifCond .ne off, 3)) (ht : ((pc + 1 : Nat) : Int) + off = (tgt : Int)) (kt : ¬ x = y → AtM G M r ad o σ0 Q (tgt) ls (st) F L I J) (kf : x = y → AtM G M r ad o σ0 Q (pc + 4) ls (st) F L I J) : AtM G M r ad o σ0 Q (pc) ls (.long y :: .long x :: st) F L I J := fun σ hW hF => g_lcmp_ne d d2 ht (fun q => kt q σ hW hF) (fun q => kf q σ hW hF)
theorem m_if_lt {x : Int32} {off : Int} {tgt : Nat} (d : decode M.2.1 pc = .ok (.ifCond .lt off, 3)) (ht : (pc : Int) + off = (tgt : Int)) (kt : x < 0 → AtM G M r ad o σ0 Q (tgt) ls (st) F L I J) (kf : ¬ x < 0 → AtM G M r ad o σ0 Q (pc + 3) ls (st) F L I J) : AtM G M r ad o σ0 Q (pc) ls (.int x :: st) F L I J := fun σ hW hF => g_if_lt d ht (fun q => kt q σ hW hF) (fun q => kf q σ hW hF)
theorem m_icmp_lt {x y : Int32} {off : Int} {tgt : Nat} (d : decode M.2.1 pc = .ok (.if_icmp .lt off, 3)) (ht : (pc : Int) + off = (tgt : Int)) (kt : x < y → AtM G M r ad o σ0 Q (tgt) ls (st) F L I J) (kf : ¬ x < y → AtM G M r ad o σ0 Q (pc + 3) ls (st) F L I J) : AtM G M r ad o σ0 Q (pc) ls (.int y :: .int x :: st) F L I J := fun σ hW hF => g_icmp_lt d ht (fun q => kt q σ hW hF) (fun q => kf q σ hW hF)
theorem m_lcmp_lt {x y : Int64} {off : Int} {tgt : Nat} (d : decode M.2.1 pc = .ok (.lcmp, 1)) (d2 : decode M.2.1 (pc + 1) = .ok (.ifCond .lt off, 3)) (ht : ((pc + 1 : Nat) : Int) + off = (tgt : Int)) (kt : x < y → AtM G M r ad o σ0 Q (tgt) ls (st) F L I J) (kf : ¬ x < y → AtM G M r ad o σ0 Q (pc + 4) ls (st) F L I J) : AtM G M r ad o σ0 Q (pc) ls (.long y :: .long x :: st) F L I J := fun σ hW hF => g_lcmp_lt d d2 ht (fun q => kt q σ hW hF) (fun q => kf q σ hW hF)
theorem m_if_ge {x : Int32} {off : Int} {tgt : Nat} (d : decode M.2.1 pc = .ok (.ifCond .ge off, 3)) (ht : (pc : Int) + off = (tgt : Int)) (kt : 0 ≤ x → AtM G M r ad o σ0 Q (tgt) ls (st) F L I J) (kf : ¬ 0 ≤ x → AtM G M r ad o σ0 Q (pc + 3) ls (st) F L I J) : AtM G M r ad o σ0 Q (pc) ls (.int x :: st) F L I J := fun σ hW hF => g_if_ge d ht (fun q => kt q σ hW hF) (fun q => kf q σ hW hF)
theorem m_icmp_ge {x y : Int32} {off : Int} {tgt : Nat} (d : decode M.2.1 pc = .ok (.if_icmp .ge off, 3)) (ht : (pc : Int) + off = (tgt : Int)) (kt : y ≤ x → AtM G M r ad o σ0 Q (tgt) ls (st) F L I J) (kf : ¬ y ≤ x → AtM G M r ad o σ0 Q (pc + 3) ls (st) F L I J) : AtM G M r ad o σ0 Q (pc) ls (.int y :: .int x :: st) F L I J := fun σ hW hF => g_icmp_ge d ht (fun q => kt q σ hW hF) (fun q => kf q σ hW hF)
theorem m_lcmp_ge {x y : Int64} {off : Int} {tgt : Nat} (d : decode M.2.1 pc = .ok (.lcmp, 1)) (d2 : decode M.2.1 (pc + 1) = .ok (.ifCond .ge off, 3)) (ht : ((pc + 1 : Nat) : Int) + off = (tgt : Int)) (kt : y ≤ x → AtM G M r ad o σ0 Q (tgt) ls (st) F L I J) (kf : ¬ y ≤ x → AtM G M r ad o σ0 Q (pc + 4) ls (st) F L I J) : AtM G M r ad o σ0 Q (pc) ls (.long y :: .long x :: st) F L I J := fun σ hW hF => g_lcmp_ge d d2 ht (fun q => kt q σ hW hF) (fun q => kf q σ hW hF)
theorem m_if_gt {x : Int32} {off : Int} {tgt : Nat} (d : decode M.2.1 pc = .ok (.ifCond .gt off, 3)) (ht : (pc : Int) + off = (tgt : Int)) (kt : 0 < x → AtM G M r ad o σ0 Q (tgt) ls (st) F L I J) (kf : ¬ 0 < x → AtM G M r ad o σ0 Q (pc + 3) ls (st) F L I J) : AtM G M r ad o σ0 Q (pc) ls (.int x :: st) F L I J := fun σ hW hF => g_if_gt d ht (fun q => kt q σ hW hF) (fun q => kf q σ hW hF)
theorem m_icmp_gt {x y : Int32} {off : Int} {tgt : Nat} (d : decode M.2.1 pc = .ok (.if_icmp .gt off, 3)) (ht : (pc : Int) + off = (tgt : Int)) (kt : y < x → AtM G M r ad o σ0 Q (tgt) ls (st) F L I J) (kf : ¬ y < x → AtM G M r ad o σ0 Q (pc + 3) ls (st) F L I J) : AtM G M r ad o σ0 Q (pc) ls (.int y :: .int x :: st) F L I J := fun σ hW hF => g_icmp_gt d ht (fun q => kt q σ hW hF) (fun q => kf q σ hW hF)
theorem m_lcmp_gt {x y : Int64} {off : Int} {tgt : Nat} (d : decode M.2.1 pc = .ok (.lcmp, 1)) (d2 : decode M.2.1 (pc + 1) = .ok (.ifCond .gt off, 3)) (ht : ((pc + 1 : Nat) : Int) + off = (tgt : Int)) (kt : y < x → AtM G M r ad o σ0 Q (tgt) ls (st) F L I J) (kf : ¬ y < x → AtM G M r ad o σ0 Q (pc + 4) ls (st) F L I J) : AtM G M r ad o σ0 Q (pc) ls (.long y :: .long x :: st) F L I J := fun σ hW hF => g_lcmp_gt d d2 ht (fun q => kt q σ hW hF) (fun q => kf q σ hW hF)
theorem m_if_le {x : Int32} {off : Int} {tgt : Nat} (d : decode M.2.1 pc = .ok (.ifCond .le off, 3)) (ht : (pc : Int) + off = (tgt : Int)) (kt : x ≤ 0 → AtM G M r ad o σ0 Q (tgt) ls (st) F L I J) (kf : ¬ x ≤ 0 → AtM G M r ad o σ0 Q (pc + 3) ls (st) F L I J) : AtM G M r ad o σ0 Q (pc) ls (.int x :: st) F L I J := fun σ hW hF => g_if_le d ht (fun q => kt q σ hW hF) (fun q => kf q σ hW hF)
theorem m_icmp_le {x y : Int32} {off : Int} {tgt : Nat} (d : decode M.2.1 pc = .ok (.if_icmp .le off, 3)) (ht : (pc : Int) + off = (tgt : Int)) (kt : x ≤ y → AtM G M r ad o σ0 Q (tgt) ls (st) F L I J) (kf : ¬ x ≤ y → AtM G M r ad o σ0 Q (pc + 3) ls (st) F L I J) : AtM G M r ad o σ0 Q (pc) ls (.int y :: .int x :: st) F L I J := fun σ hW hF => g_icmp_le d ht (fun q => kt q σ hW hF) (fun q => kf q σ hW hF)
theorem m_lcmp_le {x y : Int64} {off : Int} {tgt : Nat} (d : decode M.2.1 pc = .ok (.lcmp, 1)) (d2 : decode M.2.1 (pc + 1) = .ok (.ifCond .le off, 3)) (ht : ((pc + 1 : Nat) : Int) + off = (tgt : Int)) (kt : x ≤ y → AtM G M r ad o σ0 Q (tgt) ls (st) F L I J) (kf : ¬ x ≤ y → AtM G M r ad o σ0 Q (pc + 4) ls (st) F L I J) : AtM G M r ad o σ0 Q (pc) ls (.long y :: .long x :: st) F L I J := fun σ hW hF => g_lcmp_le d d2 ht (fun q => kt q σ hW hF) (fun q => kf q σ hW hF)
theorem m_goto {off : Int} {tgt : Nat} (d : decode M.2.1 pc = .ok (.goto off, 3)) (ht : (pc : Int) + off = (tgt : Int)) (k : AtM G M r ad o σ0 Q (tgt) ls (st) F L I J) : AtM G M r ad o σ0 Q (pc) ls (st) F L I J := fun σ hW hF => g_goto d ht (k σ hW hF)
theorem m_tableOut {dflt lo hi : Int} {offs : Array Int} {len tgt : Nat} {x : Int32} (d : decode M.2.1 pc = .ok (.tableswitch dflt lo hi offs, len)) (h : x.toInt < lo ∨ hi < x.toInt) (ht : (pc : Int) + dflt = (tgt : Int)) (k : AtM G M r ad o σ0 Q (tgt) ls (st) F L I J) : AtM G M r ad o σ0 Q (pc) ls (.int x :: st) F L I J := fun σ hW hF => g_tableOut d h ht (k σ hW hF)
theorem m_tableIn {dflt lo hi off : Int} {offs : Array Int} {len tgt : Nat} {x : Int32} (d : decode M.2.1 pc = .ok (.tableswitch dflt lo hi offs, len)) (h1 : ¬ x.toInt < lo) (h2 : ¬ hi < x.toInt) (ho : offs[(x.toInt - lo).toNat]? = some off) (ht : (pc : Int) + off = (tgt : Int)) (k : AtM G M r ad o σ0 Q (tgt) ls (st) F L I J) : AtM G M r ad o σ0 Q (pc) ls (.int x :: st) F L I J := fun σ hW hF => g_tableIn d h1 h2 ho ht (k σ hW hF)
theorem m_ldc {i : Nat} {v : Int32} (d : decode M.2.1 pc = .ok (.ldc i, 2)) (hw : Cond.constant M.1.cls i v ∈ lw_all) (k : AtM G M r ad o σ0 Q (pc + 2) ls (.int v :: st) F L I J) : AtM G M r ad o σ0 Q (pc) ls (st) F L I J := fun σ hW hF => g_ldc d hw (k σ hW hF)
theorem m_ldcw {i : Nat} {v : Int32} (d : decode M.2.1 pc = .ok (.ldc_w i, 3)) (hw : Cond.constant M.1.cls i v ∈ lw_all) (k : AtM G M r ad o σ0 Q (pc + 3) ls (.int v :: st) F L I J) : AtM G M r ad o σ0 Q (pc) ls (st) F L I J := fun σ hW hF => g_ldcw d hw (k σ hW hF)
theorem m_ldc2 {i : Nat} {v : Int64} (d : decode M.2.1 pc = .ok (.ldc2_w i, 3)) (hw : Cond.constantLong M.1.cls i v ∈ lw_all) (k : AtM G M r ad o σ0 Q (pc + 3) ls (.long v :: st) F L I J) : AtM G M r ad o σ0 Q (pc) ls (st) F L I J := fun σ hW hF => g_ldc2 d hw (k σ hW hF)
theorem m_topi {x : Int32} (k : ∀ y : Int32, y = x → AtM G M r ad o σ0 Q pc ls (.int y :: st) F L I J) : AtM G M r ad o σ0 Q pc ls (.int x :: st) F L I J := fun σ hW hF => g_topi (fun a9 h9 => k a9 h9 σ hW hF)
theorem m_topl {x : Int64} (k : ∀ y : Int64, y = x → AtM G M r ad o σ0 Q pc ls (.long y :: st) F L I J) : AtM G M r ad o σ0 Q pc ls (.long x :: st) F L I J := fun σ hW hF => g_topl (fun a9 h9 => k a9 h9 σ hW hF)
theorem m_ldcS {index : Nat} (i : Nat) {q : String × Nat × String × List Int32} (d : decode M.2.1 pc = .ok (.ldc index, 2)) (hi : strTab[i]? = some q) (h1 : q.1 = M.1.cls) (h2 : q.2.1 = index) (kk : AtM G M r ad o σ0 Q (pc + 2) ls (.ref (gk G i) :: st) F L I J) : AtM G M r ad o σ0 Q pc ls st F L I J := fun σ hW hF => g_ldcS i d hi h1 h2 (kk σ hW hF)
theorem m_ldcSw {index : Nat} (i : Nat) {q : String × Nat × String × List Int32} (d : decode M.2.1 pc = .ok (.ldc_w index, 3)) (hi : strTab[i]? = some q) (h1 : q.1 = M.1.cls) (h2 : q.2.1 = index) (kk : AtM G M r ad o σ0 Q (pc + 3) ls (.ref (gk G i) :: st) F L I J) : AtM G M r ad o σ0 Q pc ls st F L I J := fun σ hW hF => g_ldcSw i d hi h1 h2 (kk σ hW hF)
theorem AtM.sub {ls' : List (Nat × Value)} (ks : List Nat) (h : lv_pick ls ks = ls') (k : AtM G M r ad o σ0 Q pc ls' st F L I J) : AtM G M r ad o σ0 Q pc ls st F L I J := fun σ hW hF => At.sub ks h (k σ hW hF)
theorem AtM.stk {st' : List Value} (h : st = st') (k : AtM G M r ad o σ0 Q pc ls st' F L I J) : AtM G M r ad o σ0 Q pc ls st F L I J := h ▸ k
theorem AtM.post {Q' : MPost} (h : ∀ v F' L' I' J', Q' v F' L' I' J' → Q v F' L' I' J') (k : AtM G M r ad o σ0 Q' pc ls st F L I J) : AtM G M r ad o σ0 Q pc ls st F L I J :=
  fun σ hW hF => At.post (fun v s ⟨F', L', I', J', h1, h2, h3⟩ => ⟨F', L', I', J', h1, h2, h _ _ _ _ _ h3⟩) (fun _ _ _ h => h) (k σ hW hF)
theorem m_iret {v : Int32} (hr : M.2.2.2.1 = some .int) (d : decode M.2.1 pc = .ok (.ireturn, 1)) (h : Q (some (.int v)) F L I J) : AtM G M r ad o σ0 Q pc ls [.int v] F L I J := fun σ hW hF => g_iret hr d ⟨F, L, I, J, hW, hF, h⟩
theorem m_zret {v : Int32} {ty : FieldType} (hr : M.2.2.2.1 = some ty) (hn : narrow ty (.int v) = .int v) (d : decode M.2.1 pc = .ok (.ireturn, 1)) (h : Q (some (.int v)) F L I J) : AtM G M r ad o σ0 Q pc ls [.int v] F L I J := fun σ hW hF => g_zret hr hn d ⟨F, L, I, J, hW, hF, h⟩
theorem m_lret {v : Int64} (hr : M.2.2.2.1 = some .long) (d : decode M.2.1 pc = .ok (.lreturn, 1)) (h : Q (some (.long v)) F L I J) : AtM G M r ad o σ0 Q pc ls [.long v] F L I J := fun σ hW hF => g_lret hr d ⟨F, L, I, J, hW, hF, h⟩
theorem m_vret (hr : M.2.2.2.1 = none) (d : decode M.2.1 pc = .ok (.return_, 1)) (h : Q none F L I J) : AtM G M r ad o σ0 Q pc ls [] F L I J := fun σ hW hF => g_vret hr d ⟨F, L, I, J, hW, hF, h⟩
theorem m_get {index : Nat} {v : Value} (k : Nat) (d : decode M.2.1 pc = .ok (.getfield index, 3)) (hk : k < 65) (hw : Cond.fieldLink M.1.cls index (TX9 k).1 (TX9 k).2.1 (TX9 k).2.2.1 ∈ lw_all) (hv : mVal ad F L k = v) (kk : AtM G M r ad o σ0 Q (pc + 3) ls (v :: st) F L I J) : AtM G M r ad o σ0 Q pc ls (.ref o :: st) F L I J :=
  fun σ hW hF => g_get k d in_X9 cl9 hk hw ⟨_, hW.1, (mFs_at hk).trans (congrArg some hv)⟩ (kk σ hW hF)
theorem m_putI {index : Nat} {x : Int32} (k : Nat) (d : decode M.2.1 pc = .ok (.putfield index, 3)) (hk : k < 65) (hw : Cond.fieldLink M.1.cls index (TX9 k).1 (TX9 k).2.1 (TX9 k).2.2.1 ∈ lw_all) (h0 : mKind k = 0) (hfin : (TX9 k).2.2.2 = false) (hn : narrow (tyX9 k) (.int x) = .int x) (hfit : fits (tyX9 k) (.int x) = true) (kk : AtM G M r ad o σ0 Q (pc + 3) ls st (fU F k x) L I J) : AtM G M r ad o σ0 Q pc ls (.int x :: .ref o :: st) F L I J :=
  fun σ hW hF => g_put k d in_X9 tyX9 tyX9_ok nmX9 cl9 hk hw hfin hn hfit hW.1 (by simp [mFs]; exact hk) (kk _ (hW.putI hk h0) (hF.up (Or.inl ⟨rfl, rfl⟩)))
theorem m_putL {index : Nat} {x : Int64} (k : Nat) (d : decode M.2.1 pc = .ok (.putfield index, 3)) (hk : k < 65) (hw : Cond.fieldLink M.1.cls index (TX9 k).1 (TX9 k).2.1 (TX9 k).2.2.1 ∈ lw_all) (h0 : mKind k = 1) (hfin : (TX9 k).2.2.2 = false) (hn : narrow (tyX9 k) (.long x) = .long x) (hfit : fits (tyX9 k) (.long x) = true) (kk : AtM G M r ad o σ0 Q (pc + 3) ls st F (fU L k x) I J) : AtM G M r ad o σ0 Q pc ls (.long x :: .ref o :: st) F L I J :=
  fun σ hW hF => g_put k d in_X9 tyX9 tyX9_ok nmX9 cl9 hk hw hfin hn hfit hW.1 (by simp [mFs]; exact hk) (kk _ (hW.putL hk h0) (hF.up (Or.inl ⟨rfl, rfl⟩)))
theorem m_iald {i : Int32} (k : Nat) (d : decode M.2.1 pc = .ok (.iaload, 1)) (hk : k < 65) (h0 : mKind k = 2) (hin : vp_in i (mLen k)) (kk : AtM G M r ad o σ0 Q (pc + 1) ls (.int (I k i.toNatClampNeg) :: st) F L I J) : AtM G M r ad o σ0 Q pc ls (.int i :: .ref (ad k) :: st) F L I J :=
  fun σ hW hF => g_iald d (hW.2.1 k hk h0) hin (kk σ hW hF)
theorem m_lald {i : Int32} (k : Nat) (d : decode M.2.1 pc = .ok (.laload, 1)) (hk : k < 65) (h0 : mKind k = 3) (hin : vp_in i (mLen k)) (kk : AtM G M r ad o σ0 Q (pc + 1) ls (.long (J k i.toNatClampNeg) :: st) F L I J) : AtM G M r ad o σ0 Q pc ls (.int i :: .ref (ad k) :: st) F L I J :=
  fun σ hW hF => g_lald d (hW.2.2.1 k hk h0) hin (kk σ hW hF)
theorem m_iast {i x : Int32} (k : Nat) (d : decode M.2.1 pc = .ok (.iastore, 1)) (hk : k < 65) (h0 : mKind k = 2) (hin : vp_in i (mLen k)) (kk : AtM G M r ad o σ0 Q (pc + 1) ls st F L (aU I k i.toNatClampNeg x) J) : AtM G M r ad o σ0 Q pc ls (.int x :: .int i :: .ref (ad k) :: st) F L I J :=
  fun σ hW hF => g_iast d (hW.2.1 k hk h0) hin (kk _ (hW.putA hk h0) (hF.up (Or.inr (Or.inl ⟨rfl, k, hk, h0, rfl⟩))))
theorem m_last {i : Int32} {x : Int64} (k : Nat) (d : decode M.2.1 pc = .ok (.lastore, 1)) (hk : k < 65) (h0 : mKind k = 3) (hin : vp_in i (mLen k)) (kk : AtM G M r ad o σ0 Q (pc + 1) ls st F L I (aU J k i.toNatClampNeg x)) : AtM G M r ad o σ0 Q pc ls (.long x :: .int i :: .ref (ad k) :: st) F L I J :=
  fun σ hW hF => g_last d (hW.2.2.1 k hk h0) hin (kk _ (hW.putB hk h0) (hF.up (Or.inr (Or.inr ⟨rfl, k, hk, h0, rfl⟩))))
theorem m_topF (k : ∀ F1 : Nat → Int32, F1 = F → AtM G M r ad o σ0 Q pc ls st F1 L I J) : AtM G M r ad o σ0 Q pc ls st F L I J := k F rfl
theorem m_topL (k : ∀ L1 : Nat → Int64, L1 = L → AtM G M r ad o σ0 Q pc ls st F L1 I J) : AtM G M r ad o σ0 Q pc ls st F L I J := k L rfl
theorem m_topI (k : ∀ I1 : Nat → Nat → Int32, I1 = I → AtM G M r ad o σ0 Q pc ls st F L I1 J) : AtM G M r ad o σ0 Q pc ls st F L I J := k I rfl
theorem m_topJ (k : ∀ J1 : Nat → Nat → Int64, J1 = J → AtM G M r ad o σ0 Q pc ls st F L I J1) : AtM G M r ad o σ0 Q pc ls st F L I J := k J rfl
/-- a call of a method of the same object -/
theorem m_callV {N : MD} {rc idx n : Nat} {As : List Value} {Qc : MPost} (d : decode M.2.1 pc = .ok (.invokevirtual idx, 3)) (hw : wsM N = ws_ N.1 N.2.1 N.2.2.1 N.2.2.2.1) (hG : GoodIn lw_all (wsV M.1.cls idx RX9 N.1 (ws_ N.1 N.2.1 N.2.2.1 N.2.2.2.1))) (hcl : N.1.cls = RX9) (hd : MOK N n) (hn : As.length = n) (hr : rc + 1 ≤ r) (hml : N.2.2.1 ≤ 81) (hst : (st.map fun v => v.category).sum ≤ 8)
    (hC : CallM G N rc ad o (.ref o :: As) F L I J Qc) (kk : ∀ v F1 L1 I1 J1, Qc v F1 L1 I1 J1 → AtM G M r ad o σ0 Q (pc + 3) ls (v.toList ++ st) F1 L1 I1 J1) : AtM G M r ad o σ0 Q pc ls (As.reverse ++ .ref o :: st) F L I J :=
  fun σ hW hF => g_callV (q := (RX9, TX9, 65)) d hw hG hcl hd hn cl9 hr hml (Nat.zero_le _) hst hW.1 (hC σ hW) (fun _ _ _ h => h.elim) (fun v s ⟨F1, L1, I1, J1, h1, h2, h3⟩ => kk v F1 L1 I1 J1 h3 s h1 (hF.tr h2))
theorem m_callP {N : MD} {rc idx n : Nat} {As : List Value} {P : Option Value → Prop} (d : decode M.2.1 pc = .ok (.invokestatic idx, 3)) (hw : wsM N = ws_ N.1 N.2.1 N.2.2.1 N.2.2.2.1) (hG : GoodIn lw_all (va_wsS M.1.cls idx N.1 (ws_ N.1 N.2.1 N.2.2.1 N.2.2.2.1))) (hd : MOK N n) (hn : As.length = n) (hr : rc + 1 ≤ r) (hml : N.2.2.1 ≤ 81) (hst : (st.map fun v => v.category).sum ≤ 8)
    (hC : CallP G N rc As P) (kk : ∀ v, P v → AtM G M r ad o σ0 Q (pc + 3) ls (v.toList ++ st) F L I J) : AtM G M r ad o σ0 Q pc ls (As.reverse ++ st) F L I J :=
  fun σ hW hF => g_callS d hw hG hd hn hr hml (Nat.zero_le _) hst (hC σ) (fun _ _ _ h => h.elim) (fun v s h => by obtain ⟨rfl, h⟩ := h; exact kk v h _ hW hF)
theorem m_iald0 {i : Int32} {j : Nat} (k : Nat) (d : decode M.2.1 pc = .ok (.iaload, 1)) (hk : k < 65) (h0 : mKind k = 2) (hi : ¬ i < 0) (hj : i.toNatClampNeg = j) (hn : j < mLen k) (kk : AtM G M r ad o σ0 Q (pc + 1) ls (.int (I k j) :: st) F L I J) : AtM G M r ad o σ0 Q pc ls (.int i :: .ref (ad k) :: st) F L I J := by
  subst hj
  exact m_iald k d hk h0 (fun h => h.elim hi (fun z => by omega)) kk
theorem m_lald0 {i : Int32} {j : Nat} (k : Nat) (d : decode M.2.1 pc = .ok (.laload, 1)) (hk : k < 65) (h0 : mKind k = 3) (hi : ¬ i < 0) (hj : i.toNatClampNeg = j) (hn : j < mLen k) (kk : AtM G M r ad o σ0 Q (pc + 1) ls (.long (J k j) :: st) F L I J) : AtM G M r ad o σ0 Q pc ls (.int i :: .ref (ad k) :: st) F L I J := by
  subst hj
  exact m_lald k d hk h0 (fun h => h.elim hi (fun z => by omega)) kk
theorem m_iast0 {i x : Int32} {j : Nat} (k : Nat) (d : decode M.2.1 pc = .ok (.iastore, 1)) (hk : k < 65) (h0 : mKind k = 2) (hi : ¬ i < 0) (hj : i.toNatClampNeg = j) (hn : j < mLen k) (kk : AtM G M r ad o σ0 Q (pc + 1) ls st F L (aU I k j x) J) : AtM G M r ad o σ0 Q pc ls (.int x :: .int i :: .ref (ad k) :: st) F L I J := by
  subst hj
  exact m_iast k d hk h0 (fun h => h.elim hi (fun z => by omega)) kk
theorem m_callStr {N : MD} {rc idx i n : Nat} {q : String × Nat × String × List Int32} {As : List Value} {P : Option Value → Prop} (d : decode M.2.1 pc = .ok (.invokevirtual idx, 3)) (hw : wsM N = ws_ N.1 N.2.1 N.2.2.1 N.2.2.2.1) (hG : GoodIn lw_all (wsV M.1.cls idx "java/lang/String" N.1 (ws_ N.1 N.2.1 N.2.2.1 N.2.2.2.1))) (hcl : N.1.cls = "java/lang/String") (hd : MOK N n) (hn : As.length = n) (hi : strTab[i]? = some q) (hr : rc + 1 ≤ r) (hml : N.2.2.1 ≤ 81) (hst : (st.map fun v => v.category).sum ≤ 8)
    (hC : CallP G N rc (.ref (gk G i) :: As) P) (kk : ∀ v, P v → AtM G M r ad o σ0 Q (pc + 3) ls (v.toList ++ st) F L I J) : AtM G M r ad o σ0 Q pc ls (As.reverse ++ .ref (gk G i) :: st) F L I J :=
  fun σ hW hF => g_callStr d hw hG hcl hd hn hi hr hml hst (hC σ) (fun v s h => by obtain ⟨rfl, h⟩ := h; exact kk v h _ hW hF)
theorem AtM.re {F1 : Nat → Int32} {L1 : Nat → Int64} {I1 : Nat → Nat → Int32} {J1 : Nat → Nat → Int64} (e1 : F1 = F) (e2 : L1 = L) (e3 : I1 = I) (e4 : J1 = J) (k : AtM G M r ad o σ0 Q pc ls st F L I J) : AtM G M r ad o σ0 Q pc ls st F1 L1 I1 J1 := by
  subst e1; subst e2; subst e3; subst e4; exact k

end MROWS
