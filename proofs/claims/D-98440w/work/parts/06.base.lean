/-! the classes, the string constants -/
set_option maxRecDepth 100000
abbrev vwCl : List vw_C := [(RX4, TX4, 5), (RX1, TX1, 17), (RX2, TX2, 3), (RX3, TX3, 11), (RX4, TX4, 5), (RX5, TX5, 7), (RX6, TX6, 8), (RX7, TX7, 9), (RX8, TX8, 4), (RX9, TX9, 65), (RX10, TX10, 5), (RX11, TX11, 4), (RX12, TX12, 8), (RX13, TX13, 3), (RX14, TX14, 2), (RX15, TX15, 1), (RX16, TX16, 1), (RX17, TX17, 1), (RX18, TX18, 3), (RX4, TX4, 5), (RX20, TX20, 2), (RX21, TX21, 2), (RX22, TX22, 2), (RX23, TX23, 2), (RX24, TX24, 2), (RX25, TX25, 3), (RX26, TX26, 6)]
def strTab : List (String × Nat × String × List Int32) := [(RX10, 11, "machine", [109, 97, 99, 104, 105, 110, 101]), (RX10, 13, "person", [112, 101, 114, 115, 111, 110]), (RX10, 15, "comes", [99, 111, 109, 101, 115]), (RX10, 17, "cups", [99, 117, 112, 115]), (RX10, 19, "card", [99, 97, 114, 100]), (RX10, 21, "fall", [102, 97, 108, 108]), (RX10, 23, "warm", [119, 97, 114, 109]), (RX10, 25, "see", [115, 101, 101]), (RX10, 27, "cost", [99, 111, 115, 116]), (RX13, 11, "put", [112, 117, 116]), (RX13, 13, "take", [116, 97, 107, 101]), (RX13, 15, "look", [108, 111, 111, 107]), (RX13, 17, "start", [115, 116, 97, 114, 116]), (RX13, 19, "empty", [101, 109, 112, 116, 121]), (RX13, 21, "clean", [99, 108, 101, 97, 110]), (RX13, 23, "dirty", [100, 105, 114, 116, 121]), (RX13, 25, "turn", [116, 117, 114, 110]), (RX13, 33, "card", [99, 97, 114, 100]), (RX13, 35, "warm", [119, 97, 114, 109]), (RX13, 37, "in", [105, 110]), (RX13, 39, "room", [114, 111, 111, 109]), (RX13, 41, "minute", [109, 105, 110, 117, 116, 101]), (RX13, 43, "seen", [115, 101, 101, 110]), (RX13, 45, "last", [108, 97, 115, 116]), (RX13, 47, "visit", [118, 105, 115, 105, 116]), (RX13, 83, "by", [98, 121]), (RX13, 93, "if", [105, 102]), (RX13, 148, "not", [110, 111, 116]), (RX13, 146, "and", [97, 110, 100]), (RX13, 136, "or", [111, 114]), (RX1, 190, "card", [99, 97, 114, 100]), (RX1, 196, "warm", [119, 97, 114, 109]), (RX1, 198, "in", [105, 110]), (RX9, 202, "machine", [109, 97, 99, 104, 105, 110, 101]), (RX9, 180, "cups", [99, 117, 112, 115]), (RX9, 186, "card", [99, 97, 114, 100]), (RX9, 188, "fall", [102, 97, 108, 108]), (RX9, 190, "warm", [119, 97, 114, 109]), (RX9, 192, "see", [115, 101, 101]), (RX9, 194, "cost", [99, 111, 115, 116]), (RX9, 196, "person", [112, 101, 114, 115, 111, 110]), (RX9, 211, "comes", [99, 111, 109, 101, 115]), (RX9, 287, "put", [112, 117, 116]), (RX9, 289, "take", [116, 97, 107, 101]), (RX9, 291, "look", [108, 111, 111, 107]), (RX9, 293, "start", [115, 116, 97, 114, 116]), (RX9, 295, "empty", [101, 109, 112, 116, 121]), (RX9, 297, "clean", [99, 108, 101, 97, 110]), (RX9, 299, "dirty", [100, 105, 114, 116, 121]), (RX9, 301, "turn", [116, 117, 114, 110]), (RX9, 309, "by", [98, 121]), (RX9, 311, "if", [105, 102]), (RX9, 262, "not", [110, 111, 116]), (RX9, 273, "in", [105, 110]), (RX9, 275, "room", [114, 111, 111, 109]), (RX9, 277, "minute", [109, 105, 110, 117, 116, 101]), (RX9, 278, "seen", [115, 101, 101, 110]), (RX9, 280, "last", [108, 97, 115, 116]), (RX9, 282, "visit", [118, 105, 115, 105, 116]), (RX9, 254, "and", [97, 110, 100]), (RX9, 246, "or", [111, 114])]
/-! THE BASE: pure heaps (kind, address), a method's judgement At, a call's judgement Call -/
set_option maxRecDepth 100000
abbrev aE : Type := List Value ⊕ (Nat × ((Nat → Int32) ⊕ ((Nat → Int64) ⊕ (Nat → Option Nat))))
abbrev PS : Type := Nat → Nat → Option aE
def ce (tA : Nat → ClassId) (κ : Nat) (e : aE) : va_E := match e with
  | .inl fs => .inr (κ, fs)
  | .inr (n, .inl f) => .inl (tA κ, n, .inl f)
  | .inr (n, .inr (.inl f)) => .inl (tA κ, n, .inr (.inl f))
  | .inr (n, .inr (.inr f)) => .inl (tA κ, n, .inr (.inr (.inr (.inr f))))
def up (σ : PS) (κ a : Nat) (e : aE) : PS := fun κ' a' => if κ' = κ ∧ a' = a then some e else σ κ' a'
theorem up_eq {σ : PS} {κ a : Nat} {e : aE} : up σ κ a e κ a = some e := if_pos ⟨rfl, rfl⟩
theorem up_ne {σ : PS} {κ a κ' a' : Nat} {e : aE} (h : κ' ≠ κ ∨ a' ≠ a) : up σ κ a e κ' a' = σ κ' a' := if_neg (fun q => h.elim (fun z => z q.1) (fun z => z q.2))
theorem up_k {σ : PS} {κ a κ' a' : Nat} {e : aE} (h : κ' ≠ κ) : up σ κ a e κ' a' = σ κ' a' := up_ne (Or.inl h)
theorem up_a {σ : PS} {κ a κ' a' : Nat} {e : aE} (h : a' ≠ a) : up σ κ a e κ' a' = σ κ' a' := up_ne (Or.inr h)
theorem up_up {σ : PS} {κ a : Nat} {e e' : aE} : up (up σ κ a e) κ a e' = up σ κ a e' := by
  funext x y
  unfold up
  by_cases h : x = κ ∧ y = a
  · simp only [if_pos h]
  · simp only [if_neg h]
/-- an object, an array of ints (κ 100; of bytes: 102), of longs (101), of references -/
def Ob (σ : PS) (κ a : Nat) (fs : List Value) : Prop := σ κ a = some (.inl fs)
def Ia (σ : PS) (κ a n : Nat) (f : Nat → Int32) : Prop := σ κ a = some (.inr (n, .inl f))
def La (σ : PS) (κ a n : Nat) (f : Nat → Int64) : Prop := σ κ a = some (.inr (n, .inr (.inl f)))
def Qa (σ : PS) (κ a n : Nat) (f : Nat → Option Nat) : Prop := σ κ a = some (.inr (n, .inr (.inr f)))
/-- a field -/
def Fg (σ : PS) (κ a k : Nat) (v : Value) : Prop := ∃ fs, Ob σ κ a fs ∧ fs[k]? = some v
abbrev MD : Type := MethodName × ByteArray × Nat × Option FieldType × List (Nat × Nat × Nat × Nat)
def wsM (M : MD) : List Cond := (match M.2.2.2.2 with | [] => Cond.code M.1 M.2.1 M.2.2.1 M.2.2.2.1 | h :: t => Cond.codeWith M.1 M.2.1 M.2.2.1 M.2.2.2.1 (h :: t)) :: lw_all
/-- the launch, the classes' numbers and slots, the array classes, where the law's own cells begin, the string constants' cells -/
abbrev GC : Type := Launch × va_G × (Nat → ClassId) × Nat × (Nat → Nat) × (Nat → Nat) × Nat × Nat × (Nat → Int32)
abbrev gl (G : GC) : Launch := G.1
abbrev gD (G : GC) : va_G := G.2.1
abbrev gt (G : GC) : Nat → ClassId := G.2.2.1
abbrev gN (G : GC) : Nat := G.2.2.2.1
abbrev gk (G : GC) : Nat → Nat := G.2.2.2.2.1
abbrev gv (G : GC) : Nat → Nat := G.2.2.2.2.2.1
/-- the script: its cell, its length, its ints -/
abbrev gsb (G : GC) : Nat := G.2.2.2.2.2.2.1
abbrev gsL (G : GC) : Nat := G.2.2.2.2.2.2.2.1
abbrev gsx (G : GC) : Nat → Int32 := G.2.2.2.2.2.2.2.2
def gA (G : GC) : Nat → Prop := fun q => gN G ≤ q
def gTys (tA : Nat → ClassId) : List (ClassId × FieldType) := [(tA 100, .int), (tA 101, .long), (tA 102, .byte), (tA 103, .object RX2), (tA 104, .array (.object RX2)), (tA 105, .object RX14), (tA 106, .object RX19), (tA 107, .object RJ4)]
def Rp (G : GC) (σ : PS) (H : Heap) : Prop := ∃ ws : va_W, va_P (gD G) vwCl ws H ∧ va_D (gA G) ws ∧ (∀ (κ a : Nat) (e : aE), σ κ a = some e → ∃ k : Nat, ws[k]? = some (a, ce (gt G) κ e)) ∧ ∀ (κ κ' a : Nat) (e e' : aE), σ κ a = some e → σ κ' a = some e' → κ = κ'
theorem Rp.set {G : GC} {σ : PS} {H' : Heap} {ws : va_W} {k κ a : Nat} {e e' : aE} (hm : ∀ (κ a : Nat) (e : aE), σ κ a = some e → ∃ k : Nat, ws[k]? = some (a, ce (gt G) κ e)) (hu : ∀ (κ κ' a : Nat) (e e' : aE), σ κ a = some e → σ κ' a = some e' → κ = κ') (he : σ κ a = some e) (hk : ws[k]? = some (a, ce (gt G) κ e))
    (hP : va_P (gD G) vwCl (ws.set k (a, ce (gt G) κ e')) H') (hD : va_D (gA G) (ws.set k (a, ce (gt G) κ e'))) : Rp G (up σ κ a e') H' := by
  have hl : k < ws.length := (List.getElem?_eq_some_iff.mp hk).1
  refine ⟨_, hP, hD, fun κ1 a1 e1 h1 => ?_, fun κ1 κ2 a1 e1 e2 h1 h2 => ?_⟩
  · by_cases hc : κ1 = κ ∧ a1 = a
    · obtain ⟨rfl, rfl⟩ := hc
      rw [up_eq] at h1
      cases h1
      exact ⟨k, List.getElem?_set_self hl⟩
    · rw [up, if_neg hc] at h1
      obtain ⟨j, hj⟩ := hm κ1 a1 e1 h1
      refine ⟨j, ?_⟩
      rw [List.getElem?_set_ne, hj]
      intro hjk
      subst hjk
      have e9 := hk.symm.trans hj
      have ha : a = a1 := congrArg Prod.fst (Option.some.inj e9)
      subst ha
      exact hc ⟨hu _ _ _ _ _ h1 he, rfl⟩
  · by_cases c1 : κ1 = κ ∧ a1 = a
    · by_cases c2 : κ2 = κ ∧ a1 = a
      · rw [c1.1, c2.1]
      · rw [up, if_neg c2] at h2
        rw [c1.2] at h2
        rw [c1.1]
        exact hu _ _ _ _ _ he h2
    · rw [up, if_neg c1] at h1
      by_cases c2 : κ2 = κ ∧ a1 = a
      · rw [c2.2] at h1
        rw [c2.1]
        exact hu _ _ _ _ _ h1 he
      · rw [up, if_neg c2] at h2
        exact hu _ _ _ _ _ h1 h2
theorem Rp.push {G : GC} {σ : PS} {H' : Heap} {ws : va_W} {κ q : Nat} {e : aE} (hm : ∀ (κ a : Nat) (e : aE), σ κ a = some e → ∃ k : Nat, ws[k]? = some (a, ce (gt G) κ e)) (hu : ∀ (κ κ' a : Nat) (e e' : aE), σ κ a = some e → σ κ' a = some e' → κ = κ')
    (hP : va_P (gD G) vwCl (ws ++ [(q, ce (gt G) κ e)]) H') (hD : va_D (gA G) (ws ++ [(q, ce (gt G) κ e)])) : (∀ κ', σ κ' q = none) ∧ Rp G (up σ κ q e) H' := by
  have hn : ∀ κ', σ κ' q = none := by
    intro κ'
    cases h : σ κ' q with
    | none => rfl
    | some e1 =>
      obtain ⟨j, hj⟩ := hm _ _ _ h
      have hjl : j < ws.length := (List.getElem?_eq_some_iff.mp hj).1
      have h1 : (ws ++ [(q, ce (gt G) κ e)])[j]? = some (q, ce (gt G) κ' e1) := by rw [List.getElem?_append_left hjl]; exact hj
      have h2 : (ws ++ [(q, ce (gt G) κ e)])[ws.length]? = some (q, ce (gt G) κ e) := by rw [List.getElem?_append_right (Nat.le_refl _), Nat.sub_self]; rfl
      have h3 := hD.1 _ _ _ _ h1 h2 rfl
      omega
  refine ⟨hn, _, hP, hD, fun κ1 a1 e1 h1 => ?_, fun κ1 κ2 a1 e1 e2 h1 h2 => ?_⟩
  · by_cases hc : κ1 = κ ∧ a1 = q
    · obtain ⟨rfl, rfl⟩ := hc
      rw [up_eq] at h1
      cases h1
      exact ⟨ws.length, by rw [List.getElem?_append_right (Nat.le_refl _), Nat.sub_self]; rfl⟩
    · rw [up, if_neg hc] at h1
      obtain ⟨j, hj⟩ := hm κ1 a1 e1 h1
      exact ⟨j, by rw [List.getElem?_append_left (List.getElem?_eq_some_iff.mp hj).1]; exact hj⟩
  · by_cases c1 : κ1 = κ ∧ a1 = q
    · by_cases c2 : κ2 = κ ∧ a1 = q
      · rw [c1.1, c2.1]
      · rw [up, if_neg c2, c1.2, hn] at h2
        cases h2
    · rw [up, if_neg c1] at h1
      by_cases c2 : κ2 = κ ∧ a1 = q
      · rw [c2.2, hn] at h1
        cases h1
      · rw [up, if_neg c2] at h2
        exact hu _ _ _ _ _ h1 h2
/-- words that don't ride in lw_all but stay as the tables grow warm -/
def nwK (w : Cond) : Bool := match w with
  | .fieldLinkNest _ _ _ _ _ _ => true
  | .methodLinkNest _ _ _ _ => true
  | .declares _ => true
  | .castable _ _ => true
  | _ => false
theorem nwK_warm {w : Cond} (h : nwK w = true) {s U : State} (hW : s.WarmedH U.vm) (hZ : va_Nw w s) : va_Nw w U := by
  cases w with
  | fieldLinkNest a i b n d h => exact va_Nw.warmF hW hZ
  | methodLinkNest a i x h => exact va_Nw.warmM hW hZ
  | declares x => exact va_Nw.warmD hW hZ
  | castable a b => exact va_Nw.warmC hW hZ
  | _ => simp [nwK] at h
def yTerm : MethodName := ⟨"CardCups$Term", "on", "(LCardCups$Sight;)I"⟩
/-- a string constant: its cell, its bytes' cell, its bytes -/
def StrC (G : GC) (U : State) (q : String × Nat × String × List Int32) (a v : Nat) : Prop :=
  vk_R q.1 q.2.1 q.2.2.1 a U ∧ va_O "java/lang/String" a (gA G) U U.heap ∧ va_OF "java/lang/String" "coder" "B" (.int 0) a (gA G) U U.heap ∧ va_OF "java/lang/String" "value" "[B" (.ref v) a (gA G) U U.heap ∧ va_T .byte v q.2.2.2.length (fun j => .int (q.2.2.2.getD j 0)) (gA G) U U.heap
/-- what holds all through a run: the tables, the constants -/
def EF (G : GC) (U : State) : Prop :=
  va_K (gD G) vwCl (gTys (gt G)) U ∧ gN G ≤ U.heap.size ∧ (∀ w ∈ lw_tbl, nwK w = true → va_Nw w U) ∧
  (va_AO RX2 U ∧ va_AO RX14 U ∧ va_AO RX19 U ∧ va_AO RJ4 U) ∧
  (va_Fw RX15 yTerm yX15_on U ∧ va_Fw RX16 yTerm yX16_on U ∧ va_Fw RX17 yTerm yX17_on U ∧ va_Fw RX18 yTerm yX18_on U) ∧
  (∀ (i : Nat) (q : String × Nat × String × List Int32), strTab[i]? = some q → StrC G U q (gk G i) (gv G i)) ∧
  (va_Z "java/lang/String" "COMPACT_STRINGS" "Z" (.int 1) (gA G) U U.heap ∧ va_Zq "jdk/internal/util/Preconditions" "SIOOBE_FORMATTER" "Ljava/util/function/BiFunction;" (gA G) U U.heap ∧ vx_Zq Bundle.tN "UNASSIGNED_STACK" Bundle.steD (gA G) U U.heap ∧ vx_Zq Bundle.tN "SUPPRESSED_SENTINEL" Bundle.listD (gA G) U U.heap ∧ va_Nc RJ3 RJ9 U ∧ (gl G).stackTraces = false ∧ va_T .int (gsb G) (gsL G) (fun j => .int (gsx G j)) (gA G) U U.heap)
theorem StrC.next {G : GC} {s U : State} {q : String × Nat × String × List Int32} {a v : Nat} (h : StrC G s q a v) (hk : ∀ x : Nat, x < s.heap.size → ¬ gA G x → U.heap[x]? = s.heap[x]?) (hW : s.WarmedH U.vm) : StrC G U q a v := by
  obtain ⟨h1, h2, h3, h4, h5⟩ := h
  exact ⟨h1.warm hW, (h2.kept hk).moved hW.alike, (h3.kept hk).moved hW.alike, (h4.kept hk).moved hW.alike, (h5.kept hk).moved hW.alike⟩
theorem EF.next {G : GC} {s U : State} {H : Heap} {locs : List Loc} (h : EF G s) (hS : va_S (gA G) s.heap H locs) (hU : U.heap = H) (hW : s.WarmedH U.vm) : EF G U := by
  obtain ⟨h1, h2, h3, ⟨a1, a2, a3, a4⟩, ⟨b1, b2, b3, b4⟩, h6, c1, c2, c3, c4, c5, c6, c7⟩ := h
  have hk : ∀ x : Nat, x < s.heap.size → ¬ gA G x → U.heap[x]? = s.heap[x]? := fun x q1 q2 => by rw [hU]; exact hS.2.1 x q1 q2
  have hv := hW.alike
  have ny : yTerm.cls ≠ "java/lang/invoke/MethodHandle" ∧ yTerm.cls ≠ "java/lang/invoke/VarHandle" := by decide +kernel
  exact ⟨va_K.moved hv h1, by rw [hU]; exact Nat.le_trans h2 hS.1, fun w hw hn => nwK_warm hn hW (h3 w hw hn), ⟨a1.moved hv, a2.moved hv, a3.moved hv, a4.moved hv⟩, ⟨b1.moved ny hv, b2.moved ny hv, b3.moved ny hv, b4.moved ny hv⟩,
    fun i q hi => (h6 i q hi).next hk hW, (c1.kept hk).moved hv, (c2.kept hk).moved hv, vx_Zq.moved hv (c3.kept hk), vx_Zq.moved hv (c4.kept hk), c5.moved hv, c6, (c7.kept hk).moved hv⟩
theorem EF.calling {G : GC} {U : State} (g : JFrame) (mk : MethodId) (a : Array Value) (h : EF G U) : EF G (U.calling g mk a) :=
  h.next (locs := []) (H := U.heap) va_S.rf rfl (State.WarmedH.refl U)
def Cx (G : GC) (M : MD) (p : Program) (s : State) (m : MethodId) (args : Array Value) (meth : Method) (c : Code) : Prop :=
  p.tables.exec = Jvm.exec ∧ c.code = M.2.1 ∧ meth.sig.returnType = M.2.2.2.1 ∧ (∀ w ∈ lw_all, w.before args s = true) ∧ s.vm.findClass M.1.cls = some m.cls ∧ meth.locks = false ∧ c.maxLocals = M.2.2.1 ∧ meth.name = M.1.name ∧ c.exceptionTable.toList = tableOf M.2.2.2.2 ∧ (gl G).stackTraces = false ∧ EF G s
section CXL
variable {G : GC} {M : MD} {p : Program} {s : State} {m : MethodId} {args : Array Value} {meth : Method} {c : Code}
theorem Cx.hx (h : Cx G M p s m args meth c) : p.tables.exec = Jvm.exec := h.1
theorem Cx.hb (h : Cx G M p s m args meth c) : c.code = M.2.1 := h.2.1
theorem Cx.hr (h : Cx G M p s m args meth c) : meth.sig.returnType = M.2.2.2.1 := h.2.2.1
theorem Cx.ts (h : Cx G M p s m args meth c) : ∀ w ∈ lw_all, w.before args s = true := h.2.2.2.1
theorem Cx.own (h : Cx G M p s m args meth c) : s.vm.findClass M.1.cls = some m.cls := h.2.2.2.2.1
theorem Cx.locks (h : Cx G M p s m args meth c) : meth.locks = false := h.2.2.2.2.2.1
theorem Cx.ml (h : Cx G M p s m args meth c) : c.maxLocals = M.2.2.1 := h.2.2.2.2.2.2.1
theorem Cx.name (h : Cx G M p s m args meth c) : meth.name = M.1.name := h.2.2.2.2.2.2.2.1
theorem Cx.tab (h : Cx G M p s m args meth c) : c.exceptionTable.toList = tableOf M.2.2.2.2 := h.2.2.2.2.2.2.2.2.1
theorem Cx.nt (h : Cx G M p s m args meth c) : (gl G).stackTraces = false := h.2.2.2.2.2.2.2.2.2.1
theorem Cx.ef (h : Cx G M p s m args meth c) : EF G s := h.2.2.2.2.2.2.2.2.2.2
theorem Cx.K (h : Cx G M p s m args meth c) : va_K (gD G) vwCl (gTys (gt G)) s := h.ef.1
theorem Cx.nw (h : Cx G M p s m args meth c) {w : Cond} (hw : w ∈ lw_tbl) (hk : nwK w = true) (ho : w.onTables = true) {a : Array Value} : w.before a s = true := va_Nw.use ho (h.ef.2.2.1 w hw hk)
theorem Cx.A (h : Cx G M p s m args meth c) : ∀ q, s.heap.size ≤ q → gA G q := fun q hq => Nat.le_trans h.ef.2.1 hq
end CXL
def gQ (G : GC) (Q : Option Value → PS → Prop) : Array Value → State → Outcome → State → Prop := fun _ st oc t => (∃ (v : Option Value) (σ : PS), oc = .returned v ∧ Q v σ ∧ Rp G σ t.heap) ∧ va_F (gA G) st t
def gX (G : GC) (X : String → Nat → PS → Prop) : Nat → String → State → State → Prop := fun q E st t => (∃ σ : PS, X E q σ ∧ Rp G σ t.heap) ∧ va_F (gA G) st t
def rmO (r mb : Nat) : Room := { frames := r, cells := mb, slots := 24 * mb, locals := 100 * r }
def At (G : GC) (M : MD) (r : Nat) (Q : Option Value → PS → Prop) (X : String → Nat → PS → Prop) (b pc : Nat) (ls : List (Nat × Value)) (st : List Value) (σ : PS) : Prop :=
  ∀ (p : Program) (e : Env) (s : State) (m : MethodId) (args : Array Value) (below : List Frame) (meth : Method) (c : Code) (H : Heap) (locs : List Loc) (lsA : Array Slot) (cells slots mb : Nat),
    Cx G M p s m args meth c → Rp G σ H → va_S (gA G) s.heap H locs → lv_has lsA M.2.2.1 ls → cells + b ≤ mb → slots + 24 * b ≤ 24 * mb →
    W p (gl G) e (rmO r mb) s m args below meth c H locs cells slots (vx_MQ below (gQ G Q) (gX G X) args s mb (24 * mb) (gA G)) (F0 m pc lsA st)
/-- the exception at address q is in flight over the frame -/
def AtX (G : GC) (M : MD) (r : Nat) (Q : Option Value → PS → Prop) (X : String → Nat → PS → Prop) (b pc : Nat) (ls : List (Nat × Value)) (E : String) (q : Nat) (σ : PS) : Prop :=
  ∀ (p : Program) (e : Env) (s : State) (m : MethodId) (args : Array Value) (below : List Frame) (meth : Method) (c : Code) (H : Heap) (locs : List Loc) (lsA : Array Slot) (cells slots mb : Nat) (ce : Cell) (rest : List Value),
    Cx G M p s m args meth c → Rp G σ H → va_S (gA G) s.heap H locs → lv_has lsA M.2.2.1 ls → cells + b ≤ mb → slots + 24 * b ≤ 24 * mb → H[q]? = some ce → ce.vm = .none → s.vm.findClass E = some ce.cls →
    vx_W p (gl G) e (rmO r mb) s m args below meth c H locs cells slots (vx_MQ below (gQ G Q) (gX G X) args s mb (24 * mb) (gA G)) (F0 m pc lsA rest) q
def Call (G : GC) (M : MD) (r b : Nat) (av : List Value) (σ : PS) (Q : Option Value → PS → Prop) (X : String → Nat → PS → Prop) : Prop :=
  vx_Met (gl G) M.1 (wsM M) (rmO r b) (va_Pc av (fun U => Rp G σ U.heap ∧ EF G U)) (gQ G Q) (gX G X) b (24 * b) (gA G)

def qV (P : PS → Prop) : Option Value → PS → Prop := fun v s => v = none ∧ P s
def qI (P : Int32 → PS → Prop) : Option Value → PS → Prop := fun v s => ∃ x : Int32, v = some (.int x) ∧ P x s
def qJ (P : Int64 → PS → Prop) : Option Value → PS → Prop := fun v s => ∃ x : Int64, v = some (.long x) ∧ P x s
def qR (P : Nat → PS → Prop) : Option Value → PS → Prop := fun v s => ∃ x : Nat, v = some (.ref x) ∧ P x s
theorem nar_z {x : Int32} (h : x = 0 ∨ x = 1) : narrow .boolean (.int x) = .int x := by rcases h with rfl | rfl <;> rfl
theorem fit_z {x : Int32} (h : x = 0 ∨ x = 1) : fits .boolean (.int x) = true := by rcases h with rfl | rfl <;> rfl
theorem nar_q {ty : FieldType} (x : Option Nat) (h : ty.isReference = true) : narrow ty (va_rf x) = va_rf x := by
  cases ty <;> cases x <;> first | rfl | (simp [FieldType.isReference] at h)
theorem fit_q {ty : FieldType} (x : Option Nat) (h : ty.isReference = true) : fits ty (va_rf x) = true := by
  cases ty <;> cases x <;> first | rfl | (simp [FieldType.isReference] at h)
theorem cat_q (x : Option Nat) : (va_rf x).category = 1 := by cases x <;> rfl
theorem tb_split (x : Int32) (lo : Int) (n : Nat) : (x.toInt < lo ∨ lo + n - 1 < x.toInt) ∨ ∃ i : Nat, i < n ∧ x = Int32.ofInt (lo + i) := by
  by_cases h1 : x.toInt < lo
  · exact Or.inl (Or.inl h1)
  · by_cases h2 : lo + n - 1 < x.toInt
    · exact Or.inl (Or.inr h2)
    · refine Or.inr ⟨(x.toInt - lo).toNat, by omega, ?_⟩
      rw [show lo + ((x.toInt - lo).toNat : Int) = x.toInt by omega, Int32.ofInt_toInt]

theorem cl1 : vwCl[1]? = some (RX1, TX1, 17) := rfl
theorem cl2 : vwCl[2]? = some (RX2, TX2, 3) := rfl
theorem cl3 : vwCl[3]? = some (RX3, TX3, 11) := rfl
theorem cl4 : vwCl[4]? = some (RX4, TX4, 5) := rfl
theorem cl5 : vwCl[5]? = some (RX5, TX5, 7) := rfl
theorem cl6 : vwCl[6]? = some (RX6, TX6, 8) := rfl
theorem cl7 : vwCl[7]? = some (RX7, TX7, 9) := rfl
theorem cl8 : vwCl[8]? = some (RX8, TX8, 4) := rfl
theorem cl9 : vwCl[9]? = some (RX9, TX9, 65) := rfl
theorem cl10 : vwCl[10]? = some (RX10, TX10, 5) := rfl
theorem cl11 : vwCl[11]? = some (RX11, TX11, 4) := rfl
theorem cl12 : vwCl[12]? = some (RX12, TX12, 8) := rfl
theorem cl13 : vwCl[13]? = some (RX13, TX13, 3) := rfl
theorem cl14 : vwCl[14]? = some (RX14, TX14, 2) := rfl
theorem cl15 : vwCl[15]? = some (RX15, TX15, 1) := rfl
theorem cl16 : vwCl[16]? = some (RX16, TX16, 1) := rfl
theorem cl17 : vwCl[17]? = some (RX17, TX17, 1) := rfl
theorem cl18 : vwCl[18]? = some (RX18, TX18, 3) := rfl
theorem cl20 : vwCl[20]? = some (RX20, TX20, 2) := rfl
theorem cl21 : vwCl[21]? = some (RX21, TX21, 2) := rfl
theorem cl22 : vwCl[22]? = some (RX22, TX22, 2) := rfl
theorem cl23 : vwCl[23]? = some (RX23, TX23, 2) := rfl
theorem cl24 : vwCl[24]? = some (RX24, TX24, 2) := rfl
theorem cl25 : vwCl[25]? = some (RX25, TX25, 3) := rfl
theorem cl26 : vwCl[26]? = some (RX26, TX26, 6) := rfl
theorem new1 : ∀ j, j < 17 → defaultValue (tyX1 j) = vp_V [.null, .null, .null, .null, .null, .null, .null, .null, .null, .null, .null, .null, .null, .int 0, .int 0, .int 0, .int 0] j := by decide +kernel
theorem new2 : ∀ j, j < 3 → defaultValue (tyX2 j) = vp_V [.null, .null, .int 0] j := by decide +kernel
theorem new3 : ∀ j, j < 11 → defaultValue (tyX3 j) = vp_V [.null, .null, .null, .null, .null, .null, .long 0, .long 0, .int 0, .int 0, .int 0] j := by decide +kernel
theorem new4 : ∀ j, j < 5 → defaultValue (tyX4 j) = vp_V [.int 0, .int 0, .int 0, .int 0, .int 0] j := by decide +kernel
theorem new5 : ∀ j, j < 7 → defaultValue (tyX5 j) = vp_V [.null, .null, .int 0, .int 0, .int 0, .int 0, .int 0] j := by decide +kernel
theorem new6 : ∀ j, j < 8 → defaultValue (tyX6 j) = vp_V [.null, .null, .int 0, .int 0, .int 0, .int 0, .int 0, .int 0] j := by decide +kernel
theorem new7 : ∀ j, j < 9 → defaultValue (tyX7 j) = vp_V [.null, .int 0, .int 0, .int 0, .int 0, .int 0, .int 0, .int 0, .int 0] j := by decide +kernel
theorem new8 : ∀ j, j < 4 → defaultValue (tyX8 j) = vp_V [.null, .null, .null, .int 0] j := by decide +kernel
theorem new9 : ∀ j, j < 65 → defaultValue (tyX9 j) = vp_V [.int 0, .null, .int 0, .int 0, .int 0, .int 0, .int 0, .int 0, .int 0, .null, .null, .null, .null, .null, .null, .null, .int 0, .int 0, .int 0, .int 0, .null, .null, .null, .null, .null, .null, .null, .null, .int 0, .int 0, .null, .null, .int 0, .null, .null, .int 0, .int 0, .null, .null, .null, .null, .long 0, .long 0, .int 0, .int 0, .int 0, .int 0, .int 0, .int 0, .int 0, .int 0, .int 0, .int 0, .int 0, .int 0, .int 0, .null, .int 0, .int 0, .int 0, .int 0, .null, .int 0, .null, .int 0] j := by decide +kernel
theorem new10 : ∀ j, j < 5 → defaultValue (tyX10 j) = vp_V [.null, .null, .null, .null, .int 0] j := by decide +kernel
theorem new11 : ∀ j, j < 4 → defaultValue (tyX11 j) = vp_V [.null, .int 0, .int 0, .int 0] j := by decide +kernel
theorem new12 : ∀ j, j < 8 → defaultValue (tyX12 j) = vp_V [.null, .null, .null, .null, .null, .int 0, .int 0, .int 0] j := by decide +kernel
theorem new13 : ∀ j, j < 3 → defaultValue (tyX13 j) = vp_V [.null, .null, .null] j := by decide +kernel
theorem new14 : ∀ j, j < 2 → defaultValue (tyX14 j) = vp_V [.null, .int 0] j := by decide +kernel
theorem new15 : ∀ j, j < 1 → defaultValue (tyX15 j) = vp_V [.null] j := by decide +kernel
theorem new16 : ∀ j, j < 1 → defaultValue (tyX16 j) = vp_V [.int 0] j := by decide +kernel
theorem new17 : ∀ j, j < 1 → defaultValue (tyX17 j) = vp_V [.int 0] j := by decide +kernel
theorem new18 : ∀ j, j < 3 → defaultValue (tyX18 j) = vp_V [.int 0, .null, .null] j := by decide +kernel
theorem new20 : ∀ j, j < 2 → defaultValue (tyX20 j) = vp_V [.int 0, .null] j := by decide +kernel
theorem new21 : ∀ j, j < 2 → defaultValue (tyX21 j) = vp_V [.int 0, .null] j := by decide +kernel
theorem new22 : ∀ j, j < 2 → defaultValue (tyX22 j) = vp_V [.int 0, .null] j := by decide +kernel
theorem new23 : ∀ j, j < 2 → defaultValue (tyX23 j) = vp_V [.int 0, .null] j := by decide +kernel
theorem new24 : ∀ j, j < 2 → defaultValue (tyX24 j) = vp_V [.int 0, .null] j := by decide +kernel
theorem new25 : ∀ j, j < 3 → defaultValue (tyX25 j) = vp_V [.int 0, .null, .int 0] j := by decide +kernel
theorem new26 : ∀ j, j < 6 → defaultValue (tyX26 j) = vp_V [.null, .null, .int 0, .int 0, .int 0, .null] j := by decide +kernel
section ROWS
variable {G : GC} {M : MD} {r : Nat} {Q : Option Value → PS → Prop} {X : String → Nat → PS → Prop} {b pc : Nat} {ls : List (Nat × Value)} {st : List Value} {σ : PS}
theorem g_iconst {n : Int} {v : Int32} (d : decode M.2.1 pc = .ok (.iconst n, 1)) (hv : Int32.ofInt n = v) (k : At G M r Q X b (pc + 1) ls (.int v :: st) σ) : At G M r Q X b (pc) ls (st) σ :=
  fun p e s m args below meth c H locs lsA cells slots mb C hR hS hl hc hs => lv_iconst C.hx C.hb d hv (k p e s m args below meth c H locs lsA cells slots mb C hR hS hl hc hs)
theorem g_bipush {n : Int} {v : Int32} (d : decode M.2.1 pc = .ok (.bipush n, 2)) (hv : (Int8.ofInt n).toInt32 = v) (k : At G M r Q X b (pc + 2) ls (.int v :: st) σ) : At G M r Q X b (pc) ls (st) σ :=
  fun p e s m args below meth c H locs lsA cells slots mb C hR hS hl hc hs => lv_bipush C.hx C.hb d hv (k p e s m args below meth c H locs lsA cells slots mb C hR hS hl hc hs)
theorem g_sipush {n : Int} {v : Int32} (d : decode M.2.1 pc = .ok (.sipush n, 3)) (hv : (Int16.ofInt n).toInt32 = v) (k : At G M r Q X b (pc + 3) ls (.int v :: st) σ) : At G M r Q X b (pc) ls (st) σ :=
  fun p e s m args below meth c H locs lsA cells slots mb C hR hS hl hc hs => lv_sipush C.hx C.hb d hv (k p e s m args below meth c H locs lsA cells slots mb C hR hS hl hc hs)
theorem g_lconst {n : Fin 2} {v : Int64} (d : decode M.2.1 pc = .ok (.lconst n, 1)) (hv : Int64.ofNat (n : Nat) = v) (k : At G M r Q X b (pc + 1) ls (.long v :: st) σ) : At G M r Q X b (pc) ls (st) σ :=
  fun p e s m args below meth c H locs lsA cells slots mb C hR hS hl hc hs => lv_lconst C.hx C.hb d hv (k p e s m args below meth c H locs lsA cells slots mb C hR hS hl hc hs)
theorem g_null  (d : decode M.2.1 pc = .ok (.aconst_null, 1)) (k : At G M r Q X b (pc + 1) ls (.null :: st) σ) : At G M r Q X b (pc) ls (st) σ :=
  fun p e s m args below meth c H locs lsA cells slots mb C hR hS hl hc hs => lv_null C.hx C.hb d (k p e s m args below meth c H locs lsA cells slots mb C hR hS hl hc hs)
theorem g_iadd {x y : Int32} (d : decode M.2.1 pc = .ok (.iadd, 1)) (k : At G M r Q X b (pc + 1) ls (.int (x + y) :: st) σ) : At G M r Q X b (pc) ls (.int y :: .int x :: st) σ :=
  fun p e s m args below meth c H locs lsA cells slots mb C hR hS hl hc hs => lv_iadd C.hx C.hb d (k p e s m args below meth c H locs lsA cells slots mb C hR hS hl hc hs)
theorem g_isub {x y : Int32} (d : decode M.2.1 pc = .ok (.isub, 1)) (k : At G M r Q X b (pc + 1) ls (.int (x - y) :: st) σ) : At G M r Q X b (pc) ls (.int y :: .int x :: st) σ :=
  fun p e s m args below meth c H locs lsA cells slots mb C hR hS hl hc hs => lv_isub C.hx C.hb d (k p e s m args below meth c H locs lsA cells slots mb C hR hS hl hc hs)
theorem g_imul {x y : Int32} (d : decode M.2.1 pc = .ok (.imul, 1)) (k : At G M r Q X b (pc + 1) ls (.int (x * y) :: st) σ) : At G M r Q X b (pc) ls (.int y :: .int x :: st) σ :=
  fun p e s m args below meth c H locs lsA cells slots mb C hR hS hl hc hs => lv_imul C.hx C.hb d (k p e s m args below meth c H locs lsA cells slots mb C hR hS hl hc hs)
theorem g_iand {x y : Int32} (d : decode M.2.1 pc = .ok (.iand, 1)) (k : At G M r Q X b (pc + 1) ls (.int (x &&& y) :: st) σ) : At G M r Q X b (pc) ls (.int y :: .int x :: st) σ :=
  fun p e s m args below meth c H locs lsA cells slots mb C hR hS hl hc hs => lv_iand C.hx C.hb d (k p e s m args below meth c H locs lsA cells slots mb C hR hS hl hc hs)
theorem g_ior {x y : Int32} (d : decode M.2.1 pc = .ok (.ior, 1)) (k : At G M r Q X b (pc + 1) ls (.int (x ||| y) :: st) σ) : At G M r Q X b (pc) ls (.int y :: .int x :: st) σ :=
  fun p e s m args below meth c H locs lsA cells slots mb C hR hS hl hc hs => lv_ior C.hx C.hb d (k p e s m args below meth c H locs lsA cells slots mb C hR hS hl hc hs)
theorem g_ixor {x y : Int32} (d : decode M.2.1 pc = .ok (.ixor, 1)) (k : At G M r Q X b (pc + 1) ls (.int (x ^^^ y) :: st) σ) : At G M r Q X b (pc) ls (.int y :: .int x :: st) σ :=
  fun p e s m args below meth c H locs lsA cells slots mb C hR hS hl hc hs => lv_ixor C.hx C.hb d (k p e s m args below meth c H locs lsA cells slots mb C hR hS hl hc hs)
theorem g_ladd {x y : Int64} (d : decode M.2.1 pc = .ok (.ladd, 1)) (k : At G M r Q X b (pc + 1) ls (.long (x + y) :: st) σ) : At G M r Q X b (pc) ls (.long y :: .long x :: st) σ :=
  fun p e s m args below meth c H locs lsA cells slots mb C hR hS hl hc hs => lv_ladd C.hx C.hb d (k p e s m args below meth c H locs lsA cells slots mb C hR hS hl hc hs)
theorem g_lsub {x y : Int64} (d : decode M.2.1 pc = .ok (.lsub, 1)) (k : At G M r Q X b (pc + 1) ls (.long (x - y) :: st) σ) : At G M r Q X b (pc) ls (.long y :: .long x :: st) σ :=
  fun p e s m args below meth c H locs lsA cells slots mb C hR hS hl hc hs => lv_lsub C.hx C.hb d (k p e s m args below meth c H locs lsA cells slots mb C hR hS hl hc hs)
theorem g_lmul {x y : Int64} (d : decode M.2.1 pc = .ok (.lmul, 1)) (k : At G M r Q X b (pc + 1) ls (.long (x * y) :: st) σ) : At G M r Q X b (pc) ls (.long y :: .long x :: st) σ :=
  fun p e s m args below meth c H locs lsA cells slots mb C hR hS hl hc hs => lv_lmul C.hx C.hb d (k p e s m args below meth c H locs lsA cells slots mb C hR hS hl hc hs)
theorem g_idiv {x y : Int32} (d : decode M.2.1 pc = .ok (.idiv, 1)) (h0 : ¬ y = 0) (k : At G M r Q X b (pc + 1) ls (.int (x / y) :: st) σ) : At G M r Q X b (pc) ls (.int y :: .int x :: st) σ :=
  fun p e s m args below meth c H locs lsA cells slots mb C hR hS hl hc hs => lv_idiv C.hx C.hb d h0 (k p e s m args below meth c H locs lsA cells slots mb C hR hS hl hc hs)
theorem g_irem {x y : Int32} (d : decode M.2.1 pc = .ok (.irem, 1)) (h0 : ¬ y = 0) (k : At G M r Q X b (pc + 1) ls (.int (x - x / y * y) :: st) σ) : At G M r Q X b (pc) ls (.int y :: .int x :: st) σ :=
  fun p e s m args below meth c H locs lsA cells slots mb C hR hS hl hc hs => lv_irem C.hx C.hb d h0 (k p e s m args below meth c H locs lsA cells slots mb C hR hS hl hc hs)
theorem g_ldiv {x y : Int64} (d : decode M.2.1 pc = .ok (.ldiv, 1)) (h0 : ¬ y = 0) (k : At G M r Q X b (pc + 1) ls (.long (x / y) :: st) σ) : At G M r Q X b (pc) ls (.long y :: .long x :: st) σ :=
  fun p e s m args below meth c H locs lsA cells slots mb C hR hS hl hc hs => lv_ldiv C.hx C.hb d h0 (k p e s m args below meth c H locs lsA cells slots mb C hR hS hl hc hs)
theorem g_lrem {x y : Int64} (d : decode M.2.1 pc = .ok (.lrem, 1)) (h0 : ¬ y = 0) (k : At G M r Q X b (pc + 1) ls (.long (x - x / y * y) :: st) σ) : At G M r Q X b (pc) ls (.long y :: .long x :: st) σ :=
  fun p e s m args below meth c H locs lsA cells slots mb C hR hS hl hc hs => lv_lrem C.hx C.hb d h0 (k p e s m args below meth c H locs lsA cells slots mb C hR hS hl hc hs)
theorem g_ineg {x : Int32} (d : decode M.2.1 pc = .ok (.ineg, 1)) (k : At G M r Q X b (pc + 1) ls (.int (-x) :: st) σ) : At G M r Q X b (pc) ls (.int x :: st) σ :=
  fun p e s m args below meth c H locs lsA cells slots mb C hR hS hl hc hs => lv_ineg C.hx C.hb d (k p e s m args below meth c H locs lsA cells slots mb C hR hS hl hc hs)
theorem g_ishl {x y : Int32} (d : decode M.2.1 pc = .ok (.ishl, 1)) (k : At G M r Q X b (pc + 1) ls (.int (x <<< (y &&& 31)) :: st) σ) : At G M r Q X b (pc) ls (.int y :: .int x :: st) σ :=
  fun p e s m args below meth c H locs lsA cells slots mb C hR hS hl hc hs => lv_ishl C.hx C.hb d (k p e s m args below meth c H locs lsA cells slots mb C hR hS hl hc hs)
theorem g_ishr {x y : Int32} (d : decode M.2.1 pc = .ok (.ishr, 1)) (k : At G M r Q X b (pc + 1) ls (.int (x >>> (y &&& 31)) :: st) σ) : At G M r Q X b (pc) ls (.int y :: .int x :: st) σ :=
  fun p e s m args below meth c H locs lsA cells slots mb C hR hS hl hc hs => lv_ishr C.hx C.hb d (k p e s m args below meth c H locs lsA cells slots mb C hR hS hl hc hs)
theorem g_i2l {x : Int32} (d : decode M.2.1 pc = .ok (.i2l, 1)) (k : At G M r Q X b (pc + 1) ls (.long x.toInt64 :: st) σ) : At G M r Q X b (pc) ls (.int x :: st) σ :=
  fun p e s m args below meth c H locs lsA cells slots mb C hR hS hl hc hs => lv_i2l C.hx C.hb d rfl (k p e s m args below meth c H locs lsA cells slots mb C hR hS hl hc hs)
theorem g_l2i {x : Int64} (d : decode M.2.1 pc = .ok (.l2i, 1)) (k : At G M r Q X b (pc + 1) ls (.int x.toInt32 :: st) σ) : At G M r Q X b (pc) ls (.long x :: st) σ :=
  fun p e s m args below meth c H locs lsA cells slots mb C hR hS hl hc hs => lv_l2i C.hx C.hb d rfl (k p e s m args below meth c H locs lsA cells slots mb C hR hS hl hc hs)
theorem g_i2b {x : Int32} (d : decode M.2.1 pc = .ok (.i2b, 1)) (k : At G M r Q X b (pc + 1) ls (.int x.toInt8.toInt32 :: st) σ) : At G M r Q X b (pc) ls (.int x :: st) σ :=
  fun p e s m args below meth c H locs lsA cells slots mb C hR hS hl hc hs => lv_i2b C.hx C.hb d rfl (k p e s m args below meth c H locs lsA cells slots mb C hR hS hl hc hs)
theorem g_i2c {x : Int32} (d : decode M.2.1 pc = .ok (.i2c, 1)) (k : At G M r Q X b (pc + 1) ls (.int (x.toUInt32 % 65536).toInt32 :: st) σ) : At G M r Q X b (pc) ls (.int x :: st) σ :=
  fun p e s m args below meth c H locs lsA cells slots mb C hR hS hl hc hs => lv_i2c C.hx C.hb d rfl (k p e s m args below meth c H locs lsA cells slots mb C hR hS hl hc hs)
theorem g_dup {v : Value} (d : decode M.2.1 pc = .ok (.dup, 1)) (h1 : v.category = 1) (k : At G M r Q X b (pc + 1) ls (v :: v :: st) σ) : At G M r Q X b (pc) ls (v :: st) σ :=
  fun p e s m args below meth c H locs lsA cells slots mb C hR hS hl hc hs => lv_dup C.hx C.hb d h1 (k p e s m args below meth c H locs lsA cells slots mb C hR hS hl hc hs)
theorem g_pop {v : Value} (d : decode M.2.1 pc = .ok (.pop, 1)) (h1 : v.category = 1) (k : At G M r Q X b (pc + 1) ls (st) σ) : At G M r Q X b (pc) ls (v :: st) σ :=
  fun p e s m args below meth c H locs lsA cells slots mb C hR hS hl hc hs => lv_pop C.hx C.hb d h1 (k p e s m args below meth c H locs lsA cells slots mb C hR hS hl hc hs)
theorem g_dup_x1 {v w : Value} (d : decode M.2.1 pc = .ok (.dup_x1, 1)) (h1 : v.category = 1) (h2 : w.category = 1) (k : At G M r Q X b (pc + 1) ls (v :: w :: v :: st) σ) : At G M r Q X b (pc) ls (v :: w :: st) σ :=
  fun p e s m args below meth c H locs lsA cells slots mb C hR hS hl hc hs => lv_dup_x1 C.hx C.hb d h1 h2 (k p e s m args below meth c H locs lsA cells slots mb C hR hS hl hc hs)
theorem g_dup_x2 {v w u : Value} (d : decode M.2.1 pc = .ok (.dup_x2, 1)) (h1 : v.category = 1) (h2 : w.category = 1) (h3 : u.category = 1) (k : At G M r Q X b (pc + 1) ls (v :: w :: u :: v :: st) σ) : At G M r Q X b (pc) ls (v :: w :: u :: st) σ :=
  fun p e s m args below meth c H locs lsA cells slots mb C hR hS hl hc hs => lv_dup_x2 C.hx C.hb d h1 h2 h3 (k p e s m args below meth c H locs lsA cells slots mb C hR hS hl hc hs)
theorem g_dup2 {v w : Value} (d : decode M.2.1 pc = .ok (.dup2, 1)) (h1 : v.category = 1) (h2 : w.category = 1) (k : At G M r Q X b (pc + 1) ls (v :: w :: v :: w :: st) σ) : At G M r Q X b (pc) ls (v :: w :: st) σ :=
  fun p e s m args below meth c H locs lsA cells slots mb C hR hS hl hc hs => lv_dup2_11 C.hx C.hb d h1 h2 (k p e s m args below meth c H locs lsA cells slots mb C hR hS hl hc hs)
theorem g_dup2l {v : Value} (d : decode M.2.1 pc = .ok (.dup2, 1)) (h1 : v.category = 2) (k : At G M r Q X b (pc + 1) ls (v :: v :: st) σ) : At G M r Q X b (pc) ls (v :: st) σ :=
  fun p e s m args below meth c H locs lsA cells slots mb C hR hS hl hc hs => lv_dup2_2 C.hx C.hb d h1 (k p e s m args below meth c H locs lsA cells slots mb C hR hS hl hc hs)
theorem g_pop2l {v : Value} (d : decode M.2.1 pc = .ok (.pop2, 1)) (h1 : v.category = 2) (k : At G M r Q X b (pc + 1) ls (st) σ) : At G M r Q X b (pc) ls (v :: st) σ :=
  fun p e s m args below meth c H locs lsA cells slots mb C hR hS hl hc hs => lv_pop2_2 C.hx C.hb d h1 (k p e s m args below meth c H locs lsA cells slots mb C hR hS hl hc hs)
theorem g_iload {i : Nat} {x : Int32} (d : decode M.2.1 pc = .ok (.iload i, 2)) (j : Nat) (hj : ls[j]? = some (i, .int x)) (k : At G M r Q X b (pc + 2) ls (.int x :: st) σ) : At G M r Q X b (pc) ls (st) σ :=
  fun p e s m args below meth c H locs lsA cells slots mb C hR hS hl hc hs => lv_iload C.hx C.hb d (lv_at hl j hj) (k p e s m args below meth c H locs lsA cells slots mb C hR hS hl hc hs)
theorem g_iload_n {i : Nat} {n : Fin 4} {x : Int32} (d : decode M.2.1 pc = .ok (.iload_n n, 1)) (hi : (n : Nat) = i) (j : Nat) (hj : ls[j]? = some (i, .int x)) (k : At G M r Q X b (pc + 1) ls (.int x :: st) σ) : At G M r Q X b (pc) ls (st) σ :=
  fun p e s m args below meth c H locs lsA cells slots mb C hR hS hl hc hs => lv_iload_n C.hx C.hb d hi (lv_at hl j hj) (k p e s m args below meth c H locs lsA cells slots mb C hR hS hl hc hs)
theorem g_istore {i : Nat} {x : Int32} {ls1 : List (Nat × Value)} (d : decode M.2.1 pc = .ok (.istore i, 2)) (hn : i < M.2.2.1) (hl1 : (i, Value.int x) :: ls.filter (fun q => !(q.1 == i) && !(q.1 + 1 == i && q.2.category == 2)) = ls1) (k : At G M r Q X b (pc + 2) ls1 (st) σ) : At G M r Q X b (pc) ls (.int x :: st) σ :=
  fun p e s m args below meth c H locs lsA cells slots mb C hR hS hl hc hs => lv_istore C.hx C.hb d hl hn hl1 (fun ls9 hl9 => k p e s m args below meth c H locs ls9 cells slots mb C hR hS hl9 hc hs)
theorem g_istore_n {i : Nat} {n : Fin 4} {x : Int32} {ls1 : List (Nat × Value)} (d : decode M.2.1 pc = .ok (.istore_n n, 1)) (hi : (n : Nat) = i) (hn : i < M.2.2.1) (hl1 : (i, Value.int x) :: ls.filter (fun q => !(q.1 == i) && !(q.1 + 1 == i && q.2.category == 2)) = ls1) (k : At G M r Q X b (pc + 1) ls1 (st) σ) : At G M r Q X b (pc) ls (.int x :: st) σ :=
  fun p e s m args below meth c H locs lsA cells slots mb C hR hS hl hc hs => lv_istore_n C.hx C.hb d hi hl hn hl1 (fun ls9 hl9 => k p e s m args below meth c H locs ls9 cells slots mb C hR hS hl9 hc hs)
theorem g_lload {i : Nat} {x : Int64} (d : decode M.2.1 pc = .ok (.lload i, 2)) (j : Nat) (hj : ls[j]? = some (i, .long x)) (k : At G M r Q X b (pc + 2) ls (.long x :: st) σ) : At G M r Q X b (pc) ls (st) σ :=
  fun p e s m args below meth c H locs lsA cells slots mb C hR hS hl hc hs => lv_lload C.hx C.hb d (lv_at hl j hj) (k p e s m args below meth c H locs lsA cells slots mb C hR hS hl hc hs)
theorem g_lload_n {i : Nat} {n : Fin 4} {x : Int64} (d : decode M.2.1 pc = .ok (.lload_n n, 1)) (hi : (n : Nat) = i) (j : Nat) (hj : ls[j]? = some (i, .long x)) (k : At G M r Q X b (pc + 1) ls (.long x :: st) σ) : At G M r Q X b (pc) ls (st) σ :=
  fun p e s m args below meth c H locs lsA cells slots mb C hR hS hl hc hs => lv_lload_n C.hx C.hb d hi (lv_at hl j hj) (k p e s m args below meth c H locs lsA cells slots mb C hR hS hl hc hs)
theorem g_lstore {i : Nat} {x : Int64} {ls1 : List (Nat × Value)} (d : decode M.2.1 pc = .ok (.lstore i, 2)) (hn : i + 1 < M.2.2.1) (hl1 : (i, Value.long x) :: ls.filter (fun q => !(q.1 == i) && (!(q.1 == i + 1) && !(q.1 + 1 == i && q.2.category == 2))) = ls1) (k : At G M r Q X b (pc + 2) ls1 (st) σ) : At G M r Q X b (pc) ls (.long x :: st) σ :=
  fun p e s m args below meth c H locs lsA cells slots mb C hR hS hl hc hs => lv_lstore C.hx C.hb d hl hn hl1 (fun ls9 hl9 => k p e s m args below meth c H locs ls9 cells slots mb C hR hS hl9 hc hs)
theorem g_lstore_n {i : Nat} {n : Fin 4} {x : Int64} {ls1 : List (Nat × Value)} (d : decode M.2.1 pc = .ok (.lstore_n n, 1)) (hi : (n : Nat) = i) (hn : i + 1 < M.2.2.1) (hl1 : (i, Value.long x) :: ls.filter (fun q => !(q.1 == i) && (!(q.1 == i + 1) && !(q.1 + 1 == i && q.2.category == 2))) = ls1) (k : At G M r Q X b (pc + 1) ls1 (st) σ) : At G M r Q X b (pc) ls (.long x :: st) σ :=
  fun p e s m args below meth c H locs lsA cells slots mb C hR hS hl hc hs => lv_lstore_n C.hx C.hb d hi hl hn hl1 (fun ls9 hl9 => k p e s m args below meth c H locs ls9 cells slots mb C hR hS hl9 hc hs)
theorem g_aload {i : Nat} {x : Nat} (d : decode M.2.1 pc = .ok (.aload i, 2)) (j : Nat) (hj : ls[j]? = some (i, .ref x)) (k : At G M r Q X b (pc + 2) ls (.ref x :: st) σ) : At G M r Q X b (pc) ls (st) σ :=
  fun p e s m args below meth c H locs lsA cells slots mb C hR hS hl hc hs => lv_aload C.hx C.hb d (lv_at hl j hj) (k p e s m args below meth c H locs lsA cells slots mb C hR hS hl hc hs)
theorem g_aload_n {i : Nat} {n : Fin 4} {x : Nat} (d : decode M.2.1 pc = .ok (.aload_n n, 1)) (hi : (n : Nat) = i) (j : Nat) (hj : ls[j]? = some (i, .ref x)) (k : At G M r Q X b (pc + 1) ls (.ref x :: st) σ) : At G M r Q X b (pc) ls (st) σ :=
  fun p e s m args below meth c H locs lsA cells slots mb C hR hS hl hc hs => lv_aload_n C.hx C.hb d hi (lv_at hl j hj) (k p e s m args below meth c H locs lsA cells slots mb C hR hS hl hc hs)
theorem g_astore {i : Nat} {x : Nat} {ls1 : List (Nat × Value)} (d : decode M.2.1 pc = .ok (.astore i, 2)) (hn : i < M.2.2.1) (hl1 : (i, Value.ref x) :: ls.filter (fun q => !(q.1 == i) && !(q.1 + 1 == i && q.2.category == 2)) = ls1) (k : At G M r Q X b (pc + 2) ls1 (st) σ) : At G M r Q X b (pc) ls (.ref x :: st) σ :=
  fun p e s m args below meth c H locs lsA cells slots mb C hR hS hl hc hs => lv_astore C.hx C.hb d hl hn hl1 (fun ls9 hl9 => k p e s m args below meth c H locs ls9 cells slots mb C hR hS hl9 hc hs)
theorem g_astore_n {i : Nat} {n : Fin 4} {x : Nat} {ls1 : List (Nat × Value)} (d : decode M.2.1 pc = .ok (.astore_n n, 1)) (hi : (n : Nat) = i) (hn : i < M.2.2.1) (hl1 : (i, Value.ref x) :: ls.filter (fun q => !(q.1 == i) && !(q.1 + 1 == i && q.2.category == 2)) = ls1) (k : At G M r Q X b (pc + 1) ls1 (st) σ) : At G M r Q X b (pc) ls (.ref x :: st) σ :=
  fun p e s m args below meth c H locs lsA cells slots mb C hR hS hl hc hs => lv_astore_n C.hx C.hb d hi hl hn hl1 (fun ls9 hl9 => k p e s m args below meth c H locs ls9 cells slots mb C hR hS hl9 hc hs)
theorem g_aloadq {i : Nat} {x : Option Nat} (d : decode M.2.1 pc = .ok (.aload i, 2)) (j : Nat) (hj : ls[j]? = some (i, va_rf x)) (k : At G M r Q X b (pc + 2) ls (va_rf x :: st) σ) : At G M r Q X b (pc) ls (st) σ := by
  cases x with
  | none => exact fun p e s m args below meth c H locs lsA cells slots mb C hR hS hl hc hs => lv_aloadN C.hx C.hb d (lv_at hl j hj) (k p e s m args below meth c H locs lsA cells slots mb C hR hS hl hc hs)
  | some y => exact fun p e s m args below meth c H locs lsA cells slots mb C hR hS hl hc hs => lv_aload C.hx C.hb d (lv_at hl j hj) (k p e s m args below meth c H locs lsA cells slots mb C hR hS hl hc hs)
theorem g_aloadq_n {i : Nat} {n : Fin 4} {x : Option Nat} (d : decode M.2.1 pc = .ok (.aload_n n, 1)) (hi : (n : Nat) = i) (j : Nat) (hj : ls[j]? = some (i, va_rf x)) (k : At G M r Q X b (pc + 1) ls (va_rf x :: st) σ) : At G M r Q X b (pc) ls (st) σ := by
  cases x with
  | none => exact fun p e s m args below meth c H locs lsA cells slots mb C hR hS hl hc hs => lv_aload_nN C.hx C.hb d hi (lv_at hl j hj) (k p e s m args below meth c H locs lsA cells slots mb C hR hS hl hc hs)
  | some y => exact fun p e s m args below meth c H locs lsA cells slots mb C hR hS hl hc hs => lv_aload_n C.hx C.hb d hi (lv_at hl j hj) (k p e s m args below meth c H locs lsA cells slots mb C hR hS hl hc hs)
theorem g_astoreq {i : Nat} {x : Option Nat} {ls1 : List (Nat × Value)} (d : decode M.2.1 pc = .ok (.astore i, 2)) (hn : i < M.2.2.1) (hl1 : (i, va_rf x) :: ls.filter (fun q => !(q.1 == i) && !(q.1 + 1 == i && q.2.category == 2)) = ls1) (k : At G M r Q X b (pc + 2) ls1 (st) σ) : At G M r Q X b (pc) ls (va_rf x :: st) σ := by
  cases x with
  | none => exact fun p e s m args below meth c H locs lsA cells slots mb C hR hS hl hc hs => lv_astoreN C.hx C.hb d hl hn hl1 (fun ls9 hl9 => k p e s m args below meth c H locs ls9 cells slots mb C hR hS hl9 hc hs)
  | some y => exact fun p e s m args below meth c H locs lsA cells slots mb C hR hS hl hc hs => lv_astore C.hx C.hb d hl hn hl1 (fun ls9 hl9 => k p e s m args below meth c H locs ls9 cells slots mb C hR hS hl9 hc hs)
theorem g_astoreq_n {i : Nat} {n : Fin 4} {x : Option Nat} {ls1 : List (Nat × Value)} (d : decode M.2.1 pc = .ok (.astore_n n, 1)) (hi : (n : Nat) = i) (hn : i < M.2.2.1) (hl1 : (i, va_rf x) :: ls.filter (fun q => !(q.1 == i) && !(q.1 + 1 == i && q.2.category == 2)) = ls1) (k : At G M r Q X b (pc + 1) ls1 (st) σ) : At G M r Q X b (pc) ls (va_rf x :: st) σ := by
  cases x with
  | none => exact fun p e s m args below meth c H locs lsA cells slots mb C hR hS hl hc hs => lv_astore_nN C.hx C.hb d hi hl hn hl1 (fun ls9 hl9 => k p e s m args below meth c H locs ls9 cells slots mb C hR hS hl9 hc hs)
  | some y => exact fun p e s m args below meth c H locs lsA cells slots mb C hR hS hl hc hs => lv_astore_n C.hx C.hb d hi hl hn hl1 (fun ls9 hl9 => k p e s m args below meth c H locs ls9 cells slots mb C hR hS hl9 hc hs)
theorem g_iinc {i : Nat} {n : Int} {x v : Int32} {ls1 : List (Nat × Value)} (d : decode M.2.1 pc = .ok (.iinc i n, 3)) (j : Nat) (hj : ls[j]? = some (i, .int x)) (hv : x + Int32.ofInt n = v) (hn : i < M.2.2.1) (hl1 : (i, Value.int v) :: ls.filter (fun q => !(q.1 == i) && !(q.1 + 1 == i && q.2.category == 2)) = ls1) (k : At G M r Q X b (pc + 3) ls1 (st) σ) : At G M r Q X b (pc) ls (st) σ :=
  fun p e s m args below meth c H locs lsA cells slots mb C hR hS hl hc hs => lv_iinc C.hx C.hb d hl hj hv hn hl1 (fun ls9 hl9 => k p e s m args below meth c H locs ls9 cells slots mb C hR hS hl9 hc hs)
theorem g_iincW {i : Nat} {n : Int} {x v : Int32} {ls1 : List (Nat × Value)} (d : decode M.2.1 pc = .ok (.iinc i n, 6)) (j : Nat) (hj : ls[j]? = some (i, .int x)) (hv : x + Int32.ofInt n = v) (hn : i < M.2.2.1) (hl1 : (i, Value.int v) :: ls.filter (fun q => !(q.1 == i) && !(q.1 + 1 == i && q.2.category == 2)) = ls1) (k : At G M r Q X b (pc + 6) ls1 (st) σ) : At G M r Q X b (pc) ls (st) σ :=
  fun p e s m args below meth c H locs lsA cells slots mb C hR hS hl hc hs => lv_iincW C.hx C.hb d hl hj hv hn hl1 (fun ls9 hl9 => k p e s m args below meth c H locs ls9 cells slots mb C hR hS hl9 hc hs)
theorem g_if_eq {x : Int32} {off : Int} {tgt : Nat} (d : decode M.2.1 pc = .ok (.ifCond .eq off, 3)) (ht : (pc : Int) + off = (tgt : Int)) (kt : x = 0 → At G M r Q X b (tgt) ls (st) σ) (kf : ¬ x = 0 → At G M r Q X b (pc + 3) ls (st) σ) : At G M r Q X b (pc) ls (.int x :: st) σ :=
  fun p e s m args below meth c H locs lsA cells slots mb C hR hS hl hc hs => lv_if_eq C.hx C.hb d ht (fun q => kt q p e s m args below meth c H locs lsA cells slots mb C hR hS hl hc hs) (fun q => kf q p e s m args below meth c H locs lsA cells slots mb C hR hS hl hc hs)
theorem g_icmp_eq {x y : Int32} {off : Int} {tgt : Nat} (d : decode M.2.1 pc = .ok (.if_icmp .eq off, 3)) (ht : (pc : Int) + off = (tgt : Int)) (kt : x = y → At G M r Q X b (tgt) ls (st) σ) (kf : ¬ x = y → At G M r Q X b (pc + 3) ls (st) σ) : At G M r Q X b (pc) ls (.int y :: .int x :: st) σ :=
  fun p e s m args below meth c H locs lsA cells slots mb C hR hS hl hc hs => lv_icmp_eq C.hx C.hb d ht (fun q => kt q p e s m args below meth c H locs lsA cells slots mb C hR hS hl hc hs) (fun q => kf q p e s m args below meth c H locs lsA cells slots mb C hR hS hl hc hs)
theorem g_lcmp_eq {x y : Int64} {off : Int} {tgt : Nat} (d : decode M.2.1 pc = .ok (.lcmp, 1)) (d2 : decode M.2.1 (pc + 1) = .ok (.ifCond .eq off, 3)) (ht : ((pc + 1 : Nat) : Int) + off = (tgt : Int)) (kt : x = y → At G M r Q X b (tgt) ls (st) σ) (kf : ¬ x = y → At G M r Q X b (pc + 4) ls (st) σ) : At G M r Q X b (pc) ls (.long y :: .long x :: st) σ :=
  fun p e s m args below meth c H locs lsA cells slots mb C hR hS hl hc hs => W.lcmp C.hx C.hb d (lv_if_eq C.hx C.hb d2 ht (fun q => kt ((lg_cmp_eq x y).mp q) p e s m args below meth c H locs lsA cells slots mb C hR hS hl hc hs) (fun q => kf (fun z => q ((lg_cmp_eq x y).mpr z)) p e s m args below meth c H locs lsA cells slots mb C hR hS hl hc hs))
theorem g_if_ne {x : Int32} {off : Int} {tgt : Nat} (d : decode M.2.1 pc = .ok (.ifCond .ne off, 3)) (ht : (pc : Int) + off = (tgt : Int)) (kt : ¬ x = 0 → At G M r Q X b (tgt) ls (st) σ) (kf : x = 0 → At G M r Q X b (pc + 3) ls (st) σ) : At G M r Q X b (pc) ls (.int x :: st) σ :=
  fun p e s m args below meth c H locs lsA cells slots mb C hR hS hl hc hs => lv_if_ne C.hx C.hb d ht (fun q => kt q p e s m args below meth c H locs lsA cells slots mb C hR hS hl hc hs) (fun q => kf q p e s m args below meth c H locs lsA cells slots mb C hR hS hl hc hs)
theorem g_icmp_ne {x y : Int32} {off : Int} {tgt : Nat} (d : decode M.2.1 pc = .ok (.if_icmp .ne off, 3)) (ht : (pc : Int) + off = (tgt : Int)) (kt : ¬ x = y → At G M r Q X b (tgt) ls (st) σ) (kf : x = y → At G M r Q X b (pc + 3) ls (st) σ) : At G M r Q X b (pc) ls (.int y :: .int x :: st) σ :=
  fun p e s m args below meth c H locs lsA cells slots mb C hR hS hl hc hs => lv_icmp_ne C.hx C.hb d ht (fun q => kt q p e s m args below meth c H locs lsA cells slots mb C hR hS hl hc hs) (fun q => kf q p e s m args below meth c H locs lsA cells slots mb C hR hS hl hc hs)
theorem g_lcmp_ne {x y : Int64} {off : Int} {tgt : Nat} (d : decode M.2.1 pc = .ok (.lcmp, 1)) (d2 : decode M.2.1 (pc + 1) = .ok (.ifCond .ne off, 3)) (ht : ((pc + 1 : Nat) : Int) + off = (tgt : Int)) (kt : ¬ x = y → At G M r Q X b (tgt) ls (st) σ) (kf : x = y → At G M r Q X b (pc + 4) ls (st) σ) : At G M r Q X b (pc) ls (.long y :: .long x :: st) σ :=
  fun p e s m args below meth c H locs lsA cells slots mb C hR hS hl hc hs => W.lcmp C.hx C.hb d (lv_if_ne C.hx C.hb d2 ht (fun q => kt (fun z => q ((lg_cmp_eq x y).mpr z)) p e s m args below meth c H locs lsA cells slots mb C hR hS hl hc hs) (fun q => kf ((lg_cmp_eq x y).mp q) p e s m args below meth c H locs lsA cells slots mb C hR hS hl hc hs))
theorem g_if_lt {x : Int32} {off : Int} {tgt : Nat} (d : decode M.2.1 pc = .ok (.ifCond .lt off, 3)) (ht : (pc : Int) + off = (tgt : Int)) (kt : x < 0 → At G M r Q X b (tgt) ls (st) σ) (kf : ¬ x < 0 → At G M r Q X b (pc + 3) ls (st) σ) : At G M r Q X b (pc) ls (.int x :: st) σ :=
  fun p e s m args below meth c H locs lsA cells slots mb C hR hS hl hc hs => lv_if_lt C.hx C.hb d ht (fun q => kt q p e s m args below meth c H locs lsA cells slots mb C hR hS hl hc hs) (fun q => kf q p e s m args below meth c H locs lsA cells slots mb C hR hS hl hc hs)
theorem g_icmp_lt {x y : Int32} {off : Int} {tgt : Nat} (d : decode M.2.1 pc = .ok (.if_icmp .lt off, 3)) (ht : (pc : Int) + off = (tgt : Int)) (kt : x < y → At G M r Q X b (tgt) ls (st) σ) (kf : ¬ x < y → At G M r Q X b (pc + 3) ls (st) σ) : At G M r Q X b (pc) ls (.int y :: .int x :: st) σ :=
  fun p e s m args below meth c H locs lsA cells slots mb C hR hS hl hc hs => lv_icmp_lt C.hx C.hb d ht (fun q => kt q p e s m args below meth c H locs lsA cells slots mb C hR hS hl hc hs) (fun q => kf q p e s m args below meth c H locs lsA cells slots mb C hR hS hl hc hs)
theorem g_lcmp_lt {x y : Int64} {off : Int} {tgt : Nat} (d : decode M.2.1 pc = .ok (.lcmp, 1)) (d2 : decode M.2.1 (pc + 1) = .ok (.ifCond .lt off, 3)) (ht : ((pc + 1 : Nat) : Int) + off = (tgt : Int)) (kt : x < y → At G M r Q X b (tgt) ls (st) σ) (kf : ¬ x < y → At G M r Q X b (pc + 4) ls (st) σ) : At G M r Q X b (pc) ls (.long y :: .long x :: st) σ :=
  fun p e s m args below meth c H locs lsA cells slots mb C hR hS hl hc hs => W.lcmp C.hx C.hb d (lv_if_lt C.hx C.hb d2 ht (fun q => kt ((lg_cmp_lt x y).mp q) p e s m args below meth c H locs lsA cells slots mb C hR hS hl hc hs) (fun q => kf (fun z => q ((lg_cmp_lt x y).mpr z)) p e s m args below meth c H locs lsA cells slots mb C hR hS hl hc hs))
theorem g_if_ge {x : Int32} {off : Int} {tgt : Nat} (d : decode M.2.1 pc = .ok (.ifCond .ge off, 3)) (ht : (pc : Int) + off = (tgt : Int)) (kt : 0 ≤ x → At G M r Q X b (tgt) ls (st) σ) (kf : ¬ 0 ≤ x → At G M r Q X b (pc + 3) ls (st) σ) : At G M r Q X b (pc) ls (.int x :: st) σ :=
  fun p e s m args below meth c H locs lsA cells slots mb C hR hS hl hc hs => lv_if_ge C.hx C.hb d ht (fun q => kt q p e s m args below meth c H locs lsA cells slots mb C hR hS hl hc hs) (fun q => kf q p e s m args below meth c H locs lsA cells slots mb C hR hS hl hc hs)
theorem g_icmp_ge {x y : Int32} {off : Int} {tgt : Nat} (d : decode M.2.1 pc = .ok (.if_icmp .ge off, 3)) (ht : (pc : Int) + off = (tgt : Int)) (kt : y ≤ x → At G M r Q X b (tgt) ls (st) σ) (kf : ¬ y ≤ x → At G M r Q X b (pc + 3) ls (st) σ) : At G M r Q X b (pc) ls (.int y :: .int x :: st) σ :=
  fun p e s m args below meth c H locs lsA cells slots mb C hR hS hl hc hs => lv_icmp_ge C.hx C.hb d ht (fun q => kt q p e s m args below meth c H locs lsA cells slots mb C hR hS hl hc hs) (fun q => kf q p e s m args below meth c H locs lsA cells slots mb C hR hS hl hc hs)
theorem g_lcmp_ge {x y : Int64} {off : Int} {tgt : Nat} (d : decode M.2.1 pc = .ok (.lcmp, 1)) (d2 : decode M.2.1 (pc + 1) = .ok (.ifCond .ge off, 3)) (ht : ((pc + 1 : Nat) : Int) + off = (tgt : Int)) (kt : y ≤ x → At G M r Q X b (tgt) ls (st) σ) (kf : ¬ y ≤ x → At G M r Q X b (pc + 4) ls (st) σ) : At G M r Q X b (pc) ls (.long y :: .long x :: st) σ :=
  fun p e s m args below meth c H locs lsA cells slots mb C hR hS hl hc hs => W.lcmp C.hx C.hb d (lv_if_ge C.hx C.hb d2 ht (fun q => kt ((lg_cmp_ge x y).mp q) p e s m args below meth c H locs lsA cells slots mb C hR hS hl hc hs) (fun q => kf (fun z => q ((lg_cmp_ge x y).mpr z)) p e s m args below meth c H locs lsA cells slots mb C hR hS hl hc hs))
theorem g_if_gt {x : Int32} {off : Int} {tgt : Nat} (d : decode M.2.1 pc = .ok (.ifCond .gt off, 3)) (ht : (pc : Int) + off = (tgt : Int)) (kt : 0 < x → At G M r Q X b (tgt) ls (st) σ) (kf : ¬ 0 < x → At G M r Q X b (pc + 3) ls (st) σ) : At G M r Q X b (pc) ls (.int x :: st) σ :=
  fun p e s m args below meth c H locs lsA cells slots mb C hR hS hl hc hs => lv_if_gt C.hx C.hb d ht (fun q => kt q p e s m args below meth c H locs lsA cells slots mb C hR hS hl hc hs) (fun q => kf q p e s m args below meth c H locs lsA cells slots mb C hR hS hl hc hs)
theorem g_icmp_gt {x y : Int32} {off : Int} {tgt : Nat} (d : decode M.2.1 pc = .ok (.if_icmp .gt off, 3)) (ht : (pc : Int) + off = (tgt : Int)) (kt : y < x → At G M r Q X b (tgt) ls (st) σ) (kf : ¬ y < x → At G M r Q X b (pc + 3) ls (st) σ) : At G M r Q X b (pc) ls (.int y :: .int x :: st) σ :=
  fun p e s m args below meth c H locs lsA cells slots mb C hR hS hl hc hs => lv_icmp_gt C.hx C.hb d ht (fun q => kt q p e s m args below meth c H locs lsA cells slots mb C hR hS hl hc hs) (fun q => kf q p e s m args below meth c H locs lsA cells slots mb C hR hS hl hc hs)
theorem g_lcmp_gt {x y : Int64} {off : Int} {tgt : Nat} (d : decode M.2.1 pc = .ok (.lcmp, 1)) (d2 : decode M.2.1 (pc + 1) = .ok (.ifCond .gt off, 3)) (ht : ((pc + 1 : Nat) : Int) + off = (tgt : Int)) (kt : y < x → At G M r Q X b (tgt) ls (st) σ) (kf : ¬ y < x → At G M r Q X b (pc + 4) ls (st) σ) : At G M r Q X b (pc) ls (.long y :: .long x :: st) σ :=
  fun p e s m args below meth c H locs lsA cells slots mb C hR hS hl hc hs => W.lcmp C.hx C.hb d (lv_if_gt C.hx C.hb d2 ht (fun q => kt ((lg_cmp_gt x y).mp q) p e s m args below meth c H locs lsA cells slots mb C hR hS hl hc hs) (fun q => kf (fun z => q ((lg_cmp_gt x y).mpr z)) p e s m args below meth c H locs lsA cells slots mb C hR hS hl hc hs))
theorem g_if_le {x : Int32} {off : Int} {tgt : Nat} (d : decode M.2.1 pc = .ok (.ifCond .le off, 3)) (ht : (pc : Int) + off = (tgt : Int)) (kt : x ≤ 0 → At G M r Q X b (tgt) ls (st) σ) (kf : ¬ x ≤ 0 → At G M r Q X b (pc + 3) ls (st) σ) : At G M r Q X b (pc) ls (.int x :: st) σ :=
  fun p e s m args below meth c H locs lsA cells slots mb C hR hS hl hc hs => lv_if_le C.hx C.hb d ht (fun q => kt q p e s m args below meth c H locs lsA cells slots mb C hR hS hl hc hs) (fun q => kf q p e s m args below meth c H locs lsA cells slots mb C hR hS hl hc hs)
theorem g_icmp_le {x y : Int32} {off : Int} {tgt : Nat} (d : decode M.2.1 pc = .ok (.if_icmp .le off, 3)) (ht : (pc : Int) + off = (tgt : Int)) (kt : x ≤ y → At G M r Q X b (tgt) ls (st) σ) (kf : ¬ x ≤ y → At G M r Q X b (pc + 3) ls (st) σ) : At G M r Q X b (pc) ls (.int y :: .int x :: st) σ :=
  fun p e s m args below meth c H locs lsA cells slots mb C hR hS hl hc hs => lv_icmp_le C.hx C.hb d ht (fun q => kt q p e s m args below meth c H locs lsA cells slots mb C hR hS hl hc hs) (fun q => kf q p e s m args below meth c H locs lsA cells slots mb C hR hS hl hc hs)
theorem g_lcmp_le {x y : Int64} {off : Int} {tgt : Nat} (d : decode M.2.1 pc = .ok (.lcmp, 1)) (d2 : decode M.2.1 (pc + 1) = .ok (.ifCond .le off, 3)) (ht : ((pc + 1 : Nat) : Int) + off = (tgt : Int)) (kt : x ≤ y → At G M r Q X b (tgt) ls (st) σ) (kf : ¬ x ≤ y → At G M r Q X b (pc + 4) ls (st) σ) : At G M r Q X b (pc) ls (.long y :: .long x :: st) σ :=
  fun p e s m args below meth c H locs lsA cells slots mb C hR hS hl hc hs => W.lcmp C.hx C.hb d (lv_if_le C.hx C.hb d2 ht (fun q => kt ((lg_cmp_le x y).mp q) p e s m args below meth c H locs lsA cells slots mb C hR hS hl hc hs) (fun q => kf (fun z => q ((lg_cmp_le x y).mpr z)) p e s m args below meth c H locs lsA cells slots mb C hR hS hl hc hs))
theorem g_goto {off : Int} {tgt : Nat} (d : decode M.2.1 pc = .ok (.goto off, 3)) (ht : (pc : Int) + off = (tgt : Int)) (k : At G M r Q X b (tgt) ls (st) σ) : At G M r Q X b (pc) ls (st) σ :=
  fun p e s m args below meth c H locs lsA cells slots mb C hR hS hl hc hs => lv_goto C.hx C.hb d ht (k p e s m args below meth c H locs lsA cells slots mb C hR hS hl hc hs)
theorem g_ifnull {x : Option Nat} {off : Int} {tgt : Nat} (d : decode M.2.1 pc = .ok (.ifnull off, 3)) (ht : (pc : Int) + off = (tgt : Int)) (kn : x = none → At G M r Q X b (tgt) ls (st) σ) (ks : ∀ y : Nat, x = some y → At G M r Q X b (pc + 3) ls (st) σ) : At G M r Q X b (pc) ls (va_rf x :: st) σ := by
  cases x with
  | none => exact fun p e s m args below meth c H locs lsA cells slots mb C hR hS hl hc hs => lv_ifnullN C.hx C.hb d ht (kn rfl p e s m args below meth c H locs lsA cells slots mb C hR hS hl hc hs)
  | some y => exact fun p e s m args below meth c H locs lsA cells slots mb C hR hS hl hc hs => lv_ifnull C.hx C.hb d (ks y rfl p e s m args below meth c H locs lsA cells slots mb C hR hS hl hc hs)
theorem g_ifnonnull {x : Option Nat} {off : Int} {tgt : Nat} (d : decode M.2.1 pc = .ok (.ifnonnull off, 3)) (ht : (pc : Int) + off = (tgt : Int)) (kn : x = none → At G M r Q X b (pc + 3) ls (st) σ) (ks : ∀ y : Nat, x = some y → At G M r Q X b (tgt) ls (st) σ) : At G M r Q X b (pc) ls (va_rf x :: st) σ := by
  cases x with
  | none => exact fun p e s m args below meth c H locs lsA cells slots mb C hR hS hl hc hs => lv_ifnonnullN C.hx C.hb d (kn rfl p e s m args below meth c H locs lsA cells slots mb C hR hS hl hc hs)
  | some y => exact fun p e s m args below meth c H locs lsA cells slots mb C hR hS hl hc hs => lv_ifnonnull C.hx C.hb d ht (ks y rfl p e s m args below meth c H locs lsA cells slots mb C hR hS hl hc hs)
theorem g_tableOut {dflt lo hi : Int} {offs : Array Int} {len tgt : Nat} {x : Int32} (d : decode M.2.1 pc = .ok (.tableswitch dflt lo hi offs, len)) (h : x.toInt < lo ∨ hi < x.toInt) (ht : (pc : Int) + dflt = (tgt : Int)) (k : At G M r Q X b (tgt) ls (st) σ) : At G M r Q X b (pc) ls (.int x :: st) σ :=
  fun p e s m args below meth c H locs lsA cells slots mb C hR hS hl hc hs => lv_tableOut C.hx C.hb d h ht (k p e s m args below meth c H locs lsA cells slots mb C hR hS hl hc hs)
theorem g_tableIn {dflt lo hi off : Int} {offs : Array Int} {len tgt : Nat} {x : Int32} (d : decode M.2.1 pc = .ok (.tableswitch dflt lo hi offs, len)) (h1 : ¬ x.toInt < lo) (h2 : ¬ hi < x.toInt) (ho : offs[(x.toInt - lo).toNat]? = some off) (ht : (pc : Int) + off = (tgt : Int)) (k : At G M r Q X b (tgt) ls (st) σ) : At G M r Q X b (pc) ls (.int x :: st) σ :=
  fun p e s m args below meth c H locs lsA cells slots mb C hR hS hl hc hs => lv_tableIn C.hx C.hb d h1 h2 ho ht (k p e s m args below meth c H locs lsA cells slots mb C hR hS hl hc hs)
theorem g_ldc {i : Nat} {v : Int32} (d : decode M.2.1 pc = .ok (.ldc i, 2)) (hw : Cond.constant M.1.cls i v ∈ lw_all) (k : At G M r Q X b (pc + 2) ls (.int v :: st) σ) : At G M r Q X b (pc) ls (st) σ :=
  fun p e s m args below meth c H locs lsA cells slots mb C hR hS hl hc hs => lv_ldc C.hx C.hb C.own (C.ts _ hw) d (k p e s m args below meth c H locs lsA cells slots mb C hR hS hl hc hs)
theorem g_ldcw {i : Nat} {v : Int32} (d : decode M.2.1 pc = .ok (.ldc_w i, 3)) (hw : Cond.constant M.1.cls i v ∈ lw_all) (k : At G M r Q X b (pc + 3) ls (.int v :: st) σ) : At G M r Q X b (pc) ls (st) σ :=
  fun p e s m args below meth c H locs lsA cells slots mb C hR hS hl hc hs => lv_ldcw C.hx C.hb C.own (C.ts _ hw) d (k p e s m args below meth c H locs lsA cells slots mb C hR hS hl hc hs)
theorem g_ldc2 {i : Nat} {v : Int64} (d : decode M.2.1 pc = .ok (.ldc2_w i, 3)) (hw : Cond.constantLong M.1.cls i v ∈ lw_all) (k : At G M r Q X b (pc + 3) ls (.long v :: st) σ) : At G M r Q X b (pc) ls (st) σ :=
  fun p e s m args below meth c H locs lsA cells slots mb C hR hS hl hc hs => lv_ldc2 C.hx C.hb C.own (C.ts _ hw) d (k p e s m args below meth c H locs lsA cells slots mb C hR hS hl hc hs)
theorem At.stk {st' : List Value} (h : st = st') (k : At G M r Q X b pc ls st' σ) : At G M r Q X b pc ls st σ := h ▸ k
theorem g_topi {x : Int32} (k : ∀ y : Int32, y = x → At G M r Q X b pc ls (.int y :: st) σ) : At G M r Q X b pc ls (.int x :: st) σ := k x rfl
theorem g_topl {x : Int64} (k : ∀ y : Int64, y = x → At G M r Q X b pc ls (.long y :: st) σ) : At G M r Q X b pc ls (.long x :: st) σ := k x rfl
theorem g_tops (k : ∀ s : PS, s = σ → At G M r Q X b pc ls st s) : At G M r Q X b pc ls st σ := k σ rfl
theorem g_tops2 {s9 : PS} (e : s9 = σ) (k : At G M r Q X b pc ls st σ) : At G M r Q X b pc ls st s9 := e ▸ k
theorem At.sub {ls' : List (Nat × Value)} (ks : List Nat) (h : lv_pick ls ks = ls') (k : At G M r Q X b pc ls' st σ) : At G M r Q X b pc ls st σ :=
  fun p e s m args below meth c H locs lsA cells slots mb C hR hS hl hc hs => k p e s m args below meth c H locs lsA cells slots mb C hR hS (lv_sub hl ks h) hc hs
theorem At.bud {b' : Nat} (h : b' ≤ b) (k : At G M r Q X b' pc ls st σ) : At G M r Q X b pc ls st σ :=
  fun p e s m args below meth c H locs lsA cells slots mb C hR hS hl hc hs => k p e s m args below meth c H locs lsA cells slots mb C hR hS hl (by omega) (by omega)
theorem At.post {Q' : Option Value → PS → Prop} {X' : String → Nat → PS → Prop} (hQ : ∀ v σ, Q' v σ → Q v σ) (hX : ∀ E q σ, X' E q σ → X E q σ) (k : At G M r Q' X' b pc ls st σ) : At G M r Q X b pc ls st σ := by
  intro p e s m args below meth c H locs lsA cells slots mb C hR hS hl hc hs T hT S
  obtain ⟨t, a1, o, b1, b2, b3⟩ := k p e s m args below meth c H locs lsA cells slots mb C hR hS hl hc hs T hT S
  refine ⟨t, a1, o, b1, b2, ?_⟩
  rcases b3 with ⟨⟨⟨v, σ', h1, h2, h3⟩, h4⟩, h5⟩ | ⟨q, h1, E, ce, L, ⟨⟨σ', g1, g2⟩, g3⟩, g4⟩
  · exact Or.inl ⟨⟨⟨v, σ', h1, hQ _ _ h2, h3⟩, h4⟩, h5⟩
  · exact Or.inr ⟨q, h1, E, ce, L, ⟨⟨σ', hX _ _ _ g1, g2⟩, g3⟩, g4⟩
theorem Call.post {N : MD} {rc bc : Nat} {av : List Value} {Q' : Option Value → PS → Prop} {X' : String → Nat → PS → Prop} (k : Call G N rc bc av σ Q' X') (hQ : ∀ v σ, Q' v σ → Q v σ) (hX : ∀ E q σ, X' E q σ → X E q σ) : Call G N rc bc av σ Q X := by
  refine Jvm.Free.MetFree.mono k (fun _ _ h => h) (fun _ _ _ _ _ h => h) ?_
  rintro a st o t - b3
  rcases b3 with ⟨⟨⟨v, σ', h1, h2, h3⟩, h4⟩, h5⟩ | ⟨q, h1, E, ce, L, ⟨⟨σ', g1, g2⟩, g3⟩, g4⟩
  · exact Or.inl ⟨⟨⟨v, σ', h1, hQ _ _ h2, h3⟩, h4⟩, h5⟩
  · exact Or.inr ⟨q, h1, E, ce, L, ⟨⟨σ', hX _ _ _ g1, g2⟩, g3⟩, g4⟩
/-- from the entry to the contract -/
theorem Call.of {N : MD} {rc bc : Nat} {av : List Value} (hy : plainName N.1.cls = true) (hw : wsM N = ws_ N.1 N.2.1 N.2.2.1 N.2.2.2.1) (hh : N.2.2.2.2 = []) (hL : (lg_sl av).length ≤ N.2.2.1)
    (k : At G N rc Q X bc 0 (lv_args 0 av) [] σ) : Call G N rc bc av σ Q X := by
  unfold Call
  rw [hw]
  refine vx_ofW (cc := N.2.1) (maxL := N.2.2.1) (ret := N.2.2.2.1) hy rfl ?_
  intro p e s m args below meth c s₁ B hml htab hv
  obtain ⟨rfl, hR, hE⟩ := hv
  have hts := atoms_spec (ws := ws_ N.1 N.2.1 N.2.2.1 N.2.2.2.1) B.pre
  rw [lg_entry_eq]
  refine k p e s m _ below meth c s.heap [] _ 0 0 bc ⟨B.exec, B.bytes, B.returns, fun w h => hts w (List.mem_cons_of_mem _ h), findClass_of_methodNamed B.named, B.notSynchronized, hml, (name_of_methodNamed B.named B.method).1, ?_, hE.2.2.2.2.2.2.2.2.2.2.2.1, hE⟩ hR va_S.rf (lv_entry av hL) (by omega) (by omega)
  rw [hh]
  cases h9 : c.exceptionTable.toList with
  | nil => rfl
  | cons x l => exact (htab x (by rw [h9]; exact List.mem_cons_self)).elim
theorem Call.ofH {N : MD} {rc bc : Nat} {av : List Value} (hy : plainName N.1.cls = true) (hw : wsM N = wsW_ N.1 N.2.1 N.2.2.1 N.2.2.2.1 N.2.2.2.2) (hL : (lg_sl av).length ≤ N.2.2.1)
    (k : At G N rc Q X bc 0 (lv_args 0 av) [] σ) : Call G N rc bc av σ Q X := by
  unfold Call
  rw [hw]
  refine vx_ofWH (cc := N.2.1) (maxL := N.2.2.1) (ret := N.2.2.2.1) (hh := N.2.2.2.2) hy rfl ?_
  intro p e s m args below meth c s₁ B hml hv
  obtain ⟨rfl, hR, hE⟩ := hv
  have hts := atoms_spec (ws := wsW_ N.1 N.2.1 N.2.2.1 N.2.2.2.1 N.2.2.2.2) B.pre
  rw [lg_entry_eq]
  exact k p e s m _ below meth c s.heap [] _ 0 0 bc ⟨B.exec, B.bytes, B.returns, fun w h => hts w (List.mem_cons_of_mem _ h), findClass_of_methodNamed B.named, B.notSynchronized, hml, (name_of_methodNamed B.named B.method).1, vx_table (x := N.1) B (hts _ List.mem_cons_self), hE.2.2.2.2.2.2.2.2.2.2.2.1, hE⟩ hR va_S.rf (lv_entry av hL) (by omega) (by omega)
-- ends
theorem g_iret {v : Int32} (hr : M.2.2.2.1 = some .int) (d : decode M.2.1 pc = .ok (.ireturn, 1)) (h : Q (some (.int v)) σ) : At G M r Q X b pc ls [.int v] σ := by
  intro p e s m args below meth c H locs lsA cells slots mb C hR hS hl hc hs
  refine W.widen (k := mb) (n := 24 * mb) (by omega) (by omega) (vx_ret ?_)
  exact W.iret (v := v) C.hx C.hb (C.hr.trans hr) (fun t ht hW => ⟨⟨_, σ, rfl, h, by rw [ht]; exact hR⟩, hS.F ht⟩) hS.2.2 d C.locks
theorem g_zret {v : Int32} {ty : FieldType} (hr : M.2.2.2.1 = some ty) (hn : narrow ty (.int v) = .int v) (d : decode M.2.1 pc = .ok (.ireturn, 1)) (h : Q (some (.int v)) σ) : At G M r Q X b pc ls [.int v] σ := by
  intro p e s m args below meth c H locs lsA cells slots mb C hR hS hl hc hs
  refine W.widen (k := mb) (n := 24 * mb) (by omega) (by omega) (vx_ret ?_)
  exact W.zret (v := v) C.hx C.hb (C.hr.trans hr) hn (fun t ht hW => ⟨⟨_, σ, rfl, h, by rw [ht]; exact hR⟩, hS.F ht⟩) hS.2.2 d C.locks
theorem g_lret {v : Int64} (hr : M.2.2.2.1 = some .long) (d : decode M.2.1 pc = .ok (.lreturn, 1)) (h : Q (some (.long v)) σ) : At G M r Q X b pc ls [.long v] σ := by
  intro p e s m args below meth c H locs lsA cells slots mb C hR hS hl hc hs
  refine W.widen (k := mb) (n := 24 * mb) (by omega) (by omega) (vx_ret ?_)
  exact W.lret (v := v) C.hx C.hb (C.hr.trans hr) (fun t ht hW => ⟨⟨_, σ, rfl, h, by rw [ht]; exact hR⟩, hS.F ht⟩) hS.2.2 d C.locks
theorem g_vret (hr : M.2.2.2.1 = none) (d : decode M.2.1 pc = .ok (.return_, 1)) (h : Q none σ) : At G M r Q X b pc ls [] σ := by
  intro p e s m args below meth c H locs lsA cells slots mb C hR hS hl hc hs
  refine W.widen (k := mb) (n := 24 * mb) (by omega) (by omega) (vx_ret ?_)
  exact W.vret C.hx C.hb (C.hr.trans hr) (fun t ht hW => ⟨⟨_, σ, rfl, h, by rw [ht]; exact hR⟩, hS.F ht⟩) hS.2.2 d C.locks
theorem g_aret {x : Option Nat} {n : String} (hr : M.2.2.2.1 = some (.object n)) (d : decode M.2.1 pc = .ok (.areturn, 1)) (h : Q (some (va_rf x)) σ) : At G M r Q X b pc ls [va_rf x] σ := by
  intro p e s m args below meth c H locs lsA cells slots mb C hR hS hl hc hs
  refine W.widen (k := mb) (n := 24 * mb) (by omega) (by omega) (vx_ret ?_)
  exact W.aret (v := va_rf x) C.hx C.hb (C.hr.trans hr) (Or.inl ⟨n, rfl⟩) (by cases x with | none => exact Or.inl rfl | some y => exact Or.inr ⟨y, rfl⟩) (fun t ht hW => ⟨⟨_, σ, rfl, h, by rw [ht]; exact hR⟩, hS.F ht⟩) hS.2.2 d C.locks
-- fields
theorem g_get {T : u_T} {C0 : String} {N ci index a : Nat} {v : Value} (k : Nat) (d : decode M.2.1 pc = .ok (.getfield index, 3)) (hin : ∀ w ∈ u_ws C0 T N, w ∈ lw_all) (hc0 : vwCl[ci]? = some (C0, T, N)) (hk : k < N) (hw : Cond.fieldLink M.1.cls index (T k).1 (T k).2.1 (T k).2.2.1 ∈ lw_all) (hf : Fg σ ci a k v)
    (kk : At G M r Q X b (pc + 3) ls (v :: st) σ) : At G M r Q X b pc ls (.ref a :: st) σ := by
  intro p e s m args below meth c H locs lsA cells slots mb C hR hS hl hc hs
  obtain ⟨fs, hO, hv⟩ := hf
  have hR0 := hR
  obtain ⟨ws, hP, hD, hm, hu⟩ := hR
  obtain ⟨q0, hq⟩ := hm _ _ _ hO
  exact va_get (D := gD G) (ci := ci) C.hx C.hb C.ts hin C.own C.K hP q0 (fs := fs) hq hc0 k hk (C.ts _ hw) (fun _ h => h) hv d (kk p e s m args below meth c H locs lsA cells slots mb C hR0 hS hl hc hs)
theorem g_getN {T : u_T} {C0 host : String} {N ci index a : Nat} {v : Value} (k : Nat) (d : decode M.2.1 pc = .ok (.getfield index, 3)) (hin : ∀ w ∈ u_ws C0 T N, w ∈ lw_all) (hc0 : vwCl[ci]? = some (C0, T, N)) (hk : k < N) (hw : Cond.fieldLinkNest M.1.cls index (T k).1 (T k).2.1 (T k).2.2.1 host ∈ lw_tbl) (hf : Fg σ ci a k v)
    (kk : At G M r Q X b (pc + 3) ls (v :: st) σ) : At G M r Q X b pc ls (.ref a :: st) σ := by
  intro p e s m args below meth c H locs lsA cells slots mb C hR hS hl hc hs
  obtain ⟨fs, hO, hv⟩ := hf
  have hR0 := hR
  obtain ⟨ws, hP, hD, hm, hu⟩ := hR
  obtain ⟨q0, hq⟩ := hm _ _ _ hO
  exact va_getN (D := gD G) (ci := ci) C.hx C.hb C.ts hin C.own C.K hP q0 (fs := fs) hq hc0 k hk (C.nw hw rfl rfl) (fun _ h => h) hv d (kk p e s m args below meth c H locs lsA cells slots mb C hR0 hS hl hc hs)
theorem g_put {T : u_T} {C0 : String} {N ci index a : Nat} {v : Value} {fs : List Value} (k : Nat) (d : decode M.2.1 pc = .ok (.putfield index, 3)) (hin : ∀ w ∈ u_ws C0 T N, w ∈ lw_all) (ty0 : Nat → FieldType) (hty : ∀ k, k < N → parseFieldDescriptor (T k).2.2.1 = some (ty0 k)) (hnm : ∀ a, a < N → ∀ b, b < N → a ≠ b → (T a).2.1 ≠ (T b).2.1) (hc0 : vwCl[ci]? = some (C0, T, N)) (hk : k < N) (hw : Cond.fieldLink M.1.cls index (T k).1 (T k).2.1 (T k).2.2.1 ∈ lw_all)
    (hfin : (T k).2.2.2 = false) (hn : narrow (ty0 k) v = v) (hfit : fits (ty0 k) v = true) (hO : Ob σ ci a fs) (hlen : k < fs.length) (kk : At G M r Q X b (pc + 3) ls st (up σ ci a (.inl (fs.set k v)))) : At G M r Q X b pc ls (v :: .ref a :: st) σ := by
  intro p e s m args below meth c H locs lsA cells slots mb C hR hS hl hc hs
  obtain ⟨ws, hP, hD, hm, hu⟩ := hR
  obtain ⟨q0, hq⟩ := hm _ _ _ hO
  exact va_put (D := gD G) (ci := ci) C.hx C.hb C.ts hin ty0 hty hnm C.own C.K hP hD hS q0 (fs := fs) hq hc0 k hk (C.ts _ hw) (fun _ h => h) hfin (hty k hk) hn hfit hlen d (fun H1 locs1 hP1 hD1 hS1 => kk p e s m args below meth c H1 locs1 lsA cells slots mb C (Rp.set hm hu hO hq hP1 hD1) hS1 hl hc hs)
theorem g_putN {T : u_T} {C0 host : String} {N ci index a : Nat} {v : Value} {fs : List Value} (k : Nat) (d : decode M.2.1 pc = .ok (.putfield index, 3)) (hin : ∀ w ∈ u_ws C0 T N, w ∈ lw_all) (ty0 : Nat → FieldType) (hty : ∀ k, k < N → parseFieldDescriptor (T k).2.2.1 = some (ty0 k)) (hnm : ∀ a, a < N → ∀ b, b < N → a ≠ b → (T a).2.1 ≠ (T b).2.1) (hc0 : vwCl[ci]? = some (C0, T, N)) (hk : k < N) (hw : Cond.fieldLinkNest M.1.cls index (T k).1 (T k).2.1 (T k).2.2.1 host ∈ lw_tbl)
    (hfin : (T k).2.2.2 = false) (hn : narrow (ty0 k) v = v) (hfit : fits (ty0 k) v = true) (hO : Ob σ ci a fs) (hlen : k < fs.length) (kk : At G M r Q X b (pc + 3) ls st (up σ ci a (.inl (fs.set k v)))) : At G M r Q X b pc ls (v :: .ref a :: st) σ := by
  intro p e s m args below meth c H locs lsA cells slots mb C hR hS hl hc hs
  obtain ⟨ws, hP, hD, hm, hu⟩ := hR
  obtain ⟨q0, hq⟩ := hm _ _ _ hO
  exact va_putN (D := gD G) (ci := ci) C.hx C.hb C.ts hin ty0 hty hnm C.own C.K hP hD hS q0 (fs := fs) hq hc0 k hk (C.nw hw rfl rfl) (fun _ h => h) hfin (hty k hk) hn hfit hlen d (fun H1 locs1 hP1 hD1 hS1 => kk p e s m args below meth c H1 locs1 lsA cells slots mb C (Rp.set hm hu hO hq hP1 hD1) hS1 hl hc hs)
/-- a final field, in its constructor -/
theorem g_putF {T : u_T} {C0 : String} {N ci index a : Nat} {v : Value} {fs : List Value} (k : Nat) (d : decode M.2.1 pc = .ok (.putfield index, 3)) (hin : ∀ w ∈ u_ws C0 T N, w ∈ lw_all) (ty0 : Nat → FieldType) (hty : ∀ k, k < N → parseFieldDescriptor (T k).2.2.1 = some (ty0 k)) (hnm : ∀ a, a < N → ∀ b, b < N → a ≠ b → (T a).2.1 ≠ (T b).2.1) (hc0 : vwCl[ci]? = some (C0, T, N)) (hk : k < N) (hw : Cond.fieldLink M.1.cls index (T k).1 (T k).2.1 (T k).2.2.1 ∈ lw_all)
    (hfin : (T k).2.2.2 = true) (hini : M.1.name = "<init>") (hdec : (T k).1 = M.1.cls) (hn : narrow (ty0 k) v = v) (hfit : fits (ty0 k) v = true) (hO : Ob σ ci a fs) (hlen : k < fs.length) (kk : At G M r Q X b (pc + 3) ls st (up σ ci a (.inl (fs.set k v)))) : At G M r Q X b pc ls (v :: .ref a :: st) σ := by
  intro p e s m args below meth c H locs lsA cells slots mb C hR hS hl hc hs
  obtain ⟨ws, hP, hD, hm, hu⟩ := hR
  obtain ⟨q0, hq⟩ := hm _ _ _ hO
  exact va_putF (D := gD G) (ci := ci) C.hx C.hb C.ts hin ty0 hty hnm C.own C.K hP hD hS q0 (fs := fs) hq hc0 k hk (C.ts _ hw) (fun _ h => h) hfin (C.name.trans hini) hdec (hty k hk) hn hfit hlen d (fun H1 locs1 hP1 hD1 hS1 => kk p e s m args below meth c H1 locs1 lsA cells slots mb C (Rp.set hm hu hO hq hP1 hD1) hS1 hl hc hs)
-- arrays
theorem g_alen {κ a n : Nat} {x : (Nat → Int32) ⊕ ((Nat → Int64) ⊕ (Nat → Option Nat))} {v : Int32} (d : decode M.2.1 pc = .ok (.arraylength, 1)) (t0 : Nat) {ty : FieldType} (ht : (gTys (gt G))[t0]? = some (gt G κ, ty)) (hO : σ κ a = some (.inr (n, x))) (hv : Int32.ofNat n = v)
    (kk : At G M r Q X b (pc + 1) ls (.int v :: st) σ) : At G M r Q X b pc ls (.ref a :: st) σ := by
  intro p e s m args below meth c H locs lsA cells slots mb C hR hS hl hc hs
  have hR0 := hR
  obtain ⟨ws, hP, hD, hm, hu⟩ := hR
  obtain ⟨q0, hq⟩ := hm _ _ _ hO
  rcases x with f | f | f
  · exact va_alen C.hx C.hb C.K hP q0 t0 (cA := gt G κ) (x := (n, .inl f)) hq ht hv d (kk p e s m args below meth c H locs lsA cells slots mb C hR0 hS hl hc hs)
  · exact va_alen C.hx C.hb C.K hP q0 t0 (cA := gt G κ) (x := (n, .inr (.inl f))) hq ht hv d (kk p e s m args below meth c H locs lsA cells slots mb C hR0 hS hl hc hs)
  · exact va_alen C.hx C.hb C.K hP q0 t0 (cA := gt G κ) (x := (n, .inr (.inr (.inr (.inr f))))) hq ht hv d (kk p e s m args below meth c H locs lsA cells slots mb C hR0 hS hl hc hs)
theorem g_iald {a n : Nat} {f : Nat → Int32} {i : Int32} (d : decode M.2.1 pc = .ok (.iaload, 1)) (hO : Ia σ 100 a n f) (hin : vp_in i n)
    (kk : At G M r Q X b (pc + 1) ls (.int (f i.toNatClampNeg) :: st) σ) : At G M r Q X b pc ls (.int i :: .ref a :: st) σ := by
  intro p e s m args below meth c H locs lsA cells slots mb C hR hS hl hc hs
  have hR0 := hR
  obtain ⟨ws, hP, hD, hm, hu⟩ := hR
  obtain ⟨q0, hq⟩ := hm _ _ _ hO
  exact va_iald C.hx C.hb C.K hP q0 0 (cA := gt G 100) (n := n) (f := f) hq rfl hin d (kk p e s m args below meth c H locs lsA cells slots mb C hR0 hS hl hc hs)
theorem g_bald {a n : Nat} {f : Nat → Int32} {i : Int32} (d : decode M.2.1 pc = .ok (.baload, 1)) (hO : Ia σ 102 a n f) (hin : vp_in i n)
    (kk : At G M r Q X b (pc + 1) ls (.int (f i.toNatClampNeg) :: st) σ) : At G M r Q X b pc ls (.int i :: .ref a :: st) σ := by
  intro p e s m args below meth c H locs lsA cells slots mb C hR hS hl hc hs
  have hR0 := hR
  obtain ⟨ws, hP, hD, hm, hu⟩ := hR
  obtain ⟨q0, hq⟩ := hm _ _ _ hO
  exact va_bald C.hx C.hb C.K hP q0 2 (cA := gt G 102) (n := n) (f := f) hq rfl hin d (kk p e s m args below meth c H locs lsA cells slots mb C hR0 hS hl hc hs)
theorem g_lald {a n : Nat} {f : Nat → Int64} {i : Int32} (d : decode M.2.1 pc = .ok (.laload, 1)) (hO : La σ 101 a n f) (hin : vp_in i n)
    (kk : At G M r Q X b (pc + 1) ls (.long (f i.toNatClampNeg) :: st) σ) : At G M r Q X b pc ls (.int i :: .ref a :: st) σ := by
  intro p e s m args below meth c H locs lsA cells slots mb C hR hS hl hc hs
  have hR0 := hR
  obtain ⟨ws, hP, hD, hm, hu⟩ := hR
  obtain ⟨q0, hq⟩ := hm _ _ _ hO
  exact va_lald C.hx C.hb C.K hP q0 1 (cA := gt G 101) (n := n) (f := f) hq rfl hin d (kk p e s m args below meth c H locs lsA cells slots mb C hR0 hS hl hc hs)
theorem g_iast {a n : Nat} {f : Nat → Int32} {i x : Int32} (d : decode M.2.1 pc = .ok (.iastore, 1)) (hO : Ia σ 100 a n f) (hin : vp_in i n)
    (kk : At G M r Q X b (pc + 1) ls st (up σ 100 a (.inr (n, .inl (upd f i.toNatClampNeg x))))) : At G M r Q X b pc ls (.int x :: .int i :: .ref a :: st) σ := by
  intro p e s m args below meth c H locs lsA cells slots mb C hR hS hl hc hs
  obtain ⟨ws, hP, hD, hm, hu⟩ := hR
  obtain ⟨q0, hq⟩ := hm _ _ _ hO
  exact va_iast C.hx C.hb C.K hP hD hS q0 0 (cA := gt G 100) (n := n) (f := f) hq rfl hin d (fun H1 locs1 hP1 hD1 hS1 => kk p e s m args below meth c H1 locs1 lsA cells slots mb C (Rp.set (e' := .inr (n, .inl (upd f i.toNatClampNeg x))) hm hu hO hq hP1 hD1) hS1 hl hc hs)
theorem g_bast {a n : Nat} {f : Nat → Int32} {i x : Int32} (d : decode M.2.1 pc = .ok (.bastore, 1)) (hO : Ia σ 102 a n f) (hin : vp_in i n)
    (kk : At G M r Q X b (pc + 1) ls st (up σ 102 a (.inr (n, .inl (upd f i.toNatClampNeg (vp_nar .byte x)))))) : At G M r Q X b pc ls (.int x :: .int i :: .ref a :: st) σ := by
  intro p e s m args below meth c H locs lsA cells slots mb C hR hS hl hc hs
  obtain ⟨ws, hP, hD, hm, hu⟩ := hR
  obtain ⟨q0, hq⟩ := hm _ _ _ hO
  exact va_bast C.hx C.hb C.K hP hD hS q0 2 (cA := gt G 102) (n := n) (f := f) hq rfl hin d (fun H1 locs1 hP1 hD1 hS1 => kk p e s m args below meth c H1 locs1 lsA cells slots mb C (Rp.set (e' := .inr (n, .inl (upd f i.toNatClampNeg (vp_nar .byte x)))) hm hu hO hq hP1 hD1) hS1 hl hc hs)
theorem g_last {a n : Nat} {f : Nat → Int64} {i : Int32} {x : Int64} (d : decode M.2.1 pc = .ok (.lastore, 1)) (hO : La σ 101 a n f) (hin : vp_in i n)
    (kk : At G M r Q X b (pc + 1) ls st (up σ 101 a (.inr (n, .inr (.inl (vp_updL f i.toNatClampNeg x)))))) : At G M r Q X b pc ls (.long x :: .int i :: .ref a :: st) σ := by
  intro p e s m args below meth c H locs lsA cells slots mb C hR hS hl hc hs
  obtain ⟨ws, hP, hD, hm, hu⟩ := hR
  obtain ⟨q0, hq⟩ := hm _ _ _ hO
  exact va_last C.hx C.hb C.K hP hD hS q0 1 (cA := gt G 101) (n := n) (f := f) hq rfl hin d (fun H1 locs1 hP1 hD1 hS1 => kk p e s m args below meth c H1 locs1 lsA cells slots mb C (Rp.set (e' := .inr (n, .inr (.inl (vp_updL f i.toNatClampNeg x)))) hm hu hO hq hP1 hD1) hS1 hl hc hs)
theorem g_aald {κ a n t0 : Nat} {ty : FieldType} {f : Nat → Option Nat} {i : Int32} (d : decode M.2.1 pc = .ok (.aaload, 1)) (ht : (gTys (gt G))[t0]? = some (gt G κ, ty)) (hty : ty.isReference = true) (hO : Qa σ κ a n f) (hin : vp_in i n)
    (kk : At G M r Q X b (pc + 1) ls (va_rf (f i.toNatClampNeg) :: st) σ) : At G M r Q X b pc ls (.int i :: .ref a :: st) σ := by
  intro p e s m args below meth c H locs lsA cells slots mb C hR hS hl hc hs
  have hR0 := hR
  obtain ⟨ws, hP, hD, hm, hu⟩ := hR
  obtain ⟨q0, hq⟩ := hm _ _ _ hO
  have hlt : i.toNatClampNeg < n := Nat.not_le.mp fun q => hin (Or.inr q)
  have h9 : va_at (gD G) vwCl (a, ce (gt G) κ (.inr (n, .inr (.inr f)))) H := hP q0 _ hq
  have h8 : H[a]? = some (arrV (gt G κ) n (fun j => va_rf (f j))) := h9
  exact W.aald (v := va_rf (f i.toNatClampNeg)) (ty := ty) C.hx C.hb h8 ((C.K.2 t0 _ ht).1 n (fun j => va_rf (f j))) hty (fun q => by cases q) (by show ¬ (i < 0 ∨ (arrV _ _ _).slots.size ≤ _); rw [arrV_size]; exact hin) (by show (arrV _ _ _).slots[_]? = _; rw [arrV_read _ _ hlt]) rfl rfl d (kk p e s m args below meth c H locs lsA cells slots mb C hR0 hS hl hc hs)
/-- a store of an object of the array's own class -/
theorem g_aast {κ a n t0 ci v : Nat} {w : vw_C} {vs : List Value} {f : Nat → Option Nat} {i : Int32} (d : decode M.2.1 pc = .ok (.aastore, 1)) (ht : (gTys (gt G))[t0]? = some (gt G κ, .object w.1)) (hc0 : vwCl[ci]? = some w) (hO : Qa σ κ a n f) (hV : Ob σ ci v vs) (hin : vp_in i n)
    (kk : At G M r Q X b (pc + 1) ls st (up σ κ a (.inr (n, .inr (.inr (va_up f i.toNatClampNeg (some v))))))) : At G M r Q X b pc ls (.ref v :: .int i :: .ref a :: st) σ := by
  intro p e s m args below meth c H locs lsA cells slots mb C hR hS hl hc hs
  obtain ⟨ws, hP, hD, hm, hu⟩ := hR
  obtain ⟨q0, hq⟩ := hm _ _ _ hO
  obtain ⟨q1, hq1⟩ := hm _ _ _ hV
  exact va_astq C.hx C.hb C.K hP hD hS q0 t0 q1 ci (cA := gt G κ) (n := n) (f := f) (vs := vs) hq ht hq1 hc0 hin d (fun H1 locs1 hP1 hD1 hS1 => kk p e s m args below meth c H1 locs1 lsA cells slots mb C (Rp.set (e' := .inr (n, .inr (.inr (va_up f i.toNatClampNeg (some v))))) hm hu hO hq hP1 hD1) hS1 hl hc hs)
theorem g_aastN {κ a n t0 : Nat} {E : String} {f : Nat → Option Nat} {i : Int32} (d : decode M.2.1 pc = .ok (.aastore, 1)) (ht : (gTys (gt G))[t0]? = some (gt G κ, .object E)) (hO : Qa σ κ a n f) (hin : vp_in i n)
    (kk : At G M r Q X b (pc + 1) ls st (up σ κ a (.inr (n, .inr (.inr (va_up f i.toNatClampNeg none)))))) : At G M r Q X b pc ls (.null :: .int i :: .ref a :: st) σ := by
  intro p e s m args below meth c H locs lsA cells slots mb C hR hS hl hc hs
  obtain ⟨ws, hP, hD, hm, hu⟩ := hR
  obtain ⟨q0, hq⟩ := hm _ _ _ hO
  exact va_astqN C.hx C.hb C.K hP hD hS q0 t0 (cA := gt G κ) (n := n) (f := f) hq ht hin d (fun H1 locs1 hP1 hD1 hS1 => kk p e s m args below meth c H1 locs1 lsA cells slots mb C (Rp.set (e' := .inr (n, .inr (.inr (va_up f i.toNatClampNeg none)))) hm hu hO hq hP1 hD1) hS1 hl hc hs)
/-- of a class that the tables say is castable to the array's -/
theorem g_aastO {κ a n t0 ci v : Nat} {E : String} {w : vw_C} {vs : List Value} {f : Nat → Option Nat} {i : Int32} (d : decode M.2.1 pc = .ok (.aastore, 1)) (ht : (gTys (gt G))[t0]? = some (gt G κ, .object E)) (hc0 : vwCl[ci]? = some w) (hw : Cond.castable w.1 E ∈ lw_tbl) (hO : Qa σ κ a n f) (hV : Ob σ ci v vs) (hin : vp_in i n)
    (kk : At G M r Q X b (pc + 1) ls st (up σ κ a (.inr (n, .inr (.inr (va_up f i.toNatClampNeg (some v))))))) : At G M r Q X b pc ls (.ref v :: .int i :: .ref a :: st) σ := by
  intro p e s m args below meth c H locs lsA cells slots mb C hR hS hl hc hs
  obtain ⟨ws, hP, hD, hm, hu⟩ := hR
  obtain ⟨q0, hq⟩ := hm _ _ _ hO
  obtain ⟨q1, hq1⟩ := hm _ _ _ hV
  exact va_astqO C.hx C.hb C.K hP hD hS q0 t0 q1 ci (cA := gt G κ) (n := n) (f := f) (vs := vs) hq ht (C.ef.2.2.1 _ hw rfl) hq1 hc0 hin d (fun H1 locs1 hP1 hD1 hS1 => kk p e s m args below meth c H1 locs1 lsA cells slots mb C (Rp.set (e' := .inr (n, .inr (.inr (va_up f i.toNatClampNeg (some v))))) hm hu hO hq hP1 hD1) hS1 hl hc hs)
-- new things
theorem g_new {T : u_T} {C0 : String} {N ci index : Nat} {fs : List Value} (w : Nat) (d : decode M.2.1 pc = .ok (.new index, 3)) (hin : ∀ w ∈ u_ws C0 T N, w ∈ lw_all) (ty0 : Nat → FieldType) (hty : ∀ k, k < N → parseFieldDescriptor (T k).2.2.1 = some (ty0 k)) (hc0 : vwCl[ci]? = some (C0, T, N)) (hcl : Cond.classLink M.1.cls index C0 ∈ lw_all) (hins : Cond.instantiable C0 N ∈ lw_all) (hini : Cond.initialized C0 ∈ lw_all)
    (hfs : ∀ j, j < N → defaultValue (ty0 j) = vp_V fs j) (hN : N ≤ 24 * w) (hw1 : 1 ≤ w) (hb : w ≤ b) (kk : ∀ q : Nat, (∀ κ, σ κ q = none) → At G M r Q X (b - w) (pc + 3) ls (.ref q :: st) (up σ ci q (.inl fs))) : At G M r Q X b pc ls st σ := by
  intro p e s m args below meth c H locs lsA cells slots mb C hR hS hl hc hs
  obtain ⟨ws, hP, hD, hm, hu⟩ := hR
  refine va_new (D := gD G) (ci := ci) (fs := fs) C.hx C.hb C.ts hin ty0 hty C.own (C.ts _ hcl) (C.ts _ hins) (C.ts _ hini) C.K hP hD hS C.A hc0 hfs (by show cells + 1 ≤ mb; omega) (by show slots + N ≤ 24 * mb; omega) d (fun q H1 hP1 hD1 hS1 => ?_)
  obtain ⟨h1, h2⟩ := Rp.push (κ := ci) (e := .inl fs) hm hu hP1 hD1
  exact kk q h1 p e s m args below meth c H1 locs lsA _ _ mb C h2 hS1 hl (by omega) (by omega)
theorem gTys_one {U : State} {ty : FieldType} {cA cB : ClassId} (h1 : va_RA U cA ty) (h2 : va_RA U cB ty) : cA = cB := by
  cases ty with
  | object C =>
    obtain ⟨_, _, -, -, -, h1⟩ := h1
    obtain ⟨_, _, -, -, -, h2⟩ := h2
    exact Option.some.inj (h1.symm.trans h2)
  | _ => exact Option.some.inj ((show U.vm.findClass _ = some cA from h1).symm.trans h2)
theorem g_newa {κ t0 N : Nat} {n : Int32} {ty : FieldType} {atype : ArrayType} {x : (Nat → Int32) ⊕ ((Nat → Int64) ⊕ (Nat → Option Nat))} (w : Nat) (d : decode M.2.1 pc = .ok (.newarray atype, 2)) (harr : Cond.arrayClass (newarray.typeOf atype) ∈ lw_all) (hty : newarray.typeOf atype = ty) (ht : (gTys (gt G))[t0]? = some (gt G κ, ty))
    (hx : (ty = .int ∧ x = .inl (fun _ => 0)) ∨ (ty = .byte ∧ x = .inl (fun _ => 0)) ∨ (ty = .long ∧ x = .inr (.inl (fun _ => 0)))) (hn : ¬ n < 0) (hN : n.toNatClampNeg = N) (hbytes : N * componentBytes ty ≤ 536870912) (hN2 : N ≤ 24 * w) (hw1 : 1 ≤ w) (hb : w ≤ b)
    (kk : ∀ q : Nat, (∀ κ, σ κ q = none) → At G M r Q X (b - w) (pc + 2) ls (.ref q :: st) (up σ κ q (.inr (N, x)))) : At G M r Q X b pc ls (.int n :: st) σ := by
  intro p e s m args below meth c H locs lsA cells slots mb C hR hS hl hc hs
  obtain ⟨ws, hP, hD, hm, hu⟩ := hR
  obtain ⟨a0, ha, hce⟩ : ∃ a0 : vp_A, (∀ cA : ClassId, vp_cell cA a0 = arrV cA N (fun _ => defaultValue ty)) ∧ ∀ (q : Nat), ((q, ce (gt G) κ (.inr (N, x))) : Nat × va_E) = (q, .inl (gt G κ, a0)) := by
    rcases hx with ⟨rfl, rfl⟩ | ⟨rfl, rfl⟩ | ⟨rfl, rfl⟩
    · exact ⟨(N, .inl (fun _ => 0)), fun _ => rfl, fun _ => rfl⟩
    · exact ⟨(N, .inl (fun _ => 0)), fun _ => rfl, fun _ => rfl⟩
    · exact ⟨(N, .inr (.inl (fun _ => 0))), fun _ => rfl, fun _ => rfl⟩
  refine va_newa C.hx C.hb (C.ts _ harr) hty C.K hP hD hS C.A (a0 := a0) ha hn hN hbytes (by show cells + 1 ≤ mb; omega) (by show slots + N ≤ 24 * mb; omega) d (fun q cA H1 hK1 hP1 hD1 hS1 => ?_)
  have hcA : cA = gt G κ := gTys_one (hK1.2 (gTys (gt G)).length (cA, ty) (by rw [List.getElem?_append_right (Nat.le_refl _), Nat.sub_self]; rfl)).2 (C.K.2 t0 _ ht).2
  subst hcA
  rw [← hce q] at hP1 hD1
  obtain ⟨h1, h2⟩ := Rp.push (κ := κ) (e := .inr (N, x)) hm hu hP1 hD1
  exact kk q h1 p e s m args below meth c H1 locs lsA _ _ mb C h2 hS1 hl (by omega) (by omega)
theorem g_newq {κ t0 N index : Nat} {n : Int32} {E : String} (w : Nat) (d : decode M.2.1 pc = .ok (.anewarray index, 3)) (hcl : Cond.classLink M.1.cls index E ∈ lw_all) (hao : ∀ U, EF G U → va_AO E U) (ht : (gTys (gt G))[t0]? = some (gt G κ, .object E)) (hn : ¬ n < 0) (hN : n.toNatClampNeg = N) (hbytes : N * 4 ≤ 536870912) (hN2 : N ≤ 24 * w) (hw1 : 1 ≤ w) (hb : w ≤ b)
    (kk : ∀ q : Nat, (∀ κ, σ κ q = none) → At G M r Q X (b - w) (pc + 3) ls (.ref q :: st) (up σ κ q (.inr (N, .inr (.inr (fun _ => none)))))) : At G M r Q X b pc ls (.int n :: st) σ := by
  intro p e s m args below meth c H locs lsA cells slots mb C hR hS hl hc hs
  obtain ⟨ws, hP, hD, hm, hu⟩ := hR
  refine va_newq C.hx C.hb C.own (C.ts _ hcl) (hao s C.ef) C.K hP hD hS C.A hn hN hbytes (by show cells + 1 ≤ mb; omega) (by show slots + N ≤ 24 * mb; omega) d (fun q cA H1 hK1 hP1 hD1 hS1 => ?_)
  have hcA : cA = gt G κ := gTys_one (hK1.2 (gTys (gt G)).length (cA, .object E) (by rw [List.getElem?_append_right (Nat.le_refl _), Nat.sub_self]; rfl)).2 (C.K.2 t0 _ ht).2
  subst hcA
  obtain ⟨h1, h2⟩ := Rp.push (κ := κ) (e := .inr (N, .inr (.inr (fun _ => none)))) hm hu hP1 hD1
  exact kk q h1 p e s m args below meth c H1 locs lsA _ _ mb C h2 hS1 hl (by omega) (by omega)
-- Object.<init>
theorem g_objInit {a index : Nat} (d : decode M.2.1 pc = .ok (.invokespecial index, 3)) (hl0 : Cond.methodLink M.1.cls index Lib.objectInit ∈ lw_all) (h1 : Cond.instanceMethod Lib.objectInit ∈ lw_all) (h2 : Cond.code Lib.objectInit ⟨#[0xb1]⟩ 1 none ∈ lw_all) (hr : 1 ≤ r) (hst : (st.map fun v => v.category).sum ≤ 8)
    (kk : At G M r Q X b (pc + 3) ls st σ) : At G M r Q X b pc ls (.ref a :: st) σ := by
  intro p e s m args below meth c H locs lsA cells slots mb C hR hS hl hc hs
  refine W.objInit C.hx C.hb C.own (C.ts _ hl0) (C.ts _ h1) (C.ts _ h2) rfl (by rw [C.ml]; exact hl.1) rfl d (by show 1 ≤ r; exact hr) (by show 2 * 0 + _ + 12 ≤ 100 * r; omega) ?_
  exact W.eq (g2 := F0 m (pc + 3) lsA st) rfl (kk p e s m args below meth c H locs lsA cells slots mb C hR hS hl hc hs)
/-- behind a call -/
theorem g_ret3 {p : Program} {e : Env} {s : State} {m : MethodId} {args : Array Value} {below : List Frame} {meth : Method} {c : Code} {H : Heap} {locs : List Loc} {lsA : Array Slot} {cells slots mb bc mc9 : Nat} {Qc : Option Value → PS → Prop} {Xc : String → Nat → PS → Prop} {a : Array Value} {rest st0 : List Value} {Z : State → Prop} (hr : vx_Run p (gl G) e (rmO r mb) s m args below meth c H locs cells slots bc mc9 (F0 m pc lsA st0) rest (gQ G Qc a) (gX G Xc) (gA G)) (hS : va_S (gA G) s.heap H locs)
    (kx : ∀ (E : String) (q : Nat) (ce : Cell) (σ' : PS) (H1 : Heap) (locs1 : List Loc), Xc E q σ' → Rp G σ' H1 → va_S (gA G) s.heap H1 locs1 → H1[q]? = some ce → ce.vm = .none → s.vm.findClass E = some ce.cls → vx_W p (gl G) e (rmO r mb) s m args below meth c H1 locs1 (cells + bc) (slots + mc9) Z (F0 m pc lsA rest) q)
    (kk : ∀ (v : Option Value) (σ' : PS) (H1 : Heap) (locs1 : List Loc), Qc v σ' → Rp G σ' H1 → va_S (gA G) s.heap H1 locs1 → W p (gl G) e (rmO r mb) s m args below meth c H1 locs1 (cells + bc) (slots + mc9) Z (F0 m (pc + 3) lsA (v.toList ++ rest))) : W p (gl G) e (rmO r mb) s m args below meth c H locs cells slots Z (F0 m pc lsA st0) := by
  intro T hT X0
  rcases hr T hT X0 with ⟨v, st₀, t, T', L, h0, X', hL, e1, e2, ⟨⟨v', σ', hv, hq, hRp⟩, hF⟩, st⟩ | ⟨q, st₀, t, T', L, E, ce, h0, X', hL, e1, e2, ⟨⟨σ', hx, hRp⟩, hF⟩, hce, hcv, hcl, st⟩
  · cases hv
    obtain ⟨k1, k2, k3⟩ := vx_keep h0 e1 hS (fun _ _ h => h) (fun _ h => h) hL hF
    obtain ⟨t2, a1, b1⟩ := kk _ σ' T'.heap (locs ++ L) hq (by rw [e1]; exact hRp) k3 T' rfl X'
    exact ⟨t2, st t2 a1, b1⟩
  · obtain ⟨k1, k2, k3⟩ := vx_keep h0 e1 hS (fun _ _ h => h) (fun _ h => h) hL hF
    obtain ⟨t2, a1, b1⟩ := kx E q ce σ' T'.heap (locs ++ L) hx (by rw [e1]; exact hRp) k3 (by rw [e1]; exact hce) hcv hcl T' rfl X'
    exact ⟨t2, st.trans a1, b1⟩
theorem g_ret5 {p : Program} {e : Env} {s : State} {m : MethodId} {args : Array Value} {below : List Frame} {meth : Method} {c : Code} {H : Heap} {locs : List Loc} {lsA : Array Slot} {cells slots mb bc mc9 : Nat} {Qc : Option Value → PS → Prop} {Xc : String → Nat → PS → Prop} {a : Array Value} {rest st0 : List Value} {Z : State → Prop} (hr : vx_Run5 p (gl G) e (rmO r mb) s m args below meth c H locs cells slots bc mc9 (F0 m pc lsA st0) rest (gQ G Qc a) (gX G Xc) (gA G)) (hS : va_S (gA G) s.heap H locs)
    (kx : ∀ (E : String) (q : Nat) (ce : Cell) (σ' : PS) (H1 : Heap) (locs1 : List Loc), Xc E q σ' → Rp G σ' H1 → va_S (gA G) s.heap H1 locs1 → H1[q]? = some ce → ce.vm = .none → s.vm.findClass E = some ce.cls → vx_W p (gl G) e (rmO r mb) s m args below meth c H1 locs1 (cells + bc) (slots + mc9) Z (F0 m pc lsA rest) q)
    (kk : ∀ (v : Option Value) (σ' : PS) (H1 : Heap) (locs1 : List Loc), Qc v σ' → Rp G σ' H1 → va_S (gA G) s.heap H1 locs1 → W p (gl G) e (rmO r mb) s m args below meth c H1 locs1 (cells + bc) (slots + mc9) Z (F0 m (pc + 5) lsA (v.toList ++ rest))) : W p (gl G) e (rmO r mb) s m args below meth c H locs cells slots Z (F0 m pc lsA st0) := by
  intro T hT X0
  rcases hr T hT X0 with ⟨v, st₀, t, T', L, h0, X', hL, e1, e2, ⟨⟨v', σ', hv, hq, hRp⟩, hF⟩, st⟩ | ⟨q, st₀, t, T', L, E, ce, h0, X', hL, e1, e2, ⟨⟨σ', hx, hRp⟩, hF⟩, hce, hcv, hcl, st⟩
  · cases hv
    obtain ⟨k1, k2, k3⟩ := vx_keep h0 e1 hS (fun _ _ h => h) (fun _ h => h) hL hF
    obtain ⟨t2, a1, b1⟩ := kk _ σ' T'.heap (locs ++ L) hq (by rw [e1]; exact hRp) k3 T' rfl X'
    exact ⟨t2, st t2 a1, b1⟩
  · obtain ⟨k1, k2, k3⟩ := vx_keep h0 e1 hS (fun _ _ h => h) (fun _ h => h) hL hF
    obtain ⟨t2, a1, b1⟩ := kx E q ce σ' T'.heap (locs ++ L) hx (by rw [e1]; exact hRp) k3 (by rw [e1]; exact hce) hcv hcl T' rfl X'
    exact ⟨t2, st.trans a1, b1⟩
/-- what a method's start asks, at a call -/
theorem g_pre {s : State} {H : Heap} {locs : List Loc} {av : List Value} (hR : Rp G σ H) (hS : va_S (gA G) s.heap H locs) (hE : EF G s) : FrameBlind (va_Pc av (fun U => Rp G σ U.heap ∧ EF G U)) ∧ ∀ U : State, U.heap = H → s.WarmedH U.vm → va_Pc av (fun U => Rp G σ U.heap ∧ EF G U) av.toArray U :=
  ⟨fun _ _ g mk h => ⟨h.1, h.2.1, EF.calling g mk _ h.2.2⟩, fun U hU hW => ⟨rfl, by rw [hU]; exact hR, hE.next hS hU hW⟩⟩
theorem g_recv {s : State} {H : Heap} {ci a : Nat} {q : vw_C} {fs : List Value} (hK : va_K (gD G) vwCl (gTys (gt G)) s) (hR : Rp G σ H) (hc0 : vwCl[ci]? = some q) (hO : Ob σ ci a fs) : ∃ cell : Cell, H[a]? = some cell ∧ cell.vm.isStatics = false ∧ s.vm.findClass q.1 = some cell.cls := by
  obtain ⟨ws, hP, hD, hm, hu⟩ := hR
  obtain ⟨q0, hq⟩ := hm _ _ _ hO
  exact va_recv hK hP hc0 hq
abbrev MOK (N : MD) (n : Nat) : Prop := N.1.cls ≠ "java/lang/invoke/MethodHandle" ∧ N.1.cls ≠ "java/lang/invoke/VarHandle" ∧ (parseMethodDescriptor N.1.desc).map (fun d => d.parameters.length) = some n
/-- a virtual call of a method of the receiver's own class -/
theorem g_callV {N : MD} {rc bc idx a ci n : Nat} {q : vw_C} {fs : List Value} {As : List Value} {Qc : Option Value → PS → Prop} {Xc : String → Nat → PS → Prop} (d : decode M.2.1 pc = .ok (.invokevirtual idx, 3)) (hw : wsM N = ws_ N.1 N.2.1 N.2.2.1 N.2.2.2.1) (hG : GoodIn lw_all (wsV M.1.cls idx q.1 N.1 (ws_ N.1 N.2.1 N.2.2.1 N.2.2.2.1))) (hcl : N.1.cls = q.1) (hd : MOK N n) (hn : As.length = n) (hc0 : vwCl[ci]? = some q) (hr : rc + 1 ≤ r) (hml : N.2.2.1 ≤ 81) (hb : bc ≤ b) (hst : (st.map fun v => v.category).sum ≤ 8)
    (hO : Ob σ ci a fs) (hC : Call G N rc bc (.ref a :: As) σ Qc Xc) (kx : ∀ E q σ', Xc E q σ' → AtX G M r Q X (b - bc) pc ls E q σ') (kk : ∀ v σ', Qc v σ' → At G M r Q X (b - bc) (pc + 3) ls (v.toList ++ st) σ') : At G M r Q X b pc ls (As.reverse ++ .ref a :: st) σ := by
  intro p e s m args below meth c H locs lsA cells slots mb C hR hS hl hc hs
  unfold Call at hC
  rw [hw] at hC
  obtain ⟨h1, h2⟩ := g_pre (av := .ref a :: As) hR hS C.ef
  refine g_ret3 (vx_runV (As := As) (rest := st) ⟨C.hx, C.hb, C.ml, C.own, C.ts⟩ hC (cwV n C.ts hG rfl rfl rfl ⟨hcl, hd⟩ ⟨hr, by show 8 + (N.2.2.1 + 11) + 100 * rc ≤ 100 * r; omega⟩) ⟨h1, g_recv C.K hR hc0 hO, h2⟩ rfl hn hl.1 rfl (lv_room hst) d ⟨by show cells + bc ≤ mb; omega, by show slots + 24 * bc ≤ 24 * mb; omega⟩) hS ?_ ?_
  · intro E q ce σ' H1 locs1 hx hR1 hS1 g1 g2 g3
    exact kx E q σ' hx p e s m args below meth c H1 locs1 lsA _ _ mb ce st C hR1 hS1 hl (by omega) (by omega) g1 g2 g3
  · intro v σ' H1 locs1 hq hR1 hS1
    exact kk v σ' hq p e s m args below meth c H1 locs1 lsA _ _ mb C hR1 hS1 hl (by omega) (by omega)
/-- the same, of a method with handlers -/
theorem g_callVX {N : MD} {rc bc idx a ci n : Nat} {q : vw_C} {fs : List Value} {As : List Value} {Qc : Option Value → PS → Prop} {Xc : String → Nat → PS → Prop} (d : decode M.2.1 pc = .ok (.invokevirtual idx, 3)) (hw : wsM N = wsW_ N.1 N.2.1 N.2.2.1 N.2.2.2.1 N.2.2.2.2) (hG : GoodIn lw_all (wsV M.1.cls idx q.1 N.1 (wsW_ N.1 N.2.1 N.2.2.1 N.2.2.2.1 N.2.2.2.2))) (hcl : N.1.cls = q.1) (hd : MOK N n) (hn : As.length = n) (hc0 : vwCl[ci]? = some q) (hr : rc + 1 ≤ r) (hml : N.2.2.1 ≤ 81) (hb : bc ≤ b) (hst : (st.map fun v => v.category).sum ≤ 8)
    (hO : Ob σ ci a fs) (hC : Call G N rc bc (.ref a :: As) σ Qc Xc) (kx : ∀ E q σ', Xc E q σ' → AtX G M r Q X (b - bc) pc ls E q σ') (kk : ∀ v σ', Qc v σ' → At G M r Q X (b - bc) (pc + 3) ls (v.toList ++ st) σ') : At G M r Q X b pc ls (As.reverse ++ .ref a :: st) σ := by
  intro p e s m args below meth c H locs lsA cells slots mb C hR hS hl hc hs
  unfold Call at hC
  rw [hw] at hC
  obtain ⟨h1, h2⟩ := g_pre (av := .ref a :: As) hR hS C.ef
  refine g_ret3 (vx_runVX (As := As) (rest := st) ⟨C.hx, C.hb, C.ml, C.own, C.ts⟩ hC (vx_cwVW n C.ts hG rfl rfl rfl ⟨hcl, hd⟩ ⟨hr, by show 8 + (N.2.2.1 + 11) + 100 * rc ≤ 100 * r; omega⟩) ⟨h1, g_recv C.K hR hc0 hO, h2⟩ rfl hn hl.1 rfl (lv_room hst) d ⟨by show cells + bc ≤ mb; omega, by show slots + 24 * bc ≤ 24 * mb; omega⟩) hS ?_ ?_
  · intro E q ce σ' H1 locs1 hx hR1 hS1 g1 g2 g3
    exact kx E q σ' hx p e s m args below meth c H1 locs1 lsA _ _ mb ce st C hR1 hS1 hl (by omega) (by omega) g1 g2 g3
  · intro v σ' H1 locs1 hq hR1 hS1
    exact kk v σ' hq p e s m args below meth c H1 locs1 lsA _ _ mb C hR1 hS1 hl (by omega) (by omega)
theorem g_callS {N : MD} {rc bc idx n : Nat} {As : List Value} {Qc : Option Value → PS → Prop} {Xc : String → Nat → PS → Prop} (d : decode M.2.1 pc = .ok (.invokestatic idx, 3)) (hw : wsM N = ws_ N.1 N.2.1 N.2.2.1 N.2.2.2.1) (hG : GoodIn lw_all (va_wsS M.1.cls idx N.1 (ws_ N.1 N.2.1 N.2.2.1 N.2.2.2.1))) (hd : MOK N n) (hn : As.length = n) (hr : rc + 1 ≤ r) (hml : N.2.2.1 ≤ 81) (hb : bc ≤ b) (hst : (st.map fun v => v.category).sum ≤ 8)
    (hC : Call G N rc bc As σ Qc Xc) (kx : ∀ E q σ', Xc E q σ' → AtX G M r Q X (b - bc) pc ls E q σ') (kk : ∀ v σ', Qc v σ' → At G M r Q X (b - bc) (pc + 3) ls (v.toList ++ st) σ') : At G M r Q X b pc ls (As.reverse ++ st) σ := by
  intro p e s m args below meth c H locs lsA cells slots mb C hR hS hl hc hs
  unfold Call at hC
  rw [hw] at hC
  refine g_ret3 (vx_runS (As := As) (rest := st) ⟨C.hx, C.hb, C.ml, C.own, C.ts⟩ hC (va_cwS n C.ts hG rfl rfl rfl hd ⟨hr, by show 8 + (N.2.2.1 + 11) + 100 * rc ≤ 100 * r; omega⟩) (g_pre (av := As) hR hS C.ef) rfl hn hl.1 rfl (lv_room hst) d ⟨by show cells + bc ≤ mb; omega, by show slots + 24 * bc ≤ 24 * mb; omega⟩) hS ?_ ?_
  · intro E q ce σ' H1 locs1 hx hR1 hS1 g1 g2 g3
    exact kx E q σ' hx p e s m args below meth c H1 locs1 lsA _ _ mb ce st C hR1 hS1 hl (by omega) (by omega) g1 g2 g3
  · intro v σ' H1 locs1 hq hR1 hS1
    exact kk v σ' hq p e s m args below meth c H1 locs1 lsA _ _ mb C hR1 hS1 hl (by omega) (by omega)
theorem g_callSX {N : MD} {rc bc idx n : Nat} {As : List Value} {Qc : Option Value → PS → Prop} {Xc : String → Nat → PS → Prop} (d : decode M.2.1 pc = .ok (.invokestatic idx, 3)) (hw : wsM N = wsW_ N.1 N.2.1 N.2.2.1 N.2.2.2.1 N.2.2.2.2) (hG : GoodIn lw_all (va_wsS M.1.cls idx N.1 (wsW_ N.1 N.2.1 N.2.2.1 N.2.2.2.1 N.2.2.2.2))) (hd : MOK N n) (hn : As.length = n) (hr : rc + 1 ≤ r) (hml : N.2.2.1 ≤ 81) (hb : bc ≤ b) (hst : (st.map fun v => v.category).sum ≤ 8)
    (hC : Call G N rc bc As σ Qc Xc) (kx : ∀ E q σ', Xc E q σ' → AtX G M r Q X (b - bc) pc ls E q σ') (kk : ∀ v σ', Qc v σ' → At G M r Q X (b - bc) (pc + 3) ls (v.toList ++ st) σ') : At G M r Q X b pc ls (As.reverse ++ st) σ := by
  intro p e s m args below meth c H locs lsA cells slots mb C hR hS hl hc hs
  unfold Call at hC
  rw [hw] at hC
  refine g_ret3 (vx_runSX (As := As) (rest := st) ⟨C.hx, C.hb, C.ml, C.own, C.ts⟩ hC (vx_cwSW n C.ts hG rfl rfl rfl hd ⟨hr, by show 8 + (N.2.2.1 + 11) + 100 * rc ≤ 100 * r; omega⟩) (g_pre (av := As) hR hS C.ef) rfl hn hl.1 rfl (lv_room hst) d ⟨by show cells + bc ≤ mb; omega, by show slots + 24 * bc ≤ 24 * mb; omega⟩) hS ?_ ?_
  · intro E q ce σ' H1 locs1 hx hR1 hS1 g1 g2 g3
    exact kx E q σ' hx p e s m args below meth c H1 locs1 lsA _ _ mb ce st C hR1 hS1 hl (by omega) (by omega) g1 g2 g3
  · intro v σ' H1 locs1 hq hR1 hS1
    exact kk v σ' hq p e s m args below meth c H1 locs1 lsA _ _ mb C hR1 hS1 hl (by omega) (by omega)
/-- a constructor -/
theorem g_callI {N : MD} {rc bc idx a n : Nat} {As : List Value} {Qc : Option Value → PS → Prop} {Xc : String → Nat → PS → Prop} (d : decode M.2.1 pc = .ok (.invokespecial idx, 3)) (hw : wsM N = ws_ N.1 N.2.1 N.2.2.1 none) (hcd : Cond.code N.1 N.2.1 N.2.2.1 none ∈ lw_all) (hini : Cond.initialized N.1.cls ∈ lw_all) (hlk : Cond.methodLink M.1.cls idx N.1 ∈ lw_all) (him : Cond.instanceMethod N.1 ∈ lw_all) (hnm : N.1.name = "<init>") (hd : MOK N n) (hn : As.length = n) (hr : rc + 1 ≤ r) (hml : N.2.2.1 ≤ 81) (hb : bc ≤ b) (hst : (st.map fun v => v.category).sum ≤ 8)
    (hC : Call G N rc bc (.ref a :: As) σ Qc Xc) (kx : ∀ E q σ', Xc E q σ' → AtX G M r Q X (b - bc) pc ls E q σ') (kk : ∀ v σ', Qc v σ' → At G M r Q X (b - bc) (pc + 3) ls (v.toList ++ st) σ') : At G M r Q X b pc ls (As.reverse ++ .ref a :: st) σ := by
  intro p e s m args below meth c H locs lsA cells slots mb C hR hS hl hc hs
  unfold Call at hC
  rw [hw] at hC
  refine g_ret3 (vx_runI (As := As) (rest := st) ⟨C.hx, C.hb, C.ml, C.own, C.ts⟩ hC (cwI n C.ts (lw_meth hcd) rfl rfl rfl (C.ts _ hini) (C.ts _ hlk) (C.ts _ him) hnm hd ⟨hr, by show 8 + (N.2.2.1 + 11) + 100 * rc ≤ 100 * r; omega⟩) (g_pre (av := .ref a :: As) hR hS C.ef) rfl hn hl.1 rfl (lv_room hst) d ⟨by show cells + bc ≤ mb; omega, by show slots + 24 * bc ≤ 24 * mb; omega⟩) hS ?_ ?_
  · intro E q ce σ' H1 locs1 hx hR1 hS1 g1 g2 g3
    exact kx E q σ' hx p e s m args below meth c H1 locs1 lsA _ _ mb ce st C hR1 hS1 hl (by omega) (by omega) g1 g2 g3
  · intro v σ' H1 locs1 hq hR1 hS1
    exact kk v σ' hq p e s m args below meth c H1 locs1 lsA _ _ mb C hR1 hS1 hl (by omega) (by omega)
/-- a private constructor of a nest mate -/
theorem g_callIN {N : MD} {rc bc idx a n : Nat} {host : String} {As : List Value} {Qc : Option Value → PS → Prop} {Xc : String → Nat → PS → Prop} (d : decode M.2.1 pc = .ok (.invokespecial idx, 3)) (hw : wsM N = ws_ N.1 N.2.1 N.2.2.1 none) (hcd : Cond.code N.1 N.2.1 N.2.2.1 none ∈ lw_all) (hini : Cond.initialized N.1.cls ∈ lw_all) (hlk : Cond.methodLinkNest M.1.cls idx N.1 host ∈ lw_tbl) (him : Cond.instanceMethod N.1 ∈ lw_all) (hnm : N.1.name = "<init>") (hd : MOK N n) (hn : As.length = n) (hr : rc + 1 ≤ r) (hml : N.2.2.1 ≤ 81) (hb : bc ≤ b) (hst : (st.map fun v => v.category).sum ≤ 8)
    (hC : Call G N rc bc (.ref a :: As) σ Qc Xc) (kx : ∀ E q σ', Xc E q σ' → AtX G M r Q X (b - bc) pc ls E q σ') (kk : ∀ v σ', Qc v σ' → At G M r Q X (b - bc) (pc + 3) ls (v.toList ++ st) σ') : At G M r Q X b pc ls (As.reverse ++ .ref a :: st) σ := by
  intro p e s m args below meth c H locs lsA cells slots mb C hR hS hl hc hs
  unfold Call at hC
  rw [hw] at hC
  refine g_ret3 (vx_runIN (As := As) (rest := st) ⟨C.hx, C.hb, C.ml, C.own, C.ts⟩ hC ⟨va_cnB n C.ts (lw_meth hcd) rfl rfl rfl (C.ef.2.2.1 _ hlk rfl) (C.ts _ hini) hd ⟨hr, by show 8 + (N.2.2.1 + 11) + 100 * rc ≤ 100 * r; omega⟩, hnm, C.ts _ him⟩ (g_pre (av := .ref a :: As) hR hS C.ef) rfl hn hl.1 rfl (lv_room hst) d ⟨by show cells + bc ≤ mb; omega, by show slots + 24 * bc ≤ 24 * mb; omega⟩) hS ?_ ?_
  · intro E q ce σ' H1 locs1 hx hR1 hS1 g1 g2 g3
    exact kx E q σ' hx p e s m args below meth c H1 locs1 lsA _ _ mb ce st C hR1 hS1 hl (by omega) (by omega) g1 g2 g3
  · intro v σ' H1 locs1 hq hR1 hS1
    exact kk v σ' hq p e s m args below meth c H1 locs1 lsA _ _ mb C hR1 hS1 hl (by omega) (by omega)

/-- a virtual call of an inherited method -/
theorem g_callU {N : MD} {rc bc idx a ci n : Nat} {x : MethodName} {owner : String} {q : vw_C} {fs : List Value} {As : List Value} {Qc : Option Value → PS → Prop} {Xc : String → Nat → PS → Prop} (d : decode M.2.1 pc = .ok (.invokevirtual idx, 3)) (hw : wsM N = ws_ N.1 N.2.1 N.2.2.1 N.2.2.2.1) (hG : GoodIn lw_all (va_wsU M.1.cls idx q.1 owner x N.1 (ws_ N.1 N.2.1 N.2.2.1 N.2.2.2.1))) (hyx : N.1 = ⟨owner, x.name, x.desc⟩ ∨ Cond.declares ⟨owner, x.name, x.desc⟩ ∈ lw_tbl)
    (hd : owner ≠ "java/lang/invoke/MethodHandle" ∧ owner ≠ "java/lang/invoke/VarHandle" ∧ (parseMethodDescriptor x.desc).map (fun d => d.parameters.length) = some n) (hn : As.length = n) (hc0 : vwCl[ci]? = some q) (hr : rc + 1 ≤ r) (hml : N.2.2.1 ≤ 81) (hb : bc ≤ b) (hst : (st.map fun v => v.category).sum ≤ 8)
    (hO : Ob σ ci a fs) (hC : Call G N rc bc (.ref a :: As) σ Qc Xc) (kx : ∀ E q σ', Xc E q σ' → AtX G M r Q X (b - bc) pc ls E q σ') (kk : ∀ v σ', Qc v σ' → At G M r Q X (b - bc) (pc + 3) ls (v.toList ++ st) σ') : At G M r Q X b pc ls (As.reverse ++ .ref a :: st) σ := by
  intro p e s m args below meth c H locs lsA cells slots mb C hR hS hl hc hs
  unfold Call at hC
  rw [hw] at hC
  obtain ⟨h1, h2⟩ := g_pre (av := .ref a :: As) hR hS C.ef
  have cw : va_CU (rmO r mb) s args M.1.cls q.1 owner idx x N.1 N.2.1 N.2.2.1 N.2.2.2.1 (ws_ N.1 N.2.1 N.2.2.1 N.2.2.2.1) (rmO rc bc) bc (24 * bc) n := by
    have hR9 : (rmO rc bc).frames + 1 ≤ (rmO r mb).frames ∧ 8 + (N.2.2.1 + 11) + (rmO rc bc).locals ≤ (rmO r mb).locals := ⟨hr, by show 8 + (N.2.2.1 + 11) + 100 * rc ≤ 100 * r; omega⟩
    rcases hyx with hyx | hz
    · exact va_cwU n C.ts hG rfl rfl rfl hyx hd hR9
    · exact va_cwA n C.ts hG rfl rfl rfl (C.ef.2.2.1 _ hz rfl) hd hR9
  refine g_ret3 (vx_runU (As := As) (rest := st) ⟨C.hx, C.hb, C.ml, C.own, C.ts⟩ hC cw ⟨h1, g_recv C.K hR hc0 hO, h2⟩ rfl hn hl.1 rfl (lv_room hst) d ⟨by show cells + bc ≤ mb; omega, by show slots + 24 * bc ≤ 24 * mb; omega⟩) hS ?_ ?_
  · intro E q ce σ' H1 locs1 hx hR1 hS1 g1 g2 g3
    exact kx E q σ' hx p e s m args below meth c H1 locs1 lsA _ _ mb ce st C hR1 hS1 hl (by omega) (by omega) g1 g2 g3
  · intro v σ' H1 locs1 hq hR1 hS1
    exact kk v σ' hq p e s m args below meth c H1 locs1 lsA _ _ mb C hR1 hS1 hl (by omega) (by omega)
/-- a call by the interface Term -/
theorem g_callF {N : MD} {rc bc idx cnt a ci n : Nat} {q : vw_C} {fs : List Value} {As : List Value} {Qc : Option Value → PS → Prop} {Xc : String → Nat → PS → Prop} (d : decode M.2.1 pc = .ok (.invokeinterface idx cnt, 5)) (hw : wsM N = ws_ N.1 N.2.1 N.2.2.1 N.2.2.2.1) (hG : GoodIn lw_all (va_wsF M.1.cls idx q.1 yTerm N.1 (ws_ N.1 N.2.1 N.2.2.1 N.2.2.2.1))) (hF : ∀ U, EF G U → va_Fw q.1 yTerm N.1 U) (hn : As.length = 1) (hc0 : vwCl[ci]? = some q) (hr : rc + 1 ≤ r) (hml : N.2.2.1 ≤ 81) (hb : bc ≤ b) (hst : (st.map fun v => v.category).sum ≤ 8)
    (hO : Ob σ ci a fs) (hC : Call G N rc bc (.ref a :: As) σ Qc Xc) (kx : ∀ E q σ', Xc E q σ' → AtX G M r Q X (b - bc) pc ls E q σ') (kk : ∀ v σ', Qc v σ' → At G M r Q X (b - bc) (pc + 5) ls (v.toList ++ st) σ') : At G M r Q X b pc ls (As.reverse ++ .ref a :: st) σ := by
  intro p e s m args below meth c H locs lsA cells slots mb C hR hS hl hc hs
  unfold Call at hC
  rw [hw] at hC
  obtain ⟨h1, h2⟩ := g_pre (av := .ref a :: As) hR hS C.ef
  have cw : va_CI (rmO r mb) s args M.1.cls q.1 idx yTerm N.1 N.2.1 N.2.2.1 N.2.2.2.1 (ws_ N.1 N.2.1 N.2.2.1 N.2.2.2.1) (rmO rc bc) bc (24 * bc) 1 :=
    va_cwF 1 C.ts hG rfl rfl rfl (hF s C.ef) (by decide +kernel) ⟨hr, by show 8 + (N.2.2.1 + 11) + 100 * rc ≤ 100 * r; omega⟩
  refine g_ret5 (vx_runF (As := As) (rest := st) (C.K.1 ci q hc0).2 ⟨C.hx, C.hb, C.ml, C.own, C.ts⟩ hC cw ⟨h1, g_recv C.K hR hc0 hO, h2⟩ rfl hn hl.1 rfl (lv_room hst) d ⟨by show cells + bc ≤ mb; omega, by show slots + 24 * bc ≤ 24 * mb; omega⟩) hS ?_ ?_
  · intro E q ce σ' H1 locs1 hx hR1 hS1 g1 g2 g3
    exact kx E q σ' hx p e s m args below meth c H1 locs1 lsA _ _ mb ce st C hR1 hS1 hl (by omega) (by omega) g1 g2 g3
  · intro v σ' H1 locs1 hq hR1 hS1
    exact kk v σ' hq p e s m args below meth c H1 locs1 lsA _ _ mb C hR1 hS1 hl (by omega) (by omega)
-- exceptions in flight
/-- no row of the table takes it: it leaves -/
theorem AtX.out {E : String} {q : Nat} (hp : ∀ x ∈ tableOf M.2.2.2.2, covers x pc = false) (h : X E q σ) : AtX G M r Q X b pc ls E q σ := by
  intro p e s m args below meth c H locs lsA cells slots mb ce rest C hR hS hl hc hs h1 h2 h3
  exact vx_out (by rw [C.tab]; exact hp) C.locks h1 h2 h3 (fun t ht hv => ⟨⟨σ, h, by rw [ht]; exact hR⟩, hS.F ht⟩) hS.2.2 (by omega) (by omega)
theorem AtX.out0 {E : String} {q : Nat} (hp : M.2.2.2.2 = []) (h : X E q σ) : AtX G M r Q X b pc ls E q σ := AtX.out (by rw [hp]; intro x hx; cases hx) h
theorem AtX.never {E : String} {q : Nat} (h : False) : AtX G M r Q X b pc ls E q σ := h.elim
/-- the row x takes it, those ahead don't -/
theorem AtX.catch {E name : String} {q : Nat} (pre : List ExceptionTableEntry) (x : ExceptionTableEntry) (suf : List ExceptionTableEntry) (hsplit : tableOf M.2.2.2.2 = pre ++ x :: suf) (hpass : ∀ z ∈ pre, covers z pc = false ∨ (z.catchType ≠ 0 ∧ ∃ nm : String, Cond.classLink M.1.cls z.catchType nm ∈ lw_all ∧ ∀ U, EF G U → va_Nc E nm U)) (hx : covers x pc = true) (h0 : x.catchType ≠ 0)
    (hlink : Cond.classLink M.1.cls x.catchType name ∈ lw_all) (hcast : Cond.castable E name ∈ lw_tbl) (k : At G M r Q X b x.handlerPc ls [.ref q] σ) : AtX G M r Q X b pc ls E q σ := by
  intro p e s m args below meth c H locs lsA cells slots mb ce rest C hR hS hl hc hs h1 h2 h3
  exact vx_catch C.own pre x suf (by rw [C.tab]; exact hsplit) (fun z hz => (hpass z hz).imp id (fun ⟨a1, nm, a2, a3⟩ => ⟨a1, nm, C.ts _ a2, a3 s C.ef⟩)) hx h0 (C.ts _ hlink) (C.nw hcast rfl rfl) h1 h2 h3 (k p e s m args below meth c H locs lsA cells slots mb C hR hS hl hc hs)
theorem g_athrow {E : String} {ci q : Nat} {w : vw_C} {fs : List Value} (d : decode M.2.1 pc = .ok (.athrow, 1)) (hc0 : vwCl[ci]? = some w) (hE : w.1 = E) (hO : Ob σ ci q fs) (k : AtX G M r Q X b pc ls E q σ) : At G M r Q X b pc ls (.ref q :: st) σ := by
  intro p e s m args below meth c H locs lsA cells slots mb C hR hS hl hc hs
  have hR0 := hR
  obtain ⟨ws, hP, hD, hm, hu⟩ := hR
  obtain ⟨q0, hq⟩ := hm _ _ _ hO
  obtain ⟨q', g0, cell, g1, g2, g3, -⟩ := hP q0 _ hq
  exact vx_athrow C.hx C.hb d (k p e s m args below meth c H locs lsA cells slots mb cell st C hR0 hS hl hc hs g1 g3 (by rw [g2, ← hE]; exact (C.K.1 ci w hc0).2.1))
/-- throw new E() of the JDK's, out of a method without a table -/
theorem g_throw0 {cls : String} {names : List String} {ik ic : Nat} (hh : M.2.2.2.2 = []) (hcls : Bundle.fit cls = true) (hnames : ∀ n ∈ names, Bundle.fit n = true) (hk : Cond.classLink M.1.cls ik cls ∈ lw_all) (hini : Cond.initialized cls ∈ lw_all) (hat : ∀ w ∈ vx_at0 M.1.cls ic cls names, w ∈ lw_all ∨ (w ∈ lw_tbl ∧ nwK w = true ∧ w.onTables = true))
    (hgood : ∀ w ∈ Cond.classLink M.1.cls ik cls :: Cond.initialized cls :: vx_at0 M.1.cls ic cls names, vx_ot w = true)
    (d0 : decode M.2.1 pc = .ok (.new ik, 3)) (d3 : decode M.2.1 (pc + 3) = .ok (.dup, 1)) (d4 : decode M.2.1 (pc + 4) = .ok (.invokespecial ic, 3)) (d7 : decode M.2.1 (pc + 7) = .ok (.athrow, 1)) (hr : names.length + 4 ≤ r) (hst : (st.map fun v => v.category).sum ≤ 8) (hb : 1 ≤ b)
    (h : ∀ q, X cls q σ) : At G M r Q X b pc ls st σ := by
  intro p e s m args below meth c H locs lsA cells slots mb C hR hS hl hc hs
  have htab : c.exceptionTable.toList = [] := by rw [C.tab, hh]; rfl
  refine vx_throw0 (A := gA G) (mc := mb) (ms := 24 * mb) C.hx C.hb C.nt C.own hcls hnames (C.ts _ hk) (C.ts _ hini) (fun w hw => (hat w hw).elim (C.ts _) (fun z => C.nw z.1 z.2.1 z.2.2)) hgood C.ef.2.2.2.2.2.2.2.2.1 C.ef.2.2.2.2.2.2.2.2.2.1 hS (by rw [C.ml]; exact hl.1) d0 d3 d4 d7 (by rw [htab]; intro x hx; cases hx) (by show names.length + 3 < r; omega) (by show _ ≤ 100 * r; omega) (by show cells + 1 ≤ mb; omega) (by show slots + 6 ≤ 24 * mb; omega) C.locks ?_ hS.2.2 (by omega) (by omega)
  intro q9 t hv hsz hk9
  refine ⟨⟨σ, h q9, ?_⟩, Nat.le_trans hS.1 hsz, fun q h1 h2 => (hk9 q (Nat.lt_of_lt_of_le h1 hS.1)).trans (hS.2.1 q h1 h2)⟩
  obtain ⟨ws, hP, hD, hm, hu⟩ := hR
  exact ⟨ws, hP.kept (fun k q hq => hk9 q.1 ((hP k q hq).lt)), hD, hm, hu⟩
-- statics that are read
theorem g_gets {C0 n0 d0 : String} {v : Value} {index : Nat} (d : decode M.2.1 pc = .ok (.getstatic index, 3)) (hZ : ∀ U, EF G U → va_Z C0 n0 d0 v (gA G) U U.heap) (hw : Cond.fieldLink M.1.cls index C0 n0 d0 ∈ lw_all) (kk : At G M r Q X b (pc + 3) ls (v :: st) σ) : At G M r Q X b pc ls st σ := by
  intro p e s m args below meth c H locs lsA cells slots mb C hR hS hl hc hs
  exact va_gets C.hx C.hb (hZ s C.ef) hS C.own (C.ts _ hw) (fun _ h => h) d (kk p e s m args below meth c H locs lsA cells slots mb C hR hS hl hc hs)
theorem g_getsq {C0 n0 d0 : String} {index : Nat} (d : decode M.2.1 pc = .ok (.getstatic index, 3)) (hZ : ∀ U, EF G U → va_Zq C0 n0 d0 (gA G) U U.heap) (hw : Cond.fieldLink M.1.cls index C0 n0 d0 ∈ lw_all) (kk : ∀ x : Option Nat, At G M r Q X b (pc + 3) ls (va_rf x :: st) σ) : At G M r Q X b pc ls st σ := by
  intro p e s m args below meth c H locs lsA cells slots mb C hR hS hl hc hs
  rcases hZ s C.ef with h | ⟨t, h⟩
  · exact va_gets C.hx C.hb h hS C.own (C.ts _ hw) (fun _ h => h) d (kk none p e s m args below meth c H locs lsA cells slots mb C hR hS hl hc hs)
  · exact va_gets C.hx C.hb h hS C.own (C.ts _ hw) (fun _ h => h) d (kk (some t) p e s m args below meth c H locs lsA cells slots mb C hR hS hl hc hs)
-- string constants
theorem g_ldcS {index : Nat} (i : Nat) {q : String × Nat × String × List Int32} (d : decode M.2.1 pc = .ok (.ldc index, 2)) (hi : strTab[i]? = some q) (h1 : q.1 = M.1.cls) (h2 : q.2.1 = index) (kk : At G M r Q X b (pc + 2) ls (.ref (gk G i) :: st) σ) : At G M r Q X b pc ls st σ := by
  intro p e s m args below meth c H locs lsA cells slots mb C hR hS hl hc hs
  have hZ := (C.ef.2.2.2.2.2.1 i q hi).1
  rw [h1, h2] at hZ
  exact va_ldcS C.hx C.hb C.own hZ d (kk p e s m args below meth c H locs lsA cells slots mb C hR hS hl hc hs)
theorem g_ldcSw {index : Nat} (i : Nat) {q : String × Nat × String × List Int32} (d : decode M.2.1 pc = .ok (.ldc_w index, 3)) (hi : strTab[i]? = some q) (h1 : q.1 = M.1.cls) (h2 : q.2.1 = index) (kk : At G M r Q X b (pc + 3) ls (.ref (gk G i) :: st) σ) : At G M r Q X b pc ls st σ := by
  intro p e s m args below meth c H locs lsA cells slots mb C hR hS hl hc hs
  have hZ := (C.ef.2.2.2.2.2.1 i q hi).1
  rw [h1, h2] at hZ
  intro T hT X0
  obtain ⟨t, a1, b1⟩ := kk p e s m args below meth c H locs lsA cells slots mb C hR hS hl hc hs T hT X0
  have st1 := X0.ldcStringW C.hx C.own (text := q.2.2.1) (a := gk G i) hZ.1 hZ.2 (g := F0 m pc lsA st) rfl (by rw [C.hb]; exact d) t
  exact ⟨t, st1 a1, b1⟩
-- System.arraycopy of whole ranges
theorem g_copyi {a a0 n0 n1 idx : Nat} {f g : Nat → Int32} {sp dp n : Int32} (d : decode M.2.1 pc = .ok (.invokestatic idx, 3)) (hl0 : Cond.methodLink M.1.cls idx arraycopyName ∈ lw_all) (h1 : Cond.native arraycopyName ∈ lw_all) (h2 : Cond.static arraycopyName ∈ lw_all) (h3 : Cond.initialized "java/lang/System" ∈ lw_all)
    (hO0 : Ia σ 100 a0 n0 f) (hO1 : Ia σ 100 a n1 g) (g1 : ¬ sp < 0) (g2 : ¬ dp < 0) (g3 : ¬ n < 0) (g4 : sp.toNatClampNeg + n.toNatClampNeg ≤ n0) (g5 : dp.toNatClampNeg + n.toNatClampNeg ≤ n1) (hr : 1 ≤ r) (hst : (st.map fun v => v.category).sum ≤ 8)
    (kk : At G M r Q X b (pc + 3) ls st (up σ 100 a (.inr (n1, .inl (va_cpy f g sp.toNatClampNeg dp.toNatClampNeg n.toNatClampNeg))))) : At G M r Q X b pc ls (.int n :: .int dp :: .ref a :: .int sp :: .ref a0 :: st) σ := by
  intro p e s m args below meth c H locs lsA cells slots mb C hR hS hl hc hs
  obtain ⟨ws, hP, hD, hm, hu⟩ := hR
  obtain ⟨q0, hq0⟩ := hm _ _ _ hO0
  obtain ⟨q1, hq1⟩ := hm _ _ _ hO1
  have hnf : nativeFrameWords "java/lang/System" "arraycopy" 5 ≤ 60 := by decide +kernel
  exact va_copyi C.hx C.hb (by rw [C.ml]; exact hl.1.symm) C.own (C.ts _ hl0) (C.ts _ h1) (C.ts _ h2) (C.ts _ h3) C.K hP hD hS q0 q1 0 0 (c0 := gt G 100) (c1 := gt G 100) (f := f) (g := g) hq0 hq1 rfl rfl rfl g1 g2 g3 g4 g5 (fun _ _ => rfl) (by show 1 ≤ r; exact hr) (by show _ ≤ 100 * r; omega) d (fun H1 locs1 hP1 hD1 hS1 => kk p e s m args below meth c H1 locs1 lsA cells slots mb C (Rp.set (e' := .inr (n1, .inl (va_cpy f g sp.toNatClampNeg dp.toNatClampNeg n.toNatClampNeg))) hm hu hO1 hq1 hP1 hD1) hS1 hl hc hs)
/-- of references to objects of one class, between arrays of that class -/
theorem g_copyq {κ a a0 n0 n1 idx t0 ci : Nat} {w : vw_C} {f g : Nat → Option Nat} {sp dp n : Int32} (d : decode M.2.1 pc = .ok (.invokestatic idx, 3)) (hl0 : Cond.methodLink M.1.cls idx arraycopyName ∈ lw_all) (h1 : Cond.native arraycopyName ∈ lw_all) (h2 : Cond.static arraycopyName ∈ lw_all) (h3 : Cond.initialized "java/lang/System" ∈ lw_all)
    (ht : (gTys (gt G))[t0]? = some (gt G κ, .object w.1)) (hc0 : vwCl[ci]? = some w) (hO0 : Qa σ κ a0 n0 f) (hO1 : Qa σ κ a n1 g) (hel : ∀ i y, f i = some y → ∃ fs, Ob σ ci y fs) (g1 : ¬ sp < 0) (g2 : ¬ dp < 0) (g3 : ¬ n < 0) (g4 : sp.toNatClampNeg + n.toNatClampNeg ≤ n0) (g5 : dp.toNatClampNeg + n.toNatClampNeg ≤ n1) (hr : 1 ≤ r) (hst : (st.map fun v => v.category).sum ≤ 8)
    (kk : At G M r Q X b (pc + 3) ls st (up σ κ a (.inr (n1, .inr (.inr (va_cpy f g sp.toNatClampNeg dp.toNatClampNeg n.toNatClampNeg)))))) : At G M r Q X b pc ls (.int n :: .int dp :: .ref a :: .int sp :: .ref a0 :: st) σ := by
  intro p e s m args below meth c H locs lsA cells slots mb C hR hS hl hc hs
  have hR0 := hR
  obtain ⟨ws, hP, hD, hm, hu⟩ := hR
  obtain ⟨q0, hq0⟩ := hm _ _ _ hO0
  obtain ⟨q1, hq1⟩ := hm _ _ _ hO1
  have hnf : nativeFrameWords "java/lang/System" "arraycopy" 5 ≤ 60 := by decide +kernel
  refine va_copyq C.hx C.hb (by rw [C.ml]; exact hl.1.symm) C.own (C.ts _ hl0) (C.ts _ h1) (C.ts _ h2) (C.ts _ h3) C.K hP hD hS q0 q1 t0 t0 (c0 := gt G κ) (c1 := gt G κ) (f := f) (g := g) (C := w.1) hq0 hq1 ht ht g1 g2 g3 g4 g5 (fun i _ y hy => ?_) (fun comp c0 e1 e2 => ?_) (by show 1 ≤ r; exact hr) (by show _ ≤ 100 * r; omega) d (fun H1 locs1 hP1 hD1 hS1 => kk p e s m args below meth c H1 locs1 lsA cells slots mb C (Rp.set (e' := .inr (n1, .inr (.inr (va_cpy f g sp.toNatClampNeg dp.toNatClampNeg n.toNatClampNeg)))) hm hu hO1 hq1 hP1 hD1) hS1 hl hc hs)
  · obtain ⟨fs, hy9⟩ := hel _ _ hy
    exact g_recv C.K hR0 hc0 hy9
  · cases e1.symm.trans e2
    have h9 := (C.K.1 ci w hc0).2
    cases h9.1.symm.trans e2
    exact va_assign h9
-- a string constant's fields and bytes
theorem g_strV {i index : Nat} {q : String × Nat × String × List Int32} (d : decode M.2.1 pc = .ok (.getfield index, 3)) (hi : strTab[i]? = some q) (hw : Cond.fieldLink M.1.cls index "java/lang/String" "value" "[B" ∈ lw_all) (kk : At G M r Q X b (pc + 3) ls (.ref (gv G i) :: st) σ) : At G M r Q X b pc ls (.ref (gk G i) :: st) σ := by
  intro p e s m args below meth c H locs lsA cells slots mb C hR hS hl hc hs
  exact vk_getf C.hx C.hb (C.ef.2.2.2.2.2.1 i q hi).2.2.2.1 hS C.own (C.ts _ hw) (fun _ h => h) d (kk p e s m args below meth c H locs lsA cells slots mb C hR hS hl hc hs)
theorem g_strC {i index : Nat} {q : String × Nat × String × List Int32} (d : decode M.2.1 pc = .ok (.getfield index, 3)) (hi : strTab[i]? = some q) (hw : Cond.fieldLink M.1.cls index "java/lang/String" "coder" "B" ∈ lw_all) (kk : At G M r Q X b (pc + 3) ls (.int 0 :: st) σ) : At G M r Q X b pc ls (.ref (gk G i) :: st) σ := by
  intro p e s m args below meth c H locs lsA cells slots mb C hR hS hl hc hs
  exact vk_getf C.hx C.hb (C.ef.2.2.2.2.2.1 i q hi).2.2.1 hS C.own (C.ts _ hw) (fun _ h => h) d (kk p e s m args below meth c H locs lsA cells slots mb C hR hS hl hc hs)
theorem g_strL {i : Nat} {q : String × Nat × String × List Int32} (d : decode M.2.1 pc = .ok (.arraylength, 1)) (hi : strTab[i]? = some q) (kk : At G M r Q X b (pc + 1) ls (.int (nI q.2.2.2.length) :: st) σ) : At G M r Q X b pc ls (.ref (gv G i) :: st) σ := by
  intro p e s m args below meth c H locs lsA cells slots mb C hR hS hl hc hs
  exact va_tlen C.hx C.hb (C.ef.2.2.2.2.2.1 i q hi).2.2.2.2 hS rfl d (kk p e s m args below meth c H locs lsA cells slots mb C hR hS hl hc hs)
theorem g_strB {i : Nat} {j : Int32} {q : String × Nat × String × List Int32} (d : decode M.2.1 pc = .ok (.baload, 1)) (hi : strTab[i]? = some q) (hin : vp_in j q.2.2.2.length) (kk : At G M r Q X b (pc + 1) ls (.int (q.2.2.2.getD j.toNatClampNeg 0) :: st) σ) : At G M r Q X b pc ls (.int j :: .ref (gv G i) :: st) σ := by
  intro p e s m args below meth c H locs lsA cells slots mb C hR hS hl hc hs
  exact va_tb C.hx C.hb (C.ef.2.2.2.2.2.1 i q hi).2.2.2.2 hS hin rfl d (kk p e s m args below meth c H locs lsA cells slots mb C hR hS hl hc hs)
theorem g_callStr {N : MD} {rc idx i n : Nat} {q : String × Nat × String × List Int32} {As : List Value} {P : Option Value → PS → Prop} (d : decode M.2.1 pc = .ok (.invokevirtual idx, 3)) (hw : wsM N = ws_ N.1 N.2.1 N.2.2.1 N.2.2.2.1) (hG : GoodIn lw_all (wsV M.1.cls idx "java/lang/String" N.1 (ws_ N.1 N.2.1 N.2.2.1 N.2.2.2.1))) (hcl : N.1.cls = "java/lang/String") (hd : MOK N n) (hn : As.length = n) (hi : strTab[i]? = some q) (hr : rc + 1 ≤ r) (hml : N.2.2.1 ≤ 81) (hst : (st.map fun v => v.category).sum ≤ 8)
    (hC : Call G N rc 0 (.ref (gk G i) :: As) σ P (fun _ _ _ => False)) (kk : ∀ v σ', P v σ' → At G M r Q X b (pc + 3) ls (v.toList ++ st) σ') : At G M r Q X b pc ls (As.reverse ++ .ref (gk G i) :: st) σ := by
  intro p e s m args below meth c H locs lsA cells slots mb C hR hS hl hc hs
  unfold Call at hC
  rw [hw] at hC
  obtain ⟨h1, h2⟩ := g_pre (av := .ref (gk G i) :: As) hR hS C.ef
  have hrec := va_Orecv (C.ef.2.2.2.2.2.1 i q hi).2.1 hS
  refine g_ret3 (vx_runV (As := As) (rest := st) ⟨C.hx, C.hb, C.ml, C.own, C.ts⟩ hC (cwV n C.ts hG rfl rfl rfl ⟨hcl, hd⟩ ⟨hr, by show 8 + (N.2.2.1 + 11) + 100 * rc ≤ 100 * r; omega⟩) ⟨h1, hrec, h2⟩ rfl hn hl.1 rfl (lv_room hst) d ⟨by show cells + 0 ≤ mb; omega, by show slots + 24 * 0 ≤ 24 * mb; omega⟩) hS ?_ ?_
  · intro E q ce σ' H1 locs1 hx hR1 hS1 g1 g2 g3
    exact hx.elim
  · intro v σ' H1 locs1 hq hR1 hS1
    exact kk v σ' hq p e s m args below meth c H1 locs1 lsA _ _ mb C hR1 hS1 hl (by omega) (by omega)
theorem g_iald0 {a n j : Nat} {f : Nat → Int32} {i : Int32} (d : decode M.2.1 pc = .ok (.iaload, 1)) (hO : Ia σ 100 a n f) (hi : ¬ i < 0) (hj : i.toNatClampNeg = j) (hn : j < n)
    (kk : At G M r Q X b (pc + 1) ls (.int (f j) :: st) σ) : At G M r Q X b pc ls (.int i :: .ref a :: st) σ := by
  subst hj
  exact g_iald d hO (fun h => h.elim hi (fun z => by omega)) kk
theorem g_iast0 {a n j : Nat} {f : Nat → Int32} {i x : Int32} (d : decode M.2.1 pc = .ok (.iastore, 1)) (hO : Ia σ 100 a n f) (hi : ¬ i < 0) (hj : i.toNatClampNeg = j) (hn : j < n)
    (kk : At G M r Q X b (pc + 1) ls st (up σ 100 a (.inr (n, .inl (upd f j x))))) : At G M r Q X b pc ls (.int x :: .int i :: .ref a :: st) σ := by
  subst hj
  exact g_iast d hO (fun h => h.elim hi (fun z => by omega)) kk
end ROWS
