set_option maxRecDepth 100000
/-! the law's body -/
def mL (nm : String) (hh : List (Nat × Nat × Nat × Nat)) : MD := (⟨"CardCupsLaw", nm, "([I)Z"⟩, cL_law, 8, some .boolean, hh)
theorem g_slen {G : GC} {M : MD} {r : Nat} {Q : Option Value → PS → Prop} {X : String → Nat → PS → Prop} {b pc : Nat} {ls : List (Nat × Value)} {st : List Value} {σ : PS} (d : decode M.2.1 pc = .ok (.arraylength, 1)) (kk : At G M r Q X b (pc + 1) ls (.int (nI (gsL G)) :: st) σ) : At G M r Q X b pc ls (.ref (gsb G) :: st) σ := by
  intro p e s m args below meth c H locs lsA cells slots mb C hR hS hl hc hs
  exact va_tlen C.hx C.hb C.ef.2.2.2.2.2.2.2.2.2.2.2.2 hS rfl d (kk p e s m args below meth c H locs lsA cells slots mb C hR hS hl hc hs)
theorem g_sld {G : GC} {M : MD} {r : Nat} {Q : Option Value → PS → Prop} {X : String → Nat → PS → Prop} {b pc : Nat} {ls : List (Nat × Value)} {st : List Value} {σ : PS} {j : Int32} (d : decode M.2.1 pc = .ok (.iaload, 1)) (hin : vp_in j (gsL G)) (kk : At G M r Q X b (pc + 1) ls (.int (gsx G j.toNatClampNeg) :: st) σ) : At G M r Q X b pc ls (.int j :: .ref (gsb G) :: st) σ := by
  intro p e s m args below meth c H locs lsA cells slots mb C hR hS hl hc hs
  exact va_ti C.hx C.hb C.ef.2.2.2.2.2.2.2.2.2.2.2.2 hS hin rfl d (kk p e s m args below meth c H locs lsA cells slots mb C hR hS hl hc hs)
set_option maxHeartbeats 4000000 in
theorem bL_law_0 {G : GC} {Q : Option Value → PS → Prop} {X : String → Nat → PS → Prop} {b : Nat} {nm : String} {hh : List (Nat × Nat × Nat × Nat)} {σ : PS} (h : 1 ≤ b ∧ (∀ q : Nat, (∀ κ, σ κ q = none) → (∀ s1 : PS, s1 = up (σ) 1 q (.inl [.null, .null, .null, .null, .null, .null, .null, .null, .null, .null, .null, .null, .null, .int 0, .int 0, .int 0, .int 0]) → ∃ bc : Nat, bc ≤ b - 1 ∧ Call G mX1_init 6 bc [.ref q] s1 (qV (fun s1_1 => 3 ≤ b - 1 - bc ∧ (∀ q_2 : Nat, (∀ κ, s1_1 κ q_2 = none) → (∀ s1_3 : PS, s1_3 = up s1_1 9 q_2 (.inl [.int 0, .null, .int 0, .int 0, .int 0, .int 0, .int 0, .int 0, .int 0, .null, .null, .null, .null, .null, .null, .null, .int 0, .int 0, .int 0, .int 0, .null, .null, .null, .null, .null, .null, .null, .null, .int 0, .int 0, .null, .null, .int 0, .null, .null, .int 0, .int 0, .null, .null, .null, .null, .long 0, .long 0, .int 0, .int 0, .int 0, .int 0, .int 0, .int 0, .int 0, .int 0, .int 0, .int 0, .int 0, .int 0, .int 0, .null, .int 0, .int 0, .int 0, .int 0, .null, .int 0, .null, .int 0]) → ∃ bc_4 : Nat, bc_4 ≤ b - 1 - bc - 3 ∧ Call G mX9_init 5 bc_4 [.ref q_2] s1_3 (qV (fun s1_5 => 1 ≤ b - 1 - bc - 3 - bc_4 ∧ (∀ q_6 : Nat, (∀ κ, s1_5 κ q_6 = none) → (∀ s1_7 : PS, s1_7 = up s1_5 101 q_6 (.inr (1, .inr (.inl (fun _ => 0)))) → At G (mL nm hh) 210 Q X (b - 1 - bc - 3 - bc_4 - 1) 23 [(0, .ref (gsb G)), (1, .ref q), (2, .ref q_2), (3, .ref q_6), (4, .int 0)] [] s1_7)))) (fun _ _ _ => False))))) (fun _ _ _ => False)))) : At G (mL nm hh) 210 Q X b 0 [(0, .ref (gsb G))] [] (σ) := by
  obtain ⟨hb, h⟩ := h
  refine g_new (ci := 1) (fs := [.null, .null, .null, .null, .null, .null, .null, .null, .null, .null, .null, .null, .null, .int 0, .int 0, .int 0, .int 0]) 1 dL_law_0 in_X1 tyX1 tyX1_ok cl1 q145 q146 q108 new1 (by decide) (by decide) hb (fun q hq => ?_)
  replace h := h q hq
  refine g_tops (fun s1 es1 => ?_)
  replace h := h s1 es1
  refine g_dup dL_law_3 rfl ?_
  obtain ⟨bc, hb9, h⟩ := h
  refine g_callI (N := mX1_init) (st := [.ref q]) (As := []) (a := q) dL_law_4 wsX1_init q149 q108 q147 q148 rfl mokX1_init rfl (by decide) (by decide) hb9 (by simp [Value.category]) h (fun E q s hx => AtX.never hx) (fun _ s1_1 hq => ?_)
  obtain ⟨rfl, h⟩ := hq
  refine At.stk (st' := [.ref q]) rfl ?_
  refine g_astore_n (ls1 := [(1, .ref q), (0, .ref (gsb G))]) dL_law_7 rfl (Nat.le_of_ble_eq_true rfl) rfl ?_
  obtain ⟨hb, h⟩ := h
  refine g_new (ci := 9) (fs := [.int 0, .null, .int 0, .int 0, .int 0, .int 0, .int 0, .int 0, .int 0, .null, .null, .null, .null, .null, .null, .null, .int 0, .int 0, .int 0, .int 0, .null, .null, .null, .null, .null, .null, .null, .null, .int 0, .int 0, .null, .null, .int 0, .null, .null, .int 0, .int 0, .null, .null, .null, .null, .long 0, .long 0, .int 0, .int 0, .int 0, .int 0, .int 0, .int 0, .int 0, .int 0, .int 0, .int 0, .int 0, .int 0, .int 0, .null, .int 0, .int 0, .int 0, .int 0, .null, .int 0, .null, .int 0]) 3 dL_law_8 in_X9 tyX9 tyX9_ok cl9 q1745 q1746 q116 new9 (by decide) (by decide) hb (fun q_2 hq => ?_)
  replace h := h q_2 hq
  refine g_tops (fun s1_3 es1_3 => ?_)
  replace h := h s1_3 es1_3
  refine g_dup dL_law_11 rfl ?_
  obtain ⟨bc_4, hb9, h⟩ := h
  refine g_callI (N := mX9_init) (st := [.ref q_2]) (As := []) (a := q_2) dL_law_12 wsX9_init q1749 q116 q1747 q1748 rfl mokX9_init rfl (by decide) (by decide) hb9 (by simp [Value.category]) h (fun E q s hx => AtX.never hx) (fun _ s1_5 hq => ?_)
  obtain ⟨rfl, h⟩ := hq
  refine At.stk (st' := [.ref q_2]) rfl ?_
  refine g_astore_n (ls1 := [(2, .ref q_2), (1, .ref q), (0, .ref (gsb G))]) dL_law_15 rfl (Nat.le_of_ble_eq_true rfl) rfl ?_
  refine g_iconst (v := 1) dL_law_16 (by decide) ?_
  obtain ⟨hb, h⟩ := h
  refine g_newa (κ := 101) (t0 := 1) (N := 1) (ty := .long) (atype := .long) (x := .inr (.inl (fun _ => 0))) 1 dL_law_17 q278 rfl rfl (Or.inr (Or.inr ⟨rfl, rfl⟩)) (by decide) (by decide) (Nat.le_of_ble_eq_true rfl) (by decide) (by decide) hb (fun q_6 hq => ?_)
  replace h := h q_6 hq
  refine g_tops (fun s1_7 es1_7 => ?_)
  replace h := h s1_7 es1_7
  refine g_astore_n (ls1 := [(3, .ref q_6), (2, .ref q_2), (1, .ref q), (0, .ref (gsb G))]) dL_law_19 rfl (Nat.le_of_ble_eq_true rfl) rfl ?_
  refine g_iconst (v := 0) dL_law_20 (by decide) ?_
  refine g_istore (ls1 := [(4, .int 0), (3, .ref q_6), (2, .ref q_2), (1, .ref q), (0, .ref (gsb G))]) dL_law_21 (Nat.le_of_ble_eq_true rfl) rfl ?_
  exact At.sub (ls := [(4, .int 0), (3, .ref q_6), (2, .ref q_2), (1, .ref q), (0, .ref (gsb G))]) [4, 3, 2, 1, 0] rfl h
set_option maxHeartbeats 4000000 in
theorem bL_law_23 {G : GC} {Q : Option Value → PS → Prop} {X : String → Nat → PS → Prop} {b : Nat} {nm : String} {hh : List (Nat × Nat × Nat × Nat)} {a1 : Nat} {a2 : Nat} {a3 : Nat} {x4 : Int32} {σ : PS} (h : ((((nI (gsL G)) - 6) < x4) → Q (some (.int 1)) (σ)) ∧ ((¬ ((nI (gsL G)) - 6) < x4) → vp_in x4 (gsL G) ∧ (((((gsx G x4.toNatClampNeg) &&& 63)).toInt < 0 ∨ 45 < (((gsx G x4.toNatClampNeg) &&& 63)).toInt → At G (mL nm hh) 210 Q X b 2703 [(0, .ref (gsb G)), (1, .ref a1), (2, .ref a2), (3, .ref a3), (4, .int x4)] [] (σ)) ∧ (((gsx G x4.toNatClampNeg) &&& 63) = 0 → At G (mL nm hh) 210 Q X b 240 [(0, .ref (gsb G)), (1, .ref a1), (2, .ref a2), (3, .ref a3), (4, .int x4)] [] (σ)) ∧ (((gsx G x4.toNatClampNeg) &&& 63) = 1 → At G (mL nm hh) 210 Q X b 313 [(0, .ref (gsb G)), (1, .ref a1), (2, .ref a2), (3, .ref a3), (4, .int x4)] [] (σ)) ∧ (((gsx G x4.toNatClampNeg) &&& 63) = 2 → At G (mL nm hh) 210 Q X b 369 [(0, .ref (gsb G)), (1, .ref a1), (2, .ref a2), (3, .ref a3), (4, .int x4)] [] (σ)) ∧ (((gsx G x4.toNatClampNeg) &&& 63) = 3 → At G (mL nm hh) 210 Q X b 437 [(0, .ref (gsb G)), (1, .ref a1), (2, .ref a2), (3, .ref a3), (4, .int x4)] [] (σ)) ∧ (((gsx G x4.toNatClampNeg) &&& 63) = 4 → At G (mL nm hh) 210 Q X b 493 [(0, .ref (gsb G)), (1, .ref a1), (2, .ref a2), (3, .ref a3), (4, .int x4)] [] (σ)) ∧ (((gsx G x4.toNatClampNeg) &&& 63) = 5 → At G (mL nm hh) 210 Q X b 549 [(0, .ref (gsb G)), (1, .ref a1), (2, .ref a2), (3, .ref a3), (4, .int x4)] [] (σ)) ∧ (((gsx G x4.toNatClampNeg) &&& 63) = 6 → At G (mL nm hh) 210 Q X b 562 [(0, .ref (gsb G)), (1, .ref a1), (2, .ref a2), (3, .ref a3), (4, .int x4)] [] (σ)) ∧ (((gsx G x4.toNatClampNeg) &&& 63) = 7 → At G (mL nm hh) 210 Q X b 618 [(0, .ref (gsb G)), (1, .ref a1), (2, .ref a2), (3, .ref a3), (4, .int x4)] [] (σ)) ∧ (((gsx G x4.toNatClampNeg) &&& 63) = 8 → At G (mL nm hh) 210 Q X b 686 [(0, .ref (gsb G)), (1, .ref a1), (2, .ref a2), (3, .ref a3), (4, .int x4)] [] (σ)) ∧ (((gsx G x4.toNatClampNeg) &&& 63) = 9 → At G (mL nm hh) 210 Q X b 754 [(0, .ref (gsb G)), (1, .ref a1), (2, .ref a2), (3, .ref a3), (4, .int x4)] [] (σ)) ∧ (((gsx G x4.toNatClampNeg) &&& 63) = 10 → At G (mL nm hh) 210 Q X b 810 [(0, .ref (gsb G)), (1, .ref a1), (2, .ref a2), (3, .ref a3), (4, .int x4)] [] (σ)) ∧ (((gsx G x4.toNatClampNeg) &&& 63) = 11 → At G (mL nm hh) 210 Q X b 866 [(0, .ref (gsb G)), (1, .ref a1), (2, .ref a2), (3, .ref a3), (4, .int x4)] [] (σ)) ∧ (((gsx G x4.toNatClampNeg) &&& 63) = 12 → At G (mL nm hh) 210 Q X b 933 [(0, .ref (gsb G)), (1, .ref a1), (2, .ref a2), (3, .ref a3), (4, .int x4)] [] (σ)) ∧ (((gsx G x4.toNatClampNeg) &&& 63) = 13 → At G (mL nm hh) 210 Q X b 1024 [(0, .ref (gsb G)), (1, .ref a1), (2, .ref a2), (3, .ref a3), (4, .int x4)] [] (σ)) ∧ (((gsx G x4.toNatClampNeg) &&& 63) = 14 → At G (mL nm hh) 210 Q X b 1080 [(0, .ref (gsb G)), (1, .ref a1), (2, .ref a2), (3, .ref a3), (4, .int x4)] [] (σ)) ∧ (((gsx G x4.toNatClampNeg) &&& 63) = 15 → At G (mL nm hh) 210 Q X b 1159 [(0, .ref (gsb G)), (1, .ref a1), (2, .ref a2), (3, .ref a3), (4, .int x4)] [] (σ)) ∧ (((gsx G x4.toNatClampNeg) &&& 63) = 16 → At G (mL nm hh) 210 Q X b 1214 [(0, .ref (gsb G)), (1, .ref a1), (2, .ref a2), (3, .ref a3), (4, .int x4)] [] (σ)) ∧ (((gsx G x4.toNatClampNeg) &&& 63) = 17 → At G (mL nm hh) 210 Q X b 1227 [(0, .ref (gsb G)), (1, .ref a1), (2, .ref a2), (3, .ref a3), (4, .int x4)] [] (σ)) ∧ (((gsx G x4.toNatClampNeg) &&& 63) = 18 → At G (mL nm hh) 210 Q X b 1294 [(0, .ref (gsb G)), (1, .ref a1), (2, .ref a2), (3, .ref a3), (4, .int x4)] [] (σ)) ∧ (((gsx G x4.toNatClampNeg) &&& 63) = 19 → At G (mL nm hh) 210 Q X b 1361 [(0, .ref (gsb G)), (1, .ref a1), (2, .ref a2), (3, .ref a3), (4, .int x4)] [] (σ)) ∧ (((gsx G x4.toNatClampNeg) &&& 63) = 20 → At G (mL nm hh) 210 Q X b 1416 [(0, .ref (gsb G)), (1, .ref a1), (2, .ref a2), (3, .ref a3), (4, .int x4)] [] (σ)) ∧ (((gsx G x4.toNatClampNeg) &&& 63) = 21 → At G (mL nm hh) 210 Q X b 1471 [(0, .ref (gsb G)), (1, .ref a1), (2, .ref a2), (3, .ref a3), (4, .int x4)] [] (σ)) ∧ (((gsx G x4.toNatClampNeg) &&& 63) = 22 → At G (mL nm hh) 210 Q X b 1550 [(0, .ref (gsb G)), (1, .ref a1), (2, .ref a2), (3, .ref a3), (4, .int x4)] [] (σ)) ∧ (((gsx G x4.toNatClampNeg) &&& 63) = 23 → At G (mL nm hh) 210 Q X b 1606 [(0, .ref (gsb G)), (1, .ref a1), (2, .ref a2), (3, .ref a3), (4, .int x4)] [] (σ)) ∧ (((gsx G x4.toNatClampNeg) &&& 63) = 24 → At G (mL nm hh) 210 Q X b 1685 [(0, .ref (gsb G)), (1, .ref a1), (2, .ref a2), (3, .ref a3), (4, .int x4)] [] (σ)) ∧ (((gsx G x4.toNatClampNeg) &&& 63) = 25 → At G (mL nm hh) 210 Q X b 1752 [(0, .ref (gsb G)), (1, .ref a1), (2, .ref a2), (3, .ref a3), (4, .int x4)] [] (σ)) ∧ (((gsx G x4.toNatClampNeg) &&& 63) = 26 → At G (mL nm hh) 210 Q X b 1819 [(0, .ref (gsb G)), (1, .ref a1), (2, .ref a2), (3, .ref a3), (4, .int x4)] [] (σ)) ∧ (((gsx G x4.toNatClampNeg) &&& 63) = 27 → At G (mL nm hh) 210 Q X b 1832 [(0, .ref (gsb G)), (1, .ref a1), (2, .ref a2), (3, .ref a3), (4, .int x4)] [] (σ)) ∧ (((gsx G x4.toNatClampNeg) &&& 63) = 28 → At G (mL nm hh) 210 Q X b 1845 [(0, .ref (gsb G)), (1, .ref a1), (2, .ref a2), (3, .ref a3), (4, .int x4)] [] (σ)) ∧ (((gsx G x4.toNatClampNeg) &&& 63) = 29 → At G (mL nm hh) 210 Q X b 1900 [(0, .ref (gsb G)), (1, .ref a1), (2, .ref a2), (3, .ref a3), (4, .int x4)] [] (σ)) ∧ (((gsx G x4.toNatClampNeg) &&& 63) = 30 → At G (mL nm hh) 210 Q X b 1967 [(0, .ref (gsb G)), (1, .ref a1), (2, .ref a2), (3, .ref a3), (4, .int x4)] [] (σ)) ∧ (((gsx G x4.toNatClampNeg) &&& 63) = 31 → At G (mL nm hh) 210 Q X b 2034 [(0, .ref (gsb G)), (1, .ref a1), (2, .ref a2), (3, .ref a3), (4, .int x4)] [] (σ)) ∧ (((gsx G x4.toNatClampNeg) &&& 63) = 32 → At G (mL nm hh) 210 Q X b 2047 [(0, .ref (gsb G)), (1, .ref a1), (2, .ref a2), (3, .ref a3), (4, .int x4)] [] (σ)) ∧ (((gsx G x4.toNatClampNeg) &&& 63) = 33 → At G (mL nm hh) 210 Q X b 2102 [(0, .ref (gsb G)), (1, .ref a1), (2, .ref a2), (3, .ref a3), (4, .int x4)] [] (σ)) ∧ (((gsx G x4.toNatClampNeg) &&& 63) = 34 → At G (mL nm hh) 210 Q X b 2181 [(0, .ref (gsb G)), (1, .ref a1), (2, .ref a2), (3, .ref a3), (4, .int x4)] [] (σ)) ∧ (((gsx G x4.toNatClampNeg) &&& 63) = 35 → At G (mL nm hh) 210 Q X b 2194 [(0, .ref (gsb G)), (1, .ref a1), (2, .ref a2), (3, .ref a3), (4, .int x4)] [] (σ)) ∧ (((gsx G x4.toNatClampNeg) &&& 63) = 36 → At G (mL nm hh) 210 Q X b 2274 [(0, .ref (gsb G)), (1, .ref a1), (2, .ref a2), (3, .ref a3), (4, .int x4)] [] (σ)) ∧ (((gsx G x4.toNatClampNeg) &&& 63) = 37 → At G (mL nm hh) 210 Q X b 2354 [(0, .ref (gsb G)), (1, .ref a1), (2, .ref a2), (3, .ref a3), (4, .int x4)] [] (σ)) ∧ (((gsx G x4.toNatClampNeg) &&& 63) = 38 → At G (mL nm hh) 210 Q X b 2422 [(0, .ref (gsb G)), (1, .ref a1), (2, .ref a2), (3, .ref a3), (4, .int x4)] [] (σ)) ∧ (((gsx G x4.toNatClampNeg) &&& 63) = 39 → At G (mL nm hh) 210 Q X b 2478 [(0, .ref (gsb G)), (1, .ref a1), (2, .ref a2), (3, .ref a3), (4, .int x4)] [] (σ)) ∧ (((gsx G x4.toNatClampNeg) &&& 63) = 40 → At G (mL nm hh) 210 Q X b 2546 [(0, .ref (gsb G)), (1, .ref a1), (2, .ref a2), (3, .ref a3), (4, .int x4)] [] (σ)) ∧ (((gsx G x4.toNatClampNeg) &&& 63) = 41 → At G (mL nm hh) 210 Q X b 2614 [(0, .ref (gsb G)), (1, .ref a1), (2, .ref a2), (3, .ref a3), (4, .int x4)] [] (σ)) ∧ (((gsx G x4.toNatClampNeg) &&& 63) = 42 → At G (mL nm hh) 210 Q X b 2627 [(0, .ref (gsb G)), (1, .ref a1), (2, .ref a2), (3, .ref a3), (4, .int x4)] [] (σ)) ∧ (((gsx G x4.toNatClampNeg) &&& 63) = 43 → At G (mL nm hh) 210 Q X b 2640 [(0, .ref (gsb G)), (1, .ref a1), (2, .ref a2), (3, .ref a3), (4, .int x4)] [] (σ)) ∧ (((gsx G x4.toNatClampNeg) &&& 63) = 44 → At G (mL nm hh) 210 Q X b 2653 [(0, .ref (gsb G)), (1, .ref a1), (2, .ref a2), (3, .ref a3), (4, .int x4)] [] (σ)) ∧ (((gsx G x4.toNatClampNeg) &&& 63) = 45 → At G (mL nm hh) 210 Q X b 2678 [(0, .ref (gsb G)), (1, .ref a1), (2, .ref a2), (3, .ref a3), (4, .int x4)] [] (σ))))) : At G (mL nm hh) 210 Q X b 23 [(0, .ref (gsb G)), (1, .ref a1), (2, .ref a2), (3, .ref a3), (4, .int x4)] [] (σ) := by
  refine g_iload dL_law_23 4 rfl ?_
  refine g_aload_n dL_law_25 rfl 0 rfl ?_
  refine g_slen dL_law_26 ?_
  refine g_bipush (v := 6) dL_law_27 (by decide) ?_
  refine g_isub dL_law_29 ?_
  refine g_icmp_gt (tgt := 2709) dL_law_30 (by decide) (fun c => ?_) (fun c => ?_)
  · replace h := h.1 c
    refine g_iconst (v := 1) dL_law_2709 (by decide) ?_
    exact g_zret rfl rfl dL_law_2710 h
  · replace h := h.2 c
    refine g_aload_n dL_law_33 rfl 0 rfl ?_
    refine g_iload dL_law_34 4 rfl ?_
    obtain ⟨h1, h⟩ := h
    refine g_sld dL_law_36 h1 ?_
    refine g_bipush (v := 63) dL_law_37 (by decide) ?_
    refine g_iand dL_law_39 ?_
    rcases tb_split (((gsx G x4.toNatClampNeg) &&& 63)) 0 46 with ho | ⟨i9, hi9, ex9⟩
    · refine g_tableOut (tgt := 2703) dL_law_40 (by omega) (by decide) ?_
      replace h := h.1 ho
      exact At.sub (ls := [(0, .ref (gsb G)), (1, .ref a1), (2, .ref a2), (3, .ref a3), (4, .int x4)]) [0, 1, 2, 3, 4] rfl h
    · replace h := h.2
      match i9, hi9, ex9 with
      | 0, _, ex9 =>
        have ex9 : ((gsx G x4.toNatClampNeg) &&& 63) = 0 := ex9.trans (by decide)
        replace h := h.1 ex9
        refine g_tableIn (tgt := 240) dL_law_40 (by rw [ex9]; decide) (by rw [ex9]; decide) (off := 200) (by rw [ex9]; decide) (by decide) ?_
        exact At.sub (ls := [(0, .ref (gsb G)), (1, .ref a1), (2, .ref a2), (3, .ref a3), (4, .int x4)]) [0, 1, 2, 3, 4] rfl h
      | 1, _, ex9 =>
        have ex9 : ((gsx G x4.toNatClampNeg) &&& 63) = 1 := ex9.trans (by decide)
        replace h := h.2.1 ex9
        refine g_tableIn (tgt := 313) dL_law_40 (by rw [ex9]; decide) (by rw [ex9]; decide) (off := 273) (by rw [ex9]; decide) (by decide) ?_
        exact At.sub (ls := [(0, .ref (gsb G)), (1, .ref a1), (2, .ref a2), (3, .ref a3), (4, .int x4)]) [0, 1, 2, 3, 4] rfl h
      | 2, _, ex9 =>
        have ex9 : ((gsx G x4.toNatClampNeg) &&& 63) = 2 := ex9.trans (by decide)
        replace h := h.2.2.1 ex9
        refine g_tableIn (tgt := 369) dL_law_40 (by rw [ex9]; decide) (by rw [ex9]; decide) (off := 329) (by rw [ex9]; decide) (by decide) ?_
        exact At.sub (ls := [(0, .ref (gsb G)), (1, .ref a1), (2, .ref a2), (3, .ref a3), (4, .int x4)]) [0, 1, 2, 3, 4] rfl h
      | 3, _, ex9 =>
        have ex9 : ((gsx G x4.toNatClampNeg) &&& 63) = 3 := ex9.trans (by decide)
        replace h := h.2.2.2.1 ex9
        refine g_tableIn (tgt := 437) dL_law_40 (by rw [ex9]; decide) (by rw [ex9]; decide) (off := 397) (by rw [ex9]; decide) (by decide) ?_
        exact At.sub (ls := [(0, .ref (gsb G)), (1, .ref a1), (2, .ref a2), (3, .ref a3), (4, .int x4)]) [0, 1, 2, 3, 4] rfl h
      | 4, _, ex9 =>
        have ex9 : ((gsx G x4.toNatClampNeg) &&& 63) = 4 := ex9.trans (by decide)
        replace h := h.2.2.2.2.1 ex9
        refine g_tableIn (tgt := 493) dL_law_40 (by rw [ex9]; decide) (by rw [ex9]; decide) (off := 453) (by rw [ex9]; decide) (by decide) ?_
        exact At.sub (ls := [(0, .ref (gsb G)), (1, .ref a1), (2, .ref a2), (3, .ref a3), (4, .int x4)]) [0, 1, 2, 3, 4] rfl h
      | 5, _, ex9 =>
        have ex9 : ((gsx G x4.toNatClampNeg) &&& 63) = 5 := ex9.trans (by decide)
        replace h := h.2.2.2.2.2.1 ex9
        refine g_tableIn (tgt := 549) dL_law_40 (by rw [ex9]; decide) (by rw [ex9]; decide) (off := 509) (by rw [ex9]; decide) (by decide) ?_
        exact At.sub (ls := [(0, .ref (gsb G)), (1, .ref a1), (2, .ref a2), (3, .ref a3), (4, .int x4)]) [0, 1, 2, 3, 4] rfl h
      | 6, _, ex9 =>
        have ex9 : ((gsx G x4.toNatClampNeg) &&& 63) = 6 := ex9.trans (by decide)
        replace h := h.2.2.2.2.2.2.1 ex9
        refine g_tableIn (tgt := 562) dL_law_40 (by rw [ex9]; decide) (by rw [ex9]; decide) (off := 522) (by rw [ex9]; decide) (by decide) ?_
        exact At.sub (ls := [(0, .ref (gsb G)), (1, .ref a1), (2, .ref a2), (3, .ref a3), (4, .int x4)]) [0, 1, 2, 3, 4] rfl h
      | 7, _, ex9 =>
        have ex9 : ((gsx G x4.toNatClampNeg) &&& 63) = 7 := ex9.trans (by decide)
        replace h := h.2.2.2.2.2.2.2.1 ex9
        refine g_tableIn (tgt := 618) dL_law_40 (by rw [ex9]; decide) (by rw [ex9]; decide) (off := 578) (by rw [ex9]; decide) (by decide) ?_
        exact At.sub (ls := [(0, .ref (gsb G)), (1, .ref a1), (2, .ref a2), (3, .ref a3), (4, .int x4)]) [0, 1, 2, 3, 4] rfl h
      | 8, _, ex9 =>
        have ex9 : ((gsx G x4.toNatClampNeg) &&& 63) = 8 := ex9.trans (by decide)
        replace h := h.2.2.2.2.2.2.2.2.1 ex9
        refine g_tableIn (tgt := 686) dL_law_40 (by rw [ex9]; decide) (by rw [ex9]; decide) (off := 646) (by rw [ex9]; decide) (by decide) ?_
        exact At.sub (ls := [(0, .ref (gsb G)), (1, .ref a1), (2, .ref a2), (3, .ref a3), (4, .int x4)]) [0, 1, 2, 3, 4] rfl h
      | 9, _, ex9 =>
        have ex9 : ((gsx G x4.toNatClampNeg) &&& 63) = 9 := ex9.trans (by decide)
        replace h := h.2.2.2.2.2.2.2.2.2.1 ex9
        refine g_tableIn (tgt := 754) dL_law_40 (by rw [ex9]; decide) (by rw [ex9]; decide) (off := 714) (by rw [ex9]; decide) (by decide) ?_
        exact At.sub (ls := [(0, .ref (gsb G)), (1, .ref a1), (2, .ref a2), (3, .ref a3), (4, .int x4)]) [0, 1, 2, 3, 4] rfl h
      | 10, _, ex9 =>
        have ex9 : ((gsx G x4.toNatClampNeg) &&& 63) = 10 := ex9.trans (by decide)
        replace h := h.2.2.2.2.2.2.2.2.2.2.1 ex9
        refine g_tableIn (tgt := 810) dL_law_40 (by rw [ex9]; decide) (by rw [ex9]; decide) (off := 770) (by rw [ex9]; decide) (by decide) ?_
        exact At.sub (ls := [(0, .ref (gsb G)), (1, .ref a1), (2, .ref a2), (3, .ref a3), (4, .int x4)]) [0, 1, 2, 3, 4] rfl h
      | 11, _, ex9 =>
        have ex9 : ((gsx G x4.toNatClampNeg) &&& 63) = 11 := ex9.trans (by decide)
        replace h := h.2.2.2.2.2.2.2.2.2.2.2.1 ex9
        refine g_tableIn (tgt := 866) dL_law_40 (by rw [ex9]; decide) (by rw [ex9]; decide) (off := 826) (by rw [ex9]; decide) (by decide) ?_
        exact At.sub (ls := [(0, .ref (gsb G)), (1, .ref a1), (2, .ref a2), (3, .ref a3), (4, .int x4)]) [0, 1, 2, 3, 4] rfl h
      | 12, _, ex9 =>
        have ex9 : ((gsx G x4.toNatClampNeg) &&& 63) = 12 := ex9.trans (by decide)
        replace h := h.2.2.2.2.2.2.2.2.2.2.2.2.1 ex9
        refine g_tableIn (tgt := 933) dL_law_40 (by rw [ex9]; decide) (by rw [ex9]; decide) (off := 893) (by rw [ex9]; decide) (by decide) ?_
        exact At.sub (ls := [(0, .ref (gsb G)), (1, .ref a1), (2, .ref a2), (3, .ref a3), (4, .int x4)]) [0, 1, 2, 3, 4] rfl h
      | 13, _, ex9 =>
        have ex9 : ((gsx G x4.toNatClampNeg) &&& 63) = 13 := ex9.trans (by decide)
        replace h := h.2.2.2.2.2.2.2.2.2.2.2.2.2.1 ex9
        refine g_tableIn (tgt := 1024) dL_law_40 (by rw [ex9]; decide) (by rw [ex9]; decide) (off := 984) (by rw [ex9]; decide) (by decide) ?_
        exact At.sub (ls := [(0, .ref (gsb G)), (1, .ref a1), (2, .ref a2), (3, .ref a3), (4, .int x4)]) [0, 1, 2, 3, 4] rfl h
      | 14, _, ex9 =>
        have ex9 : ((gsx G x4.toNatClampNeg) &&& 63) = 14 := ex9.trans (by decide)
        replace h := h.2.2.2.2.2.2.2.2.2.2.2.2.2.2.1 ex9
        refine g_tableIn (tgt := 1080) dL_law_40 (by rw [ex9]; decide) (by rw [ex9]; decide) (off := 1040) (by rw [ex9]; decide) (by decide) ?_
        exact At.sub (ls := [(0, .ref (gsb G)), (1, .ref a1), (2, .ref a2), (3, .ref a3), (4, .int x4)]) [0, 1, 2, 3, 4] rfl h
      | 15, _, ex9 =>
        have ex9 : ((gsx G x4.toNatClampNeg) &&& 63) = 15 := ex9.trans (by decide)
        replace h := h.2.2.2.2.2.2.2.2.2.2.2.2.2.2.2.1 ex9
        refine g_tableIn (tgt := 1159) dL_law_40 (by rw [ex9]; decide) (by rw [ex9]; decide) (off := 1119) (by rw [ex9]; decide) (by decide) ?_
        exact At.sub (ls := [(0, .ref (gsb G)), (1, .ref a1), (2, .ref a2), (3, .ref a3), (4, .int x4)]) [0, 1, 2, 3, 4] rfl h
      | 16, _, ex9 =>
        have ex9 : ((gsx G x4.toNatClampNeg) &&& 63) = 16 := ex9.trans (by decide)
        replace h := h.2.2.2.2.2.2.2.2.2.2.2.2.2.2.2.2.1 ex9
        refine g_tableIn (tgt := 1214) dL_law_40 (by rw [ex9]; decide) (by rw [ex9]; decide) (off := 1174) (by rw [ex9]; decide) (by decide) ?_
        exact At.sub (ls := [(0, .ref (gsb G)), (1, .ref a1), (2, .ref a2), (3, .ref a3), (4, .int x4)]) [0, 1, 2, 3, 4] rfl h
      | 17, _, ex9 =>
        have ex9 : ((gsx G x4.toNatClampNeg) &&& 63) = 17 := ex9.trans (by decide)
        replace h := h.2.2.2.2.2.2.2.2.2.2.2.2.2.2.2.2.2.1 ex9
        refine g_tableIn (tgt := 1227) dL_law_40 (by rw [ex9]; decide) (by rw [ex9]; decide) (off := 1187) (by rw [ex9]; decide) (by decide) ?_
        exact At.sub (ls := [(0, .ref (gsb G)), (1, .ref a1), (2, .ref a2), (3, .ref a3), (4, .int x4)]) [0, 1, 2, 3, 4] rfl h
      | 18, _, ex9 =>
        have ex9 : ((gsx G x4.toNatClampNeg) &&& 63) = 18 := ex9.trans (by decide)
        replace h := h.2.2.2.2.2.2.2.2.2.2.2.2.2.2.2.2.2.2.1 ex9
        refine g_tableIn (tgt := 1294) dL_law_40 (by rw [ex9]; decide) (by rw [ex9]; decide) (off := 1254) (by rw [ex9]; decide) (by decide) ?_
        exact At.sub (ls := [(0, .ref (gsb G)), (1, .ref a1), (2, .ref a2), (3, .ref a3), (4, .int x4)]) [0, 1, 2, 3, 4] rfl h
      | 19, _, ex9 =>
        have ex9 : ((gsx G x4.toNatClampNeg) &&& 63) = 19 := ex9.trans (by decide)
        replace h := h.2.2.2.2.2.2.2.2.2.2.2.2.2.2.2.2.2.2.2.1 ex9
        refine g_tableIn (tgt := 1361) dL_law_40 (by rw [ex9]; decide) (by rw [ex9]; decide) (off := 1321) (by rw [ex9]; decide) (by decide) ?_
        exact At.sub (ls := [(0, .ref (gsb G)), (1, .ref a1), (2, .ref a2), (3, .ref a3), (4, .int x4)]) [0, 1, 2, 3, 4] rfl h
      | 20, _, ex9 =>
        have ex9 : ((gsx G x4.toNatClampNeg) &&& 63) = 20 := ex9.trans (by decide)
        replace h := h.2.2.2.2.2.2.2.2.2.2.2.2.2.2.2.2.2.2.2.2.1 ex9
        refine g_tableIn (tgt := 1416) dL_law_40 (by rw [ex9]; decide) (by rw [ex9]; decide) (off := 1376) (by rw [ex9]; decide) (by decide) ?_
        exact At.sub (ls := [(0, .ref (gsb G)), (1, .ref a1), (2, .ref a2), (3, .ref a3), (4, .int x4)]) [0, 1, 2, 3, 4] rfl h
      | 21, _, ex9 =>
        have ex9 : ((gsx G x4.toNatClampNeg) &&& 63) = 21 := ex9.trans (by decide)
        replace h := h.2.2.2.2.2.2.2.2.2.2.2.2.2.2.2.2.2.2.2.2.2.1 ex9
        refine g_tableIn (tgt := 1471) dL_law_40 (by rw [ex9]; decide) (by rw [ex9]; decide) (off := 1431) (by rw [ex9]; decide) (by decide) ?_
        exact At.sub (ls := [(0, .ref (gsb G)), (1, .ref a1), (2, .ref a2), (3, .ref a3), (4, .int x4)]) [0, 1, 2, 3, 4] rfl h
      | 22, _, ex9 =>
        have ex9 : ((gsx G x4.toNatClampNeg) &&& 63) = 22 := ex9.trans (by decide)
        replace h := h.2.2.2.2.2.2.2.2.2.2.2.2.2.2.2.2.2.2.2.2.2.2.1 ex9
        refine g_tableIn (tgt := 1550) dL_law_40 (by rw [ex9]; decide) (by rw [ex9]; decide) (off := 1510) (by rw [ex9]; decide) (by decide) ?_
        exact At.sub (ls := [(0, .ref (gsb G)), (1, .ref a1), (2, .ref a2), (3, .ref a3), (4, .int x4)]) [0, 1, 2, 3, 4] rfl h
      | 23, _, ex9 =>
        have ex9 : ((gsx G x4.toNatClampNeg) &&& 63) = 23 := ex9.trans (by decide)
        replace h := h.2.2.2.2.2.2.2.2.2.2.2.2.2.2.2.2.2.2.2.2.2.2.2.1 ex9
        refine g_tableIn (tgt := 1606) dL_law_40 (by rw [ex9]; decide) (by rw [ex9]; decide) (off := 1566) (by rw [ex9]; decide) (by decide) ?_
        exact At.sub (ls := [(0, .ref (gsb G)), (1, .ref a1), (2, .ref a2), (3, .ref a3), (4, .int x4)]) [0, 1, 2, 3, 4] rfl h
      | 24, _, ex9 =>
        have ex9 : ((gsx G x4.toNatClampNeg) &&& 63) = 24 := ex9.trans (by decide)
        replace h := h.2.2.2.2.2.2.2.2.2.2.2.2.2.2.2.2.2.2.2.2.2.2.2.2.1 ex9
        refine g_tableIn (tgt := 1685) dL_law_40 (by rw [ex9]; decide) (by rw [ex9]; decide) (off := 1645) (by rw [ex9]; decide) (by decide) ?_
        exact At.sub (ls := [(0, .ref (gsb G)), (1, .ref a1), (2, .ref a2), (3, .ref a3), (4, .int x4)]) [0, 1, 2, 3, 4] rfl h
      | 25, _, ex9 =>
        have ex9 : ((gsx G x4.toNatClampNeg) &&& 63) = 25 := ex9.trans (by decide)
        replace h := h.2.2.2.2.2.2.2.2.2.2.2.2.2.2.2.2.2.2.2.2.2.2.2.2.2.1 ex9
        refine g_tableIn (tgt := 1752) dL_law_40 (by rw [ex9]; decide) (by rw [ex9]; decide) (off := 1712) (by rw [ex9]; decide) (by decide) ?_
        exact At.sub (ls := [(0, .ref (gsb G)), (1, .ref a1), (2, .ref a2), (3, .ref a3), (4, .int x4)]) [0, 1, 2, 3, 4] rfl h
      | 26, _, ex9 =>
        have ex9 : ((gsx G x4.toNatClampNeg) &&& 63) = 26 := ex9.trans (by decide)
        replace h := h.2.2.2.2.2.2.2.2.2.2.2.2.2.2.2.2.2.2.2.2.2.2.2.2.2.2.1 ex9
        refine g_tableIn (tgt := 1819) dL_law_40 (by rw [ex9]; decide) (by rw [ex9]; decide) (off := 1779) (by rw [ex9]; decide) (by decide) ?_
        exact At.sub (ls := [(0, .ref (gsb G)), (1, .ref a1), (2, .ref a2), (3, .ref a3), (4, .int x4)]) [0, 1, 2, 3, 4] rfl h
      | 27, _, ex9 =>
        have ex9 : ((gsx G x4.toNatClampNeg) &&& 63) = 27 := ex9.trans (by decide)
        replace h := h.2.2.2.2.2.2.2.2.2.2.2.2.2.2.2.2.2.2.2.2.2.2.2.2.2.2.2.1 ex9
        refine g_tableIn (tgt := 1832) dL_law_40 (by rw [ex9]; decide) (by rw [ex9]; decide) (off := 1792) (by rw [ex9]; decide) (by decide) ?_
        exact At.sub (ls := [(0, .ref (gsb G)), (1, .ref a1), (2, .ref a2), (3, .ref a3), (4, .int x4)]) [0, 1, 2, 3, 4] rfl h
      | 28, _, ex9 =>
        have ex9 : ((gsx G x4.toNatClampNeg) &&& 63) = 28 := ex9.trans (by decide)
        replace h := h.2.2.2.2.2.2.2.2.2.2.2.2.2.2.2.2.2.2.2.2.2.2.2.2.2.2.2.2.1 ex9
        refine g_tableIn (tgt := 1845) dL_law_40 (by rw [ex9]; decide) (by rw [ex9]; decide) (off := 1805) (by rw [ex9]; decide) (by decide) ?_
        exact At.sub (ls := [(0, .ref (gsb G)), (1, .ref a1), (2, .ref a2), (3, .ref a3), (4, .int x4)]) [0, 1, 2, 3, 4] rfl h
      | 29, _, ex9 =>
        have ex9 : ((gsx G x4.toNatClampNeg) &&& 63) = 29 := ex9.trans (by decide)
        replace h := h.2.2.2.2.2.2.2.2.2.2.2.2.2.2.2.2.2.2.2.2.2.2.2.2.2.2.2.2.2.1 ex9
        refine g_tableIn (tgt := 1900) dL_law_40 (by rw [ex9]; decide) (by rw [ex9]; decide) (off := 1860) (by rw [ex9]; decide) (by decide) ?_
        exact At.sub (ls := [(0, .ref (gsb G)), (1, .ref a1), (2, .ref a2), (3, .ref a3), (4, .int x4)]) [0, 1, 2, 3, 4] rfl h
      | 30, _, ex9 =>
        have ex9 : ((gsx G x4.toNatClampNeg) &&& 63) = 30 := ex9.trans (by decide)
        replace h := h.2.2.2.2.2.2.2.2.2.2.2.2.2.2.2.2.2.2.2.2.2.2.2.2.2.2.2.2.2.2.1 ex9
        refine g_tableIn (tgt := 1967) dL_law_40 (by rw [ex9]; decide) (by rw [ex9]; decide) (off := 1927) (by rw [ex9]; decide) (by decide) ?_
        exact At.sub (ls := [(0, .ref (gsb G)), (1, .ref a1), (2, .ref a2), (3, .ref a3), (4, .int x4)]) [0, 1, 2, 3, 4] rfl h
      | 31, _, ex9 =>
        have ex9 : ((gsx G x4.toNatClampNeg) &&& 63) = 31 := ex9.trans (by decide)
        replace h := h.2.2.2.2.2.2.2.2.2.2.2.2.2.2.2.2.2.2.2.2.2.2.2.2.2.2.2.2.2.2.2.1 ex9
        refine g_tableIn (tgt := 2034) dL_law_40 (by rw [ex9]; decide) (by rw [ex9]; decide) (off := 1994) (by rw [ex9]; decide) (by decide) ?_
        exact At.sub (ls := [(0, .ref (gsb G)), (1, .ref a1), (2, .ref a2), (3, .ref a3), (4, .int x4)]) [0, 1, 2, 3, 4] rfl h
      | 32, _, ex9 =>
        have ex9 : ((gsx G x4.toNatClampNeg) &&& 63) = 32 := ex9.trans (by decide)
        replace h := h.2.2.2.2.2.2.2.2.2.2.2.2.2.2.2.2.2.2.2.2.2.2.2.2.2.2.2.2.2.2.2.2.1 ex9
        refine g_tableIn (tgt := 2047) dL_law_40 (by rw [ex9]; decide) (by rw [ex9]; decide) (off := 2007) (by rw [ex9]; decide) (by decide) ?_
        exact At.sub (ls := [(0, .ref (gsb G)), (1, .ref a1), (2, .ref a2), (3, .ref a3), (4, .int x4)]) [0, 1, 2, 3, 4] rfl h
      | 33, _, ex9 =>
        have ex9 : ((gsx G x4.toNatClampNeg) &&& 63) = 33 := ex9.trans (by decide)
        replace h := h.2.2.2.2.2.2.2.2.2.2.2.2.2.2.2.2.2.2.2.2.2.2.2.2.2.2.2.2.2.2.2.2.2.1 ex9
        refine g_tableIn (tgt := 2102) dL_law_40 (by rw [ex9]; decide) (by rw [ex9]; decide) (off := 2062) (by rw [ex9]; decide) (by decide) ?_
        exact At.sub (ls := [(0, .ref (gsb G)), (1, .ref a1), (2, .ref a2), (3, .ref a3), (4, .int x4)]) [0, 1, 2, 3, 4] rfl h
      | 34, _, ex9 =>
        have ex9 : ((gsx G x4.toNatClampNeg) &&& 63) = 34 := ex9.trans (by decide)
        replace h := h.2.2.2.2.2.2.2.2.2.2.2.2.2.2.2.2.2.2.2.2.2.2.2.2.2.2.2.2.2.2.2.2.2.2.1 ex9
        refine g_tableIn (tgt := 2181) dL_law_40 (by rw [ex9]; decide) (by rw [ex9]; decide) (off := 2141) (by rw [ex9]; decide) (by decide) ?_
        exact At.sub (ls := [(0, .ref (gsb G)), (1, .ref a1), (2, .ref a2), (3, .ref a3), (4, .int x4)]) [0, 1, 2, 3, 4] rfl h
      | 35, _, ex9 =>
        have ex9 : ((gsx G x4.toNatClampNeg) &&& 63) = 35 := ex9.trans (by decide)
        replace h := h.2.2.2.2.2.2.2.2.2.2.2.2.2.2.2.2.2.2.2.2.2.2.2.2.2.2.2.2.2.2.2.2.2.2.2.1 ex9
        refine g_tableIn (tgt := 2194) dL_law_40 (by rw [ex9]; decide) (by rw [ex9]; decide) (off := 2154) (by rw [ex9]; decide) (by decide) ?_
        exact At.sub (ls := [(0, .ref (gsb G)), (1, .ref a1), (2, .ref a2), (3, .ref a3), (4, .int x4)]) [0, 1, 2, 3, 4] rfl h
      | 36, _, ex9 =>
        have ex9 : ((gsx G x4.toNatClampNeg) &&& 63) = 36 := ex9.trans (by decide)
        replace h := h.2.2.2.2.2.2.2.2.2.2.2.2.2.2.2.2.2.2.2.2.2.2.2.2.2.2.2.2.2.2.2.2.2.2.2.2.1 ex9
        refine g_tableIn (tgt := 2274) dL_law_40 (by rw [ex9]; decide) (by rw [ex9]; decide) (off := 2234) (by rw [ex9]; decide) (by decide) ?_
        exact At.sub (ls := [(0, .ref (gsb G)), (1, .ref a1), (2, .ref a2), (3, .ref a3), (4, .int x4)]) [0, 1, 2, 3, 4] rfl h
      | 37, _, ex9 =>
        have ex9 : ((gsx G x4.toNatClampNeg) &&& 63) = 37 := ex9.trans (by decide)
        replace h := h.2.2.2.2.2.2.2.2.2.2.2.2.2.2.2.2.2.2.2.2.2.2.2.2.2.2.2.2.2.2.2.2.2.2.2.2.2.1 ex9
        refine g_tableIn (tgt := 2354) dL_law_40 (by rw [ex9]; decide) (by rw [ex9]; decide) (off := 2314) (by rw [ex9]; decide) (by decide) ?_
        exact At.sub (ls := [(0, .ref (gsb G)), (1, .ref a1), (2, .ref a2), (3, .ref a3), (4, .int x4)]) [0, 1, 2, 3, 4] rfl h
      | 38, _, ex9 =>
        have ex9 : ((gsx G x4.toNatClampNeg) &&& 63) = 38 := ex9.trans (by decide)
        replace h := h.2.2.2.2.2.2.2.2.2.2.2.2.2.2.2.2.2.2.2.2.2.2.2.2.2.2.2.2.2.2.2.2.2.2.2.2.2.2.1 ex9
        refine g_tableIn (tgt := 2422) dL_law_40 (by rw [ex9]; decide) (by rw [ex9]; decide) (off := 2382) (by rw [ex9]; decide) (by decide) ?_
        exact At.sub (ls := [(0, .ref (gsb G)), (1, .ref a1), (2, .ref a2), (3, .ref a3), (4, .int x4)]) [0, 1, 2, 3, 4] rfl h
      | 39, _, ex9 =>
        have ex9 : ((gsx G x4.toNatClampNeg) &&& 63) = 39 := ex9.trans (by decide)
        replace h := h.2.2.2.2.2.2.2.2.2.2.2.2.2.2.2.2.2.2.2.2.2.2.2.2.2.2.2.2.2.2.2.2.2.2.2.2.2.2.2.1 ex9
        refine g_tableIn (tgt := 2478) dL_law_40 (by rw [ex9]; decide) (by rw [ex9]; decide) (off := 2438) (by rw [ex9]; decide) (by decide) ?_
        exact At.sub (ls := [(0, .ref (gsb G)), (1, .ref a1), (2, .ref a2), (3, .ref a3), (4, .int x4)]) [0, 1, 2, 3, 4] rfl h
      | 40, _, ex9 =>
        have ex9 : ((gsx G x4.toNatClampNeg) &&& 63) = 40 := ex9.trans (by decide)
        replace h := h.2.2.2.2.2.2.2.2.2.2.2.2.2.2.2.2.2.2.2.2.2.2.2.2.2.2.2.2.2.2.2.2.2.2.2.2.2.2.2.2.1 ex9
        refine g_tableIn (tgt := 2546) dL_law_40 (by rw [ex9]; decide) (by rw [ex9]; decide) (off := 2506) (by rw [ex9]; decide) (by decide) ?_
        exact At.sub (ls := [(0, .ref (gsb G)), (1, .ref a1), (2, .ref a2), (3, .ref a3), (4, .int x4)]) [0, 1, 2, 3, 4] rfl h
      | 41, _, ex9 =>
        have ex9 : ((gsx G x4.toNatClampNeg) &&& 63) = 41 := ex9.trans (by decide)
        replace h := h.2.2.2.2.2.2.2.2.2.2.2.2.2.2.2.2.2.2.2.2.2.2.2.2.2.2.2.2.2.2.2.2.2.2.2.2.2.2.2.2.2.1 ex9
        refine g_tableIn (tgt := 2614) dL_law_40 (by rw [ex9]; decide) (by rw [ex9]; decide) (off := 2574) (by rw [ex9]; decide) (by decide) ?_
        exact At.sub (ls := [(0, .ref (gsb G)), (1, .ref a1), (2, .ref a2), (3, .ref a3), (4, .int x4)]) [0, 1, 2, 3, 4] rfl h
      | 42, _, ex9 =>
        have ex9 : ((gsx G x4.toNatClampNeg) &&& 63) = 42 := ex9.trans (by decide)
        replace h := h.2.2.2.2.2.2.2.2.2.2.2.2.2.2.2.2.2.2.2.2.2.2.2.2.2.2.2.2.2.2.2.2.2.2.2.2.2.2.2.2.2.2.1 ex9
        refine g_tableIn (tgt := 2627) dL_law_40 (by rw [ex9]; decide) (by rw [ex9]; decide) (off := 2587) (by rw [ex9]; decide) (by decide) ?_
        exact At.sub (ls := [(0, .ref (gsb G)), (1, .ref a1), (2, .ref a2), (3, .ref a3), (4, .int x4)]) [0, 1, 2, 3, 4] rfl h
      | 43, _, ex9 =>
        have ex9 : ((gsx G x4.toNatClampNeg) &&& 63) = 43 := ex9.trans (by decide)
        replace h := h.2.2.2.2.2.2.2.2.2.2.2.2.2.2.2.2.2.2.2.2.2.2.2.2.2.2.2.2.2.2.2.2.2.2.2.2.2.2.2.2.2.2.2.1 ex9
        refine g_tableIn (tgt := 2640) dL_law_40 (by rw [ex9]; decide) (by rw [ex9]; decide) (off := 2600) (by rw [ex9]; decide) (by decide) ?_
        exact At.sub (ls := [(0, .ref (gsb G)), (1, .ref a1), (2, .ref a2), (3, .ref a3), (4, .int x4)]) [0, 1, 2, 3, 4] rfl h
      | 44, _, ex9 =>
        have ex9 : ((gsx G x4.toNatClampNeg) &&& 63) = 44 := ex9.trans (by decide)
        replace h := h.2.2.2.2.2.2.2.2.2.2.2.2.2.2.2.2.2.2.2.2.2.2.2.2.2.2.2.2.2.2.2.2.2.2.2.2.2.2.2.2.2.2.2.2.1 ex9
        refine g_tableIn (tgt := 2653) dL_law_40 (by rw [ex9]; decide) (by rw [ex9]; decide) (off := 2613) (by rw [ex9]; decide) (by decide) ?_
        exact At.sub (ls := [(0, .ref (gsb G)), (1, .ref a1), (2, .ref a2), (3, .ref a3), (4, .int x4)]) [0, 1, 2, 3, 4] rfl h
      | 45, _, ex9 =>
        have ex9 : ((gsx G x4.toNatClampNeg) &&& 63) = 45 := ex9.trans (by decide)
        replace h := h.2.2.2.2.2.2.2.2.2.2.2.2.2.2.2.2.2.2.2.2.2.2.2.2.2.2.2.2.2.2.2.2.2.2.2.2.2.2.2.2.2.2.2.2.2 ex9
        refine g_tableIn (tgt := 2678) dL_law_40 (by rw [ex9]; decide) (by rw [ex9]; decide) (off := 2638) (by rw [ex9]; decide) (by decide) ?_
        exact At.sub (ls := [(0, .ref (gsb G)), (1, .ref a1), (2, .ref a2), (3, .ref a3), (4, .int x4)]) [0, 1, 2, 3, 4] rfl h
      | i9 + 46, hi9, _ => exact absurd hi9 (by omega)
set_option maxHeartbeats 4000000 in
theorem bL_law_240 {G : GC} {Q : Option Value → PS → Prop} {X : String → Nat → PS → Prop} {b : Nat} {nm : String} {hh : List (Nat × Nat × Nat × Nat)} {a1 : Nat} {a2 : Nat} {a3 : Nat} {x4 : Int32} {σ : PS} (h : vp_in ((x4 + 1)) (gsL G) ∧ (vp_in ((x4 + 2)) (gsL G) ∧ (vp_in ((x4 + 3)) (gsL G) ∧ (vp_in ((x4 + 4)) (gsL G) ∧ (vp_in ((x4 + 5)) (gsL G) ∧ (∃ bc : Nat, bc ≤ b ∧ (∃ fs_3 : List Value, Ob (σ) 1 a1 fs_3) ∧ Call G mX1_feed 3 bc [.ref a1, .int (gsx G ((x4 + 1)).toNatClampNeg), .int (gsx G ((x4 + 2)).toNatClampNeg), .int (gsx G ((x4 + 3)).toNatClampNeg), .int (gsx G ((x4 + 4)).toNatClampNeg), .int (gsx G ((x4 + 5)).toNatClampNeg)] (σ) (qI (fun rx s1 => vp_in ((x4 + 1)) (gsL G) ∧ (vp_in ((x4 + 2)) (gsL G) ∧ (vp_in ((x4 + 3)) (gsL G) ∧ (vp_in ((x4 + 4)) (gsL G) ∧ (vp_in ((x4 + 5)) (gsL G) ∧ ((∃ fs : List Value, Ob s1 9 a2 fs) ∧ Call G mX9_feed 3 0 [.ref a2, .int (gsx G ((x4 + 1)).toNatClampNeg), .int (gsx G ((x4 + 2)).toNatClampNeg), .int (gsx G ((x4 + 3)).toNatClampNeg), .int (gsx G ((x4 + 4)).toNatClampNeg), .int (gsx G ((x4 + 5)).toNatClampNeg)] s1 (qI (fun rx_2 s1_1 => ((rx = rx_2) → At G (mL nm hh) 210 Q X (b - bc) 2703 [(0, .ref (gsb G)), (1, .ref a1), (2, .ref a2), (3, .ref a3), (4, .int x4)] [] s1_1) ∧ ((¬ rx = rx_2) → Q (some (.int 0)) s1_1))) (fun _ _ _ => False)))))))) (fun _ _ _ => False))))))) : At G (mL nm hh) 210 Q X b 240 [(0, .ref (gsb G)), (1, .ref a1), (2, .ref a2), (3, .ref a3), (4, .int x4)] [] (σ) := by
  refine g_aload_n dL_law_240 rfl 1 rfl ?_
  refine g_aload_n dL_law_241 rfl 0 rfl ?_
  refine g_iload dL_law_242 4 rfl ?_
  refine g_iconst (v := 1) dL_law_244 (by decide) ?_
  refine g_iadd dL_law_245 ?_
  obtain ⟨h1, h⟩ := h
  refine g_sld dL_law_246 h1 ?_
  refine g_aload_n dL_law_247 rfl 0 rfl ?_
  refine g_iload dL_law_248 4 rfl ?_
  refine g_iconst (v := 2) dL_law_250 (by decide) ?_
  refine g_iadd dL_law_251 ?_
  obtain ⟨h1, h⟩ := h
  refine g_sld dL_law_252 h1 ?_
  refine g_aload_n dL_law_253 rfl 0 rfl ?_
  refine g_iload dL_law_254 4 rfl ?_
  refine g_iconst (v := 3) dL_law_256 (by decide) ?_
  refine g_iadd dL_law_257 ?_
  obtain ⟨h1, h⟩ := h
  refine g_sld dL_law_258 h1 ?_
  refine g_aload_n dL_law_259 rfl 0 rfl ?_
  refine g_iload dL_law_260 4 rfl ?_
  refine g_iconst (v := 4) dL_law_262 (by decide) ?_
  refine g_iadd dL_law_263 ?_
  obtain ⟨h1, h⟩ := h
  refine g_sld dL_law_264 h1 ?_
  refine g_aload_n dL_law_265 rfl 0 rfl ?_
  refine g_iload dL_law_266 4 rfl ?_
  refine g_iconst (v := 5) dL_law_268 (by decide) ?_
  refine g_iadd dL_law_269 ?_
  obtain ⟨h1, h⟩ := h
  refine g_sld dL_law_270 h1 ?_
  obtain ⟨bc, hb9, h⟩ := h
  obtain ⟨⟨_, hO⟩, h⟩ := h
  refine g_callV (N := mX1_feed) (st := []) (As := [.int (gsx G ((x4 + 1)).toNatClampNeg), .int (gsx G ((x4 + 2)).toNatClampNeg), .int (gsx G ((x4 + 3)).toNatClampNeg), .int (gsx G ((x4 + 4)).toNatClampNeg), .int (gsx G ((x4 + 5)).toNatClampNeg)]) (a := a1) dL_law_271 wsX1_feed (lw_V q505 q506 q507 q108 q508) rfl mokX1_feed rfl cl1 (by decide) (by decide) hb9 (Nat.zero_le _) hO h (fun E q s hx => AtX.never hx) (fun _ s1 hq => ?_)
  obtain ⟨rx, rfl, h⟩ := hq
  refine At.stk (st' := [.int rx]) rfl ?_
  refine g_aload_n dL_law_274 rfl 2 rfl ?_
  refine g_aload_n dL_law_275 rfl 0 rfl ?_
  refine g_iload dL_law_276 4 rfl ?_
  refine g_iconst (v := 1) dL_law_278 (by decide) ?_
  refine g_iadd dL_law_279 ?_
  obtain ⟨h1, h⟩ := h
  refine g_sld dL_law_280 h1 ?_
  refine g_aload_n dL_law_281 rfl 0 rfl ?_
  refine g_iload dL_law_282 4 rfl ?_
  refine g_iconst (v := 2) dL_law_284 (by decide) ?_
  refine g_iadd dL_law_285 ?_
  obtain ⟨h1, h⟩ := h
  refine g_sld dL_law_286 h1 ?_
  refine g_aload_n dL_law_287 rfl 0 rfl ?_
  refine g_iload dL_law_288 4 rfl ?_
  refine g_iconst (v := 3) dL_law_290 (by decide) ?_
  refine g_iadd dL_law_291 ?_
  obtain ⟨h1, h⟩ := h
  refine g_sld dL_law_292 h1 ?_
  refine g_aload_n dL_law_293 rfl 0 rfl ?_
  refine g_iload dL_law_294 4 rfl ?_
  refine g_iconst (v := 4) dL_law_296 (by decide) ?_
  refine g_iadd dL_law_297 ?_
  obtain ⟨h1, h⟩ := h
  refine g_sld dL_law_298 h1 ?_
  refine g_aload_n dL_law_299 rfl 0 rfl ?_
  refine g_iload dL_law_300 4 rfl ?_
  refine g_iconst (v := 5) dL_law_302 (by decide) ?_
  refine g_iadd dL_law_303 ?_
  obtain ⟨h1, h⟩ := h
  refine g_sld dL_law_304 h1 ?_
  obtain ⟨⟨_, hO⟩, h⟩ := h
  refine g_callV (N := mX9_feed) (st := [.int rx]) (As := [.int (gsx G ((x4 + 1)).toNatClampNeg), .int (gsx G ((x4 + 2)).toNatClampNeg), .int (gsx G ((x4 + 3)).toNatClampNeg), .int (gsx G ((x4 + 4)).toNatClampNeg), .int (gsx G ((x4 + 5)).toNatClampNeg)]) (a := a2) dL_law_305 wsX9_feed (lw_V q1959 q1960 q1961 q116 q1962) rfl mokX9_feed rfl cl9 (by decide) (by decide) (Nat.zero_le _) (by simp [Value.category]) hO h (fun E q s hx => AtX.never hx) (fun _ s1_1 hq => ?_)
  obtain ⟨rx_2, rfl, h⟩ := hq
  refine At.stk (st' := [.int rx_2, .int rx]) rfl ?_
  refine g_icmp_eq (tgt := 2703) dL_law_308 (by decide) (fun c => ?_) (fun c => ?_)
  · replace h := h.1 c
    exact At.sub (ls := [(0, .ref (gsb G)), (1, .ref a1), (2, .ref a2), (3, .ref a3), (4, .int x4)]) [0, 1, 2, 3, 4] rfl h
  · replace h := h.2 c
    refine g_iconst (v := 0) dL_law_311 (by decide) ?_
    exact g_zret rfl rfl dL_law_312 h
set_option maxHeartbeats 4000000 in
theorem bL_law_313 {G : GC} {Q : Option Value → PS → Prop} {X : String → Nat → PS → Prop} {b : Nat} {nm : String} {hh : List (Nat × Nat × Nat × Nat)} {a1 : Nat} {a2 : Nat} {a3 : Nat} {x4 : Int32} {σ : PS} (h : vp_in ((x4 + 1)) (gsL G) ∧ (∃ bc : Nat, bc ≤ b ∧ Call G mX0_office 14 bc [.ref a1, .int (gsx G ((x4 + 1)).toNatClampNeg), .ref a3] (σ) (qI (fun rx s1 => vp_in ((x4 + 1)) (gsL G) ∧ ((∃ fs_5 : List Value, Ob s1 9 a2 fs_5) ∧ Call G mX9_office 9 0 [.ref a2, .int (gsx G ((x4 + 1)).toNatClampNeg)] s1 (qI (fun rx_2 s1_1 => (∃ fs : List Value, Ob s1_1 9 a2 fs) ∧ CallO G mX9_thrown 3 [.ref a2] s1_1 (pI (fun rx_4 => ((rx_4 = rx) → ((¬ rx = 0) → At G (mL nm hh) 210 Q X (b - bc) 2703 [(0, .ref (gsb G)), (1, .ref a1), (2, .ref a2), (3, .ref a3), (4, .int x4)] [] s1_1) ∧ ((rx = 0) → ∃ (n : Nat) (f : Nat → Int64), La s1_1 101 a3 n f ∧ vp_in 0 n ∧ ((((f (0 : Int32).toNatClampNeg) = rx_2.toInt64) → At G (mL nm hh) 210 Q X (b - bc) 2703 [(0, .ref (gsb G)), (1, .ref a1), (2, .ref a2), (3, .ref a3), (4, .int x4)] [] s1_1) ∧ ((¬ (f (0 : Int32).toNatClampNeg) = rx_2.toInt64) → Q (some (.int 0)) s1_1)))) ∧ ((¬ rx_4 = rx) → Q (some (.int 0)) s1_1))))) (fun _ _ _ => False)))) (fun _ _ _ => False))) : At G (mL nm hh) 210 Q X b 313 [(0, .ref (gsb G)), (1, .ref a1), (2, .ref a2), (3, .ref a3), (4, .int x4)] [] (σ) := by
  refine g_aload_n dL_law_313 rfl 1 rfl ?_
  refine g_aload_n dL_law_314 rfl 0 rfl ?_
  refine g_iload dL_law_315 4 rfl ?_
  refine g_iconst (v := 1) dL_law_317 (by decide) ?_
  refine g_iadd dL_law_318 ?_
  obtain ⟨h1, h⟩ := h
  refine g_sld dL_law_319 h1 ?_
  refine g_aload_n dL_law_320 rfl 3 rfl ?_
  obtain ⟨bc, hb9, h⟩ := h
  refine g_callSX (N := mX0_office) (st := []) (As := [.ref a1, .int (gsx G ((x4 + 1)).toNatClampNeg), .ref a3]) dL_law_321 wsX0_office (lw_SW q824 q825 q107 q826) mokX0_office rfl (by decide) (by decide) hb9 (Nat.zero_le _) h (fun E q s hx => AtX.never hx) (fun _ s1 hq => ?_)
  obtain ⟨rx, rfl, h⟩ := hq
  refine At.stk (st' := [.int rx]) rfl ?_
  refine g_istore (ls1 := [(5, .int rx), (0, .ref (gsb G)), (1, .ref a1), (2, .ref a2), (3, .ref a3), (4, .int x4)]) dL_law_324 (Nat.le_of_ble_eq_true rfl) rfl ?_
  refine g_aload_n dL_law_326 rfl 3 rfl ?_
  refine g_aload_n dL_law_327 rfl 1 rfl ?_
  refine g_iload dL_law_328 5 rfl ?_
  refine g_iconst (v := 1) dL_law_330 (by decide) ?_
  refine g_iadd dL_law_331 ?_
  obtain ⟨h1, h⟩ := h
  refine g_sld dL_law_332 h1 ?_
  obtain ⟨⟨_, hO⟩, h⟩ := h
  refine g_callV (N := mX9_office) (st := []) (As := [.int (gsx G ((x4 + 1)).toNatClampNeg)]) (a := a2) dL_law_333 wsX9_office (lw_V q1967 q1968 q1969 q116 q1970) rfl mokX9_office rfl cl9 (by decide) (by decide) (Nat.zero_le _) (Nat.zero_le _) hO h (fun E q s hx => AtX.never hx) (fun _ s1_1 hq => ?_)
  obtain ⟨rx_2, rfl, h⟩ := hq
  refine At.stk (st' := [.int rx_2]) rfl ?_
  refine g_istore (ls1 := [(6, .int rx_2), (5, .int rx), (0, .ref (gsb G)), (1, .ref a1), (2, .ref a2), (3, .ref a3), (4, .int x4)]) dL_law_336 (Nat.le_of_ble_eq_true rfl) rfl ?_
  refine g_aload_n dL_law_338 rfl 4 rfl ?_
  obtain ⟨⟨_, hO⟩, h⟩ := h
  refine g_callV (N := mX9_thrown) (st := []) (As := []) (a := a2) dL_law_339 wsX9_thrown (lw_V q1741 q1742 q1743 q116 q1744) rfl mokX9_thrown rfl cl9 (by decide) (by decide) (Nat.zero_le _) (Nat.zero_le _) hO h (fun E q s hx => AtX.never hx) (fun _ s1_3 hq => ?_)
  obtain ⟨es, hq⟩ := hq
  refine g_tops2 es ?_
  obtain ⟨rx_4, rfl, h⟩ := hq
  refine At.stk (st' := [.int rx_4]) rfl ?_
  refine g_iload dL_law_342 1 rfl ?_
  refine g_icmp_eq (tgt := 349) dL_law_344 (by decide) (fun c => ?_) (fun c => ?_)
  · replace h := h.1 c
    refine g_iload dL_law_349 1 rfl ?_
    refine g_if_ne (tgt := 366) dL_law_351 (by decide) (fun c => ?_) (fun c => ?_)
    · replace h := h.1 c
      refine g_goto (tgt := 2703) dL_law_366 (by decide) ?_
      exact At.sub (ls := [(6, .int rx_2), (5, .int rx), (0, .ref (gsb G)), (1, .ref a1), (2, .ref a2), (3, .ref a3), (4, .int x4)]) [2, 3, 4, 5, 6] rfl h
    · replace h := h.2 c
      refine g_aload_n dL_law_354 rfl 5 rfl ?_
      refine g_iconst (v := 0) dL_law_355 (by decide) ?_
      obtain ⟨n, f, h1, h2, h⟩ := h
      refine g_lald dL_law_356 h1 h2 ?_
      refine g_iload dL_law_357 0 rfl ?_
      refine g_i2l dL_law_359 ?_
      refine g_lcmp_eq (tgt := 366) dL_law_360 dL_law_361 (by decide) (fun c => ?_) (fun c => ?_)
      · replace h := h.1 c
        refine g_goto (tgt := 2703) dL_law_366 (by decide) ?_
        exact At.sub (ls := [(6, .int rx_2), (5, .int rx), (0, .ref (gsb G)), (1, .ref a1), (2, .ref a2), (3, .ref a3), (4, .int x4)]) [2, 3, 4, 5, 6] rfl h
      · replace h := h.2 c
        refine g_iconst (v := 0) dL_law_364 (by decide) ?_
        exact g_zret rfl rfl dL_law_365 h
  · replace h := h.2 c
    refine g_iconst (v := 0) dL_law_347 (by decide) ?_
    exact g_zret rfl rfl dL_law_348 h
set_option maxHeartbeats 4000000 in
theorem bL_law_369 {G : GC} {Q : Option Value → PS → Prop} {X : String → Nat → PS → Prop} {b : Nat} {nm : String} {hh : List (Nat × Nat × Nat × Nat)} {a1 : Nat} {a2 : Nat} {a3 : Nat} {x4 : Int32} {σ : PS} (h : vp_in ((x4 + 1)) (gsL G) ∧ (vp_in ((x4 + 2)) (gsL G) ∧ (∃ bc : Nat, bc ≤ b ∧ Call G mX0_habit 153 bc [.ref a1, .int (gsx G ((x4 + 1)).toNatClampNeg), .int (gsx G ((x4 + 2)).toNatClampNeg), .ref a3] (σ) (qI (fun rx s1 => vp_in ((x4 + 1)) (gsL G) ∧ (vp_in ((x4 + 2)) (gsL G) ∧ ((∃ fs_5 : List Value, Ob s1 9 a2 fs_5) ∧ Call G mX9_habit 153 0 [.ref a2, .int (gsx G ((x4 + 1)).toNatClampNeg), .int (gsx G ((x4 + 2)).toNatClampNeg)] s1 (qI (fun rx_2 s1_1 => (∃ fs : List Value, Ob s1_1 9 a2 fs) ∧ CallO G mX9_thrown 3 [.ref a2] s1_1 (pI (fun rx_4 => ((rx_4 = rx) → ((¬ rx = 0) → At G (mL nm hh) 210 Q X (b - bc) 2703 [(0, .ref (gsb G)), (1, .ref a1), (2, .ref a2), (3, .ref a3), (4, .int x4)] [] s1_1) ∧ ((rx = 0) → ∃ (n : Nat) (f : Nat → Int64), La s1_1 101 a3 n f ∧ vp_in 0 n ∧ ((((f (0 : Int32).toNatClampNeg) = rx_2.toInt64) → At G (mL nm hh) 210 Q X (b - bc) 2703 [(0, .ref (gsb G)), (1, .ref a1), (2, .ref a2), (3, .ref a3), (4, .int x4)] [] s1_1) ∧ ((¬ (f (0 : Int32).toNatClampNeg) = rx_2.toInt64) → Q (some (.int 0)) s1_1)))) ∧ ((¬ rx_4 = rx) → Q (some (.int 0)) s1_1))))) (fun _ _ _ => False))))) (fun _ _ _ => False)))) : At G (mL nm hh) 210 Q X b 369 [(0, .ref (gsb G)), (1, .ref a1), (2, .ref a2), (3, .ref a3), (4, .int x4)] [] (σ) := by
  refine g_aload_n dL_law_369 rfl 1 rfl ?_
  refine g_aload_n dL_law_370 rfl 0 rfl ?_
  refine g_iload dL_law_371 4 rfl ?_
  refine g_iconst (v := 1) dL_law_373 (by decide) ?_
  refine g_iadd dL_law_374 ?_
  obtain ⟨h1, h⟩ := h
  refine g_sld dL_law_375 h1 ?_
  refine g_aload_n dL_law_376 rfl 0 rfl ?_
  refine g_iload dL_law_377 4 rfl ?_
  refine g_iconst (v := 2) dL_law_379 (by decide) ?_
  refine g_iadd dL_law_380 ?_
  obtain ⟨h1, h⟩ := h
  refine g_sld dL_law_381 h1 ?_
  refine g_aload_n dL_law_382 rfl 3 rfl ?_
  obtain ⟨bc, hb9, h⟩ := h
  refine g_callSX (N := mX0_habit) (st := []) (As := [.ref a1, .int (gsx G ((x4 + 1)).toNatClampNeg), .int (gsx G ((x4 + 2)).toNatClampNeg), .ref a3]) dL_law_383 wsX0_habit (lw_SW q1099 q1100 q107 q1101) mokX0_habit rfl (by decide) (by decide) hb9 (Nat.zero_le _) h (fun E q s hx => AtX.never hx) (fun _ s1 hq => ?_)
  obtain ⟨rx, rfl, h⟩ := hq
  refine At.stk (st' := [.int rx]) rfl ?_
  refine g_istore (ls1 := [(5, .int rx), (0, .ref (gsb G)), (1, .ref a1), (2, .ref a2), (3, .ref a3), (4, .int x4)]) dL_law_386 (Nat.le_of_ble_eq_true rfl) rfl ?_
  refine g_aload_n dL_law_388 rfl 3 rfl ?_
  refine g_aload_n dL_law_389 rfl 1 rfl ?_
  refine g_iload dL_law_390 5 rfl ?_
  refine g_iconst (v := 1) dL_law_392 (by decide) ?_
  refine g_iadd dL_law_393 ?_
  obtain ⟨h1, h⟩ := h
  refine g_sld dL_law_394 h1 ?_
  refine g_aload_n dL_law_395 rfl 1 rfl ?_
  refine g_iload dL_law_396 5 rfl ?_
  refine g_iconst (v := 2) dL_law_398 (by decide) ?_
  refine g_iadd dL_law_399 ?_
  obtain ⟨h1, h⟩ := h
  refine g_sld dL_law_400 h1 ?_
  obtain ⟨⟨_, hO⟩, h⟩ := h
  refine g_callV (N := mX9_habit) (st := []) (As := [.int (gsx G ((x4 + 1)).toNatClampNeg), .int (gsx G ((x4 + 2)).toNatClampNeg)]) (a := a2) dL_law_401 wsX9_habit (lw_V q2051 q2052 q2053 q116 q2054) rfl mokX9_habit rfl cl9 (by decide) (by decide) (Nat.zero_le _) (Nat.zero_le _) hO h (fun E q s hx => AtX.never hx) (fun _ s1_1 hq => ?_)
  obtain ⟨rx_2, rfl, h⟩ := hq
  refine At.stk (st' := [.int rx_2]) rfl ?_
  refine g_istore (ls1 := [(6, .int rx_2), (5, .int rx), (0, .ref (gsb G)), (1, .ref a1), (2, .ref a2), (3, .ref a3), (4, .int x4)]) dL_law_404 (Nat.le_of_ble_eq_true rfl) rfl ?_
  refine g_aload_n dL_law_406 rfl 4 rfl ?_
  obtain ⟨⟨_, hO⟩, h⟩ := h
  refine g_callV (N := mX9_thrown) (st := []) (As := []) (a := a2) dL_law_407 wsX9_thrown (lw_V q1741 q1742 q1743 q116 q1744) rfl mokX9_thrown rfl cl9 (by decide) (by decide) (Nat.zero_le _) (Nat.zero_le _) hO h (fun E q s hx => AtX.never hx) (fun _ s1_3 hq => ?_)
  obtain ⟨es, hq⟩ := hq
  refine g_tops2 es ?_
  obtain ⟨rx_4, rfl, h⟩ := hq
  refine At.stk (st' := [.int rx_4]) rfl ?_
  refine g_iload dL_law_410 1 rfl ?_
  refine g_icmp_eq (tgt := 417) dL_law_412 (by decide) (fun c => ?_) (fun c => ?_)
  · replace h := h.1 c
    refine g_iload dL_law_417 1 rfl ?_
    refine g_if_ne (tgt := 434) dL_law_419 (by decide) (fun c => ?_) (fun c => ?_)
    · replace h := h.1 c
      refine g_goto (tgt := 2703) dL_law_434 (by decide) ?_
      exact At.sub (ls := [(6, .int rx_2), (5, .int rx), (0, .ref (gsb G)), (1, .ref a1), (2, .ref a2), (3, .ref a3), (4, .int x4)]) [2, 3, 4, 5, 6] rfl h
    · replace h := h.2 c
      refine g_aload_n dL_law_422 rfl 5 rfl ?_
      refine g_iconst (v := 0) dL_law_423 (by decide) ?_
      obtain ⟨n, f, h1, h2, h⟩ := h
      refine g_lald dL_law_424 h1 h2 ?_
      refine g_iload dL_law_425 0 rfl ?_
      refine g_i2l dL_law_427 ?_
      refine g_lcmp_eq (tgt := 434) dL_law_428 dL_law_429 (by decide) (fun c => ?_) (fun c => ?_)
      · replace h := h.1 c
        refine g_goto (tgt := 2703) dL_law_434 (by decide) ?_
        exact At.sub (ls := [(6, .int rx_2), (5, .int rx), (0, .ref (gsb G)), (1, .ref a1), (2, .ref a2), (3, .ref a3), (4, .int x4)]) [2, 3, 4, 5, 6] rfl h
      · replace h := h.2 c
        refine g_iconst (v := 0) dL_law_432 (by decide) ?_
        exact g_zret rfl rfl dL_law_433 h
  · replace h := h.2 c
    refine g_iconst (v := 0) dL_law_415 (by decide) ?_
    exact g_zret rfl rfl dL_law_416 h
set_option maxHeartbeats 4000000 in
theorem bL_law_437 {G : GC} {Q : Option Value → PS → Prop} {X : String → Nat → PS → Prop} {b : Nat} {nm : String} {hh : List (Nat × Nat × Nat × Nat)} {a1 : Nat} {a2 : Nat} {a3 : Nat} {x4 : Int32} {σ : PS} (h : vp_in ((x4 + 1)) (gsL G) ∧ (∃ bc : Nat, bc ≤ b ∧ Call G mX0_rule 153 bc [.ref a1, .int (gsx G ((x4 + 1)).toNatClampNeg), .ref a3] (σ) (qI (fun rx s1 => vp_in ((x4 + 1)) (gsL G) ∧ ((∃ fs_5 : List Value, Ob s1 9 a2 fs_5) ∧ Call G mX9_rule 153 0 [.ref a2, .int (gsx G ((x4 + 1)).toNatClampNeg)] s1 (qI (fun rx_2 s1_1 => (∃ fs : List Value, Ob s1_1 9 a2 fs) ∧ CallO G mX9_thrown 3 [.ref a2] s1_1 (pI (fun rx_4 => ((rx_4 = rx) → ((¬ rx = 0) → At G (mL nm hh) 210 Q X (b - bc) 2703 [(0, .ref (gsb G)), (1, .ref a1), (2, .ref a2), (3, .ref a3), (4, .int x4)] [] s1_1) ∧ ((rx = 0) → ∃ (n : Nat) (f : Nat → Int64), La s1_1 101 a3 n f ∧ vp_in 0 n ∧ ((((f (0 : Int32).toNatClampNeg) = rx_2.toInt64) → At G (mL nm hh) 210 Q X (b - bc) 2703 [(0, .ref (gsb G)), (1, .ref a1), (2, .ref a2), (3, .ref a3), (4, .int x4)] [] s1_1) ∧ ((¬ (f (0 : Int32).toNatClampNeg) = rx_2.toInt64) → Q (some (.int 0)) s1_1)))) ∧ ((¬ rx_4 = rx) → Q (some (.int 0)) s1_1))))) (fun _ _ _ => False)))) (fun _ _ _ => False))) : At G (mL nm hh) 210 Q X b 437 [(0, .ref (gsb G)), (1, .ref a1), (2, .ref a2), (3, .ref a3), (4, .int x4)] [] (σ) := by
  refine g_aload_n dL_law_437 rfl 1 rfl ?_
  refine g_aload_n dL_law_438 rfl 0 rfl ?_
  refine g_iload dL_law_439 4 rfl ?_
  refine g_iconst (v := 1) dL_law_441 (by decide) ?_
  refine g_iadd dL_law_442 ?_
  obtain ⟨h1, h⟩ := h
  refine g_sld dL_law_443 h1 ?_
  refine g_aload_n dL_law_444 rfl 3 rfl ?_
  obtain ⟨bc, hb9, h⟩ := h
  refine g_callSX (N := mX0_rule) (st := []) (As := [.ref a1, .int (gsx G ((x4 + 1)).toNatClampNeg), .ref a3]) dL_law_445 wsX0_rule (lw_SW q1355 q1356 q107 q1357) mokX0_rule rfl (by decide) (by decide) hb9 (Nat.zero_le _) h (fun E q s hx => AtX.never hx) (fun _ s1 hq => ?_)
  obtain ⟨rx, rfl, h⟩ := hq
  refine At.stk (st' := [.int rx]) rfl ?_
  refine g_istore (ls1 := [(5, .int rx), (0, .ref (gsb G)), (1, .ref a1), (2, .ref a2), (3, .ref a3), (4, .int x4)]) dL_law_448 (Nat.le_of_ble_eq_true rfl) rfl ?_
  refine g_aload_n dL_law_450 rfl 3 rfl ?_
  refine g_aload_n dL_law_451 rfl 1 rfl ?_
  refine g_iload dL_law_452 5 rfl ?_
  refine g_iconst (v := 1) dL_law_454 (by decide) ?_
  refine g_iadd dL_law_455 ?_
  obtain ⟨h1, h⟩ := h
  refine g_sld dL_law_456 h1 ?_
  obtain ⟨⟨_, hO⟩, h⟩ := h
  refine g_callV (N := mX9_rule) (st := []) (As := [.int (gsx G ((x4 + 1)).toNatClampNeg)]) (a := a2) dL_law_457 wsX9_rule (lw_V q2131 q2132 q2133 q116 q2134) rfl mokX9_rule rfl cl9 (by decide) (by decide) (Nat.zero_le _) (Nat.zero_le _) hO h (fun E q s hx => AtX.never hx) (fun _ s1_1 hq => ?_)
  obtain ⟨rx_2, rfl, h⟩ := hq
  refine At.stk (st' := [.int rx_2]) rfl ?_
  refine g_istore (ls1 := [(6, .int rx_2), (5, .int rx), (0, .ref (gsb G)), (1, .ref a1), (2, .ref a2), (3, .ref a3), (4, .int x4)]) dL_law_460 (Nat.le_of_ble_eq_true rfl) rfl ?_
  refine g_aload_n dL_law_462 rfl 4 rfl ?_
  obtain ⟨⟨_, hO⟩, h⟩ := h
  refine g_callV (N := mX9_thrown) (st := []) (As := []) (a := a2) dL_law_463 wsX9_thrown (lw_V q1741 q1742 q1743 q116 q1744) rfl mokX9_thrown rfl cl9 (by decide) (by decide) (Nat.zero_le _) (Nat.zero_le _) hO h (fun E q s hx => AtX.never hx) (fun _ s1_3 hq => ?_)
  obtain ⟨es, hq⟩ := hq
  refine g_tops2 es ?_
  obtain ⟨rx_4, rfl, h⟩ := hq
  refine At.stk (st' := [.int rx_4]) rfl ?_
  refine g_iload dL_law_466 1 rfl ?_
  refine g_icmp_eq (tgt := 473) dL_law_468 (by decide) (fun c => ?_) (fun c => ?_)
  · replace h := h.1 c
    refine g_iload dL_law_473 1 rfl ?_
    refine g_if_ne (tgt := 490) dL_law_475 (by decide) (fun c => ?_) (fun c => ?_)
    · replace h := h.1 c
      refine g_goto (tgt := 2703) dL_law_490 (by decide) ?_
      exact At.sub (ls := [(6, .int rx_2), (5, .int rx), (0, .ref (gsb G)), (1, .ref a1), (2, .ref a2), (3, .ref a3), (4, .int x4)]) [2, 3, 4, 5, 6] rfl h
    · replace h := h.2 c
      refine g_aload_n dL_law_478 rfl 5 rfl ?_
      refine g_iconst (v := 0) dL_law_479 (by decide) ?_
      obtain ⟨n, f, h1, h2, h⟩ := h
      refine g_lald dL_law_480 h1 h2 ?_
      refine g_iload dL_law_481 0 rfl ?_
      refine g_i2l dL_law_483 ?_
      refine g_lcmp_eq (tgt := 490) dL_law_484 dL_law_485 (by decide) (fun c => ?_) (fun c => ?_)
      · replace h := h.1 c
        refine g_goto (tgt := 2703) dL_law_490 (by decide) ?_
        exact At.sub (ls := [(6, .int rx_2), (5, .int rx), (0, .ref (gsb G)), (1, .ref a1), (2, .ref a2), (3, .ref a3), (4, .int x4)]) [2, 3, 4, 5, 6] rfl h
      · replace h := h.2 c
        refine g_iconst (v := 0) dL_law_488 (by decide) ?_
        exact g_zret rfl rfl dL_law_489 h
  · replace h := h.2 c
    refine g_iconst (v := 0) dL_law_471 (by decide) ?_
    exact g_zret rfl rfl dL_law_472 h
set_option maxHeartbeats 4000000 in
theorem bL_law_493 {G : GC} {Q : Option Value → PS → Prop} {X : String → Nat → PS → Prop} {b : Nat} {nm : String} {hh : List (Nat × Nat × Nat × Nat)} {a1 : Nat} {a2 : Nat} {a3 : Nat} {x4 : Int32} {σ : PS} (h : vp_in ((x4 + 1)) (gsL G) ∧ (∃ bc : Nat, bc ≤ b ∧ Call G mX0_book 13 bc [.ref a1, .int (gsx G ((x4 + 1)).toNatClampNeg), .ref a3] (σ) (qI (fun rx s1 => vp_in ((x4 + 1)) (gsL G) ∧ ((∃ fs_5 : List Value, Ob s1 9 a2 fs_5) ∧ Call G mX9_book 8 0 [.ref a2, .int (gsx G ((x4 + 1)).toNatClampNeg)] s1 (qI (fun rx_2 s1_1 => (∃ fs : List Value, Ob s1_1 9 a2 fs) ∧ CallO G mX9_thrown 3 [.ref a2] s1_1 (pI (fun rx_4 => ((rx_4 = rx) → ((¬ rx = 0) → At G (mL nm hh) 210 Q X (b - bc) 2703 [(0, .ref (gsb G)), (1, .ref a1), (2, .ref a2), (3, .ref a3), (4, .int x4)] [] s1_1) ∧ ((rx = 0) → ∃ (n : Nat) (f : Nat → Int64), La s1_1 101 a3 n f ∧ vp_in 0 n ∧ ((((f (0 : Int32).toNatClampNeg) = rx_2.toInt64) → At G (mL nm hh) 210 Q X (b - bc) 2703 [(0, .ref (gsb G)), (1, .ref a1), (2, .ref a2), (3, .ref a3), (4, .int x4)] [] s1_1) ∧ ((¬ (f (0 : Int32).toNatClampNeg) = rx_2.toInt64) → Q (some (.int 0)) s1_1)))) ∧ ((¬ rx_4 = rx) → Q (some (.int 0)) s1_1))))) (fun _ _ _ => False)))) (fun _ _ _ => False))) : At G (mL nm hh) 210 Q X b 493 [(0, .ref (gsb G)), (1, .ref a1), (2, .ref a2), (3, .ref a3), (4, .int x4)] [] (σ) := by
  refine g_aload_n dL_law_493 rfl 1 rfl ?_
  refine g_aload_n dL_law_494 rfl 0 rfl ?_
  refine g_iload dL_law_495 4 rfl ?_
  refine g_iconst (v := 1) dL_law_497 (by decide) ?_
  refine g_iadd dL_law_498 ?_
  obtain ⟨h1, h⟩ := h
  refine g_sld dL_law_499 h1 ?_
  refine g_aload_n dL_law_500 rfl 3 rfl ?_
  obtain ⟨bc, hb9, h⟩ := h
  refine g_callSX (N := mX0_book) (st := []) (As := [.ref a1, .int (gsx G ((x4 + 1)).toNatClampNeg), .ref a3]) dL_law_501 wsX0_book (lw_SW q1362 q1363 q107 q1364) mokX0_book rfl (by decide) (by decide) hb9 (Nat.zero_le _) h (fun E q s hx => AtX.never hx) (fun _ s1 hq => ?_)
  obtain ⟨rx, rfl, h⟩ := hq
  refine At.stk (st' := [.int rx]) rfl ?_
  refine g_istore (ls1 := [(5, .int rx), (0, .ref (gsb G)), (1, .ref a1), (2, .ref a2), (3, .ref a3), (4, .int x4)]) dL_law_504 (Nat.le_of_ble_eq_true rfl) rfl ?_
  refine g_aload_n dL_law_506 rfl 3 rfl ?_
  refine g_aload_n dL_law_507 rfl 1 rfl ?_
  refine g_iload dL_law_508 5 rfl ?_
  refine g_iconst (v := 1) dL_law_510 (by decide) ?_
  refine g_iadd dL_law_511 ?_
  obtain ⟨h1, h⟩ := h
  refine g_sld dL_law_512 h1 ?_
  obtain ⟨⟨_, hO⟩, h⟩ := h
  refine g_callV (N := mX9_book) (st := []) (As := [.int (gsx G ((x4 + 1)).toNatClampNeg)]) (a := a2) dL_law_513 wsX9_book (lw_V q2135 q2136 q2137 q116 q2138) rfl mokX9_book rfl cl9 (by decide) (by decide) (Nat.zero_le _) (Nat.zero_le _) hO h (fun E q s hx => AtX.never hx) (fun _ s1_1 hq => ?_)
  obtain ⟨rx_2, rfl, h⟩ := hq
  refine At.stk (st' := [.int rx_2]) rfl ?_
  refine g_istore (ls1 := [(6, .int rx_2), (5, .int rx), (0, .ref (gsb G)), (1, .ref a1), (2, .ref a2), (3, .ref a3), (4, .int x4)]) dL_law_516 (Nat.le_of_ble_eq_true rfl) rfl ?_
  refine g_aload_n dL_law_518 rfl 4 rfl ?_
  obtain ⟨⟨_, hO⟩, h⟩ := h
  refine g_callV (N := mX9_thrown) (st := []) (As := []) (a := a2) dL_law_519 wsX9_thrown (lw_V q1741 q1742 q1743 q116 q1744) rfl mokX9_thrown rfl cl9 (by decide) (by decide) (Nat.zero_le _) (Nat.zero_le _) hO h (fun E q s hx => AtX.never hx) (fun _ s1_3 hq => ?_)
  obtain ⟨es, hq⟩ := hq
  refine g_tops2 es ?_
  obtain ⟨rx_4, rfl, h⟩ := hq
  refine At.stk (st' := [.int rx_4]) rfl ?_
  refine g_iload dL_law_522 1 rfl ?_
  refine g_icmp_eq (tgt := 529) dL_law_524 (by decide) (fun c => ?_) (fun c => ?_)
  · replace h := h.1 c
    refine g_iload dL_law_529 1 rfl ?_
    refine g_if_ne (tgt := 546) dL_law_531 (by decide) (fun c => ?_) (fun c => ?_)
    · replace h := h.1 c
      refine g_goto (tgt := 2703) dL_law_546 (by decide) ?_
      exact At.sub (ls := [(6, .int rx_2), (5, .int rx), (0, .ref (gsb G)), (1, .ref a1), (2, .ref a2), (3, .ref a3), (4, .int x4)]) [2, 3, 4, 5, 6] rfl h
    · replace h := h.2 c
      refine g_aload_n dL_law_534 rfl 5 rfl ?_
      refine g_iconst (v := 0) dL_law_535 (by decide) ?_
      obtain ⟨n, f, h1, h2, h⟩ := h
      refine g_lald dL_law_536 h1 h2 ?_
      refine g_iload dL_law_537 0 rfl ?_
      refine g_i2l dL_law_539 ?_
      refine g_lcmp_eq (tgt := 546) dL_law_540 dL_law_541 (by decide) (fun c => ?_) (fun c => ?_)
      · replace h := h.1 c
        refine g_goto (tgt := 2703) dL_law_546 (by decide) ?_
        exact At.sub (ls := [(6, .int rx_2), (5, .int rx), (0, .ref (gsb G)), (1, .ref a1), (2, .ref a2), (3, .ref a3), (4, .int x4)]) [2, 3, 4, 5, 6] rfl h
      · replace h := h.2 c
        refine g_iconst (v := 0) dL_law_544 (by decide) ?_
        exact g_zret rfl rfl dL_law_545 h
  · replace h := h.2 c
    refine g_iconst (v := 0) dL_law_527 (by decide) ?_
    exact g_zret rfl rfl dL_law_528 h
set_option maxHeartbeats 4000000 in
theorem bL_law_549 {G : GC} {Q : Option Value → PS → Prop} {X : String → Nat → PS → Prop} {b : Nat} {nm : String} {hh : List (Nat × Nat × Nat × Nat)} {a1 : Nat} {a2 : Nat} {a3 : Nat} {x4 : Int32} {σ : PS} (h : (∃ fs_3 : List Value, Ob (σ) 1 a1 fs_3) ∧ CallO G mX1_fault 3 [.ref a1] (σ) (pI (fun rx => (∃ fs : List Value, Ob (σ) 9 a2 fs) ∧ Call G mX9_fault 3 0 [.ref a2] (σ) (qI (fun rx_2 s1_1 => ((rx = rx_2) → At G (mL nm hh) 210 Q X b 2703 [(0, .ref (gsb G)), (1, .ref a1), (2, .ref a2), (3, .ref a3), (4, .int x4)] [] s1_1) ∧ ((¬ rx = rx_2) → Q (some (.int 0)) s1_1))) (fun _ _ _ => False)))) : At G (mL nm hh) 210 Q X b 549 [(0, .ref (gsb G)), (1, .ref a1), (2, .ref a2), (3, .ref a3), (4, .int x4)] [] (σ) := by
  refine g_aload_n dL_law_549 rfl 1 rfl ?_
  obtain ⟨⟨_, hO⟩, h⟩ := h
  refine g_callV (N := mX1_fault) (st := []) (As := []) (a := a1) dL_law_550 wsX1_fault (lw_V q509 q510 q511 q108 q512) rfl mokX1_fault rfl cl1 (by decide) (by decide) (Nat.zero_le _) (Nat.zero_le _) hO h (fun E q s hx => AtX.never hx) (fun _ s1 hq => ?_)
  obtain ⟨es, hq⟩ := hq
  refine g_tops2 es ?_
  obtain ⟨rx, rfl, h⟩ := hq
  refine At.stk (st' := [.int rx]) rfl ?_
  refine g_aload_n dL_law_553 rfl 2 rfl ?_
  obtain ⟨⟨_, hO⟩, h⟩ := h
  refine g_callV (N := mX9_fault) (st := [.int rx]) (As := []) (a := a2) dL_law_554 wsX9_fault (lw_V q1963 q1964 q1965 q116 q1966) rfl mokX9_fault rfl cl9 (by decide) (by decide) (Nat.zero_le _) (by simp [Value.category]) hO h (fun E q s hx => AtX.never hx) (fun _ s1_1 hq => ?_)
  obtain ⟨rx_2, rfl, h⟩ := hq
  refine At.stk (st' := [.int rx_2, .int rx]) rfl ?_
  refine g_icmp_eq (tgt := 2703) dL_law_557 (by decide) (fun c => ?_) (fun c => ?_)
  · replace h := h.1 c
    exact At.sub (ls := [(0, .ref (gsb G)), (1, .ref a1), (2, .ref a2), (3, .ref a3), (4, .int x4)]) [0, 1, 2, 3, 4] rfl h
  · replace h := h.2 c
    refine g_iconst (v := 0) dL_law_560 (by decide) ?_
    exact g_zret rfl rfl dL_law_561 h
set_option maxHeartbeats 4000000 in
theorem bL_law_562 {G : GC} {Q : Option Value → PS → Prop} {X : String → Nat → PS → Prop} {b : Nat} {nm : String} {hh : List (Nat × Nat × Nat × Nat)} {a1 : Nat} {a2 : Nat} {a3 : Nat} {x4 : Int32} {σ : PS} (h : vp_in ((x4 + 1)) (gsL G) ∧ (∃ bc : Nat, bc ≤ b ∧ Call G mX0_told 12 bc [.ref a1, .int (gsx G ((x4 + 1)).toNatClampNeg), .ref a3] (σ) (qI (fun rx s1 => vp_in ((x4 + 1)) (gsL G) ∧ ((∃ fs_5 : List Value, Ob s1 9 a2 fs_5) ∧ Call G mX9_told 4 0 [.ref a2, .int (gsx G ((x4 + 1)).toNatClampNeg)] s1 (qI (fun rx_2 s1_1 => (∃ fs : List Value, Ob s1_1 9 a2 fs) ∧ CallO G mX9_thrown 3 [.ref a2] s1_1 (pI (fun rx_4 => ((rx_4 = rx) → ((¬ rx = 0) → At G (mL nm hh) 210 Q X (b - bc) 2703 [(0, .ref (gsb G)), (1, .ref a1), (2, .ref a2), (3, .ref a3), (4, .int x4)] [] s1_1) ∧ ((rx = 0) → ∃ (n : Nat) (f : Nat → Int64), La s1_1 101 a3 n f ∧ vp_in 0 n ∧ ((((f (0 : Int32).toNatClampNeg) = rx_2.toInt64) → At G (mL nm hh) 210 Q X (b - bc) 2703 [(0, .ref (gsb G)), (1, .ref a1), (2, .ref a2), (3, .ref a3), (4, .int x4)] [] s1_1) ∧ ((¬ (f (0 : Int32).toNatClampNeg) = rx_2.toInt64) → Q (some (.int 0)) s1_1)))) ∧ ((¬ rx_4 = rx) → Q (some (.int 0)) s1_1))))) (fun _ _ _ => False)))) (fun _ _ _ => False))) : At G (mL nm hh) 210 Q X b 562 [(0, .ref (gsb G)), (1, .ref a1), (2, .ref a2), (3, .ref a3), (4, .int x4)] [] (σ) := by
  refine g_aload_n dL_law_562 rfl 1 rfl ?_
  refine g_aload_n dL_law_563 rfl 0 rfl ?_
  refine g_iload dL_law_564 4 rfl ?_
  refine g_iconst (v := 1) dL_law_566 (by decide) ?_
  refine g_iadd dL_law_567 ?_
  obtain ⟨h1, h⟩ := h
  refine g_sld dL_law_568 h1 ?_
  refine g_aload_n dL_law_569 rfl 3 rfl ?_
  obtain ⟨bc, hb9, h⟩ := h
  refine g_callSX (N := mX0_told) (st := []) (As := [.ref a1, .int (gsx G ((x4 + 1)).toNatClampNeg), .ref a3]) dL_law_570 wsX0_told (lw_SW q1382 q1383 q107 q1384) mokX0_told rfl (by decide) (by decide) hb9 (Nat.zero_le _) h (fun E q s hx => AtX.never hx) (fun _ s1 hq => ?_)
  obtain ⟨rx, rfl, h⟩ := hq
  refine At.stk (st' := [.int rx]) rfl ?_
  refine g_istore (ls1 := [(5, .int rx), (0, .ref (gsb G)), (1, .ref a1), (2, .ref a2), (3, .ref a3), (4, .int x4)]) dL_law_573 (Nat.le_of_ble_eq_true rfl) rfl ?_
  refine g_aload_n dL_law_575 rfl 3 rfl ?_
  refine g_aload_n dL_law_576 rfl 1 rfl ?_
  refine g_iload dL_law_577 5 rfl ?_
  refine g_iconst (v := 1) dL_law_579 (by decide) ?_
  refine g_iadd dL_law_580 ?_
  obtain ⟨h1, h⟩ := h
  refine g_sld dL_law_581 h1 ?_
  obtain ⟨⟨_, hO⟩, h⟩ := h
  refine g_callV (N := mX9_told) (st := []) (As := [.int (gsx G ((x4 + 1)).toNatClampNeg)]) (a := a2) dL_law_582 wsX9_told (lw_V q2139 q2140 q2141 q116 q2142) rfl mokX9_told rfl cl9 (by decide) (by decide) (Nat.zero_le _) (Nat.zero_le _) hO h (fun E q s hx => AtX.never hx) (fun _ s1_1 hq => ?_)
  obtain ⟨rx_2, rfl, h⟩ := hq
  refine At.stk (st' := [.int rx_2]) rfl ?_
  refine g_istore (ls1 := [(6, .int rx_2), (5, .int rx), (0, .ref (gsb G)), (1, .ref a1), (2, .ref a2), (3, .ref a3), (4, .int x4)]) dL_law_585 (Nat.le_of_ble_eq_true rfl) rfl ?_
  refine g_aload_n dL_law_587 rfl 4 rfl ?_
  obtain ⟨⟨_, hO⟩, h⟩ := h
  refine g_callV (N := mX9_thrown) (st := []) (As := []) (a := a2) dL_law_588 wsX9_thrown (lw_V q1741 q1742 q1743 q116 q1744) rfl mokX9_thrown rfl cl9 (by decide) (by decide) (Nat.zero_le _) (Nat.zero_le _) hO h (fun E q s hx => AtX.never hx) (fun _ s1_3 hq => ?_)
  obtain ⟨es, hq⟩ := hq
  refine g_tops2 es ?_
  obtain ⟨rx_4, rfl, h⟩ := hq
  refine At.stk (st' := [.int rx_4]) rfl ?_
  refine g_iload dL_law_591 1 rfl ?_
  refine g_icmp_eq (tgt := 598) dL_law_593 (by decide) (fun c => ?_) (fun c => ?_)
  · replace h := h.1 c
    refine g_iload dL_law_598 1 rfl ?_
    refine g_if_ne (tgt := 615) dL_law_600 (by decide) (fun c => ?_) (fun c => ?_)
    · replace h := h.1 c
      refine g_goto (tgt := 2703) dL_law_615 (by decide) ?_
      exact At.sub (ls := [(6, .int rx_2), (5, .int rx), (0, .ref (gsb G)), (1, .ref a1), (2, .ref a2), (3, .ref a3), (4, .int x4)]) [2, 3, 4, 5, 6] rfl h
    · replace h := h.2 c
      refine g_aload_n dL_law_603 rfl 5 rfl ?_
      refine g_iconst (v := 0) dL_law_604 (by decide) ?_
      obtain ⟨n, f, h1, h2, h⟩ := h
      refine g_lald dL_law_605 h1 h2 ?_
      refine g_iload dL_law_606 0 rfl ?_
      refine g_i2l dL_law_608 ?_
      refine g_lcmp_eq (tgt := 615) dL_law_609 dL_law_610 (by decide) (fun c => ?_) (fun c => ?_)
      · replace h := h.1 c
        refine g_goto (tgt := 2703) dL_law_615 (by decide) ?_
        exact At.sub (ls := [(6, .int rx_2), (5, .int rx), (0, .ref (gsb G)), (1, .ref a1), (2, .ref a2), (3, .ref a3), (4, .int x4)]) [2, 3, 4, 5, 6] rfl h
      · replace h := h.2 c
        refine g_iconst (v := 0) dL_law_613 (by decide) ?_
        exact g_zret rfl rfl dL_law_614 h
  · replace h := h.2 c
    refine g_iconst (v := 0) dL_law_596 (by decide) ?_
    exact g_zret rfl rfl dL_law_597 h
set_option maxHeartbeats 4000000 in
theorem bL_law_618 {G : GC} {Q : Option Value → PS → Prop} {X : String → Nat → PS → Prop} {b : Nat} {nm : String} {hh : List (Nat × Nat × Nat × Nat)} {a1 : Nat} {a2 : Nat} {a3 : Nat} {x4 : Int32} {σ : PS} (h : vp_in ((x4 + 1)) (gsL G) ∧ (vp_in ((x4 + 2)) (gsL G) ∧ (∃ bc : Nat, bc ≤ b ∧ Call G mX0_visit 13 bc [.ref a1, .int (gsx G ((x4 + 1)).toNatClampNeg), .int (gsx G ((x4 + 2)).toNatClampNeg), .ref a3] (σ) (qI (fun rx s1 => vp_in ((x4 + 1)) (gsL G) ∧ (vp_in ((x4 + 2)) (gsL G) ∧ ((∃ fs_5 : List Value, Ob s1 9 a2 fs_5) ∧ Call G mX9_visit 5 0 [.ref a2, .int (gsx G ((x4 + 1)).toNatClampNeg), .int (gsx G ((x4 + 2)).toNatClampNeg)] s1 (qI (fun rx_2 s1_1 => (∃ fs : List Value, Ob s1_1 9 a2 fs) ∧ CallO G mX9_thrown 3 [.ref a2] s1_1 (pI (fun rx_4 => ((rx_4 = rx) → ((¬ rx = 0) → At G (mL nm hh) 210 Q X (b - bc) 2703 [(0, .ref (gsb G)), (1, .ref a1), (2, .ref a2), (3, .ref a3), (4, .int x4)] [] s1_1) ∧ ((rx = 0) → ∃ (n : Nat) (f : Nat → Int64), La s1_1 101 a3 n f ∧ vp_in 0 n ∧ ((((f (0 : Int32).toNatClampNeg) = rx_2.toInt64) → At G (mL nm hh) 210 Q X (b - bc) 2703 [(0, .ref (gsb G)), (1, .ref a1), (2, .ref a2), (3, .ref a3), (4, .int x4)] [] s1_1) ∧ ((¬ (f (0 : Int32).toNatClampNeg) = rx_2.toInt64) → Q (some (.int 0)) s1_1)))) ∧ ((¬ rx_4 = rx) → Q (some (.int 0)) s1_1))))) (fun _ _ _ => False))))) (fun _ _ _ => False)))) : At G (mL nm hh) 210 Q X b 618 [(0, .ref (gsb G)), (1, .ref a1), (2, .ref a2), (3, .ref a3), (4, .int x4)] [] (σ) := by
  refine g_aload_n dL_law_618 rfl 1 rfl ?_
  refine g_aload_n dL_law_619 rfl 0 rfl ?_
  refine g_iload dL_law_620 4 rfl ?_
  refine g_iconst (v := 1) dL_law_622 (by decide) ?_
  refine g_iadd dL_law_623 ?_
  obtain ⟨h1, h⟩ := h
  refine g_sld dL_law_624 h1 ?_
  refine g_aload_n dL_law_625 rfl 0 rfl ?_
  refine g_iload dL_law_626 4 rfl ?_
  refine g_iconst (v := 2) dL_law_628 (by decide) ?_
  refine g_iadd dL_law_629 ?_
  obtain ⟨h1, h⟩ := h
  refine g_sld dL_law_630 h1 ?_
  refine g_aload_n dL_law_631 rfl 3 rfl ?_
  obtain ⟨bc, hb9, h⟩ := h
  refine g_callSX (N := mX0_visit) (st := []) (As := [.ref a1, .int (gsx G ((x4 + 1)).toNatClampNeg), .int (gsx G ((x4 + 2)).toNatClampNeg), .ref a3]) dL_law_632 wsX0_visit (lw_SW q1389 q1390 q107 q1391) mokX0_visit rfl (by decide) (by decide) hb9 (Nat.zero_le _) h (fun E q s hx => AtX.never hx) (fun _ s1 hq => ?_)
  obtain ⟨rx, rfl, h⟩ := hq
  refine At.stk (st' := [.int rx]) rfl ?_
  refine g_istore (ls1 := [(5, .int rx), (0, .ref (gsb G)), (1, .ref a1), (2, .ref a2), (3, .ref a3), (4, .int x4)]) dL_law_635 (Nat.le_of_ble_eq_true rfl) rfl ?_
  refine g_aload_n dL_law_637 rfl 3 rfl ?_
  refine g_aload_n dL_law_638 rfl 1 rfl ?_
  refine g_iload dL_law_639 5 rfl ?_
  refine g_iconst (v := 1) dL_law_641 (by decide) ?_
  refine g_iadd dL_law_642 ?_
  obtain ⟨h1, h⟩ := h
  refine g_sld dL_law_643 h1 ?_
  refine g_aload_n dL_law_644 rfl 1 rfl ?_
  refine g_iload dL_law_645 5 rfl ?_
  refine g_iconst (v := 2) dL_law_647 (by decide) ?_
  refine g_iadd dL_law_648 ?_
  obtain ⟨h1, h⟩ := h
  refine g_sld dL_law_649 h1 ?_
  obtain ⟨⟨_, hO⟩, h⟩ := h
  refine g_callV (N := mX9_visit) (st := []) (As := [.int (gsx G ((x4 + 1)).toNatClampNeg), .int (gsx G ((x4 + 2)).toNatClampNeg)]) (a := a2) dL_law_650 wsX9_visit (lw_V q2143 q2144 q2145 q116 q2146) rfl mokX9_visit rfl cl9 (by decide) (by decide) (Nat.zero_le _) (Nat.zero_le _) hO h (fun E q s hx => AtX.never hx) (fun _ s1_1 hq => ?_)
  obtain ⟨rx_2, rfl, h⟩ := hq
  refine At.stk (st' := [.int rx_2]) rfl ?_
  refine g_istore (ls1 := [(6, .int rx_2), (5, .int rx), (0, .ref (gsb G)), (1, .ref a1), (2, .ref a2), (3, .ref a3), (4, .int x4)]) dL_law_653 (Nat.le_of_ble_eq_true rfl) rfl ?_
  refine g_aload_n dL_law_655 rfl 4 rfl ?_
  obtain ⟨⟨_, hO⟩, h⟩ := h
  refine g_callV (N := mX9_thrown) (st := []) (As := []) (a := a2) dL_law_656 wsX9_thrown (lw_V q1741 q1742 q1743 q116 q1744) rfl mokX9_thrown rfl cl9 (by decide) (by decide) (Nat.zero_le _) (Nat.zero_le _) hO h (fun E q s hx => AtX.never hx) (fun _ s1_3 hq => ?_)
  obtain ⟨es, hq⟩ := hq
  refine g_tops2 es ?_
  obtain ⟨rx_4, rfl, h⟩ := hq
  refine At.stk (st' := [.int rx_4]) rfl ?_
  refine g_iload dL_law_659 1 rfl ?_
  refine g_icmp_eq (tgt := 666) dL_law_661 (by decide) (fun c => ?_) (fun c => ?_)
  · replace h := h.1 c
    refine g_iload dL_law_666 1 rfl ?_
    refine g_if_ne (tgt := 683) dL_law_668 (by decide) (fun c => ?_) (fun c => ?_)
    · replace h := h.1 c
      refine g_goto (tgt := 2703) dL_law_683 (by decide) ?_
      exact At.sub (ls := [(6, .int rx_2), (5, .int rx), (0, .ref (gsb G)), (1, .ref a1), (2, .ref a2), (3, .ref a3), (4, .int x4)]) [2, 3, 4, 5, 6] rfl h
    · replace h := h.2 c
      refine g_aload_n dL_law_671 rfl 5 rfl ?_
      refine g_iconst (v := 0) dL_law_672 (by decide) ?_
      obtain ⟨n, f, h1, h2, h⟩ := h
      refine g_lald dL_law_673 h1 h2 ?_
      refine g_iload dL_law_674 0 rfl ?_
      refine g_i2l dL_law_676 ?_
      refine g_lcmp_eq (tgt := 683) dL_law_677 dL_law_678 (by decide) (fun c => ?_) (fun c => ?_)
      · replace h := h.1 c
        refine g_goto (tgt := 2703) dL_law_683 (by decide) ?_
        exact At.sub (ls := [(6, .int rx_2), (5, .int rx), (0, .ref (gsb G)), (1, .ref a1), (2, .ref a2), (3, .ref a3), (4, .int x4)]) [2, 3, 4, 5, 6] rfl h
      · replace h := h.2 c
        refine g_iconst (v := 0) dL_law_681 (by decide) ?_
        exact g_zret rfl rfl dL_law_682 h
  · replace h := h.2 c
    refine g_iconst (v := 0) dL_law_664 (by decide) ?_
    exact g_zret rfl rfl dL_law_665 h
set_option maxHeartbeats 4000000 in
theorem bL_law_686 {G : GC} {Q : Option Value → PS → Prop} {X : String → Nat → PS → Prop} {b : Nat} {nm : String} {hh : List (Nat × Nat × Nat × Nat)} {a1 : Nat} {a2 : Nat} {a3 : Nat} {x4 : Int32} {σ : PS} (h : vp_in ((x4 + 1)) (gsL G) ∧ (vp_in ((x4 + 2)) (gsL G) ∧ (∃ bc : Nat, bc ≤ b ∧ Call G mX0_person 13 bc [.ref a1, .int (gsx G ((x4 + 1)).toNatClampNeg), .int (gsx G ((x4 + 2)).toNatClampNeg), .ref a3] (σ) (qI (fun rx s1 => vp_in ((x4 + 1)) (gsL G) ∧ (vp_in ((x4 + 2)) (gsL G) ∧ ((∃ fs_5 : List Value, Ob s1 9 a2 fs_5) ∧ Call G mX9_person 5 0 [.ref a2, .int (gsx G ((x4 + 1)).toNatClampNeg), .int (gsx G ((x4 + 2)).toNatClampNeg)] s1 (qI (fun rx_2 s1_1 => (∃ fs : List Value, Ob s1_1 9 a2 fs) ∧ CallO G mX9_thrown 3 [.ref a2] s1_1 (pI (fun rx_4 => ((rx_4 = rx) → ((¬ rx = 0) → At G (mL nm hh) 210 Q X (b - bc) 2703 [(0, .ref (gsb G)), (1, .ref a1), (2, .ref a2), (3, .ref a3), (4, .int x4)] [] s1_1) ∧ ((rx = 0) → ∃ (n : Nat) (f : Nat → Int64), La s1_1 101 a3 n f ∧ vp_in 0 n ∧ ((((f (0 : Int32).toNatClampNeg) = rx_2.toInt64) → At G (mL nm hh) 210 Q X (b - bc) 2703 [(0, .ref (gsb G)), (1, .ref a1), (2, .ref a2), (3, .ref a3), (4, .int x4)] [] s1_1) ∧ ((¬ (f (0 : Int32).toNatClampNeg) = rx_2.toInt64) → Q (some (.int 0)) s1_1)))) ∧ ((¬ rx_4 = rx) → Q (some (.int 0)) s1_1))))) (fun _ _ _ => False))))) (fun _ _ _ => False)))) : At G (mL nm hh) 210 Q X b 686 [(0, .ref (gsb G)), (1, .ref a1), (2, .ref a2), (3, .ref a3), (4, .int x4)] [] (σ) := by
  refine g_aload_n dL_law_686 rfl 1 rfl ?_
  refine g_aload_n dL_law_687 rfl 0 rfl ?_
  refine g_iload dL_law_688 4 rfl ?_
  refine g_iconst (v := 1) dL_law_690 (by decide) ?_
  refine g_iadd dL_law_691 ?_
  obtain ⟨h1, h⟩ := h
  refine g_sld dL_law_692 h1 ?_
  refine g_aload_n dL_law_693 rfl 0 rfl ?_
  refine g_iload dL_law_694 4 rfl ?_
  refine g_iconst (v := 2) dL_law_696 (by decide) ?_
  refine g_iadd dL_law_697 ?_
  obtain ⟨h1, h⟩ := h
  refine g_sld dL_law_698 h1 ?_
  refine g_aload_n dL_law_699 rfl 3 rfl ?_
  obtain ⟨bc, hb9, h⟩ := h
  refine g_callSX (N := mX0_person) (st := []) (As := [.ref a1, .int (gsx G ((x4 + 1)).toNatClampNeg), .int (gsx G ((x4 + 2)).toNatClampNeg), .ref a3]) dL_law_700 wsX0_person (lw_SW q1402 q1403 q107 q1404) mokX0_person rfl (by decide) (by decide) hb9 (Nat.zero_le _) h (fun E q s hx => AtX.never hx) (fun _ s1 hq => ?_)
  obtain ⟨rx, rfl, h⟩ := hq
  refine At.stk (st' := [.int rx]) rfl ?_
  refine g_istore (ls1 := [(5, .int rx), (0, .ref (gsb G)), (1, .ref a1), (2, .ref a2), (3, .ref a3), (4, .int x4)]) dL_law_703 (Nat.le_of_ble_eq_true rfl) rfl ?_
  refine g_aload_n dL_law_705 rfl 3 rfl ?_
  refine g_aload_n dL_law_706 rfl 1 rfl ?_
  refine g_iload dL_law_707 5 rfl ?_
  refine g_iconst (v := 1) dL_law_709 (by decide) ?_
  refine g_iadd dL_law_710 ?_
  obtain ⟨h1, h⟩ := h
  refine g_sld dL_law_711 h1 ?_
  refine g_aload_n dL_law_712 rfl 1 rfl ?_
  refine g_iload dL_law_713 5 rfl ?_
  refine g_iconst (v := 2) dL_law_715 (by decide) ?_
  refine g_iadd dL_law_716 ?_
  obtain ⟨h1, h⟩ := h
  refine g_sld dL_law_717 h1 ?_
  obtain ⟨⟨_, hO⟩, h⟩ := h
  refine g_callV (N := mX9_person) (st := []) (As := [.int (gsx G ((x4 + 1)).toNatClampNeg), .int (gsx G ((x4 + 2)).toNatClampNeg)]) (a := a2) dL_law_718 wsX9_person (lw_V q2159 q2160 q2161 q116 q2162) rfl mokX9_person rfl cl9 (by decide) (by decide) (Nat.zero_le _) (Nat.zero_le _) hO h (fun E q s hx => AtX.never hx) (fun _ s1_1 hq => ?_)
  obtain ⟨rx_2, rfl, h⟩ := hq
  refine At.stk (st' := [.int rx_2]) rfl ?_
  refine g_istore (ls1 := [(6, .int rx_2), (5, .int rx), (0, .ref (gsb G)), (1, .ref a1), (2, .ref a2), (3, .ref a3), (4, .int x4)]) dL_law_721 (Nat.le_of_ble_eq_true rfl) rfl ?_
  refine g_aload_n dL_law_723 rfl 4 rfl ?_
  obtain ⟨⟨_, hO⟩, h⟩ := h
  refine g_callV (N := mX9_thrown) (st := []) (As := []) (a := a2) dL_law_724 wsX9_thrown (lw_V q1741 q1742 q1743 q116 q1744) rfl mokX9_thrown rfl cl9 (by decide) (by decide) (Nat.zero_le _) (Nat.zero_le _) hO h (fun E q s hx => AtX.never hx) (fun _ s1_3 hq => ?_)
  obtain ⟨es, hq⟩ := hq
  refine g_tops2 es ?_
  obtain ⟨rx_4, rfl, h⟩ := hq
  refine At.stk (st' := [.int rx_4]) rfl ?_
  refine g_iload dL_law_727 1 rfl ?_
  refine g_icmp_eq (tgt := 734) dL_law_729 (by decide) (fun c => ?_) (fun c => ?_)
  · replace h := h.1 c
    refine g_iload dL_law_734 1 rfl ?_
    refine g_if_ne (tgt := 751) dL_law_736 (by decide) (fun c => ?_) (fun c => ?_)
    · replace h := h.1 c
      refine g_goto (tgt := 2703) dL_law_751 (by decide) ?_
      exact At.sub (ls := [(6, .int rx_2), (5, .int rx), (0, .ref (gsb G)), (1, .ref a1), (2, .ref a2), (3, .ref a3), (4, .int x4)]) [2, 3, 4, 5, 6] rfl h
    · replace h := h.2 c
      refine g_aload_n dL_law_739 rfl 5 rfl ?_
      refine g_iconst (v := 0) dL_law_740 (by decide) ?_
      obtain ⟨n, f, h1, h2, h⟩ := h
      refine g_lald dL_law_741 h1 h2 ?_
      refine g_iload dL_law_742 0 rfl ?_
      refine g_i2l dL_law_744 ?_
      refine g_lcmp_eq (tgt := 751) dL_law_745 dL_law_746 (by decide) (fun c => ?_) (fun c => ?_)
      · replace h := h.1 c
        refine g_goto (tgt := 2703) dL_law_751 (by decide) ?_
        exact At.sub (ls := [(6, .int rx_2), (5, .int rx), (0, .ref (gsb G)), (1, .ref a1), (2, .ref a2), (3, .ref a3), (4, .int x4)]) [2, 3, 4, 5, 6] rfl h
      · replace h := h.2 c
        refine g_iconst (v := 0) dL_law_749 (by decide) ?_
        exact g_zret rfl rfl dL_law_750 h
  · replace h := h.2 c
    refine g_iconst (v := 0) dL_law_732 (by decide) ?_
    exact g_zret rfl rfl dL_law_733 h
set_option maxHeartbeats 4000000 in
theorem bL_law_754 {G : GC} {Q : Option Value → PS → Prop} {X : String → Nat → PS → Prop} {b : Nat} {nm : String} {hh : List (Nat × Nat × Nat × Nat)} {a1 : Nat} {a2 : Nat} {a3 : Nat} {x4 : Int32} {σ : PS} (h : vp_in ((x4 + 1)) (gsL G) ∧ (∃ bc : Nat, bc ≤ b ∧ Call G mX0_price 12 bc [.ref a1, .int (gsx G ((x4 + 1)).toNatClampNeg), .ref a3] (σ) (qI (fun rx s1 => vp_in ((x4 + 1)) (gsL G) ∧ ((∃ fs_5 : List Value, Ob s1 9 a2 fs_5) ∧ Call G mX9_price 4 0 [.ref a2, .int (gsx G ((x4 + 1)).toNatClampNeg)] s1 (qI (fun rx_2 s1_1 => (∃ fs : List Value, Ob s1_1 9 a2 fs) ∧ CallO G mX9_thrown 3 [.ref a2] s1_1 (pI (fun rx_4 => ((rx_4 = rx) → ((¬ rx = 0) → At G (mL nm hh) 210 Q X (b - bc) 2703 [(0, .ref (gsb G)), (1, .ref a1), (2, .ref a2), (3, .ref a3), (4, .int x4)] [] s1_1) ∧ ((rx = 0) → ∃ (n : Nat) (f : Nat → Int64), La s1_1 101 a3 n f ∧ vp_in 0 n ∧ ((((f (0 : Int32).toNatClampNeg) = rx_2.toInt64) → At G (mL nm hh) 210 Q X (b - bc) 2703 [(0, .ref (gsb G)), (1, .ref a1), (2, .ref a2), (3, .ref a3), (4, .int x4)] [] s1_1) ∧ ((¬ (f (0 : Int32).toNatClampNeg) = rx_2.toInt64) → Q (some (.int 0)) s1_1)))) ∧ ((¬ rx_4 = rx) → Q (some (.int 0)) s1_1))))) (fun _ _ _ => False)))) (fun _ _ _ => False))) : At G (mL nm hh) 210 Q X b 754 [(0, .ref (gsb G)), (1, .ref a1), (2, .ref a2), (3, .ref a3), (4, .int x4)] [] (σ) := by
  refine g_aload_n dL_law_754 rfl 1 rfl ?_
  refine g_aload_n dL_law_755 rfl 0 rfl ?_
  refine g_iload dL_law_756 4 rfl ?_
  refine g_iconst (v := 1) dL_law_758 (by decide) ?_
  refine g_iadd dL_law_759 ?_
  obtain ⟨h1, h⟩ := h
  refine g_sld dL_law_760 h1 ?_
  refine g_aload_n dL_law_761 rfl 3 rfl ?_
  obtain ⟨bc, hb9, h⟩ := h
  refine g_callSX (N := mX0_price) (st := []) (As := [.ref a1, .int (gsx G ((x4 + 1)).toNatClampNeg), .ref a3]) dL_law_762 wsX0_price (lw_SW q1417 q1418 q107 q1419) mokX0_price rfl (by decide) (by decide) hb9 (Nat.zero_le _) h (fun E q s hx => AtX.never hx) (fun _ s1 hq => ?_)
  obtain ⟨rx, rfl, h⟩ := hq
  refine At.stk (st' := [.int rx]) rfl ?_
  refine g_istore (ls1 := [(5, .int rx), (0, .ref (gsb G)), (1, .ref a1), (2, .ref a2), (3, .ref a3), (4, .int x4)]) dL_law_765 (Nat.le_of_ble_eq_true rfl) rfl ?_
  refine g_aload_n dL_law_767 rfl 3 rfl ?_
  refine g_aload_n dL_law_768 rfl 1 rfl ?_
  refine g_iload dL_law_769 5 rfl ?_
  refine g_iconst (v := 1) dL_law_771 (by decide) ?_
  refine g_iadd dL_law_772 ?_
  obtain ⟨h1, h⟩ := h
  refine g_sld dL_law_773 h1 ?_
  obtain ⟨⟨_, hO⟩, h⟩ := h
  refine g_callV (N := mX9_price) (st := []) (As := [.int (gsx G ((x4 + 1)).toNatClampNeg)]) (a := a2) dL_law_774 wsX9_price (lw_V q2163 q2164 q2165 q116 q2166) rfl mokX9_price rfl cl9 (by decide) (by decide) (Nat.zero_le _) (Nat.zero_le _) hO h (fun E q s hx => AtX.never hx) (fun _ s1_1 hq => ?_)
  obtain ⟨rx_2, rfl, h⟩ := hq
  refine At.stk (st' := [.int rx_2]) rfl ?_
  refine g_istore (ls1 := [(6, .int rx_2), (5, .int rx), (0, .ref (gsb G)), (1, .ref a1), (2, .ref a2), (3, .ref a3), (4, .int x4)]) dL_law_777 (Nat.le_of_ble_eq_true rfl) rfl ?_
  refine g_aload_n dL_law_779 rfl 4 rfl ?_
  obtain ⟨⟨_, hO⟩, h⟩ := h
  refine g_callV (N := mX9_thrown) (st := []) (As := []) (a := a2) dL_law_780 wsX9_thrown (lw_V q1741 q1742 q1743 q116 q1744) rfl mokX9_thrown rfl cl9 (by decide) (by decide) (Nat.zero_le _) (Nat.zero_le _) hO h (fun E q s hx => AtX.never hx) (fun _ s1_3 hq => ?_)
  obtain ⟨es, hq⟩ := hq
  refine g_tops2 es ?_
  obtain ⟨rx_4, rfl, h⟩ := hq
  refine At.stk (st' := [.int rx_4]) rfl ?_
  refine g_iload dL_law_783 1 rfl ?_
  refine g_icmp_eq (tgt := 790) dL_law_785 (by decide) (fun c => ?_) (fun c => ?_)
  · replace h := h.1 c
    refine g_iload dL_law_790 1 rfl ?_
    refine g_if_ne (tgt := 807) dL_law_792 (by decide) (fun c => ?_) (fun c => ?_)
    · replace h := h.1 c
      refine g_goto (tgt := 2703) dL_law_807 (by decide) ?_
      exact At.sub (ls := [(6, .int rx_2), (5, .int rx), (0, .ref (gsb G)), (1, .ref a1), (2, .ref a2), (3, .ref a3), (4, .int x4)]) [2, 3, 4, 5, 6] rfl h
    · replace h := h.2 c
      refine g_aload_n dL_law_795 rfl 5 rfl ?_
      refine g_iconst (v := 0) dL_law_796 (by decide) ?_
      obtain ⟨n, f, h1, h2, h⟩ := h
      refine g_lald dL_law_797 h1 h2 ?_
      refine g_iload dL_law_798 0 rfl ?_
      refine g_i2l dL_law_800 ?_
      refine g_lcmp_eq (tgt := 807) dL_law_801 dL_law_802 (by decide) (fun c => ?_) (fun c => ?_)
      · replace h := h.1 c
        refine g_goto (tgt := 2703) dL_law_807 (by decide) ?_
        exact At.sub (ls := [(6, .int rx_2), (5, .int rx), (0, .ref (gsb G)), (1, .ref a1), (2, .ref a2), (3, .ref a3), (4, .int x4)]) [2, 3, 4, 5, 6] rfl h
      · replace h := h.2 c
        refine g_iconst (v := 0) dL_law_805 (by decide) ?_
        exact g_zret rfl rfl dL_law_806 h
  · replace h := h.2 c
    refine g_iconst (v := 0) dL_law_788 (by decide) ?_
    exact g_zret rfl rfl dL_law_789 h
set_option maxHeartbeats 4000000 in
theorem bL_law_810 {G : GC} {Q : Option Value → PS → Prop} {X : String → Nat → PS → Prop} {b : Nat} {nm : String} {hh : List (Nat × Nat × Nat × Nat)} {a1 : Nat} {a2 : Nat} {a3 : Nat} {x4 : Int32} {σ : PS} (h : vp_in ((x4 + 1)) (gsL G) ∧ (∃ bc : Nat, bc ≤ b ∧ Call G mX0_states 206 bc [.ref a1, .int (gsx G ((x4 + 1)).toNatClampNeg), .ref a3] (σ) (qI (fun rx s1 => vp_in ((x4 + 1)) (gsL G) ∧ ((∃ fs_5 : List Value, Ob s1 9 a2 fs_5) ∧ Call G mX9_states 8 0 [.ref a2, .int (gsx G ((x4 + 1)).toNatClampNeg)] s1 (qI (fun rx_2 s1_1 => (∃ fs : List Value, Ob s1_1 9 a2 fs) ∧ CallO G mX9_thrown 3 [.ref a2] s1_1 (pI (fun rx_4 => ((rx_4 = rx) → ((¬ rx = 0) → At G (mL nm hh) 210 Q X (b - bc) 2703 [(0, .ref (gsb G)), (1, .ref a1), (2, .ref a2), (3, .ref a3), (4, .int x4)] [] s1_1) ∧ ((rx = 0) → ∃ (n : Nat) (f : Nat → Int64), La s1_1 101 a3 n f ∧ vp_in 0 n ∧ ((((f (0 : Int32).toNatClampNeg) = rx_2.toInt64) → At G (mL nm hh) 210 Q X (b - bc) 2703 [(0, .ref (gsb G)), (1, .ref a1), (2, .ref a2), (3, .ref a3), (4, .int x4)] [] s1_1) ∧ ((¬ (f (0 : Int32).toNatClampNeg) = rx_2.toInt64) → Q (some (.int 0)) s1_1)))) ∧ ((¬ rx_4 = rx) → Q (some (.int 0)) s1_1))))) (fun _ _ _ => False)))) (fun _ _ _ => False))) : At G (mL nm hh) 210 Q X b 810 [(0, .ref (gsb G)), (1, .ref a1), (2, .ref a2), (3, .ref a3), (4, .int x4)] [] (σ) := by
  refine g_aload_n dL_law_810 rfl 1 rfl ?_
  refine g_aload_n dL_law_811 rfl 0 rfl ?_
  refine g_iload dL_law_812 4 rfl ?_
  refine g_iconst (v := 1) dL_law_814 (by decide) ?_
  refine g_iadd dL_law_815 ?_
  obtain ⟨h1, h⟩ := h
  refine g_sld dL_law_816 h1 ?_
  refine g_aload_n dL_law_817 rfl 3 rfl ?_
  obtain ⟨bc, hb9, h⟩ := h
  refine g_callSX (N := mX0_states) (st := []) (As := [.ref a1, .int (gsx G ((x4 + 1)).toNatClampNeg), .ref a3]) dL_law_818 wsX0_states (lw_SW q1424 q1425 q107 q1426) mokX0_states rfl (by decide) (by decide) hb9 (Nat.zero_le _) h (fun E q s hx => AtX.never hx) (fun _ s1 hq => ?_)
  obtain ⟨rx, rfl, h⟩ := hq
  refine At.stk (st' := [.int rx]) rfl ?_
  refine g_istore (ls1 := [(5, .int rx), (0, .ref (gsb G)), (1, .ref a1), (2, .ref a2), (3, .ref a3), (4, .int x4)]) dL_law_821 (Nat.le_of_ble_eq_true rfl) rfl ?_
  refine g_aload_n dL_law_823 rfl 3 rfl ?_
  refine g_aload_n dL_law_824 rfl 1 rfl ?_
  refine g_iload dL_law_825 5 rfl ?_
  refine g_iconst (v := 1) dL_law_827 (by decide) ?_
  refine g_iadd dL_law_828 ?_
  obtain ⟨h1, h⟩ := h
  refine g_sld dL_law_829 h1 ?_
  obtain ⟨⟨_, hO⟩, h⟩ := h
  refine g_callV (N := mX9_states) (st := []) (As := [.int (gsx G ((x4 + 1)).toNatClampNeg)]) (a := a2) dL_law_830 wsX9_states (lw_V q2167 q2168 q2169 q116 q2170) rfl mokX9_states rfl cl9 (by decide) (by decide) (Nat.zero_le _) (Nat.zero_le _) hO h (fun E q s hx => AtX.never hx) (fun _ s1_1 hq => ?_)
  obtain ⟨rx_2, rfl, h⟩ := hq
  refine At.stk (st' := [.int rx_2]) rfl ?_
  refine g_istore (ls1 := [(6, .int rx_2), (5, .int rx), (0, .ref (gsb G)), (1, .ref a1), (2, .ref a2), (3, .ref a3), (4, .int x4)]) dL_law_833 (Nat.le_of_ble_eq_true rfl) rfl ?_
  refine g_aload_n dL_law_835 rfl 4 rfl ?_
  obtain ⟨⟨_, hO⟩, h⟩ := h
  refine g_callV (N := mX9_thrown) (st := []) (As := []) (a := a2) dL_law_836 wsX9_thrown (lw_V q1741 q1742 q1743 q116 q1744) rfl mokX9_thrown rfl cl9 (by decide) (by decide) (Nat.zero_le _) (Nat.zero_le _) hO h (fun E q s hx => AtX.never hx) (fun _ s1_3 hq => ?_)
  obtain ⟨es, hq⟩ := hq
  refine g_tops2 es ?_
  obtain ⟨rx_4, rfl, h⟩ := hq
  refine At.stk (st' := [.int rx_4]) rfl ?_
  refine g_iload dL_law_839 1 rfl ?_
  refine g_icmp_eq (tgt := 846) dL_law_841 (by decide) (fun c => ?_) (fun c => ?_)
  · replace h := h.1 c
    refine g_iload dL_law_846 1 rfl ?_
    refine g_if_ne (tgt := 863) dL_law_848 (by decide) (fun c => ?_) (fun c => ?_)
    · replace h := h.1 c
      refine g_goto (tgt := 2703) dL_law_863 (by decide) ?_
      exact At.sub (ls := [(6, .int rx_2), (5, .int rx), (0, .ref (gsb G)), (1, .ref a1), (2, .ref a2), (3, .ref a3), (4, .int x4)]) [2, 3, 4, 5, 6] rfl h
    · replace h := h.2 c
      refine g_aload_n dL_law_851 rfl 5 rfl ?_
      refine g_iconst (v := 0) dL_law_852 (by decide) ?_
      obtain ⟨n, f, h1, h2, h⟩ := h
      refine g_lald dL_law_853 h1 h2 ?_
      refine g_iload dL_law_854 0 rfl ?_
      refine g_i2l dL_law_856 ?_
      refine g_lcmp_eq (tgt := 863) dL_law_857 dL_law_858 (by decide) (fun c => ?_) (fun c => ?_)
      · replace h := h.1 c
        refine g_goto (tgt := 2703) dL_law_863 (by decide) ?_
        exact At.sub (ls := [(6, .int rx_2), (5, .int rx), (0, .ref (gsb G)), (1, .ref a1), (2, .ref a2), (3, .ref a3), (4, .int x4)]) [2, 3, 4, 5, 6] rfl h
      · replace h := h.2 c
        refine g_iconst (v := 0) dL_law_861 (by decide) ?_
        exact g_zret rfl rfl dL_law_862 h
  · replace h := h.2 c
    refine g_iconst (v := 0) dL_law_844 (by decide) ?_
    exact g_zret rfl rfl dL_law_845 h
set_option maxHeartbeats 4000000 in
theorem bL_law_866 {G : GC} {Q : Option Value → PS → Prop} {X : String → Nat → PS → Prop} {b : Nat} {nm : String} {hh : List (Nat × Nat × Nat × Nat)} {a1 : Nat} {a2 : Nat} {a3 : Nat} {x4 : Int32} {σ : PS} (h : vp_in ((x4 + 1)) (gsL G) ∧ (vp_in ((x4 + 2)) (gsL G) ∧ (∃ bc : Nat, bc ≤ b ∧ Call G mX0_likely 206 bc [.ref a1, .int (gsx G ((x4 + 1)).toNatClampNeg), .int (gsx G ((x4 + 2)).toNatClampNeg), .ref a3] (σ) (qI (fun rx s1 => vp_in ((x4 + 1)) (gsL G) ∧ (vp_in ((x4 + 2)) (gsL G) ∧ ((∃ fs_4 : List Value, Ob s1 9 a2 fs_4) ∧ Call G mX9_likely 8 0 [.ref a2, .int (gsx G ((x4 + 1)).toNatClampNeg), .int (gsx G ((x4 + 2)).toNatClampNeg)] s1 (qJ (fun ry s1_1 => (∃ fs : List Value, Ob s1_1 9 a2 fs) ∧ CallO G mX9_thrown 3 [.ref a2] s1_1 (pI (fun rx_3 => ((rx_3 = rx) → ((¬ rx = 0) → At G (mL nm hh) 210 Q X (b - bc) 2703 [(0, .ref (gsb G)), (1, .ref a1), (2, .ref a2), (3, .ref a3), (4, .int x4)] [] s1_1) ∧ ((rx = 0) → ∃ (n : Nat) (f : Nat → Int64), La s1_1 101 a3 n f ∧ vp_in 0 n ∧ ((((f (0 : Int32).toNatClampNeg) = ry) → At G (mL nm hh) 210 Q X (b - bc) 2703 [(0, .ref (gsb G)), (1, .ref a1), (2, .ref a2), (3, .ref a3), (4, .int x4)] [] s1_1) ∧ ((¬ (f (0 : Int32).toNatClampNeg) = ry) → Q (some (.int 0)) s1_1)))) ∧ ((¬ rx_3 = rx) → Q (some (.int 0)) s1_1))))) (fun _ _ _ => False))))) (fun _ _ _ => False)))) : At G (mL nm hh) 210 Q X b 866 [(0, .ref (gsb G)), (1, .ref a1), (2, .ref a2), (3, .ref a3), (4, .int x4)] [] (σ) := by
  refine g_aload_n dL_law_866 rfl 1 rfl ?_
  refine g_aload_n dL_law_867 rfl 0 rfl ?_
  refine g_iload dL_law_868 4 rfl ?_
  refine g_iconst (v := 1) dL_law_870 (by decide) ?_
  refine g_iadd dL_law_871 ?_
  obtain ⟨h1, h⟩ := h
  refine g_sld dL_law_872 h1 ?_
  refine g_aload_n dL_law_873 rfl 0 rfl ?_
  refine g_iload dL_law_874 4 rfl ?_
  refine g_iconst (v := 2) dL_law_876 (by decide) ?_
  refine g_iadd dL_law_877 ?_
  obtain ⟨h1, h⟩ := h
  refine g_sld dL_law_878 h1 ?_
  refine g_aload_n dL_law_879 rfl 3 rfl ?_
  obtain ⟨bc, hb9, h⟩ := h
  refine g_callSX (N := mX0_likely) (st := []) (As := [.ref a1, .int (gsx G ((x4 + 1)).toNatClampNeg), .int (gsx G ((x4 + 2)).toNatClampNeg), .ref a3]) dL_law_880 wsX0_likely (lw_SW q1435 q1436 q107 q1437) mokX0_likely rfl (by decide) (by decide) hb9 (Nat.zero_le _) h (fun E q s hx => AtX.never hx) (fun _ s1 hq => ?_)
  obtain ⟨rx, rfl, h⟩ := hq
  refine At.stk (st' := [.int rx]) rfl ?_
  refine g_istore (ls1 := [(5, .int rx), (0, .ref (gsb G)), (1, .ref a1), (2, .ref a2), (3, .ref a3), (4, .int x4)]) dL_law_883 (Nat.le_of_ble_eq_true rfl) rfl ?_
  refine g_aload_n dL_law_885 rfl 3 rfl ?_
  refine g_aload_n dL_law_886 rfl 1 rfl ?_
  refine g_iload dL_law_887 5 rfl ?_
  refine g_iconst (v := 1) dL_law_889 (by decide) ?_
  refine g_iadd dL_law_890 ?_
  obtain ⟨h1, h⟩ := h
  refine g_sld dL_law_891 h1 ?_
  refine g_aload_n dL_law_892 rfl 1 rfl ?_
  refine g_iload dL_law_893 5 rfl ?_
  refine g_iconst (v := 2) dL_law_895 (by decide) ?_
  refine g_iadd dL_law_896 ?_
  obtain ⟨h1, h⟩ := h
  refine g_sld dL_law_897 h1 ?_
  obtain ⟨⟨_, hO⟩, h⟩ := h
  refine g_callV (N := mX9_likely) (st := []) (As := [.int (gsx G ((x4 + 1)).toNatClampNeg), .int (gsx G ((x4 + 2)).toNatClampNeg)]) (a := a2) dL_law_898 wsX9_likely (lw_V q2263 q2264 q2265 q116 q2266) rfl mokX9_likely rfl cl9 (by decide) (by decide) (Nat.zero_le _) (Nat.zero_le _) hO h (fun E q s hx => AtX.never hx) (fun _ s1_1 hq => ?_)
  obtain ⟨ry, rfl, h⟩ := hq
  refine At.stk (st' := [.long ry]) rfl ?_
  refine g_lstore (ls1 := [(6, .long ry), (5, .int rx), (0, .ref (gsb G)), (1, .ref a1), (2, .ref a2), (3, .ref a3), (4, .int x4)]) dL_law_901 (Nat.le_of_ble_eq_true rfl) rfl ?_
  refine g_aload_n dL_law_903 rfl 4 rfl ?_
  obtain ⟨⟨_, hO⟩, h⟩ := h
  refine g_callV (N := mX9_thrown) (st := []) (As := []) (a := a2) dL_law_904 wsX9_thrown (lw_V q1741 q1742 q1743 q116 q1744) rfl mokX9_thrown rfl cl9 (by decide) (by decide) (Nat.zero_le _) (Nat.zero_le _) hO h (fun E q s hx => AtX.never hx) (fun _ s1_2 hq => ?_)
  obtain ⟨es, hq⟩ := hq
  refine g_tops2 es ?_
  obtain ⟨rx_3, rfl, h⟩ := hq
  refine At.stk (st' := [.int rx_3]) rfl ?_
  refine g_iload dL_law_907 1 rfl ?_
  refine g_icmp_eq (tgt := 914) dL_law_909 (by decide) (fun c => ?_) (fun c => ?_)
  · replace h := h.1 c
    refine g_iload dL_law_914 1 rfl ?_
    refine g_if_ne (tgt := 930) dL_law_916 (by decide) (fun c => ?_) (fun c => ?_)
    · replace h := h.1 c
      refine g_goto (tgt := 2703) dL_law_930 (by decide) ?_
      exact At.sub (ls := [(6, .long ry), (5, .int rx), (0, .ref (gsb G)), (1, .ref a1), (2, .ref a2), (3, .ref a3), (4, .int x4)]) [2, 3, 4, 5, 6] rfl h
    · replace h := h.2 c
      refine g_aload_n dL_law_919 rfl 5 rfl ?_
      refine g_iconst (v := 0) dL_law_920 (by decide) ?_
      obtain ⟨n, f, h1, h2, h⟩ := h
      refine g_lald dL_law_921 h1 h2 ?_
      refine g_lload dL_law_922 0 rfl ?_
      refine g_lcmp_eq (tgt := 930) dL_law_924 dL_law_925 (by decide) (fun c => ?_) (fun c => ?_)
      · replace h := h.1 c
        refine g_goto (tgt := 2703) dL_law_930 (by decide) ?_
        exact At.sub (ls := [(6, .long ry), (5, .int rx), (0, .ref (gsb G)), (1, .ref a1), (2, .ref a2), (3, .ref a3), (4, .int x4)]) [2, 3, 4, 5, 6] rfl h
      · replace h := h.2 c
        refine g_iconst (v := 0) dL_law_928 (by decide) ?_
        exact g_zret rfl rfl dL_law_929 h
  · replace h := h.2 c
    refine g_iconst (v := 0) dL_law_912 (by decide) ?_
    exact g_zret rfl rfl dL_law_913 h
set_option maxHeartbeats 4000000 in
theorem bL_law_933 {G : GC} {Q : Option Value → PS → Prop} {X : String → Nat → PS → Prop} {b : Nat} {nm : String} {hh : List (Nat × Nat × Nat × Nat)} {a1 : Nat} {a2 : Nat} {a3 : Nat} {x4 : Int32} {σ : PS} (h : vp_in ((x4 + 1)) (gsL G) ∧ (vp_in ((x4 + 2)) (gsL G) ∧ (vp_in ((x4 + 3)) (gsL G) ∧ (vp_in ((x4 + 4)) (gsL G) ∧ (∃ bc : Nat, bc ≤ b ∧ Call G mX0_state 206 bc [.ref a1, .int (gsx G ((x4 + 1)).toNatClampNeg), .int (gsx G ((x4 + 2)).toNatClampNeg), .int (gsx G ((x4 + 3)).toNatClampNeg), .int (gsx G ((x4 + 4)).toNatClampNeg), .ref a3] (σ) (qI (fun rx s1 => vp_in ((x4 + 1)) (gsL G) ∧ (vp_in ((x4 + 2)) (gsL G) ∧ (vp_in ((x4 + 3)) (gsL G) ∧ (vp_in ((x4 + 4)) (gsL G) ∧ ((∃ fs_4 : List Value, Ob s1 9 a2 fs_4) ∧ Call G mX9_state 8 0 [.ref a2, .int (gsx G ((x4 + 1)).toNatClampNeg), .int (gsx G ((x4 + 2)).toNatClampNeg), .int (gsx G ((x4 + 3)).toNatClampNeg), .int (gsx G ((x4 + 4)).toNatClampNeg)] s1 (qJ (fun ry s1_1 => (∃ fs : List Value, Ob s1_1 9 a2 fs) ∧ CallO G mX9_thrown 3 [.ref a2] s1_1 (pI (fun rx_3 => ((rx_3 = rx) → ((¬ rx = 0) → At G (mL nm hh) 210 Q X (b - bc) 2703 [(0, .ref (gsb G)), (1, .ref a1), (2, .ref a2), (3, .ref a3), (4, .int x4)] [] s1_1) ∧ ((rx = 0) → ∃ (n : Nat) (f : Nat → Int64), La s1_1 101 a3 n f ∧ vp_in 0 n ∧ ((((f (0 : Int32).toNatClampNeg) = ry) → At G (mL nm hh) 210 Q X (b - bc) 2703 [(0, .ref (gsb G)), (1, .ref a1), (2, .ref a2), (3, .ref a3), (4, .int x4)] [] s1_1) ∧ ((¬ (f (0 : Int32).toNatClampNeg) = ry) → Q (some (.int 0)) s1_1)))) ∧ ((¬ rx_3 = rx) → Q (some (.int 0)) s1_1))))) (fun _ _ _ => False))))))) (fun _ _ _ => False)))))) : At G (mL nm hh) 210 Q X b 933 [(0, .ref (gsb G)), (1, .ref a1), (2, .ref a2), (3, .ref a3), (4, .int x4)] [] (σ) := by
  refine g_aload_n dL_law_933 rfl 1 rfl ?_
  refine g_aload_n dL_law_934 rfl 0 rfl ?_
  refine g_iload dL_law_935 4 rfl ?_
  refine g_iconst (v := 1) dL_law_937 (by decide) ?_
  refine g_iadd dL_law_938 ?_
  obtain ⟨h1, h⟩ := h
  refine g_sld dL_law_939 h1 ?_
  refine g_aload_n dL_law_940 rfl 0 rfl ?_
  refine g_iload dL_law_941 4 rfl ?_
  refine g_iconst (v := 2) dL_law_943 (by decide) ?_
  refine g_iadd dL_law_944 ?_
  obtain ⟨h1, h⟩ := h
  refine g_sld dL_law_945 h1 ?_
  refine g_aload_n dL_law_946 rfl 0 rfl ?_
  refine g_iload dL_law_947 4 rfl ?_
  refine g_iconst (v := 3) dL_law_949 (by decide) ?_
  refine g_iadd dL_law_950 ?_
  obtain ⟨h1, h⟩ := h
  refine g_sld dL_law_951 h1 ?_
  refine g_aload_n dL_law_952 rfl 0 rfl ?_
  refine g_iload dL_law_953 4 rfl ?_
  refine g_iconst (v := 4) dL_law_955 (by decide) ?_
  refine g_iadd dL_law_956 ?_
  obtain ⟨h1, h⟩ := h
  refine g_sld dL_law_957 h1 ?_
  refine g_aload_n dL_law_958 rfl 3 rfl ?_
  obtain ⟨bc, hb9, h⟩ := h
  refine g_callSX (N := mX0_state) (st := []) (As := [.ref a1, .int (gsx G ((x4 + 1)).toNatClampNeg), .int (gsx G ((x4 + 2)).toNatClampNeg), .int (gsx G ((x4 + 3)).toNatClampNeg), .int (gsx G ((x4 + 4)).toNatClampNeg), .ref a3]) dL_law_959 wsX0_state (lw_SW q1443 q1444 q107 q1445) mokX0_state rfl (by decide) (by decide) hb9 (Nat.zero_le _) h (fun E q s hx => AtX.never hx) (fun _ s1 hq => ?_)
  obtain ⟨rx, rfl, h⟩ := hq
  refine At.stk (st' := [.int rx]) rfl ?_
  refine g_istore (ls1 := [(5, .int rx), (0, .ref (gsb G)), (1, .ref a1), (2, .ref a2), (3, .ref a3), (4, .int x4)]) dL_law_962 (Nat.le_of_ble_eq_true rfl) rfl ?_
  refine g_aload_n dL_law_964 rfl 3 rfl ?_
  refine g_aload_n dL_law_965 rfl 1 rfl ?_
  refine g_iload dL_law_966 5 rfl ?_
  refine g_iconst (v := 1) dL_law_968 (by decide) ?_
  refine g_iadd dL_law_969 ?_
  obtain ⟨h1, h⟩ := h
  refine g_sld dL_law_970 h1 ?_
  refine g_aload_n dL_law_971 rfl 1 rfl ?_
  refine g_iload dL_law_972 5 rfl ?_
  refine g_iconst (v := 2) dL_law_974 (by decide) ?_
  refine g_iadd dL_law_975 ?_
  obtain ⟨h1, h⟩ := h
  refine g_sld dL_law_976 h1 ?_
  refine g_aload_n dL_law_977 rfl 1 rfl ?_
  refine g_iload dL_law_978 5 rfl ?_
  refine g_iconst (v := 3) dL_law_980 (by decide) ?_
  refine g_iadd dL_law_981 ?_
  obtain ⟨h1, h⟩ := h
  refine g_sld dL_law_982 h1 ?_
  refine g_aload_n dL_law_983 rfl 1 rfl ?_
  refine g_iload dL_law_984 5 rfl ?_
  refine g_iconst (v := 4) dL_law_986 (by decide) ?_
  refine g_iadd dL_law_987 ?_
  obtain ⟨h1, h⟩ := h
  refine g_sld dL_law_988 h1 ?_
  obtain ⟨⟨_, hO⟩, h⟩ := h
  refine g_callV (N := mX9_state) (st := []) (As := [.int (gsx G ((x4 + 1)).toNatClampNeg), .int (gsx G ((x4 + 2)).toNatClampNeg), .int (gsx G ((x4 + 3)).toNatClampNeg), .int (gsx G ((x4 + 4)).toNatClampNeg)]) (a := a2) dL_law_989 wsX9_state (lw_V q2267 q2268 q2269 q116 q2270) rfl mokX9_state rfl cl9 (by decide) (by decide) (Nat.zero_le _) (Nat.zero_le _) hO h (fun E q s hx => AtX.never hx) (fun _ s1_1 hq => ?_)
  obtain ⟨ry, rfl, h⟩ := hq
  refine At.stk (st' := [.long ry]) rfl ?_
  refine g_lstore (ls1 := [(6, .long ry), (5, .int rx), (0, .ref (gsb G)), (1, .ref a1), (2, .ref a2), (3, .ref a3), (4, .int x4)]) dL_law_992 (Nat.le_of_ble_eq_true rfl) rfl ?_
  refine g_aload_n dL_law_994 rfl 4 rfl ?_
  obtain ⟨⟨_, hO⟩, h⟩ := h
  refine g_callV (N := mX9_thrown) (st := []) (As := []) (a := a2) dL_law_995 wsX9_thrown (lw_V q1741 q1742 q1743 q116 q1744) rfl mokX9_thrown rfl cl9 (by decide) (by decide) (Nat.zero_le _) (Nat.zero_le _) hO h (fun E q s hx => AtX.never hx) (fun _ s1_2 hq => ?_)
  obtain ⟨es, hq⟩ := hq
  refine g_tops2 es ?_
  obtain ⟨rx_3, rfl, h⟩ := hq
  refine At.stk (st' := [.int rx_3]) rfl ?_
  refine g_iload dL_law_998 1 rfl ?_
  refine g_icmp_eq (tgt := 1005) dL_law_1000 (by decide) (fun c => ?_) (fun c => ?_)
  · replace h := h.1 c
    refine g_iload dL_law_1005 1 rfl ?_
    refine g_if_ne (tgt := 1021) dL_law_1007 (by decide) (fun c => ?_) (fun c => ?_)
    · replace h := h.1 c
      refine g_goto (tgt := 2703) dL_law_1021 (by decide) ?_
      exact At.sub (ls := [(6, .long ry), (5, .int rx), (0, .ref (gsb G)), (1, .ref a1), (2, .ref a2), (3, .ref a3), (4, .int x4)]) [2, 3, 4, 5, 6] rfl h
    · replace h := h.2 c
      refine g_aload_n dL_law_1010 rfl 5 rfl ?_
      refine g_iconst (v := 0) dL_law_1011 (by decide) ?_
      obtain ⟨n, f, h1, h2, h⟩ := h
      refine g_lald dL_law_1012 h1 h2 ?_
      refine g_lload dL_law_1013 0 rfl ?_
      refine g_lcmp_eq (tgt := 1021) dL_law_1015 dL_law_1016 (by decide) (fun c => ?_) (fun c => ?_)
      · replace h := h.1 c
        refine g_goto (tgt := 2703) dL_law_1021 (by decide) ?_
        exact At.sub (ls := [(6, .long ry), (5, .int rx), (0, .ref (gsb G)), (1, .ref a1), (2, .ref a2), (3, .ref a3), (4, .int x4)]) [2, 3, 4, 5, 6] rfl h
      · replace h := h.2 c
        refine g_iconst (v := 0) dL_law_1019 (by decide) ?_
        exact g_zret rfl rfl dL_law_1020 h
  · replace h := h.2 c
    refine g_iconst (v := 0) dL_law_1003 (by decide) ?_
    exact g_zret rfl rfl dL_law_1004 h
set_option maxHeartbeats 4000000 in
theorem bL_law_1024 {G : GC} {Q : Option Value → PS → Prop} {X : String → Nat → PS → Prop} {b : Nat} {nm : String} {hh : List (Nat × Nat × Nat × Nat)} {a1 : Nat} {a2 : Nat} {a3 : Nat} {x4 : Int32} {σ : PS} (h : vp_in ((x4 + 1)) (gsL G) ∧ (∃ bc : Nat, bc ≤ b ∧ Call G mX0_likeliest 206 bc [.ref a1, .int (gsx G ((x4 + 1)).toNatClampNeg), .ref a3] (σ) (qI (fun rx s1 => vp_in ((x4 + 1)) (gsL G) ∧ ((∃ fs_5 : List Value, Ob s1 9 a2 fs_5) ∧ Call G mX9_likeliest 8 0 [.ref a2, .int (gsx G ((x4 + 1)).toNatClampNeg)] s1 (qI (fun rx_2 s1_1 => (∃ fs : List Value, Ob s1_1 9 a2 fs) ∧ CallO G mX9_thrown 3 [.ref a2] s1_1 (pI (fun rx_4 => ((rx_4 = rx) → ((¬ rx = 0) → At G (mL nm hh) 210 Q X (b - bc) 2703 [(0, .ref (gsb G)), (1, .ref a1), (2, .ref a2), (3, .ref a3), (4, .int x4)] [] s1_1) ∧ ((rx = 0) → ∃ (n : Nat) (f : Nat → Int64), La s1_1 101 a3 n f ∧ vp_in 0 n ∧ ((((f (0 : Int32).toNatClampNeg) = rx_2.toInt64) → At G (mL nm hh) 210 Q X (b - bc) 2703 [(0, .ref (gsb G)), (1, .ref a1), (2, .ref a2), (3, .ref a3), (4, .int x4)] [] s1_1) ∧ ((¬ (f (0 : Int32).toNatClampNeg) = rx_2.toInt64) → Q (some (.int 0)) s1_1)))) ∧ ((¬ rx_4 = rx) → Q (some (.int 0)) s1_1))))) (fun _ _ _ => False)))) (fun _ _ _ => False))) : At G (mL nm hh) 210 Q X b 1024 [(0, .ref (gsb G)), (1, .ref a1), (2, .ref a2), (3, .ref a3), (4, .int x4)] [] (σ) := by
  refine g_aload_n dL_law_1024 rfl 1 rfl ?_
  refine g_aload_n dL_law_1025 rfl 0 rfl ?_
  refine g_iload dL_law_1026 4 rfl ?_
  refine g_iconst (v := 1) dL_law_1028 (by decide) ?_
  refine g_iadd dL_law_1029 ?_
  obtain ⟨h1, h⟩ := h
  refine g_sld dL_law_1030 h1 ?_
  refine g_aload_n dL_law_1031 rfl 3 rfl ?_
  obtain ⟨bc, hb9, h⟩ := h
  refine g_callSX (N := mX0_likeliest) (st := []) (As := [.ref a1, .int (gsx G ((x4 + 1)).toNatClampNeg), .ref a3]) dL_law_1032 wsX0_likeliest (lw_SW q1454 q1455 q107 q1456) mokX0_likeliest rfl (by decide) (by decide) hb9 (Nat.zero_le _) h (fun E q s hx => AtX.never hx) (fun _ s1 hq => ?_)
  obtain ⟨rx, rfl, h⟩ := hq
  refine At.stk (st' := [.int rx]) rfl ?_
  refine g_istore (ls1 := [(5, .int rx), (0, .ref (gsb G)), (1, .ref a1), (2, .ref a2), (3, .ref a3), (4, .int x4)]) dL_law_1035 (Nat.le_of_ble_eq_true rfl) rfl ?_
  refine g_aload_n dL_law_1037 rfl 3 rfl ?_
  refine g_aload_n dL_law_1038 rfl 1 rfl ?_
  refine g_iload dL_law_1039 5 rfl ?_
  refine g_iconst (v := 1) dL_law_1041 (by decide) ?_
  refine g_iadd dL_law_1042 ?_
  obtain ⟨h1, h⟩ := h
  refine g_sld dL_law_1043 h1 ?_
  obtain ⟨⟨_, hO⟩, h⟩ := h
  refine g_callV (N := mX9_likeliest) (st := []) (As := [.int (gsx G ((x4 + 1)).toNatClampNeg)]) (a := a2) dL_law_1044 wsX9_likeliest (lw_V q2275 q2276 q2277 q116 q2278) rfl mokX9_likeliest rfl cl9 (by decide) (by decide) (Nat.zero_le _) (Nat.zero_le _) hO h (fun E q s hx => AtX.never hx) (fun _ s1_1 hq => ?_)
  obtain ⟨rx_2, rfl, h⟩ := hq
  refine At.stk (st' := [.int rx_2]) rfl ?_
  refine g_istore (ls1 := [(6, .int rx_2), (5, .int rx), (0, .ref (gsb G)), (1, .ref a1), (2, .ref a2), (3, .ref a3), (4, .int x4)]) dL_law_1047 (Nat.le_of_ble_eq_true rfl) rfl ?_
  refine g_aload_n dL_law_1049 rfl 4 rfl ?_
  obtain ⟨⟨_, hO⟩, h⟩ := h
  refine g_callV (N := mX9_thrown) (st := []) (As := []) (a := a2) dL_law_1050 wsX9_thrown (lw_V q1741 q1742 q1743 q116 q1744) rfl mokX9_thrown rfl cl9 (by decide) (by decide) (Nat.zero_le _) (Nat.zero_le _) hO h (fun E q s hx => AtX.never hx) (fun _ s1_3 hq => ?_)
  obtain ⟨es, hq⟩ := hq
  refine g_tops2 es ?_
  obtain ⟨rx_4, rfl, h⟩ := hq
  refine At.stk (st' := [.int rx_4]) rfl ?_
  refine g_iload dL_law_1053 1 rfl ?_
  refine g_icmp_eq (tgt := 1060) dL_law_1055 (by decide) (fun c => ?_) (fun c => ?_)
  · replace h := h.1 c
    refine g_iload dL_law_1060 1 rfl ?_
    refine g_if_ne (tgt := 1077) dL_law_1062 (by decide) (fun c => ?_) (fun c => ?_)
    · replace h := h.1 c
      refine g_goto (tgt := 2703) dL_law_1077 (by decide) ?_
      exact At.sub (ls := [(6, .int rx_2), (5, .int rx), (0, .ref (gsb G)), (1, .ref a1), (2, .ref a2), (3, .ref a3), (4, .int x4)]) [2, 3, 4, 5, 6] rfl h
    · replace h := h.2 c
      refine g_aload_n dL_law_1065 rfl 5 rfl ?_
      refine g_iconst (v := 0) dL_law_1066 (by decide) ?_
      obtain ⟨n, f, h1, h2, h⟩ := h
      refine g_lald dL_law_1067 h1 h2 ?_
      refine g_iload dL_law_1068 0 rfl ?_
      refine g_i2l dL_law_1070 ?_
      refine g_lcmp_eq (tgt := 1077) dL_law_1071 dL_law_1072 (by decide) (fun c => ?_) (fun c => ?_)
      · replace h := h.1 c
        refine g_goto (tgt := 2703) dL_law_1077 (by decide) ?_
        exact At.sub (ls := [(6, .int rx_2), (5, .int rx), (0, .ref (gsb G)), (1, .ref a1), (2, .ref a2), (3, .ref a3), (4, .int x4)]) [2, 3, 4, 5, 6] rfl h
      · replace h := h.2 c
        refine g_iconst (v := 0) dL_law_1075 (by decide) ?_
        exact g_zret rfl rfl dL_law_1076 h
  · replace h := h.2 c
    refine g_iconst (v := 0) dL_law_1058 (by decide) ?_
    exact g_zret rfl rfl dL_law_1059 h
set_option maxHeartbeats 4000000 in
theorem bL_law_1080 {G : GC} {Q : Option Value → PS → Prop} {X : String → Nat → PS → Prop} {b : Nat} {nm : String} {hh : List (Nat × Nat × Nat × Nat)} {a1 : Nat} {a2 : Nat} {a3 : Nat} {x4 : Int32} {σ : PS} (h : vp_in ((x4 + 1)) (gsL G) ∧ (vp_in ((x4 + 2)) (gsL G) ∧ (vp_in ((x4 + 3)) (gsL G) ∧ (∃ bc : Nat, bc ≤ b ∧ Call G mX0_mean 206 bc [.ref a1, .int (gsx G ((x4 + 1)).toNatClampNeg), .int (gsx G ((x4 + 2)).toNatClampNeg), .int (gsx G ((x4 + 3)).toNatClampNeg), .ref a3] (σ) (qI (fun rx s1 => vp_in ((x4 + 1)) (gsL G) ∧ (vp_in ((x4 + 2)) (gsL G) ∧ (vp_in ((x4 + 3)) (gsL G) ∧ ((∃ fs_4 : List Value, Ob s1 9 a2 fs_4) ∧ Call G mX9_mean 8 0 [.ref a2, .int (gsx G ((x4 + 1)).toNatClampNeg), .int (gsx G ((x4 + 2)).toNatClampNeg), .int (gsx G ((x4 + 3)).toNatClampNeg)] s1 (qJ (fun ry s1_1 => (∃ fs : List Value, Ob s1_1 9 a2 fs) ∧ CallO G mX9_thrown 3 [.ref a2] s1_1 (pI (fun rx_3 => ((rx_3 = rx) → ((¬ rx = 0) → At G (mL nm hh) 210 Q X (b - bc) 2703 [(0, .ref (gsb G)), (1, .ref a1), (2, .ref a2), (3, .ref a3), (4, .int x4)] [] s1_1) ∧ ((rx = 0) → ∃ (n : Nat) (f : Nat → Int64), La s1_1 101 a3 n f ∧ vp_in 0 n ∧ ((((f (0 : Int32).toNatClampNeg) = ry) → At G (mL nm hh) 210 Q X (b - bc) 2703 [(0, .ref (gsb G)), (1, .ref a1), (2, .ref a2), (3, .ref a3), (4, .int x4)] [] s1_1) ∧ ((¬ (f (0 : Int32).toNatClampNeg) = ry) → Q (some (.int 0)) s1_1)))) ∧ ((¬ rx_3 = rx) → Q (some (.int 0)) s1_1))))) (fun _ _ _ => False)))))) (fun _ _ _ => False))))) : At G (mL nm hh) 210 Q X b 1080 [(0, .ref (gsb G)), (1, .ref a1), (2, .ref a2), (3, .ref a3), (4, .int x4)] [] (σ) := by
  refine g_aload_n dL_law_1080 rfl 1 rfl ?_
  refine g_aload_n dL_law_1081 rfl 0 rfl ?_
  refine g_iload dL_law_1082 4 rfl ?_
  refine g_iconst (v := 1) dL_law_1084 (by decide) ?_
  refine g_iadd dL_law_1085 ?_
  obtain ⟨h1, h⟩ := h
  refine g_sld dL_law_1086 h1 ?_
  refine g_aload_n dL_law_1087 rfl 0 rfl ?_
  refine g_iload dL_law_1088 4 rfl ?_
  refine g_iconst (v := 2) dL_law_1090 (by decide) ?_
  refine g_iadd dL_law_1091 ?_
  obtain ⟨h1, h⟩ := h
  refine g_sld dL_law_1092 h1 ?_
  refine g_aload_n dL_law_1093 rfl 0 rfl ?_
  refine g_iload dL_law_1094 4 rfl ?_
  refine g_iconst (v := 3) dL_law_1096 (by decide) ?_
  refine g_iadd dL_law_1097 ?_
  obtain ⟨h1, h⟩ := h
  refine g_sld dL_law_1098 h1 ?_
  refine g_aload_n dL_law_1099 rfl 3 rfl ?_
  obtain ⟨bc, hb9, h⟩ := h
  refine g_callSX (N := mX0_mean) (st := []) (As := [.ref a1, .int (gsx G ((x4 + 1)).toNatClampNeg), .int (gsx G ((x4 + 2)).toNatClampNeg), .int (gsx G ((x4 + 3)).toNatClampNeg), .ref a3]) dL_law_1100 wsX0_mean (lw_SW q1461 q1462 q107 q1463) mokX0_mean rfl (by decide) (by decide) hb9 (Nat.zero_le _) h (fun E q s hx => AtX.never hx) (fun _ s1 hq => ?_)
  obtain ⟨rx, rfl, h⟩ := hq
  refine At.stk (st' := [.int rx]) rfl ?_
  refine g_istore (ls1 := [(5, .int rx), (0, .ref (gsb G)), (1, .ref a1), (2, .ref a2), (3, .ref a3), (4, .int x4)]) dL_law_1103 (Nat.le_of_ble_eq_true rfl) rfl ?_
  refine g_aload_n dL_law_1105 rfl 3 rfl ?_
  refine g_aload_n dL_law_1106 rfl 1 rfl ?_
  refine g_iload dL_law_1107 5 rfl ?_
  refine g_iconst (v := 1) dL_law_1109 (by decide) ?_
  refine g_iadd dL_law_1110 ?_
  obtain ⟨h1, h⟩ := h
  refine g_sld dL_law_1111 h1 ?_
  refine g_aload_n dL_law_1112 rfl 1 rfl ?_
  refine g_iload dL_law_1113 5 rfl ?_
  refine g_iconst (v := 2) dL_law_1115 (by decide) ?_
  refine g_iadd dL_law_1116 ?_
  obtain ⟨h1, h⟩ := h
  refine g_sld dL_law_1117 h1 ?_
  refine g_aload_n dL_law_1118 rfl 1 rfl ?_
  refine g_iload dL_law_1119 5 rfl ?_
  refine g_iconst (v := 3) dL_law_1121 (by decide) ?_
  refine g_iadd dL_law_1122 ?_
  obtain ⟨h1, h⟩ := h
  refine g_sld dL_law_1123 h1 ?_
  obtain ⟨⟨_, hO⟩, h⟩ := h
  refine g_callV (N := mX9_mean) (st := []) (As := [.int (gsx G ((x4 + 1)).toNatClampNeg), .int (gsx G ((x4 + 2)).toNatClampNeg), .int (gsx G ((x4 + 3)).toNatClampNeg)]) (a := a2) dL_law_1124 wsX9_mean (lw_V q2279 q2280 q2281 q116 q2282) rfl mokX9_mean rfl cl9 (by decide) (by decide) (Nat.zero_le _) (Nat.zero_le _) hO h (fun E q s hx => AtX.never hx) (fun _ s1_1 hq => ?_)
  obtain ⟨ry, rfl, h⟩ := hq
  refine At.stk (st' := [.long ry]) rfl ?_
  refine g_lstore (ls1 := [(6, .long ry), (5, .int rx), (0, .ref (gsb G)), (1, .ref a1), (2, .ref a2), (3, .ref a3), (4, .int x4)]) dL_law_1127 (Nat.le_of_ble_eq_true rfl) rfl ?_
  refine g_aload_n dL_law_1129 rfl 4 rfl ?_
  obtain ⟨⟨_, hO⟩, h⟩ := h
  refine g_callV (N := mX9_thrown) (st := []) (As := []) (a := a2) dL_law_1130 wsX9_thrown (lw_V q1741 q1742 q1743 q116 q1744) rfl mokX9_thrown rfl cl9 (by decide) (by decide) (Nat.zero_le _) (Nat.zero_le _) hO h (fun E q s hx => AtX.never hx) (fun _ s1_2 hq => ?_)
  obtain ⟨es, hq⟩ := hq
  refine g_tops2 es ?_
  obtain ⟨rx_3, rfl, h⟩ := hq
  refine At.stk (st' := [.int rx_3]) rfl ?_
  refine g_iload dL_law_1133 1 rfl ?_
  refine g_icmp_eq (tgt := 1140) dL_law_1135 (by decide) (fun c => ?_) (fun c => ?_)
  · replace h := h.1 c
    refine g_iload dL_law_1140 1 rfl ?_
    refine g_if_ne (tgt := 1156) dL_law_1142 (by decide) (fun c => ?_) (fun c => ?_)
    · replace h := h.1 c
      refine g_goto (tgt := 2703) dL_law_1156 (by decide) ?_
      exact At.sub (ls := [(6, .long ry), (5, .int rx), (0, .ref (gsb G)), (1, .ref a1), (2, .ref a2), (3, .ref a3), (4, .int x4)]) [2, 3, 4, 5, 6] rfl h
    · replace h := h.2 c
      refine g_aload_n dL_law_1145 rfl 5 rfl ?_
      refine g_iconst (v := 0) dL_law_1146 (by decide) ?_
      obtain ⟨n, f, h1, h2, h⟩ := h
      refine g_lald dL_law_1147 h1 h2 ?_
      refine g_lload dL_law_1148 0 rfl ?_
      refine g_lcmp_eq (tgt := 1156) dL_law_1150 dL_law_1151 (by decide) (fun c => ?_) (fun c => ?_)
      · replace h := h.1 c
        refine g_goto (tgt := 2703) dL_law_1156 (by decide) ?_
        exact At.sub (ls := [(6, .long ry), (5, .int rx), (0, .ref (gsb G)), (1, .ref a1), (2, .ref a2), (3, .ref a3), (4, .int x4)]) [2, 3, 4, 5, 6] rfl h
      · replace h := h.2 c
        refine g_iconst (v := 0) dL_law_1154 (by decide) ?_
        exact g_zret rfl rfl dL_law_1155 h
  · replace h := h.2 c
    refine g_iconst (v := 0) dL_law_1138 (by decide) ?_
    exact g_zret rfl rfl dL_law_1139 h
set_option maxHeartbeats 4000000 in
theorem bL_law_1159 {G : GC} {Q : Option Value → PS → Prop} {X : String → Nat → PS → Prop} {b : Nat} {nm : String} {hh : List (Nat × Nat × Nat × Nat)} {a1 : Nat} {a2 : Nat} {a3 : Nat} {x4 : Int32} {σ : PS} (h : vp_in ((x4 + 1)) (gsL G) ∧ (∃ bc : Nat, bc ≤ b ∧ Call G mX0_often 206 bc [.ref a1, .int (gsx G ((x4 + 1)).toNatClampNeg), .ref a3] (σ) (qI (fun rx s1 => vp_in ((x4 + 1)) (gsL G) ∧ ((∃ fs_4 : List Value, Ob s1 9 a2 fs_4) ∧ Call G mX9_often 9 0 [.ref a2, .int (gsx G ((x4 + 1)).toNatClampNeg)] s1 (qJ (fun ry s1_1 => (∃ fs : List Value, Ob s1_1 9 a2 fs) ∧ CallO G mX9_thrown 3 [.ref a2] s1_1 (pI (fun rx_3 => ((rx_3 = rx) → ((¬ rx = 0) → At G (mL nm hh) 210 Q X (b - bc) 2703 [(0, .ref (gsb G)), (1, .ref a1), (2, .ref a2), (3, .ref a3), (4, .int x4)] [] s1_1) ∧ ((rx = 0) → ∃ (n : Nat) (f : Nat → Int64), La s1_1 101 a3 n f ∧ vp_in 0 n ∧ ((((f (0 : Int32).toNatClampNeg) = ry) → At G (mL nm hh) 210 Q X (b - bc) 2703 [(0, .ref (gsb G)), (1, .ref a1), (2, .ref a2), (3, .ref a3), (4, .int x4)] [] s1_1) ∧ ((¬ (f (0 : Int32).toNatClampNeg) = ry) → Q (some (.int 0)) s1_1)))) ∧ ((¬ rx_3 = rx) → Q (some (.int 0)) s1_1))))) (fun _ _ _ => False)))) (fun _ _ _ => False))) : At G (mL nm hh) 210 Q X b 1159 [(0, .ref (gsb G)), (1, .ref a1), (2, .ref a2), (3, .ref a3), (4, .int x4)] [] (σ) := by
  refine g_aload_n dL_law_1159 rfl 1 rfl ?_
  refine g_aload_n dL_law_1160 rfl 0 rfl ?_
  refine g_iload dL_law_1161 4 rfl ?_
  refine g_iconst (v := 1) dL_law_1163 (by decide) ?_
  refine g_iadd dL_law_1164 ?_
  obtain ⟨h1, h⟩ := h
  refine g_sld dL_law_1165 h1 ?_
  refine g_aload_n dL_law_1166 rfl 3 rfl ?_
  obtain ⟨bc, hb9, h⟩ := h
  refine g_callSX (N := mX0_often) (st := []) (As := [.ref a1, .int (gsx G ((x4 + 1)).toNatClampNeg), .ref a3]) dL_law_1167 wsX0_often (lw_SW q1480 q1481 q107 q1482) mokX0_often rfl (by decide) (by decide) hb9 (Nat.zero_le _) h (fun E q s hx => AtX.never hx) (fun _ s1 hq => ?_)
  obtain ⟨rx, rfl, h⟩ := hq
  refine At.stk (st' := [.int rx]) rfl ?_
  refine g_istore (ls1 := [(5, .int rx), (0, .ref (gsb G)), (1, .ref a1), (2, .ref a2), (3, .ref a3), (4, .int x4)]) dL_law_1170 (Nat.le_of_ble_eq_true rfl) rfl ?_
  refine g_aload_n dL_law_1172 rfl 3 rfl ?_
  refine g_aload_n dL_law_1173 rfl 1 rfl ?_
  refine g_iload dL_law_1174 5 rfl ?_
  refine g_iconst (v := 1) dL_law_1176 (by decide) ?_
  refine g_iadd dL_law_1177 ?_
  obtain ⟨h1, h⟩ := h
  refine g_sld dL_law_1178 h1 ?_
  obtain ⟨⟨_, hO⟩, h⟩ := h
  refine g_callV (N := mX9_often) (st := []) (As := [.int (gsx G ((x4 + 1)).toNatClampNeg)]) (a := a2) dL_law_1179 wsX9_often (lw_V q2286 q2287 q2288 q116 q2289) rfl mokX9_often rfl cl9 (by decide) (by decide) (Nat.zero_le _) (Nat.zero_le _) hO h (fun E q s hx => AtX.never hx) (fun _ s1_1 hq => ?_)
  obtain ⟨ry, rfl, h⟩ := hq
  refine At.stk (st' := [.long ry]) rfl ?_
  refine g_lstore (ls1 := [(6, .long ry), (5, .int rx), (0, .ref (gsb G)), (1, .ref a1), (2, .ref a2), (3, .ref a3), (4, .int x4)]) dL_law_1182 (Nat.le_of_ble_eq_true rfl) rfl ?_
  refine g_aload_n dL_law_1184 rfl 4 rfl ?_
  obtain ⟨⟨_, hO⟩, h⟩ := h
  refine g_callV (N := mX9_thrown) (st := []) (As := []) (a := a2) dL_law_1185 wsX9_thrown (lw_V q1741 q1742 q1743 q116 q1744) rfl mokX9_thrown rfl cl9 (by decide) (by decide) (Nat.zero_le _) (Nat.zero_le _) hO h (fun E q s hx => AtX.never hx) (fun _ s1_2 hq => ?_)
  obtain ⟨es, hq⟩ := hq
  refine g_tops2 es ?_
  obtain ⟨rx_3, rfl, h⟩ := hq
  refine At.stk (st' := [.int rx_3]) rfl ?_
  refine g_iload dL_law_1188 1 rfl ?_
  refine g_icmp_eq (tgt := 1195) dL_law_1190 (by decide) (fun c => ?_) (fun c => ?_)
  · replace h := h.1 c
    refine g_iload dL_law_1195 1 rfl ?_
    refine g_if_ne (tgt := 1211) dL_law_1197 (by decide) (fun c => ?_) (fun c => ?_)
    · replace h := h.1 c
      refine g_goto (tgt := 2703) dL_law_1211 (by decide) ?_
      exact At.sub (ls := [(6, .long ry), (5, .int rx), (0, .ref (gsb G)), (1, .ref a1), (2, .ref a2), (3, .ref a3), (4, .int x4)]) [2, 3, 4, 5, 6] rfl h
    · replace h := h.2 c
      refine g_aload_n dL_law_1200 rfl 5 rfl ?_
      refine g_iconst (v := 0) dL_law_1201 (by decide) ?_
      obtain ⟨n, f, h1, h2, h⟩ := h
      refine g_lald dL_law_1202 h1 h2 ?_
      refine g_lload dL_law_1203 0 rfl ?_
      refine g_lcmp_eq (tgt := 1211) dL_law_1205 dL_law_1206 (by decide) (fun c => ?_) (fun c => ?_)
      · replace h := h.1 c
        refine g_goto (tgt := 2703) dL_law_1211 (by decide) ?_
        exact At.sub (ls := [(6, .long ry), (5, .int rx), (0, .ref (gsb G)), (1, .ref a1), (2, .ref a2), (3, .ref a3), (4, .int x4)]) [2, 3, 4, 5, 6] rfl h
      · replace h := h.2 c
        refine g_iconst (v := 0) dL_law_1209 (by decide) ?_
        exact g_zret rfl rfl dL_law_1210 h
  · replace h := h.2 c
    refine g_iconst (v := 0) dL_law_1193 (by decide) ?_
    exact g_zret rfl rfl dL_law_1194 h
set_option maxHeartbeats 4000000 in
theorem bL_law_1214 {G : GC} {Q : Option Value → PS → Prop} {X : String → Nat → PS → Prop} {b : Nat} {nm : String} {hh : List (Nat × Nat × Nat × Nat)} {a1 : Nat} {a2 : Nat} {a3 : Nat} {x4 : Int32} {σ : PS} (h : ∃ bc : Nat, bc ≤ b ∧ (∃ fs_3 : List Value, Ob (σ) 1 a1 fs_3) ∧ Call G mX1_since 205 bc [.ref a1] (σ) (qI (fun rx s1 => (∃ fs : List Value, Ob s1 9 a2 fs) ∧ Call G mX9_since 9 0 [.ref a2] s1 (qI (fun rx_2 s1_1 => ((rx = rx_2) → At G (mL nm hh) 210 Q X (b - bc) 2703 [(0, .ref (gsb G)), (1, .ref a1), (2, .ref a2), (3, .ref a3), (4, .int x4)] [] s1_1) ∧ ((¬ rx = rx_2) → Q (some (.int 0)) s1_1))) (fun _ _ _ => False))) (fun _ _ _ => False)) : At G (mL nm hh) 210 Q X b 1214 [(0, .ref (gsb G)), (1, .ref a1), (2, .ref a2), (3, .ref a3), (4, .int x4)] [] (σ) := by
  refine g_aload_n dL_law_1214 rfl 1 rfl ?_
  obtain ⟨bc, hb9, h⟩ := h
  obtain ⟨⟨_, hO⟩, h⟩ := h
  refine g_callV (N := mX1_since) (st := []) (As := []) (a := a1) dL_law_1215 wsX1_since (lw_V q513 q514 q515 q108 q516) rfl mokX1_since rfl cl1 (by decide) (by decide) hb9 (Nat.zero_le _) hO h (fun E q s hx => AtX.never hx) (fun _ s1 hq => ?_)
  obtain ⟨rx, rfl, h⟩ := hq
  refine At.stk (st' := [.int rx]) rfl ?_
  refine g_aload_n dL_law_1218 rfl 2 rfl ?_
  obtain ⟨⟨_, hO⟩, h⟩ := h
  refine g_callV (N := mX9_since) (st := [.int rx]) (As := []) (a := a2) dL_law_1219 wsX9_since (lw_V q2298 q2299 q2300 q116 q2301) rfl mokX9_since rfl cl9 (by decide) (by decide) (Nat.zero_le _) (by simp [Value.category]) hO h (fun E q s hx => AtX.never hx) (fun _ s1_1 hq => ?_)
  obtain ⟨rx_2, rfl, h⟩ := hq
  refine At.stk (st' := [.int rx_2, .int rx]) rfl ?_
  refine g_icmp_eq (tgt := 2703) dL_law_1222 (by decide) (fun c => ?_) (fun c => ?_)
  · replace h := h.1 c
    exact At.sub (ls := [(0, .ref (gsb G)), (1, .ref a1), (2, .ref a2), (3, .ref a3), (4, .int x4)]) [0, 1, 2, 3, 4] rfl h
  · replace h := h.2 c
    refine g_iconst (v := 0) dL_law_1225 (by decide) ?_
    exact g_zret rfl rfl dL_law_1226 h
set_option maxHeartbeats 4000000 in
theorem bL_law_1227 {G : GC} {Q : Option Value → PS → Prop} {X : String → Nat → PS → Prop} {b : Nat} {nm : String} {hh : List (Nat × Nat × Nat × Nat)} {a1 : Nat} {a2 : Nat} {a3 : Nat} {x4 : Int32} {σ : PS} (h : vp_in ((x4 + 1)) (gsL G) ∧ (vp_in ((x4 + 2)) (gsL G) ∧ (∃ bc : Nat, bc ≤ b ∧ Call G mX0_drunk 206 bc [.ref a1, .int (gsx G ((x4 + 1)).toNatClampNeg), .int (gsx G ((x4 + 2)).toNatClampNeg), .ref a3] (σ) (qI (fun rx s1 => vp_in ((x4 + 1)) (gsL G) ∧ (vp_in ((x4 + 2)) (gsL G) ∧ ((∃ fs_4 : List Value, Ob s1 9 a2 fs_4) ∧ Call G mX9_drunk 9 0 [.ref a2, .int (gsx G ((x4 + 1)).toNatClampNeg), .int (gsx G ((x4 + 2)).toNatClampNeg)] s1 (qJ (fun ry s1_1 => (∃ fs : List Value, Ob s1_1 9 a2 fs) ∧ CallO G mX9_thrown 3 [.ref a2] s1_1 (pI (fun rx_3 => ((rx_3 = rx) → ((¬ rx = 0) → At G (mL nm hh) 210 Q X (b - bc) 2703 [(0, .ref (gsb G)), (1, .ref a1), (2, .ref a2), (3, .ref a3), (4, .int x4)] [] s1_1) ∧ ((rx = 0) → ∃ (n : Nat) (f : Nat → Int64), La s1_1 101 a3 n f ∧ vp_in 0 n ∧ ((((f (0 : Int32).toNatClampNeg) = ry) → At G (mL nm hh) 210 Q X (b - bc) 2703 [(0, .ref (gsb G)), (1, .ref a1), (2, .ref a2), (3, .ref a3), (4, .int x4)] [] s1_1) ∧ ((¬ (f (0 : Int32).toNatClampNeg) = ry) → Q (some (.int 0)) s1_1)))) ∧ ((¬ rx_3 = rx) → Q (some (.int 0)) s1_1))))) (fun _ _ _ => False))))) (fun _ _ _ => False)))) : At G (mL nm hh) 210 Q X b 1227 [(0, .ref (gsb G)), (1, .ref a1), (2, .ref a2), (3, .ref a3), (4, .int x4)] [] (σ) := by
  refine g_aload_n dL_law_1227 rfl 1 rfl ?_
  refine g_aload_n dL_law_1228 rfl 0 rfl ?_
  refine g_iload dL_law_1229 4 rfl ?_
  refine g_iconst (v := 1) dL_law_1231 (by decide) ?_
  refine g_iadd dL_law_1232 ?_
  obtain ⟨h1, h⟩ := h
  refine g_sld dL_law_1233 h1 ?_
  refine g_aload_n dL_law_1234 rfl 0 rfl ?_
  refine g_iload dL_law_1235 4 rfl ?_
  refine g_iconst (v := 2) dL_law_1237 (by decide) ?_
  refine g_iadd dL_law_1238 ?_
  obtain ⟨h1, h⟩ := h
  refine g_sld dL_law_1239 h1 ?_
  refine g_aload_n dL_law_1240 rfl 3 rfl ?_
  obtain ⟨bc, hb9, h⟩ := h
  refine g_callSX (N := mX0_drunk) (st := []) (As := [.ref a1, .int (gsx G ((x4 + 1)).toNatClampNeg), .int (gsx G ((x4 + 2)).toNatClampNeg), .ref a3]) dL_law_1241 wsX0_drunk (lw_SW q1487 q1488 q107 q1489) mokX0_drunk rfl (by decide) (by decide) hb9 (Nat.zero_le _) h (fun E q s hx => AtX.never hx) (fun _ s1 hq => ?_)
  obtain ⟨rx, rfl, h⟩ := hq
  refine At.stk (st' := [.int rx]) rfl ?_
  refine g_istore (ls1 := [(5, .int rx), (0, .ref (gsb G)), (1, .ref a1), (2, .ref a2), (3, .ref a3), (4, .int x4)]) dL_law_1244 (Nat.le_of_ble_eq_true rfl) rfl ?_
  refine g_aload_n dL_law_1246 rfl 3 rfl ?_
  refine g_aload_n dL_law_1247 rfl 1 rfl ?_
  refine g_iload dL_law_1248 5 rfl ?_
  refine g_iconst (v := 1) dL_law_1250 (by decide) ?_
  refine g_iadd dL_law_1251 ?_
  obtain ⟨h1, h⟩ := h
  refine g_sld dL_law_1252 h1 ?_
  refine g_aload_n dL_law_1253 rfl 1 rfl ?_
  refine g_iload dL_law_1254 5 rfl ?_
  refine g_iconst (v := 2) dL_law_1256 (by decide) ?_
  refine g_iadd dL_law_1257 ?_
  obtain ⟨h1, h⟩ := h
  refine g_sld dL_law_1258 h1 ?_
  obtain ⟨⟨_, hO⟩, h⟩ := h
  refine g_callV (N := mX9_drunk) (st := []) (As := [.int (gsx G ((x4 + 1)).toNatClampNeg), .int (gsx G ((x4 + 2)).toNatClampNeg)]) (a := a2) dL_law_1259 wsX9_drunk (lw_V q2303 q2304 q2305 q116 q2306) rfl mokX9_drunk rfl cl9 (by decide) (by decide) (Nat.zero_le _) (Nat.zero_le _) hO h (fun E q s hx => AtX.never hx) (fun _ s1_1 hq => ?_)
  obtain ⟨ry, rfl, h⟩ := hq
  refine At.stk (st' := [.long ry]) rfl ?_
  refine g_lstore (ls1 := [(6, .long ry), (5, .int rx), (0, .ref (gsb G)), (1, .ref a1), (2, .ref a2), (3, .ref a3), (4, .int x4)]) dL_law_1262 (Nat.le_of_ble_eq_true rfl) rfl ?_
  refine g_aload_n dL_law_1264 rfl 4 rfl ?_
  obtain ⟨⟨_, hO⟩, h⟩ := h
  refine g_callV (N := mX9_thrown) (st := []) (As := []) (a := a2) dL_law_1265 wsX9_thrown (lw_V q1741 q1742 q1743 q116 q1744) rfl mokX9_thrown rfl cl9 (by decide) (by decide) (Nat.zero_le _) (Nat.zero_le _) hO h (fun E q s hx => AtX.never hx) (fun _ s1_2 hq => ?_)
  obtain ⟨es, hq⟩ := hq
  refine g_tops2 es ?_
  obtain ⟨rx_3, rfl, h⟩ := hq
  refine At.stk (st' := [.int rx_3]) rfl ?_
  refine g_iload dL_law_1268 1 rfl ?_
  refine g_icmp_eq (tgt := 1275) dL_law_1270 (by decide) (fun c => ?_) (fun c => ?_)
  · replace h := h.1 c
    refine g_iload dL_law_1275 1 rfl ?_
    refine g_if_ne (tgt := 1291) dL_law_1277 (by decide) (fun c => ?_) (fun c => ?_)
    · replace h := h.1 c
      refine g_goto (tgt := 2703) dL_law_1291 (by decide) ?_
      exact At.sub (ls := [(6, .long ry), (5, .int rx), (0, .ref (gsb G)), (1, .ref a1), (2, .ref a2), (3, .ref a3), (4, .int x4)]) [2, 3, 4, 5, 6] rfl h
    · replace h := h.2 c
      refine g_aload_n dL_law_1280 rfl 5 rfl ?_
      refine g_iconst (v := 0) dL_law_1281 (by decide) ?_
      obtain ⟨n, f, h1, h2, h⟩ := h
      refine g_lald dL_law_1282 h1 h2 ?_
      refine g_lload dL_law_1283 0 rfl ?_
      refine g_lcmp_eq (tgt := 1291) dL_law_1285 dL_law_1286 (by decide) (fun c => ?_) (fun c => ?_)
      · replace h := h.1 c
        refine g_goto (tgt := 2703) dL_law_1291 (by decide) ?_
        exact At.sub (ls := [(6, .long ry), (5, .int rx), (0, .ref (gsb G)), (1, .ref a1), (2, .ref a2), (3, .ref a3), (4, .int x4)]) [2, 3, 4, 5, 6] rfl h
      · replace h := h.2 c
        refine g_iconst (v := 0) dL_law_1289 (by decide) ?_
        exact g_zret rfl rfl dL_law_1290 h
  · replace h := h.2 c
    refine g_iconst (v := 0) dL_law_1273 (by decide) ?_
    exact g_zret rfl rfl dL_law_1274 h
set_option maxHeartbeats 4000000 in
theorem bL_law_1294 {G : GC} {Q : Option Value → PS → Prop} {X : String → Nat → PS → Prop} {b : Nat} {nm : String} {hh : List (Nat × Nat × Nat × Nat)} {a1 : Nat} {a2 : Nat} {a3 : Nat} {x4 : Int32} {σ : PS} (h : vp_in ((x4 + 1)) (gsL G) ∧ (vp_in ((x4 + 2)) (gsL G) ∧ (∃ bc : Nat, bc ≤ b ∧ Call G mX0_done 206 bc [.ref a1, .int (gsx G ((x4 + 1)).toNatClampNeg), .int (gsx G ((x4 + 2)).toNatClampNeg), .ref a3] (σ) (qI (fun rx s1 => vp_in ((x4 + 1)) (gsL G) ∧ (vp_in ((x4 + 2)) (gsL G) ∧ ((∃ fs_4 : List Value, Ob s1 9 a2 fs_4) ∧ Call G mX9_done 9 0 [.ref a2, .int (gsx G ((x4 + 1)).toNatClampNeg), .int (gsx G ((x4 + 2)).toNatClampNeg)] s1 (qJ (fun ry s1_1 => (∃ fs : List Value, Ob s1_1 9 a2 fs) ∧ CallO G mX9_thrown 3 [.ref a2] s1_1 (pI (fun rx_3 => ((rx_3 = rx) → ((¬ rx = 0) → At G (mL nm hh) 210 Q X (b - bc) 2703 [(0, .ref (gsb G)), (1, .ref a1), (2, .ref a2), (3, .ref a3), (4, .int x4)] [] s1_1) ∧ ((rx = 0) → ∃ (n : Nat) (f : Nat → Int64), La s1_1 101 a3 n f ∧ vp_in 0 n ∧ ((((f (0 : Int32).toNatClampNeg) = ry) → At G (mL nm hh) 210 Q X (b - bc) 2703 [(0, .ref (gsb G)), (1, .ref a1), (2, .ref a2), (3, .ref a3), (4, .int x4)] [] s1_1) ∧ ((¬ (f (0 : Int32).toNatClampNeg) = ry) → Q (some (.int 0)) s1_1)))) ∧ ((¬ rx_3 = rx) → Q (some (.int 0)) s1_1))))) (fun _ _ _ => False))))) (fun _ _ _ => False)))) : At G (mL nm hh) 210 Q X b 1294 [(0, .ref (gsb G)), (1, .ref a1), (2, .ref a2), (3, .ref a3), (4, .int x4)] [] (σ) := by
  refine g_aload_n dL_law_1294 rfl 1 rfl ?_
  refine g_aload_n dL_law_1295 rfl 0 rfl ?_
  refine g_iload dL_law_1296 4 rfl ?_
  refine g_iconst (v := 1) dL_law_1298 (by decide) ?_
  refine g_iadd dL_law_1299 ?_
  obtain ⟨h1, h⟩ := h
  refine g_sld dL_law_1300 h1 ?_
  refine g_aload_n dL_law_1301 rfl 0 rfl ?_
  refine g_iload dL_law_1302 4 rfl ?_
  refine g_iconst (v := 2) dL_law_1304 (by decide) ?_
  refine g_iadd dL_law_1305 ?_
  obtain ⟨h1, h⟩ := h
  refine g_sld dL_law_1306 h1 ?_
  refine g_aload_n dL_law_1307 rfl 3 rfl ?_
  obtain ⟨bc, hb9, h⟩ := h
  refine g_callSX (N := mX0_done) (st := []) (As := [.ref a1, .int (gsx G ((x4 + 1)).toNatClampNeg), .int (gsx G ((x4 + 2)).toNatClampNeg), .ref a3]) dL_law_1308 wsX0_done (lw_SW q1494 q1495 q107 q1496) mokX0_done rfl (by decide) (by decide) hb9 (Nat.zero_le _) h (fun E q s hx => AtX.never hx) (fun _ s1 hq => ?_)
  obtain ⟨rx, rfl, h⟩ := hq
  refine At.stk (st' := [.int rx]) rfl ?_
  refine g_istore (ls1 := [(5, .int rx), (0, .ref (gsb G)), (1, .ref a1), (2, .ref a2), (3, .ref a3), (4, .int x4)]) dL_law_1311 (Nat.le_of_ble_eq_true rfl) rfl ?_
  refine g_aload_n dL_law_1313 rfl 3 rfl ?_
  refine g_aload_n dL_law_1314 rfl 1 rfl ?_
  refine g_iload dL_law_1315 5 rfl ?_
  refine g_iconst (v := 1) dL_law_1317 (by decide) ?_
  refine g_iadd dL_law_1318 ?_
  obtain ⟨h1, h⟩ := h
  refine g_sld dL_law_1319 h1 ?_
  refine g_aload_n dL_law_1320 rfl 1 rfl ?_
  refine g_iload dL_law_1321 5 rfl ?_
  refine g_iconst (v := 2) dL_law_1323 (by decide) ?_
  refine g_iadd dL_law_1324 ?_
  obtain ⟨h1, h⟩ := h
  refine g_sld dL_law_1325 h1 ?_
  obtain ⟨⟨_, hO⟩, h⟩ := h
  refine g_callV (N := mX9_done) (st := []) (As := [.int (gsx G ((x4 + 1)).toNatClampNeg), .int (gsx G ((x4 + 2)).toNatClampNeg)]) (a := a2) dL_law_1326 wsX9_done (lw_V q2307 q2308 q2309 q116 q2310) rfl mokX9_done rfl cl9 (by decide) (by decide) (Nat.zero_le _) (Nat.zero_le _) hO h (fun E q s hx => AtX.never hx) (fun _ s1_1 hq => ?_)
  obtain ⟨ry, rfl, h⟩ := hq
  refine At.stk (st' := [.long ry]) rfl ?_
  refine g_lstore (ls1 := [(6, .long ry), (5, .int rx), (0, .ref (gsb G)), (1, .ref a1), (2, .ref a2), (3, .ref a3), (4, .int x4)]) dL_law_1329 (Nat.le_of_ble_eq_true rfl) rfl ?_
  refine g_aload_n dL_law_1331 rfl 4 rfl ?_
  obtain ⟨⟨_, hO⟩, h⟩ := h
  refine g_callV (N := mX9_thrown) (st := []) (As := []) (a := a2) dL_law_1332 wsX9_thrown (lw_V q1741 q1742 q1743 q116 q1744) rfl mokX9_thrown rfl cl9 (by decide) (by decide) (Nat.zero_le _) (Nat.zero_le _) hO h (fun E q s hx => AtX.never hx) (fun _ s1_2 hq => ?_)
  obtain ⟨es, hq⟩ := hq
  refine g_tops2 es ?_
  obtain ⟨rx_3, rfl, h⟩ := hq
  refine At.stk (st' := [.int rx_3]) rfl ?_
  refine g_iload dL_law_1335 1 rfl ?_
  refine g_icmp_eq (tgt := 1342) dL_law_1337 (by decide) (fun c => ?_) (fun c => ?_)
  · replace h := h.1 c
    refine g_iload dL_law_1342 1 rfl ?_
    refine g_if_ne (tgt := 1358) dL_law_1344 (by decide) (fun c => ?_) (fun c => ?_)
    · replace h := h.1 c
      refine g_goto (tgt := 2703) dL_law_1358 (by decide) ?_
      exact At.sub (ls := [(6, .long ry), (5, .int rx), (0, .ref (gsb G)), (1, .ref a1), (2, .ref a2), (3, .ref a3), (4, .int x4)]) [2, 3, 4, 5, 6] rfl h
    · replace h := h.2 c
      refine g_aload_n dL_law_1347 rfl 5 rfl ?_
      refine g_iconst (v := 0) dL_law_1348 (by decide) ?_
      obtain ⟨n, f, h1, h2, h⟩ := h
      refine g_lald dL_law_1349 h1 h2 ?_
      refine g_lload dL_law_1350 0 rfl ?_
      refine g_lcmp_eq (tgt := 1358) dL_law_1352 dL_law_1353 (by decide) (fun c => ?_) (fun c => ?_)
      · replace h := h.1 c
        refine g_goto (tgt := 2703) dL_law_1358 (by decide) ?_
        exact At.sub (ls := [(6, .long ry), (5, .int rx), (0, .ref (gsb G)), (1, .ref a1), (2, .ref a2), (3, .ref a3), (4, .int x4)]) [2, 3, 4, 5, 6] rfl h
      · replace h := h.2 c
        refine g_iconst (v := 0) dL_law_1356 (by decide) ?_
        exact g_zret rfl rfl dL_law_1357 h
  · replace h := h.2 c
    refine g_iconst (v := 0) dL_law_1340 (by decide) ?_
    exact g_zret rfl rfl dL_law_1341 h
set_option maxHeartbeats 4000000 in
theorem bL_law_1361 {G : GC} {Q : Option Value → PS → Prop} {X : String → Nat → PS → Prop} {b : Nat} {nm : String} {hh : List (Nat × Nat × Nat × Nat)} {a1 : Nat} {a2 : Nat} {a3 : Nat} {x4 : Int32} {σ : PS} (h : vp_in ((x4 + 1)) (gsL G) ∧ (∃ bc : Nat, bc ≤ b ∧ Call G mX0_cost 206 bc [.ref a1, .int (gsx G ((x4 + 1)).toNatClampNeg), .ref a3] (σ) (qI (fun rx s1 => vp_in ((x4 + 1)) (gsL G) ∧ ((∃ fs_4 : List Value, Ob s1 9 a2 fs_4) ∧ Call G mX9_cost 10 0 [.ref a2, .int (gsx G ((x4 + 1)).toNatClampNeg)] s1 (qJ (fun ry s1_1 => (∃ fs : List Value, Ob s1_1 9 a2 fs) ∧ CallO G mX9_thrown 3 [.ref a2] s1_1 (pI (fun rx_3 => ((rx_3 = rx) → ((¬ rx = 0) → At G (mL nm hh) 210 Q X (b - bc) 2703 [(0, .ref (gsb G)), (1, .ref a1), (2, .ref a2), (3, .ref a3), (4, .int x4)] [] s1_1) ∧ ((rx = 0) → ∃ (n : Nat) (f : Nat → Int64), La s1_1 101 a3 n f ∧ vp_in 0 n ∧ ((((f (0 : Int32).toNatClampNeg) = ry) → At G (mL nm hh) 210 Q X (b - bc) 2703 [(0, .ref (gsb G)), (1, .ref a1), (2, .ref a2), (3, .ref a3), (4, .int x4)] [] s1_1) ∧ ((¬ (f (0 : Int32).toNatClampNeg) = ry) → Q (some (.int 0)) s1_1)))) ∧ ((¬ rx_3 = rx) → Q (some (.int 0)) s1_1))))) (fun _ _ _ => False)))) (fun _ _ _ => False))) : At G (mL nm hh) 210 Q X b 1361 [(0, .ref (gsb G)), (1, .ref a1), (2, .ref a2), (3, .ref a3), (4, .int x4)] [] (σ) := by
  refine g_aload_n dL_law_1361 rfl 1 rfl ?_
  refine g_aload_n dL_law_1362 rfl 0 rfl ?_
  refine g_iload dL_law_1363 4 rfl ?_
  refine g_iconst (v := 1) dL_law_1365 (by decide) ?_
  refine g_iadd dL_law_1366 ?_
  obtain ⟨h1, h⟩ := h
  refine g_sld dL_law_1367 h1 ?_
  refine g_aload_n dL_law_1368 rfl 3 rfl ?_
  obtain ⟨bc, hb9, h⟩ := h
  refine g_callSX (N := mX0_cost) (st := []) (As := [.ref a1, .int (gsx G ((x4 + 1)).toNatClampNeg), .ref a3]) dL_law_1369 wsX0_cost (lw_SW q1501 q1502 q107 q1503) mokX0_cost rfl (by decide) (by decide) hb9 (Nat.zero_le _) h (fun E q s hx => AtX.never hx) (fun _ s1 hq => ?_)
  obtain ⟨rx, rfl, h⟩ := hq
  refine At.stk (st' := [.int rx]) rfl ?_
  refine g_istore (ls1 := [(5, .int rx), (0, .ref (gsb G)), (1, .ref a1), (2, .ref a2), (3, .ref a3), (4, .int x4)]) dL_law_1372 (Nat.le_of_ble_eq_true rfl) rfl ?_
  refine g_aload_n dL_law_1374 rfl 3 rfl ?_
  refine g_aload_n dL_law_1375 rfl 1 rfl ?_
  refine g_iload dL_law_1376 5 rfl ?_
  refine g_iconst (v := 1) dL_law_1378 (by decide) ?_
  refine g_iadd dL_law_1379 ?_
  obtain ⟨h1, h⟩ := h
  refine g_sld dL_law_1380 h1 ?_
  obtain ⟨⟨_, hO⟩, h⟩ := h
  refine g_callV (N := mX9_cost) (st := []) (As := [.int (gsx G ((x4 + 1)).toNatClampNeg)]) (a := a2) dL_law_1381 wsX9_cost (lw_V q2311 q2312 q2313 q116 q2314) rfl mokX9_cost rfl cl9 (by decide) (by decide) (Nat.zero_le _) (Nat.zero_le _) hO h (fun E q s hx => AtX.never hx) (fun _ s1_1 hq => ?_)
  obtain ⟨ry, rfl, h⟩ := hq
  refine At.stk (st' := [.long ry]) rfl ?_
  refine g_lstore (ls1 := [(6, .long ry), (5, .int rx), (0, .ref (gsb G)), (1, .ref a1), (2, .ref a2), (3, .ref a3), (4, .int x4)]) dL_law_1384 (Nat.le_of_ble_eq_true rfl) rfl ?_
  refine g_aload_n dL_law_1386 rfl 4 rfl ?_
  obtain ⟨⟨_, hO⟩, h⟩ := h
  refine g_callV (N := mX9_thrown) (st := []) (As := []) (a := a2) dL_law_1387 wsX9_thrown (lw_V q1741 q1742 q1743 q116 q1744) rfl mokX9_thrown rfl cl9 (by decide) (by decide) (Nat.zero_le _) (Nat.zero_le _) hO h (fun E q s hx => AtX.never hx) (fun _ s1_2 hq => ?_)
  obtain ⟨es, hq⟩ := hq
  refine g_tops2 es ?_
  obtain ⟨rx_3, rfl, h⟩ := hq
  refine At.stk (st' := [.int rx_3]) rfl ?_
  refine g_iload dL_law_1390 1 rfl ?_
  refine g_icmp_eq (tgt := 1397) dL_law_1392 (by decide) (fun c => ?_) (fun c => ?_)
  · replace h := h.1 c
    refine g_iload dL_law_1397 1 rfl ?_
    refine g_if_ne (tgt := 1413) dL_law_1399 (by decide) (fun c => ?_) (fun c => ?_)
    · replace h := h.1 c
      refine g_goto (tgt := 2703) dL_law_1413 (by decide) ?_
      exact At.sub (ls := [(6, .long ry), (5, .int rx), (0, .ref (gsb G)), (1, .ref a1), (2, .ref a2), (3, .ref a3), (4, .int x4)]) [2, 3, 4, 5, 6] rfl h
    · replace h := h.2 c
      refine g_aload_n dL_law_1402 rfl 5 rfl ?_
      refine g_iconst (v := 0) dL_law_1403 (by decide) ?_
      obtain ⟨n, f, h1, h2, h⟩ := h
      refine g_lald dL_law_1404 h1 h2 ?_
      refine g_lload dL_law_1405 0 rfl ?_
      refine g_lcmp_eq (tgt := 1413) dL_law_1407 dL_law_1408 (by decide) (fun c => ?_) (fun c => ?_)
      · replace h := h.1 c
        refine g_goto (tgt := 2703) dL_law_1413 (by decide) ?_
        exact At.sub (ls := [(6, .long ry), (5, .int rx), (0, .ref (gsb G)), (1, .ref a1), (2, .ref a2), (3, .ref a3), (4, .int x4)]) [2, 3, 4, 5, 6] rfl h
      · replace h := h.2 c
        refine g_iconst (v := 0) dL_law_1411 (by decide) ?_
        exact g_zret rfl rfl dL_law_1412 h
  · replace h := h.2 c
    refine g_iconst (v := 0) dL_law_1395 (by decide) ?_
    exact g_zret rfl rfl dL_law_1396 h
set_option maxHeartbeats 4000000 in
theorem bL_law_1416 {G : GC} {Q : Option Value → PS → Prop} {X : String → Nat → PS → Prop} {b : Nat} {nm : String} {hh : List (Nat × Nat × Nat × Nat)} {a1 : Nat} {a2 : Nat} {a3 : Nat} {x4 : Int32} {σ : PS} (h : vp_in ((x4 + 1)) (gsL G) ∧ (∃ bc : Nat, bc ≤ b ∧ Call G mX0_fits 206 bc [.ref a1, .int (gsx G ((x4 + 1)).toNatClampNeg), .ref a3] (σ) (qI (fun rx s1 => vp_in ((x4 + 1)) (gsL G) ∧ ((∃ fs_4 : List Value, Ob s1 9 a2 fs_4) ∧ Call G mX9_fits 9 0 [.ref a2, .int (gsx G ((x4 + 1)).toNatClampNeg)] s1 (qJ (fun ry s1_1 => (∃ fs : List Value, Ob s1_1 9 a2 fs) ∧ CallO G mX9_thrown 3 [.ref a2] s1_1 (pI (fun rx_3 => ((rx_3 = rx) → ((¬ rx = 0) → At G (mL nm hh) 210 Q X (b - bc) 2703 [(0, .ref (gsb G)), (1, .ref a1), (2, .ref a2), (3, .ref a3), (4, .int x4)] [] s1_1) ∧ ((rx = 0) → ∃ (n : Nat) (f : Nat → Int64), La s1_1 101 a3 n f ∧ vp_in 0 n ∧ ((((f (0 : Int32).toNatClampNeg) = ry) → At G (mL nm hh) 210 Q X (b - bc) 2703 [(0, .ref (gsb G)), (1, .ref a1), (2, .ref a2), (3, .ref a3), (4, .int x4)] [] s1_1) ∧ ((¬ (f (0 : Int32).toNatClampNeg) = ry) → Q (some (.int 0)) s1_1)))) ∧ ((¬ rx_3 = rx) → Q (some (.int 0)) s1_1))))) (fun _ _ _ => False)))) (fun _ _ _ => False))) : At G (mL nm hh) 210 Q X b 1416 [(0, .ref (gsb G)), (1, .ref a1), (2, .ref a2), (3, .ref a3), (4, .int x4)] [] (σ) := by
  refine g_aload_n dL_law_1416 rfl 1 rfl ?_
  refine g_aload_n dL_law_1417 rfl 0 rfl ?_
  refine g_iload dL_law_1418 4 rfl ?_
  refine g_iconst (v := 1) dL_law_1420 (by decide) ?_
  refine g_iadd dL_law_1421 ?_
  obtain ⟨h1, h⟩ := h
  refine g_sld dL_law_1422 h1 ?_
  refine g_aload_n dL_law_1423 rfl 3 rfl ?_
  obtain ⟨bc, hb9, h⟩ := h
  refine g_callSX (N := mX0_fits) (st := []) (As := [.ref a1, .int (gsx G ((x4 + 1)).toNatClampNeg), .ref a3]) dL_law_1424 wsX0_fits (lw_SW q1508 q1509 q107 q1510) mokX0_fits rfl (by decide) (by decide) hb9 (Nat.zero_le _) h (fun E q s hx => AtX.never hx) (fun _ s1 hq => ?_)
  obtain ⟨rx, rfl, h⟩ := hq
  refine At.stk (st' := [.int rx]) rfl ?_
  refine g_istore (ls1 := [(5, .int rx), (0, .ref (gsb G)), (1, .ref a1), (2, .ref a2), (3, .ref a3), (4, .int x4)]) dL_law_1427 (Nat.le_of_ble_eq_true rfl) rfl ?_
  refine g_aload_n dL_law_1429 rfl 3 rfl ?_
  refine g_aload_n dL_law_1430 rfl 1 rfl ?_
  refine g_iload dL_law_1431 5 rfl ?_
  refine g_iconst (v := 1) dL_law_1433 (by decide) ?_
  refine g_iadd dL_law_1434 ?_
  obtain ⟨h1, h⟩ := h
  refine g_sld dL_law_1435 h1 ?_
  obtain ⟨⟨_, hO⟩, h⟩ := h
  refine g_callV (N := mX9_fits) (st := []) (As := [.int (gsx G ((x4 + 1)).toNatClampNeg)]) (a := a2) dL_law_1436 wsX9_fits (lw_V q2319 q2320 q2321 q116 q2322) rfl mokX9_fits rfl cl9 (by decide) (by decide) (Nat.zero_le _) (Nat.zero_le _) hO h (fun E q s hx => AtX.never hx) (fun _ s1_1 hq => ?_)
  obtain ⟨ry, rfl, h⟩ := hq
  refine At.stk (st' := [.long ry]) rfl ?_
  refine g_lstore (ls1 := [(6, .long ry), (5, .int rx), (0, .ref (gsb G)), (1, .ref a1), (2, .ref a2), (3, .ref a3), (4, .int x4)]) dL_law_1439 (Nat.le_of_ble_eq_true rfl) rfl ?_
  refine g_aload_n dL_law_1441 rfl 4 rfl ?_
  obtain ⟨⟨_, hO⟩, h⟩ := h
  refine g_callV (N := mX9_thrown) (st := []) (As := []) (a := a2) dL_law_1442 wsX9_thrown (lw_V q1741 q1742 q1743 q116 q1744) rfl mokX9_thrown rfl cl9 (by decide) (by decide) (Nat.zero_le _) (Nat.zero_le _) hO h (fun E q s hx => AtX.never hx) (fun _ s1_2 hq => ?_)
  obtain ⟨es, hq⟩ := hq
  refine g_tops2 es ?_
  obtain ⟨rx_3, rfl, h⟩ := hq
  refine At.stk (st' := [.int rx_3]) rfl ?_
  refine g_iload dL_law_1445 1 rfl ?_
  refine g_icmp_eq (tgt := 1452) dL_law_1447 (by decide) (fun c => ?_) (fun c => ?_)
  · replace h := h.1 c
    refine g_iload dL_law_1452 1 rfl ?_
    refine g_if_ne (tgt := 1468) dL_law_1454 (by decide) (fun c => ?_) (fun c => ?_)
    · replace h := h.1 c
      refine g_goto (tgt := 2703) dL_law_1468 (by decide) ?_
      exact At.sub (ls := [(6, .long ry), (5, .int rx), (0, .ref (gsb G)), (1, .ref a1), (2, .ref a2), (3, .ref a3), (4, .int x4)]) [2, 3, 4, 5, 6] rfl h
    · replace h := h.2 c
      refine g_aload_n dL_law_1457 rfl 5 rfl ?_
      refine g_iconst (v := 0) dL_law_1458 (by decide) ?_
      obtain ⟨n, f, h1, h2, h⟩ := h
      refine g_lald dL_law_1459 h1 h2 ?_
      refine g_lload dL_law_1460 0 rfl ?_
      refine g_lcmp_eq (tgt := 1468) dL_law_1462 dL_law_1463 (by decide) (fun c => ?_) (fun c => ?_)
      · replace h := h.1 c
        refine g_goto (tgt := 2703) dL_law_1468 (by decide) ?_
        exact At.sub (ls := [(6, .long ry), (5, .int rx), (0, .ref (gsb G)), (1, .ref a1), (2, .ref a2), (3, .ref a3), (4, .int x4)]) [2, 3, 4, 5, 6] rfl h
      · replace h := h.2 c
        refine g_iconst (v := 0) dL_law_1466 (by decide) ?_
        exact g_zret rfl rfl dL_law_1467 h
  · replace h := h.2 c
    refine g_iconst (v := 0) dL_law_1450 (by decide) ?_
    exact g_zret rfl rfl dL_law_1451 h
set_option maxHeartbeats 4000000 in
theorem bL_law_1471 {G : GC} {Q : Option Value → PS → Prop} {X : String → Nat → PS → Prop} {b : Nat} {nm : String} {hh : List (Nat × Nat × Nat × Nat)} {a1 : Nat} {a2 : Nat} {a3 : Nat} {x4 : Int32} {σ : PS} (h : vp_in ((x4 + 1)) (gsL G) ∧ (vp_in ((x4 + 2)) (gsL G) ∧ (vp_in ((x4 + 3)) (gsL G) ∧ (∃ bc : Nat, bc ≤ b ∧ Call G mX0_given 207 bc [.ref a1, .int (gsx G ((x4 + 1)).toNatClampNeg), .int (gsx G ((x4 + 2)).toNatClampNeg), .int (gsx G ((x4 + 3)).toNatClampNeg), .ref a3] (σ) (qI (fun rx s1 => vp_in ((x4 + 1)) (gsL G) ∧ (vp_in ((x4 + 2)) (gsL G) ∧ (vp_in ((x4 + 3)) (gsL G) ∧ ((∃ fs_4 : List Value, Ob s1 9 a2 fs_4) ∧ Call G mX9_given 9 0 [.ref a2, .int (gsx G ((x4 + 1)).toNatClampNeg), .int (gsx G ((x4 + 2)).toNatClampNeg), .int (gsx G ((x4 + 3)).toNatClampNeg)] s1 (qJ (fun ry s1_1 => (∃ fs : List Value, Ob s1_1 9 a2 fs) ∧ CallO G mX9_thrown 3 [.ref a2] s1_1 (pI (fun rx_3 => ((rx_3 = rx) → ((¬ rx = 0) → At G (mL nm hh) 210 Q X (b - bc) 2703 [(0, .ref (gsb G)), (1, .ref a1), (2, .ref a2), (3, .ref a3), (4, .int x4)] [] s1_1) ∧ ((rx = 0) → ∃ (n : Nat) (f : Nat → Int64), La s1_1 101 a3 n f ∧ vp_in 0 n ∧ ((((f (0 : Int32).toNatClampNeg) = ry) → At G (mL nm hh) 210 Q X (b - bc) 2703 [(0, .ref (gsb G)), (1, .ref a1), (2, .ref a2), (3, .ref a3), (4, .int x4)] [] s1_1) ∧ ((¬ (f (0 : Int32).toNatClampNeg) = ry) → Q (some (.int 0)) s1_1)))) ∧ ((¬ rx_3 = rx) → Q (some (.int 0)) s1_1))))) (fun _ _ _ => False)))))) (fun _ _ _ => False))))) : At G (mL nm hh) 210 Q X b 1471 [(0, .ref (gsb G)), (1, .ref a1), (2, .ref a2), (3, .ref a3), (4, .int x4)] [] (σ) := by
  refine g_aload_n dL_law_1471 rfl 1 rfl ?_
  refine g_aload_n dL_law_1472 rfl 0 rfl ?_
  refine g_iload dL_law_1473 4 rfl ?_
  refine g_iconst (v := 1) dL_law_1475 (by decide) ?_
  refine g_iadd dL_law_1476 ?_
  obtain ⟨h1, h⟩ := h
  refine g_sld dL_law_1477 h1 ?_
  refine g_aload_n dL_law_1478 rfl 0 rfl ?_
  refine g_iload dL_law_1479 4 rfl ?_
  refine g_iconst (v := 2) dL_law_1481 (by decide) ?_
  refine g_iadd dL_law_1482 ?_
  obtain ⟨h1, h⟩ := h
  refine g_sld dL_law_1483 h1 ?_
  refine g_aload_n dL_law_1484 rfl 0 rfl ?_
  refine g_iload dL_law_1485 4 rfl ?_
  refine g_iconst (v := 3) dL_law_1487 (by decide) ?_
  refine g_iadd dL_law_1488 ?_
  obtain ⟨h1, h⟩ := h
  refine g_sld dL_law_1489 h1 ?_
  refine g_aload_n dL_law_1490 rfl 3 rfl ?_
  obtain ⟨bc, hb9, h⟩ := h
  refine g_callSX (N := mX0_given) (st := []) (As := [.ref a1, .int (gsx G ((x4 + 1)).toNatClampNeg), .int (gsx G ((x4 + 2)).toNatClampNeg), .int (gsx G ((x4 + 3)).toNatClampNeg), .ref a3]) dL_law_1491 wsX0_given (lw_SW q1523 q1524 q107 q1525) mokX0_given rfl (by decide) (by decide) hb9 (Nat.zero_le _) h (fun E q s hx => AtX.never hx) (fun _ s1 hq => ?_)
  obtain ⟨rx, rfl, h⟩ := hq
  refine At.stk (st' := [.int rx]) rfl ?_
  refine g_istore (ls1 := [(5, .int rx), (0, .ref (gsb G)), (1, .ref a1), (2, .ref a2), (3, .ref a3), (4, .int x4)]) dL_law_1494 (Nat.le_of_ble_eq_true rfl) rfl ?_
  refine g_aload_n dL_law_1496 rfl 3 rfl ?_
  refine g_aload_n dL_law_1497 rfl 1 rfl ?_
  refine g_iload dL_law_1498 5 rfl ?_
  refine g_iconst (v := 1) dL_law_1500 (by decide) ?_
  refine g_iadd dL_law_1501 ?_
  obtain ⟨h1, h⟩ := h
  refine g_sld dL_law_1502 h1 ?_
  refine g_aload_n dL_law_1503 rfl 1 rfl ?_
  refine g_iload dL_law_1504 5 rfl ?_
  refine g_iconst (v := 2) dL_law_1506 (by decide) ?_
  refine g_iadd dL_law_1507 ?_
  obtain ⟨h1, h⟩ := h
  refine g_sld dL_law_1508 h1 ?_
  refine g_aload_n dL_law_1509 rfl 1 rfl ?_
  refine g_iload dL_law_1510 5 rfl ?_
  refine g_iconst (v := 3) dL_law_1512 (by decide) ?_
  refine g_iadd dL_law_1513 ?_
  obtain ⟨h1, h⟩ := h
  refine g_sld dL_law_1514 h1 ?_
  obtain ⟨⟨_, hO⟩, h⟩ := h
  refine g_callV (N := mX9_given) (st := []) (As := [.int (gsx G ((x4 + 1)).toNatClampNeg), .int (gsx G ((x4 + 2)).toNatClampNeg), .int (gsx G ((x4 + 3)).toNatClampNeg)]) (a := a2) dL_law_1515 wsX9_given (lw_V q2327 q2328 q2329 q116 q2330) rfl mokX9_given rfl cl9 (by decide) (by decide) (Nat.zero_le _) (Nat.zero_le _) hO h (fun E q s hx => AtX.never hx) (fun _ s1_1 hq => ?_)
  obtain ⟨ry, rfl, h⟩ := hq
  refine At.stk (st' := [.long ry]) rfl ?_
  refine g_lstore (ls1 := [(6, .long ry), (5, .int rx), (0, .ref (gsb G)), (1, .ref a1), (2, .ref a2), (3, .ref a3), (4, .int x4)]) dL_law_1518 (Nat.le_of_ble_eq_true rfl) rfl ?_
  refine g_aload_n dL_law_1520 rfl 4 rfl ?_
  obtain ⟨⟨_, hO⟩, h⟩ := h
  refine g_callV (N := mX9_thrown) (st := []) (As := []) (a := a2) dL_law_1521 wsX9_thrown (lw_V q1741 q1742 q1743 q116 q1744) rfl mokX9_thrown rfl cl9 (by decide) (by decide) (Nat.zero_le _) (Nat.zero_le _) hO h (fun E q s hx => AtX.never hx) (fun _ s1_2 hq => ?_)
  obtain ⟨es, hq⟩ := hq
  refine g_tops2 es ?_
  obtain ⟨rx_3, rfl, h⟩ := hq
  refine At.stk (st' := [.int rx_3]) rfl ?_
  refine g_iload dL_law_1524 1 rfl ?_
  refine g_icmp_eq (tgt := 1531) dL_law_1526 (by decide) (fun c => ?_) (fun c => ?_)
  · replace h := h.1 c
    refine g_iload dL_law_1531 1 rfl ?_
    refine g_if_ne (tgt := 1547) dL_law_1533 (by decide) (fun c => ?_) (fun c => ?_)
    · replace h := h.1 c
      refine g_goto (tgt := 2703) dL_law_1547 (by decide) ?_
      exact At.sub (ls := [(6, .long ry), (5, .int rx), (0, .ref (gsb G)), (1, .ref a1), (2, .ref a2), (3, .ref a3), (4, .int x4)]) [2, 3, 4, 5, 6] rfl h
    · replace h := h.2 c
      refine g_aload_n dL_law_1536 rfl 5 rfl ?_
      refine g_iconst (v := 0) dL_law_1537 (by decide) ?_
      obtain ⟨n, f, h1, h2, h⟩ := h
      refine g_lald dL_law_1538 h1 h2 ?_
      refine g_lload dL_law_1539 0 rfl ?_
      refine g_lcmp_eq (tgt := 1547) dL_law_1541 dL_law_1542 (by decide) (fun c => ?_) (fun c => ?_)
      · replace h := h.1 c
        refine g_goto (tgt := 2703) dL_law_1547 (by decide) ?_
        exact At.sub (ls := [(6, .long ry), (5, .int rx), (0, .ref (gsb G)), (1, .ref a1), (2, .ref a2), (3, .ref a3), (4, .int x4)]) [2, 3, 4, 5, 6] rfl h
      · replace h := h.2 c
        refine g_iconst (v := 0) dL_law_1545 (by decide) ?_
        exact g_zret rfl rfl dL_law_1546 h
  · replace h := h.2 c
    refine g_iconst (v := 0) dL_law_1529 (by decide) ?_
    exact g_zret rfl rfl dL_law_1530 h
set_option maxHeartbeats 4000000 in
theorem bL_law_1550 {G : GC} {Q : Option Value → PS → Prop} {X : String → Nat → PS → Prop} {b : Nat} {nm : String} {hh : List (Nat × Nat × Nat × Nat)} {a1 : Nat} {a2 : Nat} {a3 : Nat} {x4 : Int32} {σ : PS} (h : vp_in ((x4 + 1)) (gsL G) ∧ (∃ bc : Nat, bc ≤ b ∧ Call G mX0_best 207 bc [.ref a1, .int (gsx G ((x4 + 1)).toNatClampNeg), .ref a3] (σ) (qI (fun rx s1 => vp_in ((x4 + 1)) (gsL G) ∧ ((∃ fs_5 : List Value, Ob s1 9 a2 fs_5) ∧ Call G mX9_best 9 0 [.ref a2, .int (gsx G ((x4 + 1)).toNatClampNeg)] s1 (qI (fun rx_2 s1_1 => (∃ fs : List Value, Ob s1_1 9 a2 fs) ∧ CallO G mX9_thrown 3 [.ref a2] s1_1 (pI (fun rx_4 => ((rx_4 = rx) → ((¬ rx = 0) → At G (mL nm hh) 210 Q X (b - bc) 2703 [(0, .ref (gsb G)), (1, .ref a1), (2, .ref a2), (3, .ref a3), (4, .int x4)] [] s1_1) ∧ ((rx = 0) → ∃ (n : Nat) (f : Nat → Int64), La s1_1 101 a3 n f ∧ vp_in 0 n ∧ ((((f (0 : Int32).toNatClampNeg) = rx_2.toInt64) → At G (mL nm hh) 210 Q X (b - bc) 2703 [(0, .ref (gsb G)), (1, .ref a1), (2, .ref a2), (3, .ref a3), (4, .int x4)] [] s1_1) ∧ ((¬ (f (0 : Int32).toNatClampNeg) = rx_2.toInt64) → Q (some (.int 0)) s1_1)))) ∧ ((¬ rx_4 = rx) → Q (some (.int 0)) s1_1))))) (fun _ _ _ => False)))) (fun _ _ _ => False))) : At G (mL nm hh) 210 Q X b 1550 [(0, .ref (gsb G)), (1, .ref a1), (2, .ref a2), (3, .ref a3), (4, .int x4)] [] (σ) := by
  refine g_aload_n dL_law_1550 rfl 1 rfl ?_
  refine g_aload_n dL_law_1551 rfl 0 rfl ?_
  refine g_iload dL_law_1552 4 rfl ?_
  refine g_iconst (v := 1) dL_law_1554 (by decide) ?_
  refine g_iadd dL_law_1555 ?_
  obtain ⟨h1, h⟩ := h
  refine g_sld dL_law_1556 h1 ?_
  refine g_aload_n dL_law_1557 rfl 3 rfl ?_
  obtain ⟨bc, hb9, h⟩ := h
  refine g_callSX (N := mX0_best) (st := []) (As := [.ref a1, .int (gsx G ((x4 + 1)).toNatClampNeg), .ref a3]) dL_law_1558 wsX0_best (lw_SW q1538 q1539 q107 q1540) mokX0_best rfl (by decide) (by decide) hb9 (Nat.zero_le _) h (fun E q s hx => AtX.never hx) (fun _ s1 hq => ?_)
  obtain ⟨rx, rfl, h⟩ := hq
  refine At.stk (st' := [.int rx]) rfl ?_
  refine g_istore (ls1 := [(5, .int rx), (0, .ref (gsb G)), (1, .ref a1), (2, .ref a2), (3, .ref a3), (4, .int x4)]) dL_law_1561 (Nat.le_of_ble_eq_true rfl) rfl ?_
  refine g_aload_n dL_law_1563 rfl 3 rfl ?_
  refine g_aload_n dL_law_1564 rfl 1 rfl ?_
  refine g_iload dL_law_1565 5 rfl ?_
  refine g_iconst (v := 1) dL_law_1567 (by decide) ?_
  refine g_iadd dL_law_1568 ?_
  obtain ⟨h1, h⟩ := h
  refine g_sld dL_law_1569 h1 ?_
  obtain ⟨⟨_, hO⟩, h⟩ := h
  refine g_callV (N := mX9_best) (st := []) (As := [.int (gsx G ((x4 + 1)).toNatClampNeg)]) (a := a2) dL_law_1570 wsX9_best (lw_V q2339 q2340 q2341 q116 q2342) rfl mokX9_best rfl cl9 (by decide) (by decide) (Nat.zero_le _) (Nat.zero_le _) hO h (fun E q s hx => AtX.never hx) (fun _ s1_1 hq => ?_)
  obtain ⟨rx_2, rfl, h⟩ := hq
  refine At.stk (st' := [.int rx_2]) rfl ?_
  refine g_istore (ls1 := [(6, .int rx_2), (5, .int rx), (0, .ref (gsb G)), (1, .ref a1), (2, .ref a2), (3, .ref a3), (4, .int x4)]) dL_law_1573 (Nat.le_of_ble_eq_true rfl) rfl ?_
  refine g_aload_n dL_law_1575 rfl 4 rfl ?_
  obtain ⟨⟨_, hO⟩, h⟩ := h
  refine g_callV (N := mX9_thrown) (st := []) (As := []) (a := a2) dL_law_1576 wsX9_thrown (lw_V q1741 q1742 q1743 q116 q1744) rfl mokX9_thrown rfl cl9 (by decide) (by decide) (Nat.zero_le _) (Nat.zero_le _) hO h (fun E q s hx => AtX.never hx) (fun _ s1_3 hq => ?_)
  obtain ⟨es, hq⟩ := hq
  refine g_tops2 es ?_
  obtain ⟨rx_4, rfl, h⟩ := hq
  refine At.stk (st' := [.int rx_4]) rfl ?_
  refine g_iload dL_law_1579 1 rfl ?_
  refine g_icmp_eq (tgt := 1586) dL_law_1581 (by decide) (fun c => ?_) (fun c => ?_)
  · replace h := h.1 c
    refine g_iload dL_law_1586 1 rfl ?_
    refine g_if_ne (tgt := 1603) dL_law_1588 (by decide) (fun c => ?_) (fun c => ?_)
    · replace h := h.1 c
      refine g_goto (tgt := 2703) dL_law_1603 (by decide) ?_
      exact At.sub (ls := [(6, .int rx_2), (5, .int rx), (0, .ref (gsb G)), (1, .ref a1), (2, .ref a2), (3, .ref a3), (4, .int x4)]) [2, 3, 4, 5, 6] rfl h
    · replace h := h.2 c
      refine g_aload_n dL_law_1591 rfl 5 rfl ?_
      refine g_iconst (v := 0) dL_law_1592 (by decide) ?_
      obtain ⟨n, f, h1, h2, h⟩ := h
      refine g_lald dL_law_1593 h1 h2 ?_
      refine g_iload dL_law_1594 0 rfl ?_
      refine g_i2l dL_law_1596 ?_
      refine g_lcmp_eq (tgt := 1603) dL_law_1597 dL_law_1598 (by decide) (fun c => ?_) (fun c => ?_)
      · replace h := h.1 c
        refine g_goto (tgt := 2703) dL_law_1603 (by decide) ?_
        exact At.sub (ls := [(6, .int rx_2), (5, .int rx), (0, .ref (gsb G)), (1, .ref a1), (2, .ref a2), (3, .ref a3), (4, .int x4)]) [2, 3, 4, 5, 6] rfl h
      · replace h := h.2 c
        refine g_iconst (v := 0) dL_law_1601 (by decide) ?_
        exact g_zret rfl rfl dL_law_1602 h
  · replace h := h.2 c
    refine g_iconst (v := 0) dL_law_1584 (by decide) ?_
    exact g_zret rfl rfl dL_law_1585 h
set_option maxHeartbeats 4000000 in
theorem bL_law_1606 {G : GC} {Q : Option Value → PS → Prop} {X : String → Nat → PS → Prop} {b : Nat} {nm : String} {hh : List (Nat × Nat × Nat × Nat)} {a1 : Nat} {a2 : Nat} {a3 : Nat} {x4 : Int32} {σ : PS} (h : vp_in ((x4 + 1)) (gsL G) ∧ (vp_in ((x4 + 2)) (gsL G) ∧ (vp_in ((x4 + 3)) (gsL G) ∧ (∃ bc : Nat, bc ≤ b ∧ Call G mX0_worth 207 bc [.ref a1, .int (gsx G ((x4 + 1)).toNatClampNeg), .int (gsx G ((x4 + 2)).toNatClampNeg), .int (gsx G ((x4 + 3)).toNatClampNeg), .ref a3] (σ) (qI (fun rx s1 => vp_in ((x4 + 1)) (gsL G) ∧ (vp_in ((x4 + 2)) (gsL G) ∧ (vp_in ((x4 + 3)) (gsL G) ∧ ((∃ fs_4 : List Value, Ob s1 9 a2 fs_4) ∧ Call G mX9_worth 9 0 [.ref a2, .int (gsx G ((x4 + 1)).toNatClampNeg), .int (gsx G ((x4 + 2)).toNatClampNeg), .int (gsx G ((x4 + 3)).toNatClampNeg)] s1 (qJ (fun ry s1_1 => (∃ fs : List Value, Ob s1_1 9 a2 fs) ∧ CallO G mX9_thrown 3 [.ref a2] s1_1 (pI (fun rx_3 => ((rx_3 = rx) → ((¬ rx = 0) → At G (mL nm hh) 210 Q X (b - bc) 2703 [(0, .ref (gsb G)), (1, .ref a1), (2, .ref a2), (3, .ref a3), (4, .int x4)] [] s1_1) ∧ ((rx = 0) → ∃ (n : Nat) (f : Nat → Int64), La s1_1 101 a3 n f ∧ vp_in 0 n ∧ ((((f (0 : Int32).toNatClampNeg) = ry) → At G (mL nm hh) 210 Q X (b - bc) 2703 [(0, .ref (gsb G)), (1, .ref a1), (2, .ref a2), (3, .ref a3), (4, .int x4)] [] s1_1) ∧ ((¬ (f (0 : Int32).toNatClampNeg) = ry) → Q (some (.int 0)) s1_1)))) ∧ ((¬ rx_3 = rx) → Q (some (.int 0)) s1_1))))) (fun _ _ _ => False)))))) (fun _ _ _ => False))))) : At G (mL nm hh) 210 Q X b 1606 [(0, .ref (gsb G)), (1, .ref a1), (2, .ref a2), (3, .ref a3), (4, .int x4)] [] (σ) := by
  refine g_aload_n dL_law_1606 rfl 1 rfl ?_
  refine g_aload_n dL_law_1607 rfl 0 rfl ?_
  refine g_iload dL_law_1608 4 rfl ?_
  refine g_iconst (v := 1) dL_law_1610 (by decide) ?_
  refine g_iadd dL_law_1611 ?_
  obtain ⟨h1, h⟩ := h
  refine g_sld dL_law_1612 h1 ?_
  refine g_aload_n dL_law_1613 rfl 0 rfl ?_
  refine g_iload dL_law_1614 4 rfl ?_
  refine g_iconst (v := 2) dL_law_1616 (by decide) ?_
  refine g_iadd dL_law_1617 ?_
  obtain ⟨h1, h⟩ := h
  refine g_sld dL_law_1618 h1 ?_
  refine g_aload_n dL_law_1619 rfl 0 rfl ?_
  refine g_iload dL_law_1620 4 rfl ?_
  refine g_iconst (v := 3) dL_law_1622 (by decide) ?_
  refine g_iadd dL_law_1623 ?_
  obtain ⟨h1, h⟩ := h
  refine g_sld dL_law_1624 h1 ?_
  refine g_aload_n dL_law_1625 rfl 3 rfl ?_
  obtain ⟨bc, hb9, h⟩ := h
  refine g_callSX (N := mX0_worth) (st := []) (As := [.ref a1, .int (gsx G ((x4 + 1)).toNatClampNeg), .int (gsx G ((x4 + 2)).toNatClampNeg), .int (gsx G ((x4 + 3)).toNatClampNeg), .ref a3]) dL_law_1626 wsX0_worth (lw_SW q1569 q1570 q107 q1571) mokX0_worth rfl (by decide) (by decide) hb9 (Nat.zero_le _) h (fun E q s hx => AtX.never hx) (fun _ s1 hq => ?_)
  obtain ⟨rx, rfl, h⟩ := hq
  refine At.stk (st' := [.int rx]) rfl ?_
  refine g_istore (ls1 := [(5, .int rx), (0, .ref (gsb G)), (1, .ref a1), (2, .ref a2), (3, .ref a3), (4, .int x4)]) dL_law_1629 (Nat.le_of_ble_eq_true rfl) rfl ?_
  refine g_aload_n dL_law_1631 rfl 3 rfl ?_
  refine g_aload_n dL_law_1632 rfl 1 rfl ?_
  refine g_iload dL_law_1633 5 rfl ?_
  refine g_iconst (v := 1) dL_law_1635 (by decide) ?_
  refine g_iadd dL_law_1636 ?_
  obtain ⟨h1, h⟩ := h
  refine g_sld dL_law_1637 h1 ?_
  refine g_aload_n dL_law_1638 rfl 1 rfl ?_
  refine g_iload dL_law_1639 5 rfl ?_
  refine g_iconst (v := 2) dL_law_1641 (by decide) ?_
  refine g_iadd dL_law_1642 ?_
  obtain ⟨h1, h⟩ := h
  refine g_sld dL_law_1643 h1 ?_
  refine g_aload_n dL_law_1644 rfl 1 rfl ?_
  refine g_iload dL_law_1645 5 rfl ?_
  refine g_iconst (v := 3) dL_law_1647 (by decide) ?_
  refine g_iadd dL_law_1648 ?_
  obtain ⟨h1, h⟩ := h
  refine g_sld dL_law_1649 h1 ?_
  obtain ⟨⟨_, hO⟩, h⟩ := h
  refine g_callV (N := mX9_worth) (st := []) (As := [.int (gsx G ((x4 + 1)).toNatClampNeg), .int (gsx G ((x4 + 2)).toNatClampNeg), .int (gsx G ((x4 + 3)).toNatClampNeg)]) (a := a2) dL_law_1650 wsX9_worth (lw_V q2351 q2352 q2353 q116 q2354) rfl mokX9_worth rfl cl9 (by decide) (by decide) (Nat.zero_le _) (Nat.zero_le _) hO h (fun E q s hx => AtX.never hx) (fun _ s1_1 hq => ?_)
  obtain ⟨ry, rfl, h⟩ := hq
  refine At.stk (st' := [.long ry]) rfl ?_
  refine g_lstore (ls1 := [(6, .long ry), (5, .int rx), (0, .ref (gsb G)), (1, .ref a1), (2, .ref a2), (3, .ref a3), (4, .int x4)]) dL_law_1653 (Nat.le_of_ble_eq_true rfl) rfl ?_
  refine g_aload_n dL_law_1655 rfl 4 rfl ?_
  obtain ⟨⟨_, hO⟩, h⟩ := h
  refine g_callV (N := mX9_thrown) (st := []) (As := []) (a := a2) dL_law_1656 wsX9_thrown (lw_V q1741 q1742 q1743 q116 q1744) rfl mokX9_thrown rfl cl9 (by decide) (by decide) (Nat.zero_le _) (Nat.zero_le _) hO h (fun E q s hx => AtX.never hx) (fun _ s1_2 hq => ?_)
  obtain ⟨es, hq⟩ := hq
  refine g_tops2 es ?_
  obtain ⟨rx_3, rfl, h⟩ := hq
  refine At.stk (st' := [.int rx_3]) rfl ?_
  refine g_iload dL_law_1659 1 rfl ?_
  refine g_icmp_eq (tgt := 1666) dL_law_1661 (by decide) (fun c => ?_) (fun c => ?_)
  · replace h := h.1 c
    refine g_iload dL_law_1666 1 rfl ?_
    refine g_if_ne (tgt := 1682) dL_law_1668 (by decide) (fun c => ?_) (fun c => ?_)
    · replace h := h.1 c
      refine g_goto (tgt := 2703) dL_law_1682 (by decide) ?_
      exact At.sub (ls := [(6, .long ry), (5, .int rx), (0, .ref (gsb G)), (1, .ref a1), (2, .ref a2), (3, .ref a3), (4, .int x4)]) [2, 3, 4, 5, 6] rfl h
    · replace h := h.2 c
      refine g_aload_n dL_law_1671 rfl 5 rfl ?_
      refine g_iconst (v := 0) dL_law_1672 (by decide) ?_
      obtain ⟨n, f, h1, h2, h⟩ := h
      refine g_lald dL_law_1673 h1 h2 ?_
      refine g_lload dL_law_1674 0 rfl ?_
      refine g_lcmp_eq (tgt := 1682) dL_law_1676 dL_law_1677 (by decide) (fun c => ?_) (fun c => ?_)
      · replace h := h.1 c
        refine g_goto (tgt := 2703) dL_law_1682 (by decide) ?_
        exact At.sub (ls := [(6, .long ry), (5, .int rx), (0, .ref (gsb G)), (1, .ref a1), (2, .ref a2), (3, .ref a3), (4, .int x4)]) [2, 3, 4, 5, 6] rfl h
      · replace h := h.2 c
        refine g_iconst (v := 0) dL_law_1680 (by decide) ?_
        exact g_zret rfl rfl dL_law_1681 h
  · replace h := h.2 c
    refine g_iconst (v := 0) dL_law_1664 (by decide) ?_
    exact g_zret rfl rfl dL_law_1665 h
set_option maxHeartbeats 4000000 in
theorem bL_law_1685 {G : GC} {Q : Option Value → PS → Prop} {X : String → Nat → PS → Prop} {b : Nat} {nm : String} {hh : List (Nat × Nat × Nat × Nat)} {a1 : Nat} {a2 : Nat} {a3 : Nat} {x4 : Int32} {σ : PS} (h : vp_in ((x4 + 1)) (gsL G) ∧ (vp_in ((x4 + 2)) (gsL G) ∧ (∃ bc : Nat, bc ≤ b ∧ Call G mX0_gain 207 bc [.ref a1, .int (gsx G ((x4 + 1)).toNatClampNeg), .int (gsx G ((x4 + 2)).toNatClampNeg), .ref a3] (σ) (qI (fun rx s1 => vp_in ((x4 + 1)) (gsL G) ∧ (vp_in ((x4 + 2)) (gsL G) ∧ ((∃ fs_4 : List Value, Ob s1 9 a2 fs_4) ∧ Call G mX9_gain 9 0 [.ref a2, .int (gsx G ((x4 + 1)).toNatClampNeg), .int (gsx G ((x4 + 2)).toNatClampNeg)] s1 (qJ (fun ry s1_1 => (∃ fs : List Value, Ob s1_1 9 a2 fs) ∧ CallO G mX9_thrown 3 [.ref a2] s1_1 (pI (fun rx_3 => ((rx_3 = rx) → ((¬ rx = 0) → At G (mL nm hh) 210 Q X (b - bc) 2703 [(0, .ref (gsb G)), (1, .ref a1), (2, .ref a2), (3, .ref a3), (4, .int x4)] [] s1_1) ∧ ((rx = 0) → ∃ (n : Nat) (f : Nat → Int64), La s1_1 101 a3 n f ∧ vp_in 0 n ∧ ((((f (0 : Int32).toNatClampNeg) = ry) → At G (mL nm hh) 210 Q X (b - bc) 2703 [(0, .ref (gsb G)), (1, .ref a1), (2, .ref a2), (3, .ref a3), (4, .int x4)] [] s1_1) ∧ ((¬ (f (0 : Int32).toNatClampNeg) = ry) → Q (some (.int 0)) s1_1)))) ∧ ((¬ rx_3 = rx) → Q (some (.int 0)) s1_1))))) (fun _ _ _ => False))))) (fun _ _ _ => False)))) : At G (mL nm hh) 210 Q X b 1685 [(0, .ref (gsb G)), (1, .ref a1), (2, .ref a2), (3, .ref a3), (4, .int x4)] [] (σ) := by
  refine g_aload_n dL_law_1685 rfl 1 rfl ?_
  refine g_aload_n dL_law_1686 rfl 0 rfl ?_
  refine g_iload dL_law_1687 4 rfl ?_
  refine g_iconst (v := 1) dL_law_1689 (by decide) ?_
  refine g_iadd dL_law_1690 ?_
  obtain ⟨h1, h⟩ := h
  refine g_sld dL_law_1691 h1 ?_
  refine g_aload_n dL_law_1692 rfl 0 rfl ?_
  refine g_iload dL_law_1693 4 rfl ?_
  refine g_iconst (v := 2) dL_law_1695 (by decide) ?_
  refine g_iadd dL_law_1696 ?_
  obtain ⟨h1, h⟩ := h
  refine g_sld dL_law_1697 h1 ?_
  refine g_aload_n dL_law_1698 rfl 3 rfl ?_
  obtain ⟨bc, hb9, h⟩ := h
  refine g_callSX (N := mX0_gain) (st := []) (As := [.ref a1, .int (gsx G ((x4 + 1)).toNatClampNeg), .int (gsx G ((x4 + 2)).toNatClampNeg), .ref a3]) dL_law_1699 wsX0_gain (lw_SW q1576 q1577 q107 q1578) mokX0_gain rfl (by decide) (by decide) hb9 (Nat.zero_le _) h (fun E q s hx => AtX.never hx) (fun _ s1 hq => ?_)
  obtain ⟨rx, rfl, h⟩ := hq
  refine At.stk (st' := [.int rx]) rfl ?_
  refine g_istore (ls1 := [(5, .int rx), (0, .ref (gsb G)), (1, .ref a1), (2, .ref a2), (3, .ref a3), (4, .int x4)]) dL_law_1702 (Nat.le_of_ble_eq_true rfl) rfl ?_
  refine g_aload_n dL_law_1704 rfl 3 rfl ?_
  refine g_aload_n dL_law_1705 rfl 1 rfl ?_
  refine g_iload dL_law_1706 5 rfl ?_
  refine g_iconst (v := 1) dL_law_1708 (by decide) ?_
  refine g_iadd dL_law_1709 ?_
  obtain ⟨h1, h⟩ := h
  refine g_sld dL_law_1710 h1 ?_
  refine g_aload_n dL_law_1711 rfl 1 rfl ?_
  refine g_iload dL_law_1712 5 rfl ?_
  refine g_iconst (v := 2) dL_law_1714 (by decide) ?_
  refine g_iadd dL_law_1715 ?_
  obtain ⟨h1, h⟩ := h
  refine g_sld dL_law_1716 h1 ?_
  obtain ⟨⟨_, hO⟩, h⟩ := h
  refine g_callV (N := mX9_gain) (st := []) (As := [.int (gsx G ((x4 + 1)).toNatClampNeg), .int (gsx G ((x4 + 2)).toNatClampNeg)]) (a := a2) dL_law_1717 wsX9_gain (lw_V q2355 q2356 q2357 q116 q2358) rfl mokX9_gain rfl cl9 (by decide) (by decide) (Nat.zero_le _) (Nat.zero_le _) hO h (fun E q s hx => AtX.never hx) (fun _ s1_1 hq => ?_)
  obtain ⟨ry, rfl, h⟩ := hq
  refine At.stk (st' := [.long ry]) rfl ?_
  refine g_lstore (ls1 := [(6, .long ry), (5, .int rx), (0, .ref (gsb G)), (1, .ref a1), (2, .ref a2), (3, .ref a3), (4, .int x4)]) dL_law_1720 (Nat.le_of_ble_eq_true rfl) rfl ?_
  refine g_aload_n dL_law_1722 rfl 4 rfl ?_
  obtain ⟨⟨_, hO⟩, h⟩ := h
  refine g_callV (N := mX9_thrown) (st := []) (As := []) (a := a2) dL_law_1723 wsX9_thrown (lw_V q1741 q1742 q1743 q116 q1744) rfl mokX9_thrown rfl cl9 (by decide) (by decide) (Nat.zero_le _) (Nat.zero_le _) hO h (fun E q s hx => AtX.never hx) (fun _ s1_2 hq => ?_)
  obtain ⟨es, hq⟩ := hq
  refine g_tops2 es ?_
  obtain ⟨rx_3, rfl, h⟩ := hq
  refine At.stk (st' := [.int rx_3]) rfl ?_
  refine g_iload dL_law_1726 1 rfl ?_
  refine g_icmp_eq (tgt := 1733) dL_law_1728 (by decide) (fun c => ?_) (fun c => ?_)
  · replace h := h.1 c
    refine g_iload dL_law_1733 1 rfl ?_
    refine g_if_ne (tgt := 1749) dL_law_1735 (by decide) (fun c => ?_) (fun c => ?_)
    · replace h := h.1 c
      refine g_goto (tgt := 2703) dL_law_1749 (by decide) ?_
      exact At.sub (ls := [(6, .long ry), (5, .int rx), (0, .ref (gsb G)), (1, .ref a1), (2, .ref a2), (3, .ref a3), (4, .int x4)]) [2, 3, 4, 5, 6] rfl h
    · replace h := h.2 c
      refine g_aload_n dL_law_1738 rfl 5 rfl ?_
      refine g_iconst (v := 0) dL_law_1739 (by decide) ?_
      obtain ⟨n, f, h1, h2, h⟩ := h
      refine g_lald dL_law_1740 h1 h2 ?_
      refine g_lload dL_law_1741 0 rfl ?_
      refine g_lcmp_eq (tgt := 1749) dL_law_1743 dL_law_1744 (by decide) (fun c => ?_) (fun c => ?_)
      · replace h := h.1 c
        refine g_goto (tgt := 2703) dL_law_1749 (by decide) ?_
        exact At.sub (ls := [(6, .long ry), (5, .int rx), (0, .ref (gsb G)), (1, .ref a1), (2, .ref a2), (3, .ref a3), (4, .int x4)]) [2, 3, 4, 5, 6] rfl h
      · replace h := h.2 c
        refine g_iconst (v := 0) dL_law_1747 (by decide) ?_
        exact g_zret rfl rfl dL_law_1748 h
  · replace h := h.2 c
    refine g_iconst (v := 0) dL_law_1731 (by decide) ?_
    exact g_zret rfl rfl dL_law_1732 h
set_option maxHeartbeats 4000000 in
theorem bL_law_1752 {G : GC} {Q : Option Value → PS → Prop} {X : String → Nat → PS → Prop} {b : Nat} {nm : String} {hh : List (Nat × Nat × Nat × Nat)} {a1 : Nat} {a2 : Nat} {a3 : Nat} {x4 : Int32} {σ : PS} (h : vp_in ((x4 + 1)) (gsL G) ∧ (vp_in ((x4 + 2)) (gsL G) ∧ (∃ bc : Nat, bc ≤ b ∧ Call G mX0_without 206 bc [.ref a1, .int (gsx G ((x4 + 1)).toNatClampNeg), .int (gsx G ((x4 + 2)).toNatClampNeg), .ref a3] (σ) (qI (fun rx s1 => vp_in ((x4 + 1)) (gsL G) ∧ (vp_in ((x4 + 2)) (gsL G) ∧ ((∃ fs_4 : List Value, Ob s1 9 a2 fs_4) ∧ Call G mX9_without 10 0 [.ref a2, .int (gsx G ((x4 + 1)).toNatClampNeg), .int (gsx G ((x4 + 2)).toNatClampNeg)] s1 (qJ (fun ry s1_1 => (∃ fs : List Value, Ob s1_1 9 a2 fs) ∧ CallO G mX9_thrown 3 [.ref a2] s1_1 (pI (fun rx_3 => ((rx_3 = rx) → ((¬ rx = 0) → At G (mL nm hh) 210 Q X (b - bc) 2703 [(0, .ref (gsb G)), (1, .ref a1), (2, .ref a2), (3, .ref a3), (4, .int x4)] [] s1_1) ∧ ((rx = 0) → ∃ (n : Nat) (f : Nat → Int64), La s1_1 101 a3 n f ∧ vp_in 0 n ∧ ((((f (0 : Int32).toNatClampNeg) = ry) → At G (mL nm hh) 210 Q X (b - bc) 2703 [(0, .ref (gsb G)), (1, .ref a1), (2, .ref a2), (3, .ref a3), (4, .int x4)] [] s1_1) ∧ ((¬ (f (0 : Int32).toNatClampNeg) = ry) → Q (some (.int 0)) s1_1)))) ∧ ((¬ rx_3 = rx) → Q (some (.int 0)) s1_1))))) (fun _ _ _ => False))))) (fun _ _ _ => False)))) : At G (mL nm hh) 210 Q X b 1752 [(0, .ref (gsb G)), (1, .ref a1), (2, .ref a2), (3, .ref a3), (4, .int x4)] [] (σ) := by
  refine g_aload_n dL_law_1752 rfl 1 rfl ?_
  refine g_aload_n dL_law_1753 rfl 0 rfl ?_
  refine g_iload dL_law_1754 4 rfl ?_
  refine g_iconst (v := 1) dL_law_1756 (by decide) ?_
  refine g_iadd dL_law_1757 ?_
  obtain ⟨h1, h⟩ := h
  refine g_sld dL_law_1758 h1 ?_
  refine g_aload_n dL_law_1759 rfl 0 rfl ?_
  refine g_iload dL_law_1760 4 rfl ?_
  refine g_iconst (v := 2) dL_law_1762 (by decide) ?_
  refine g_iadd dL_law_1763 ?_
  obtain ⟨h1, h⟩ := h
  refine g_sld dL_law_1764 h1 ?_
  refine g_aload_n dL_law_1765 rfl 3 rfl ?_
  obtain ⟨bc, hb9, h⟩ := h
  refine g_callSX (N := mX0_without) (st := []) (As := [.ref a1, .int (gsx G ((x4 + 1)).toNatClampNeg), .int (gsx G ((x4 + 2)).toNatClampNeg), .ref a3]) dL_law_1766 wsX0_without (lw_SW q1587 q1588 q107 q1589) mokX0_without rfl (by decide) (by decide) hb9 (Nat.zero_le _) h (fun E q s hx => AtX.never hx) (fun _ s1 hq => ?_)
  obtain ⟨rx, rfl, h⟩ := hq
  refine At.stk (st' := [.int rx]) rfl ?_
  refine g_istore (ls1 := [(5, .int rx), (0, .ref (gsb G)), (1, .ref a1), (2, .ref a2), (3, .ref a3), (4, .int x4)]) dL_law_1769 (Nat.le_of_ble_eq_true rfl) rfl ?_
  refine g_aload_n dL_law_1771 rfl 3 rfl ?_
  refine g_aload_n dL_law_1772 rfl 1 rfl ?_
  refine g_iload dL_law_1773 5 rfl ?_
  refine g_iconst (v := 1) dL_law_1775 (by decide) ?_
  refine g_iadd dL_law_1776 ?_
  obtain ⟨h1, h⟩ := h
  refine g_sld dL_law_1777 h1 ?_
  refine g_aload_n dL_law_1778 rfl 1 rfl ?_
  refine g_iload dL_law_1779 5 rfl ?_
  refine g_iconst (v := 2) dL_law_1781 (by decide) ?_
  refine g_iadd dL_law_1782 ?_
  obtain ⟨h1, h⟩ := h
  refine g_sld dL_law_1783 h1 ?_
  obtain ⟨⟨_, hO⟩, h⟩ := h
  refine g_callV (N := mX9_without) (st := []) (As := [.int (gsx G ((x4 + 1)).toNatClampNeg), .int (gsx G ((x4 + 2)).toNatClampNeg)]) (a := a2) dL_law_1784 wsX9_without (lw_V q2359 q2360 q2361 q116 q2362) rfl mokX9_without rfl cl9 (by decide) (by decide) (Nat.zero_le _) (Nat.zero_le _) hO h (fun E q s hx => AtX.never hx) (fun _ s1_1 hq => ?_)
  obtain ⟨ry, rfl, h⟩ := hq
  refine At.stk (st' := [.long ry]) rfl ?_
  refine g_lstore (ls1 := [(6, .long ry), (5, .int rx), (0, .ref (gsb G)), (1, .ref a1), (2, .ref a2), (3, .ref a3), (4, .int x4)]) dL_law_1787 (Nat.le_of_ble_eq_true rfl) rfl ?_
  refine g_aload_n dL_law_1789 rfl 4 rfl ?_
  obtain ⟨⟨_, hO⟩, h⟩ := h
  refine g_callV (N := mX9_thrown) (st := []) (As := []) (a := a2) dL_law_1790 wsX9_thrown (lw_V q1741 q1742 q1743 q116 q1744) rfl mokX9_thrown rfl cl9 (by decide) (by decide) (Nat.zero_le _) (Nat.zero_le _) hO h (fun E q s hx => AtX.never hx) (fun _ s1_2 hq => ?_)
  obtain ⟨es, hq⟩ := hq
  refine g_tops2 es ?_
  obtain ⟨rx_3, rfl, h⟩ := hq
  refine At.stk (st' := [.int rx_3]) rfl ?_
  refine g_iload dL_law_1793 1 rfl ?_
  refine g_icmp_eq (tgt := 1800) dL_law_1795 (by decide) (fun c => ?_) (fun c => ?_)
  · replace h := h.1 c
    refine g_iload dL_law_1800 1 rfl ?_
    refine g_if_ne (tgt := 1816) dL_law_1802 (by decide) (fun c => ?_) (fun c => ?_)
    · replace h := h.1 c
      refine g_goto (tgt := 2703) dL_law_1816 (by decide) ?_
      exact At.sub (ls := [(6, .long ry), (5, .int rx), (0, .ref (gsb G)), (1, .ref a1), (2, .ref a2), (3, .ref a3), (4, .int x4)]) [2, 3, 4, 5, 6] rfl h
    · replace h := h.2 c
      refine g_aload_n dL_law_1805 rfl 5 rfl ?_
      refine g_iconst (v := 0) dL_law_1806 (by decide) ?_
      obtain ⟨n, f, h1, h2, h⟩ := h
      refine g_lald dL_law_1807 h1 h2 ?_
      refine g_lload dL_law_1808 0 rfl ?_
      refine g_lcmp_eq (tgt := 1816) dL_law_1810 dL_law_1811 (by decide) (fun c => ?_) (fun c => ?_)
      · replace h := h.1 c
        refine g_goto (tgt := 2703) dL_law_1816 (by decide) ?_
        exact At.sub (ls := [(6, .long ry), (5, .int rx), (0, .ref (gsb G)), (1, .ref a1), (2, .ref a2), (3, .ref a3), (4, .int x4)]) [2, 3, 4, 5, 6] rfl h
      · replace h := h.2 c
        refine g_iconst (v := 0) dL_law_1814 (by decide) ?_
        exact g_zret rfl rfl dL_law_1815 h
  · replace h := h.2 c
    refine g_iconst (v := 0) dL_law_1798 (by decide) ?_
    exact g_zret rfl rfl dL_law_1799 h
set_option maxHeartbeats 4000000 in
theorem bL_law_1819 {G : GC} {Q : Option Value → PS → Prop} {X : String → Nat → PS → Prop} {b : Nat} {nm : String} {hh : List (Nat × Nat × Nat × Nat)} {a1 : Nat} {a2 : Nat} {a3 : Nat} {x4 : Int32} {σ : PS} (h : ∃ bc : Nat, bc ≤ b ∧ (∃ fs_3 : List Value, Ob (σ) 1 a1 fs_3) ∧ Call G mX1_keeper 205 bc [.ref a1] (σ) (qI (fun rx s1 => (∃ fs : List Value, Ob s1 9 a2 fs) ∧ Call G mX9_keeper 11 0 [.ref a2] s1 (qI (fun rx_2 s1_1 => ((rx = rx_2) → At G (mL nm hh) 210 Q X (b - bc) 2703 [(0, .ref (gsb G)), (1, .ref a1), (2, .ref a2), (3, .ref a3), (4, .int x4)] [] s1_1) ∧ ((¬ rx = rx_2) → Q (some (.int 0)) s1_1))) (fun _ _ _ => False))) (fun _ _ _ => False)) : At G (mL nm hh) 210 Q X b 1819 [(0, .ref (gsb G)), (1, .ref a1), (2, .ref a2), (3, .ref a3), (4, .int x4)] [] (σ) := by
  refine g_aload_n dL_law_1819 rfl 1 rfl ?_
  obtain ⟨bc, hb9, h⟩ := h
  obtain ⟨⟨_, hO⟩, h⟩ := h
  refine g_callV (N := mX1_keeper) (st := []) (As := []) (a := a1) dL_law_1820 wsX1_keeper (lw_V q767 q768 q769 q108 q770) rfl mokX1_keeper rfl cl1 (by decide) (by decide) hb9 (Nat.zero_le _) hO h (fun E q s hx => AtX.never hx) (fun _ s1 hq => ?_)
  obtain ⟨rx, rfl, h⟩ := hq
  refine At.stk (st' := [.int rx]) rfl ?_
  refine g_aload_n dL_law_1823 rfl 2 rfl ?_
  obtain ⟨⟨_, hO⟩, h⟩ := h
  refine g_callV (N := mX9_keeper) (st := [.int rx]) (As := []) (a := a2) dL_law_1824 wsX9_keeper (lw_V q2367 q2368 q2369 q116 q2370) rfl mokX9_keeper rfl cl9 (by decide) (by decide) (Nat.zero_le _) (by simp [Value.category]) hO h (fun E q s hx => AtX.never hx) (fun _ s1_1 hq => ?_)
  obtain ⟨rx_2, rfl, h⟩ := hq
  refine At.stk (st' := [.int rx_2, .int rx]) rfl ?_
  refine g_icmp_eq (tgt := 2703) dL_law_1827 (by decide) (fun c => ?_) (fun c => ?_)
  · replace h := h.1 c
    exact At.sub (ls := [(0, .ref (gsb G)), (1, .ref a1), (2, .ref a2), (3, .ref a3), (4, .int x4)]) [0, 1, 2, 3, 4] rfl h
  · replace h := h.2 c
    refine g_iconst (v := 0) dL_law_1830 (by decide) ?_
    exact g_zret rfl rfl dL_law_1831 h
set_option maxHeartbeats 4000000 in
theorem bL_law_1832 {G : GC} {Q : Option Value → PS → Prop} {X : String → Nat → PS → Prop} {b : Nat} {nm : String} {hh : List (Nat × Nat × Nat × Nat)} {a1 : Nat} {a2 : Nat} {a3 : Nat} {x4 : Int32} {σ : PS} (h : ∃ bc : Nat, bc ≤ b ∧ (∃ fs_3 : List Value, Ob (σ) 1 a1 fs_3) ∧ Call G mX1_spoiler 205 bc [.ref a1] (σ) (qI (fun rx s1 => (∃ fs : List Value, Ob s1 9 a2 fs) ∧ Call G mX9_spoiler 11 0 [.ref a2] s1 (qI (fun rx_2 s1_1 => ((rx = rx_2) → At G (mL nm hh) 210 Q X (b - bc) 2703 [(0, .ref (gsb G)), (1, .ref a1), (2, .ref a2), (3, .ref a3), (4, .int x4)] [] s1_1) ∧ ((¬ rx = rx_2) → Q (some (.int 0)) s1_1))) (fun _ _ _ => False))) (fun _ _ _ => False)) : At G (mL nm hh) 210 Q X b 1832 [(0, .ref (gsb G)), (1, .ref a1), (2, .ref a2), (3, .ref a3), (4, .int x4)] [] (σ) := by
  refine g_aload_n dL_law_1832 rfl 1 rfl ?_
  obtain ⟨bc, hb9, h⟩ := h
  obtain ⟨⟨_, hO⟩, h⟩ := h
  refine g_callV (N := mX1_spoiler) (st := []) (As := []) (a := a1) dL_law_1833 wsX1_spoiler (lw_V q775 q776 q777 q108 q778) rfl mokX1_spoiler rfl cl1 (by decide) (by decide) hb9 (Nat.zero_le _) hO h (fun E q s hx => AtX.never hx) (fun _ s1 hq => ?_)
  obtain ⟨rx, rfl, h⟩ := hq
  refine At.stk (st' := [.int rx]) rfl ?_
  refine g_aload_n dL_law_1836 rfl 2 rfl ?_
  obtain ⟨⟨_, hO⟩, h⟩ := h
  refine g_callV (N := mX9_spoiler) (st := [.int rx]) (As := []) (a := a2) dL_law_1837 wsX9_spoiler (lw_V q2375 q2376 q2377 q116 q2378) rfl mokX9_spoiler rfl cl9 (by decide) (by decide) (Nat.zero_le _) (by simp [Value.category]) hO h (fun E q s hx => AtX.never hx) (fun _ s1_1 hq => ?_)
  obtain ⟨rx_2, rfl, h⟩ := hq
  refine At.stk (st' := [.int rx_2, .int rx]) rfl ?_
  refine g_icmp_eq (tgt := 2703) dL_law_1840 (by decide) (fun c => ?_) (fun c => ?_)
  · replace h := h.1 c
    exact At.sub (ls := [(0, .ref (gsb G)), (1, .ref a1), (2, .ref a2), (3, .ref a3), (4, .int x4)]) [0, 1, 2, 3, 4] rfl h
  · replace h := h.2 c
    refine g_iconst (v := 0) dL_law_1843 (by decide) ?_
    exact g_zret rfl rfl dL_law_1844 h
set_option maxHeartbeats 4000000 in
theorem bL_law_1845 {G : GC} {Q : Option Value → PS → Prop} {X : String → Nat → PS → Prop} {b : Nat} {nm : String} {hh : List (Nat × Nat × Nat × Nat)} {a1 : Nat} {a2 : Nat} {a3 : Nat} {x4 : Int32} {σ : PS} (h : vp_in ((x4 + 1)) (gsL G) ∧ (∃ bc : Nat, bc ≤ b ∧ Call G mX0_falling 206 bc [.ref a1, .int (gsx G ((x4 + 1)).toNatClampNeg), .ref a3] (σ) (qI (fun rx s1 => vp_in ((x4 + 1)) (gsL G) ∧ ((∃ fs_4 : List Value, Ob s1 9 a2 fs_4) ∧ Call G mX9_falling 10 0 [.ref a2, .int (gsx G ((x4 + 1)).toNatClampNeg)] s1 (qJ (fun ry s1_1 => (∃ fs : List Value, Ob s1_1 9 a2 fs) ∧ CallO G mX9_thrown 3 [.ref a2] s1_1 (pI (fun rx_3 => ((rx_3 = rx) → ((¬ rx = 0) → At G (mL nm hh) 210 Q X (b - bc) 2703 [(0, .ref (gsb G)), (1, .ref a1), (2, .ref a2), (3, .ref a3), (4, .int x4)] [] s1_1) ∧ ((rx = 0) → ∃ (n : Nat) (f : Nat → Int64), La s1_1 101 a3 n f ∧ vp_in 0 n ∧ ((((f (0 : Int32).toNatClampNeg) = ry) → At G (mL nm hh) 210 Q X (b - bc) 2703 [(0, .ref (gsb G)), (1, .ref a1), (2, .ref a2), (3, .ref a3), (4, .int x4)] [] s1_1) ∧ ((¬ (f (0 : Int32).toNatClampNeg) = ry) → Q (some (.int 0)) s1_1)))) ∧ ((¬ rx_3 = rx) → Q (some (.int 0)) s1_1))))) (fun _ _ _ => False)))) (fun _ _ _ => False))) : At G (mL nm hh) 210 Q X b 1845 [(0, .ref (gsb G)), (1, .ref a1), (2, .ref a2), (3, .ref a3), (4, .int x4)] [] (σ) := by
  refine g_aload_n dL_law_1845 rfl 1 rfl ?_
  refine g_aload_n dL_law_1846 rfl 0 rfl ?_
  refine g_iload dL_law_1847 4 rfl ?_
  refine g_iconst (v := 1) dL_law_1849 (by decide) ?_
  refine g_iadd dL_law_1850 ?_
  obtain ⟨h1, h⟩ := h
  refine g_sld dL_law_1851 h1 ?_
  refine g_aload_n dL_law_1852 rfl 3 rfl ?_
  obtain ⟨bc, hb9, h⟩ := h
  refine g_callSX (N := mX0_falling) (st := []) (As := [.ref a1, .int (gsx G ((x4 + 1)).toNatClampNeg), .ref a3]) dL_law_1853 wsX0_falling (lw_SW q1594 q1595 q107 q1596) mokX0_falling rfl (by decide) (by decide) hb9 (Nat.zero_le _) h (fun E q s hx => AtX.never hx) (fun _ s1 hq => ?_)
  obtain ⟨rx, rfl, h⟩ := hq
  refine At.stk (st' := [.int rx]) rfl ?_
  refine g_istore (ls1 := [(5, .int rx), (0, .ref (gsb G)), (1, .ref a1), (2, .ref a2), (3, .ref a3), (4, .int x4)]) dL_law_1856 (Nat.le_of_ble_eq_true rfl) rfl ?_
  refine g_aload_n dL_law_1858 rfl 3 rfl ?_
  refine g_aload_n dL_law_1859 rfl 1 rfl ?_
  refine g_iload dL_law_1860 5 rfl ?_
  refine g_iconst (v := 1) dL_law_1862 (by decide) ?_
  refine g_iadd dL_law_1863 ?_
  obtain ⟨h1, h⟩ := h
  refine g_sld dL_law_1864 h1 ?_
  obtain ⟨⟨_, hO⟩, h⟩ := h
  refine g_callV (N := mX9_falling) (st := []) (As := [.int (gsx G ((x4 + 1)).toNatClampNeg)]) (a := a2) dL_law_1865 wsX9_falling (lw_V q2379 q2380 q2381 q116 q2382) rfl mokX9_falling rfl cl9 (by decide) (by decide) (Nat.zero_le _) (Nat.zero_le _) hO h (fun E q s hx => AtX.never hx) (fun _ s1_1 hq => ?_)
  obtain ⟨ry, rfl, h⟩ := hq
  refine At.stk (st' := [.long ry]) rfl ?_
  refine g_lstore (ls1 := [(6, .long ry), (5, .int rx), (0, .ref (gsb G)), (1, .ref a1), (2, .ref a2), (3, .ref a3), (4, .int x4)]) dL_law_1868 (Nat.le_of_ble_eq_true rfl) rfl ?_
  refine g_aload_n dL_law_1870 rfl 4 rfl ?_
  obtain ⟨⟨_, hO⟩, h⟩ := h
  refine g_callV (N := mX9_thrown) (st := []) (As := []) (a := a2) dL_law_1871 wsX9_thrown (lw_V q1741 q1742 q1743 q116 q1744) rfl mokX9_thrown rfl cl9 (by decide) (by decide) (Nat.zero_le _) (Nat.zero_le _) hO h (fun E q s hx => AtX.never hx) (fun _ s1_2 hq => ?_)
  obtain ⟨es, hq⟩ := hq
  refine g_tops2 es ?_
  obtain ⟨rx_3, rfl, h⟩ := hq
  refine At.stk (st' := [.int rx_3]) rfl ?_
  refine g_iload dL_law_1874 1 rfl ?_
  refine g_icmp_eq (tgt := 1881) dL_law_1876 (by decide) (fun c => ?_) (fun c => ?_)
  · replace h := h.1 c
    refine g_iload dL_law_1881 1 rfl ?_
    refine g_if_ne (tgt := 1897) dL_law_1883 (by decide) (fun c => ?_) (fun c => ?_)
    · replace h := h.1 c
      refine g_goto (tgt := 2703) dL_law_1897 (by decide) ?_
      exact At.sub (ls := [(6, .long ry), (5, .int rx), (0, .ref (gsb G)), (1, .ref a1), (2, .ref a2), (3, .ref a3), (4, .int x4)]) [2, 3, 4, 5, 6] rfl h
    · replace h := h.2 c
      refine g_aload_n dL_law_1886 rfl 5 rfl ?_
      refine g_iconst (v := 0) dL_law_1887 (by decide) ?_
      obtain ⟨n, f, h1, h2, h⟩ := h
      refine g_lald dL_law_1888 h1 h2 ?_
      refine g_lload dL_law_1889 0 rfl ?_
      refine g_lcmp_eq (tgt := 1897) dL_law_1891 dL_law_1892 (by decide) (fun c => ?_) (fun c => ?_)
      · replace h := h.1 c
        refine g_goto (tgt := 2703) dL_law_1897 (by decide) ?_
        exact At.sub (ls := [(6, .long ry), (5, .int rx), (0, .ref (gsb G)), (1, .ref a1), (2, .ref a2), (3, .ref a3), (4, .int x4)]) [2, 3, 4, 5, 6] rfl h
      · replace h := h.2 c
        refine g_iconst (v := 0) dL_law_1895 (by decide) ?_
        exact g_zret rfl rfl dL_law_1896 h
  · replace h := h.2 c
    refine g_iconst (v := 0) dL_law_1879 (by decide) ?_
    exact g_zret rfl rfl dL_law_1880 h
set_option maxHeartbeats 4000000 in
theorem bL_law_1900 {G : GC} {Q : Option Value → PS → Prop} {X : String → Nat → PS → Prop} {b : Nat} {nm : String} {hh : List (Nat × Nat × Nat × Nat)} {a1 : Nat} {a2 : Nat} {a3 : Nat} {x4 : Int32} {σ : PS} (h : vp_in ((x4 + 1)) (gsL G) ∧ (vp_in ((x4 + 2)) (gsL G) ∧ (∃ bc : Nat, bc ≤ b ∧ Call G mX0_seeing 206 bc [.ref a1, .int (gsx G ((x4 + 1)).toNatClampNeg), .int (gsx G ((x4 + 2)).toNatClampNeg), .ref a3] (σ) (qI (fun rx s1 => vp_in ((x4 + 1)) (gsL G) ∧ (vp_in ((x4 + 2)) (gsL G) ∧ ((∃ fs_4 : List Value, Ob s1 9 a2 fs_4) ∧ Call G mX9_seeing 10 0 [.ref a2, .int (gsx G ((x4 + 1)).toNatClampNeg), .int (gsx G ((x4 + 2)).toNatClampNeg)] s1 (qJ (fun ry s1_1 => (∃ fs : List Value, Ob s1_1 9 a2 fs) ∧ CallO G mX9_thrown 3 [.ref a2] s1_1 (pI (fun rx_3 => ((rx_3 = rx) → ((¬ rx = 0) → At G (mL nm hh) 210 Q X (b - bc) 2703 [(0, .ref (gsb G)), (1, .ref a1), (2, .ref a2), (3, .ref a3), (4, .int x4)] [] s1_1) ∧ ((rx = 0) → ∃ (n : Nat) (f : Nat → Int64), La s1_1 101 a3 n f ∧ vp_in 0 n ∧ ((((f (0 : Int32).toNatClampNeg) = ry) → At G (mL nm hh) 210 Q X (b - bc) 2703 [(0, .ref (gsb G)), (1, .ref a1), (2, .ref a2), (3, .ref a3), (4, .int x4)] [] s1_1) ∧ ((¬ (f (0 : Int32).toNatClampNeg) = ry) → Q (some (.int 0)) s1_1)))) ∧ ((¬ rx_3 = rx) → Q (some (.int 0)) s1_1))))) (fun _ _ _ => False))))) (fun _ _ _ => False)))) : At G (mL nm hh) 210 Q X b 1900 [(0, .ref (gsb G)), (1, .ref a1), (2, .ref a2), (3, .ref a3), (4, .int x4)] [] (σ) := by
  refine g_aload_n dL_law_1900 rfl 1 rfl ?_
  refine g_aload_n dL_law_1901 rfl 0 rfl ?_
  refine g_iload dL_law_1902 4 rfl ?_
  refine g_iconst (v := 1) dL_law_1904 (by decide) ?_
  refine g_iadd dL_law_1905 ?_
  obtain ⟨h1, h⟩ := h
  refine g_sld dL_law_1906 h1 ?_
  refine g_aload_n dL_law_1907 rfl 0 rfl ?_
  refine g_iload dL_law_1908 4 rfl ?_
  refine g_iconst (v := 2) dL_law_1910 (by decide) ?_
  refine g_iadd dL_law_1911 ?_
  obtain ⟨h1, h⟩ := h
  refine g_sld dL_law_1912 h1 ?_
  refine g_aload_n dL_law_1913 rfl 3 rfl ?_
  obtain ⟨bc, hb9, h⟩ := h
  refine g_callSX (N := mX0_seeing) (st := []) (As := [.ref a1, .int (gsx G ((x4 + 1)).toNatClampNeg), .int (gsx G ((x4 + 2)).toNatClampNeg), .ref a3]) dL_law_1914 wsX0_seeing (lw_SW q1601 q1602 q107 q1603) mokX0_seeing rfl (by decide) (by decide) hb9 (Nat.zero_le _) h (fun E q s hx => AtX.never hx) (fun _ s1 hq => ?_)
  obtain ⟨rx, rfl, h⟩ := hq
  refine At.stk (st' := [.int rx]) rfl ?_
  refine g_istore (ls1 := [(5, .int rx), (0, .ref (gsb G)), (1, .ref a1), (2, .ref a2), (3, .ref a3), (4, .int x4)]) dL_law_1917 (Nat.le_of_ble_eq_true rfl) rfl ?_
  refine g_aload_n dL_law_1919 rfl 3 rfl ?_
  refine g_aload_n dL_law_1920 rfl 1 rfl ?_
  refine g_iload dL_law_1921 5 rfl ?_
  refine g_iconst (v := 1) dL_law_1923 (by decide) ?_
  refine g_iadd dL_law_1924 ?_
  obtain ⟨h1, h⟩ := h
  refine g_sld dL_law_1925 h1 ?_
  refine g_aload_n dL_law_1926 rfl 1 rfl ?_
  refine g_iload dL_law_1927 5 rfl ?_
  refine g_iconst (v := 2) dL_law_1929 (by decide) ?_
  refine g_iadd dL_law_1930 ?_
  obtain ⟨h1, h⟩ := h
  refine g_sld dL_law_1931 h1 ?_
  obtain ⟨⟨_, hO⟩, h⟩ := h
  refine g_callV (N := mX9_seeing) (st := []) (As := [.int (gsx G ((x4 + 1)).toNatClampNeg), .int (gsx G ((x4 + 2)).toNatClampNeg)]) (a := a2) dL_law_1932 wsX9_seeing (lw_V q2383 q2384 q2385 q116 q2386) rfl mokX9_seeing rfl cl9 (by decide) (by decide) (Nat.zero_le _) (Nat.zero_le _) hO h (fun E q s hx => AtX.never hx) (fun _ s1_1 hq => ?_)
  obtain ⟨ry, rfl, h⟩ := hq
  refine At.stk (st' := [.long ry]) rfl ?_
  refine g_lstore (ls1 := [(6, .long ry), (5, .int rx), (0, .ref (gsb G)), (1, .ref a1), (2, .ref a2), (3, .ref a3), (4, .int x4)]) dL_law_1935 (Nat.le_of_ble_eq_true rfl) rfl ?_
  refine g_aload_n dL_law_1937 rfl 4 rfl ?_
  obtain ⟨⟨_, hO⟩, h⟩ := h
  refine g_callV (N := mX9_thrown) (st := []) (As := []) (a := a2) dL_law_1938 wsX9_thrown (lw_V q1741 q1742 q1743 q116 q1744) rfl mokX9_thrown rfl cl9 (by decide) (by decide) (Nat.zero_le _) (Nat.zero_le _) hO h (fun E q s hx => AtX.never hx) (fun _ s1_2 hq => ?_)
  obtain ⟨es, hq⟩ := hq
  refine g_tops2 es ?_
  obtain ⟨rx_3, rfl, h⟩ := hq
  refine At.stk (st' := [.int rx_3]) rfl ?_
  refine g_iload dL_law_1941 1 rfl ?_
  refine g_icmp_eq (tgt := 1948) dL_law_1943 (by decide) (fun c => ?_) (fun c => ?_)
  · replace h := h.1 c
    refine g_iload dL_law_1948 1 rfl ?_
    refine g_if_ne (tgt := 1964) dL_law_1950 (by decide) (fun c => ?_) (fun c => ?_)
    · replace h := h.1 c
      refine g_goto (tgt := 2703) dL_law_1964 (by decide) ?_
      exact At.sub (ls := [(6, .long ry), (5, .int rx), (0, .ref (gsb G)), (1, .ref a1), (2, .ref a2), (3, .ref a3), (4, .int x4)]) [2, 3, 4, 5, 6] rfl h
    · replace h := h.2 c
      refine g_aload_n dL_law_1953 rfl 5 rfl ?_
      refine g_iconst (v := 0) dL_law_1954 (by decide) ?_
      obtain ⟨n, f, h1, h2, h⟩ := h
      refine g_lald dL_law_1955 h1 h2 ?_
      refine g_lload dL_law_1956 0 rfl ?_
      refine g_lcmp_eq (tgt := 1964) dL_law_1958 dL_law_1959 (by decide) (fun c => ?_) (fun c => ?_)
      · replace h := h.1 c
        refine g_goto (tgt := 2703) dL_law_1964 (by decide) ?_
        exact At.sub (ls := [(6, .long ry), (5, .int rx), (0, .ref (gsb G)), (1, .ref a1), (2, .ref a2), (3, .ref a3), (4, .int x4)]) [2, 3, 4, 5, 6] rfl h
      · replace h := h.2 c
        refine g_iconst (v := 0) dL_law_1962 (by decide) ?_
        exact g_zret rfl rfl dL_law_1963 h
  · replace h := h.2 c
    refine g_iconst (v := 0) dL_law_1946 (by decide) ?_
    exact g_zret rfl rfl dL_law_1947 h
set_option maxHeartbeats 4000000 in
theorem bL_law_1967 {G : GC} {Q : Option Value → PS → Prop} {X : String → Nat → PS → Prop} {b : Nat} {nm : String} {hh : List (Nat × Nat × Nat × Nat)} {a1 : Nat} {a2 : Nat} {a3 : Nat} {x4 : Int32} {σ : PS} (h : vp_in ((x4 + 1)) (gsL G) ∧ (vp_in ((x4 + 2)) (gsL G) ∧ (∃ bc : Nat, bc ≤ b ∧ Call G mX0_filled 207 bc [.ref a1, .int (gsx G ((x4 + 1)).toNatClampNeg), .int (gsx G ((x4 + 2)).toNatClampNeg), .ref a3] (σ) (qI (fun rx s1 => vp_in ((x4 + 1)) (gsL G) ∧ (vp_in ((x4 + 2)) (gsL G) ∧ ((∃ fs_4 : List Value, Ob s1 9 a2 fs_4) ∧ Call G mX9_filled 10 0 [.ref a2, .int (gsx G ((x4 + 1)).toNatClampNeg), .int (gsx G ((x4 + 2)).toNatClampNeg)] s1 (qJ (fun ry s1_1 => (∃ fs : List Value, Ob s1_1 9 a2 fs) ∧ CallO G mX9_thrown 3 [.ref a2] s1_1 (pI (fun rx_3 => ((rx_3 = rx) → ((¬ rx = 0) → At G (mL nm hh) 210 Q X (b - bc) 2703 [(0, .ref (gsb G)), (1, .ref a1), (2, .ref a2), (3, .ref a3), (4, .int x4)] [] s1_1) ∧ ((rx = 0) → ∃ (n : Nat) (f : Nat → Int64), La s1_1 101 a3 n f ∧ vp_in 0 n ∧ ((((f (0 : Int32).toNatClampNeg) = ry) → At G (mL nm hh) 210 Q X (b - bc) 2703 [(0, .ref (gsb G)), (1, .ref a1), (2, .ref a2), (3, .ref a3), (4, .int x4)] [] s1_1) ∧ ((¬ (f (0 : Int32).toNatClampNeg) = ry) → Q (some (.int 0)) s1_1)))) ∧ ((¬ rx_3 = rx) → Q (some (.int 0)) s1_1))))) (fun _ _ _ => False))))) (fun _ _ _ => False)))) : At G (mL nm hh) 210 Q X b 1967 [(0, .ref (gsb G)), (1, .ref a1), (2, .ref a2), (3, .ref a3), (4, .int x4)] [] (σ) := by
  refine g_aload_n dL_law_1967 rfl 1 rfl ?_
  refine g_aload_n dL_law_1968 rfl 0 rfl ?_
  refine g_iload dL_law_1969 4 rfl ?_
  refine g_iconst (v := 1) dL_law_1971 (by decide) ?_
  refine g_iadd dL_law_1972 ?_
  obtain ⟨h1, h⟩ := h
  refine g_sld dL_law_1973 h1 ?_
  refine g_aload_n dL_law_1974 rfl 0 rfl ?_
  refine g_iload dL_law_1975 4 rfl ?_
  refine g_iconst (v := 2) dL_law_1977 (by decide) ?_
  refine g_iadd dL_law_1978 ?_
  obtain ⟨h1, h⟩ := h
  refine g_sld dL_law_1979 h1 ?_
  refine g_aload_n dL_law_1980 rfl 3 rfl ?_
  obtain ⟨bc, hb9, h⟩ := h
  refine g_callSX (N := mX0_filled) (st := []) (As := [.ref a1, .int (gsx G ((x4 + 1)).toNatClampNeg), .int (gsx G ((x4 + 2)).toNatClampNeg), .ref a3]) dL_law_1981 wsX0_filled (lw_SW q1608 q1609 q107 q1610) mokX0_filled rfl (by decide) (by decide) hb9 (Nat.zero_le _) h (fun E q s hx => AtX.never hx) (fun _ s1 hq => ?_)
  obtain ⟨rx, rfl, h⟩ := hq
  refine At.stk (st' := [.int rx]) rfl ?_
  refine g_istore (ls1 := [(5, .int rx), (0, .ref (gsb G)), (1, .ref a1), (2, .ref a2), (3, .ref a3), (4, .int x4)]) dL_law_1984 (Nat.le_of_ble_eq_true rfl) rfl ?_
  refine g_aload_n dL_law_1986 rfl 3 rfl ?_
  refine g_aload_n dL_law_1987 rfl 1 rfl ?_
  refine g_iload dL_law_1988 5 rfl ?_
  refine g_iconst (v := 1) dL_law_1990 (by decide) ?_
  refine g_iadd dL_law_1991 ?_
  obtain ⟨h1, h⟩ := h
  refine g_sld dL_law_1992 h1 ?_
  refine g_aload_n dL_law_1993 rfl 1 rfl ?_
  refine g_iload dL_law_1994 5 rfl ?_
  refine g_iconst (v := 2) dL_law_1996 (by decide) ?_
  refine g_iadd dL_law_1997 ?_
  obtain ⟨h1, h⟩ := h
  refine g_sld dL_law_1998 h1 ?_
  obtain ⟨⟨_, hO⟩, h⟩ := h
  refine g_callV (N := mX9_filled) (st := []) (As := [.int (gsx G ((x4 + 1)).toNatClampNeg), .int (gsx G ((x4 + 2)).toNatClampNeg)]) (a := a2) dL_law_1999 wsX9_filled (lw_V q2387 q2388 q2389 q116 q2390) rfl mokX9_filled rfl cl9 (by decide) (by decide) (Nat.zero_le _) (Nat.zero_le _) hO h (fun E q s hx => AtX.never hx) (fun _ s1_1 hq => ?_)
  obtain ⟨ry, rfl, h⟩ := hq
  refine At.stk (st' := [.long ry]) rfl ?_
  refine g_lstore (ls1 := [(6, .long ry), (5, .int rx), (0, .ref (gsb G)), (1, .ref a1), (2, .ref a2), (3, .ref a3), (4, .int x4)]) dL_law_2002 (Nat.le_of_ble_eq_true rfl) rfl ?_
  refine g_aload_n dL_law_2004 rfl 4 rfl ?_
  obtain ⟨⟨_, hO⟩, h⟩ := h
  refine g_callV (N := mX9_thrown) (st := []) (As := []) (a := a2) dL_law_2005 wsX9_thrown (lw_V q1741 q1742 q1743 q116 q1744) rfl mokX9_thrown rfl cl9 (by decide) (by decide) (Nat.zero_le _) (Nat.zero_le _) hO h (fun E q s hx => AtX.never hx) (fun _ s1_2 hq => ?_)
  obtain ⟨es, hq⟩ := hq
  refine g_tops2 es ?_
  obtain ⟨rx_3, rfl, h⟩ := hq
  refine At.stk (st' := [.int rx_3]) rfl ?_
  refine g_iload dL_law_2008 1 rfl ?_
  refine g_icmp_eq (tgt := 2015) dL_law_2010 (by decide) (fun c => ?_) (fun c => ?_)
  · replace h := h.1 c
    refine g_iload dL_law_2015 1 rfl ?_
    refine g_if_ne (tgt := 2031) dL_law_2017 (by decide) (fun c => ?_) (fun c => ?_)
    · replace h := h.1 c
      refine g_goto (tgt := 2703) dL_law_2031 (by decide) ?_
      exact At.sub (ls := [(6, .long ry), (5, .int rx), (0, .ref (gsb G)), (1, .ref a1), (2, .ref a2), (3, .ref a3), (4, .int x4)]) [2, 3, 4, 5, 6] rfl h
    · replace h := h.2 c
      refine g_aload_n dL_law_2020 rfl 5 rfl ?_
      refine g_iconst (v := 0) dL_law_2021 (by decide) ?_
      obtain ⟨n, f, h1, h2, h⟩ := h
      refine g_lald dL_law_2022 h1 h2 ?_
      refine g_lload dL_law_2023 0 rfl ?_
      refine g_lcmp_eq (tgt := 2031) dL_law_2025 dL_law_2026 (by decide) (fun c => ?_) (fun c => ?_)
      · replace h := h.1 c
        refine g_goto (tgt := 2703) dL_law_2031 (by decide) ?_
        exact At.sub (ls := [(6, .long ry), (5, .int rx), (0, .ref (gsb G)), (1, .ref a1), (2, .ref a2), (3, .ref a3), (4, .int x4)]) [2, 3, 4, 5, 6] rfl h
      · replace h := h.2 c
        refine g_iconst (v := 0) dL_law_2029 (by decide) ?_
        exact g_zret rfl rfl dL_law_2030 h
  · replace h := h.2 c
    refine g_iconst (v := 0) dL_law_2013 (by decide) ?_
    exact g_zret rfl rfl dL_law_2014 h
set_option maxHeartbeats 4000000 in
theorem bL_law_2034 {G : GC} {Q : Option Value → PS → Prop} {X : String → Nat → PS → Prop} {b : Nat} {nm : String} {hh : List (Nat × Nat × Nat × Nat)} {a1 : Nat} {a2 : Nat} {a3 : Nat} {x4 : Int32} {σ : PS} (h : ∃ bc : Nat, bc ≤ b ∧ (∃ fs_3 : List Value, Ob (σ) 1 a1 fs_3) ∧ Call G mX1_fill 206 bc [.ref a1] (σ) (qI (fun rx s1 => (∃ fs : List Value, Ob s1 9 a2 fs) ∧ Call G mX9_fill 10 0 [.ref a2] s1 (qI (fun rx_2 s1_1 => ((rx = rx_2) → At G (mL nm hh) 210 Q X (b - bc) 2703 [(0, .ref (gsb G)), (1, .ref a1), (2, .ref a2), (3, .ref a3), (4, .int x4)] [] s1_1) ∧ ((¬ rx = rx_2) → Q (some (.int 0)) s1_1))) (fun _ _ _ => False))) (fun _ _ _ => False)) : At G (mL nm hh) 210 Q X b 2034 [(0, .ref (gsb G)), (1, .ref a1), (2, .ref a2), (3, .ref a3), (4, .int x4)] [] (σ) := by
  refine g_aload_n dL_law_2034 rfl 1 rfl ?_
  obtain ⟨bc, hb9, h⟩ := h
  obtain ⟨⟨_, hO⟩, h⟩ := h
  refine g_callV (N := mX1_fill) (st := []) (As := []) (a := a1) dL_law_2035 wsX1_fill (lw_V q783 q784 q785 q108 q786) rfl mokX1_fill rfl cl1 (by decide) (by decide) hb9 (Nat.zero_le _) hO h (fun E q s hx => AtX.never hx) (fun _ s1 hq => ?_)
  obtain ⟨rx, rfl, h⟩ := hq
  refine At.stk (st' := [.int rx]) rfl ?_
  refine g_aload_n dL_law_2038 rfl 2 rfl ?_
  obtain ⟨⟨_, hO⟩, h⟩ := h
  refine g_callV (N := mX9_fill) (st := [.int rx]) (As := []) (a := a2) dL_law_2039 wsX9_fill (lw_V q2391 q2392 q2393 q116 q2394) rfl mokX9_fill rfl cl9 (by decide) (by decide) (Nat.zero_le _) (by simp [Value.category]) hO h (fun E q s hx => AtX.never hx) (fun _ s1_1 hq => ?_)
  obtain ⟨rx_2, rfl, h⟩ := hq
  refine At.stk (st' := [.int rx_2, .int rx]) rfl ?_
  refine g_icmp_eq (tgt := 2703) dL_law_2042 (by decide) (fun c => ?_) (fun c => ?_)
  · replace h := h.1 c
    exact At.sub (ls := [(0, .ref (gsb G)), (1, .ref a1), (2, .ref a2), (3, .ref a3), (4, .int x4)]) [0, 1, 2, 3, 4] rfl h
  · replace h := h.2 c
    refine g_iconst (v := 0) dL_law_2045 (by decide) ?_
    exact g_zret rfl rfl dL_law_2046 h
set_option maxHeartbeats 4000000 in
theorem bL_law_2047 {G : GC} {Q : Option Value → PS → Prop} {X : String → Nat → PS → Prop} {b : Nat} {nm : String} {hh : List (Nat × Nat × Nat × Nat)} {a1 : Nat} {a2 : Nat} {a3 : Nat} {x4 : Int32} {σ : PS} (h : vp_in ((x4 + 1)) (gsL G) ∧ (∃ bc : Nat, bc ≤ b ∧ Call G mX0_ruled 206 bc [.ref a1, .int (gsx G ((x4 + 1)).toNatClampNeg), .ref a3] (σ) (qI (fun rx s1 => vp_in ((x4 + 1)) (gsL G) ∧ ((∃ fs_4 : List Value, Ob s1 9 a2 fs_4) ∧ Call G mX9_ruled 10 0 [.ref a2, .int (gsx G ((x4 + 1)).toNatClampNeg)] s1 (qJ (fun ry s1_1 => (∃ fs : List Value, Ob s1_1 9 a2 fs) ∧ CallO G mX9_thrown 3 [.ref a2] s1_1 (pI (fun rx_3 => ((rx_3 = rx) → ((¬ rx = 0) → At G (mL nm hh) 210 Q X (b - bc) 2703 [(0, .ref (gsb G)), (1, .ref a1), (2, .ref a2), (3, .ref a3), (4, .int x4)] [] s1_1) ∧ ((rx = 0) → ∃ (n : Nat) (f : Nat → Int64), La s1_1 101 a3 n f ∧ vp_in 0 n ∧ ((((f (0 : Int32).toNatClampNeg) = ry) → At G (mL nm hh) 210 Q X (b - bc) 2703 [(0, .ref (gsb G)), (1, .ref a1), (2, .ref a2), (3, .ref a3), (4, .int x4)] [] s1_1) ∧ ((¬ (f (0 : Int32).toNatClampNeg) = ry) → Q (some (.int 0)) s1_1)))) ∧ ((¬ rx_3 = rx) → Q (some (.int 0)) s1_1))))) (fun _ _ _ => False)))) (fun _ _ _ => False))) : At G (mL nm hh) 210 Q X b 2047 [(0, .ref (gsb G)), (1, .ref a1), (2, .ref a2), (3, .ref a3), (4, .int x4)] [] (σ) := by
  refine g_aload_n dL_law_2047 rfl 1 rfl ?_
  refine g_aload_n dL_law_2048 rfl 0 rfl ?_
  refine g_iload dL_law_2049 4 rfl ?_
  refine g_iconst (v := 1) dL_law_2051 (by decide) ?_
  refine g_iadd dL_law_2052 ?_
  obtain ⟨h1, h⟩ := h
  refine g_sld dL_law_2053 h1 ?_
  refine g_aload_n dL_law_2054 rfl 3 rfl ?_
  obtain ⟨bc, hb9, h⟩ := h
  refine g_callSX (N := mX0_ruled) (st := []) (As := [.ref a1, .int (gsx G ((x4 + 1)).toNatClampNeg), .ref a3]) dL_law_2055 wsX0_ruled (lw_SW q1615 q1616 q107 q1617) mokX0_ruled rfl (by decide) (by decide) hb9 (Nat.zero_le _) h (fun E q s hx => AtX.never hx) (fun _ s1 hq => ?_)
  obtain ⟨rx, rfl, h⟩ := hq
  refine At.stk (st' := [.int rx]) rfl ?_
  refine g_istore (ls1 := [(5, .int rx), (0, .ref (gsb G)), (1, .ref a1), (2, .ref a2), (3, .ref a3), (4, .int x4)]) dL_law_2058 (Nat.le_of_ble_eq_true rfl) rfl ?_
  refine g_aload_n dL_law_2060 rfl 3 rfl ?_
  refine g_aload_n dL_law_2061 rfl 1 rfl ?_
  refine g_iload dL_law_2062 5 rfl ?_
  refine g_iconst (v := 1) dL_law_2064 (by decide) ?_
  refine g_iadd dL_law_2065 ?_
  obtain ⟨h1, h⟩ := h
  refine g_sld dL_law_2066 h1 ?_
  obtain ⟨⟨_, hO⟩, h⟩ := h
  refine g_callV (N := mX9_ruled) (st := []) (As := [.int (gsx G ((x4 + 1)).toNatClampNeg)]) (a := a2) dL_law_2067 wsX9_ruled (lw_V q2395 q2396 q2397 q116 q2398) rfl mokX9_ruled rfl cl9 (by decide) (by decide) (Nat.zero_le _) (Nat.zero_le _) hO h (fun E q s hx => AtX.never hx) (fun _ s1_1 hq => ?_)
  obtain ⟨ry, rfl, h⟩ := hq
  refine At.stk (st' := [.long ry]) rfl ?_
  refine g_lstore (ls1 := [(6, .long ry), (5, .int rx), (0, .ref (gsb G)), (1, .ref a1), (2, .ref a2), (3, .ref a3), (4, .int x4)]) dL_law_2070 (Nat.le_of_ble_eq_true rfl) rfl ?_
  refine g_aload_n dL_law_2072 rfl 4 rfl ?_
  obtain ⟨⟨_, hO⟩, h⟩ := h
  refine g_callV (N := mX9_thrown) (st := []) (As := []) (a := a2) dL_law_2073 wsX9_thrown (lw_V q1741 q1742 q1743 q116 q1744) rfl mokX9_thrown rfl cl9 (by decide) (by decide) (Nat.zero_le _) (Nat.zero_le _) hO h (fun E q s hx => AtX.never hx) (fun _ s1_2 hq => ?_)
  obtain ⟨es, hq⟩ := hq
  refine g_tops2 es ?_
  obtain ⟨rx_3, rfl, h⟩ := hq
  refine At.stk (st' := [.int rx_3]) rfl ?_
  refine g_iload dL_law_2076 1 rfl ?_
  refine g_icmp_eq (tgt := 2083) dL_law_2078 (by decide) (fun c => ?_) (fun c => ?_)
  · replace h := h.1 c
    refine g_iload dL_law_2083 1 rfl ?_
    refine g_if_ne (tgt := 2099) dL_law_2085 (by decide) (fun c => ?_) (fun c => ?_)
    · replace h := h.1 c
      refine g_goto (tgt := 2703) dL_law_2099 (by decide) ?_
      exact At.sub (ls := [(6, .long ry), (5, .int rx), (0, .ref (gsb G)), (1, .ref a1), (2, .ref a2), (3, .ref a3), (4, .int x4)]) [2, 3, 4, 5, 6] rfl h
    · replace h := h.2 c
      refine g_aload_n dL_law_2088 rfl 5 rfl ?_
      refine g_iconst (v := 0) dL_law_2089 (by decide) ?_
      obtain ⟨n, f, h1, h2, h⟩ := h
      refine g_lald dL_law_2090 h1 h2 ?_
      refine g_lload dL_law_2091 0 rfl ?_
      refine g_lcmp_eq (tgt := 2099) dL_law_2093 dL_law_2094 (by decide) (fun c => ?_) (fun c => ?_)
      · replace h := h.1 c
        refine g_goto (tgt := 2703) dL_law_2099 (by decide) ?_
        exact At.sub (ls := [(6, .long ry), (5, .int rx), (0, .ref (gsb G)), (1, .ref a1), (2, .ref a2), (3, .ref a3), (4, .int x4)]) [2, 3, 4, 5, 6] rfl h
      · replace h := h.2 c
        refine g_iconst (v := 0) dL_law_2097 (by decide) ?_
        exact g_zret rfl rfl dL_law_2098 h
  · replace h := h.2 c
    refine g_iconst (v := 0) dL_law_2081 (by decide) ?_
    exact g_zret rfl rfl dL_law_2082 h
set_option maxHeartbeats 4000000 in
theorem bL_law_2102 {G : GC} {Q : Option Value → PS → Prop} {X : String → Nat → PS → Prop} {b : Nat} {nm : String} {hh : List (Nat × Nat × Nat × Nat)} {a1 : Nat} {a2 : Nat} {a3 : Nat} {x4 : Int32} {σ : PS} (h : vp_in ((x4 + 1)) (gsL G) ∧ (vp_in ((x4 + 2)) (gsL G) ∧ (vp_in ((x4 + 3)) (gsL G) ∧ (∃ bc : Nat, bc ≤ b ∧ Call G mX0_swapped 206 bc [.ref a1, .int (gsx G ((x4 + 1)).toNatClampNeg), .int (gsx G ((x4 + 2)).toNatClampNeg), .int (gsx G ((x4 + 3)).toNatClampNeg), .ref a3] (σ) (qI (fun rx s1 => vp_in ((x4 + 1)) (gsL G) ∧ (vp_in ((x4 + 2)) (gsL G) ∧ (vp_in ((x4 + 3)) (gsL G) ∧ ((∃ fs_4 : List Value, Ob s1 9 a2 fs_4) ∧ Call G mX9_swapped 10 0 [.ref a2, .int (gsx G ((x4 + 1)).toNatClampNeg), .int (gsx G ((x4 + 2)).toNatClampNeg), .int (gsx G ((x4 + 3)).toNatClampNeg)] s1 (qJ (fun ry s1_1 => (∃ fs : List Value, Ob s1_1 9 a2 fs) ∧ CallO G mX9_thrown 3 [.ref a2] s1_1 (pI (fun rx_3 => ((rx_3 = rx) → ((¬ rx = 0) → At G (mL nm hh) 210 Q X (b - bc) 2703 [(0, .ref (gsb G)), (1, .ref a1), (2, .ref a2), (3, .ref a3), (4, .int x4)] [] s1_1) ∧ ((rx = 0) → ∃ (n : Nat) (f : Nat → Int64), La s1_1 101 a3 n f ∧ vp_in 0 n ∧ ((((f (0 : Int32).toNatClampNeg) = ry) → At G (mL nm hh) 210 Q X (b - bc) 2703 [(0, .ref (gsb G)), (1, .ref a1), (2, .ref a2), (3, .ref a3), (4, .int x4)] [] s1_1) ∧ ((¬ (f (0 : Int32).toNatClampNeg) = ry) → Q (some (.int 0)) s1_1)))) ∧ ((¬ rx_3 = rx) → Q (some (.int 0)) s1_1))))) (fun _ _ _ => False)))))) (fun _ _ _ => False))))) : At G (mL nm hh) 210 Q X b 2102 [(0, .ref (gsb G)), (1, .ref a1), (2, .ref a2), (3, .ref a3), (4, .int x4)] [] (σ) := by
  refine g_aload_n dL_law_2102 rfl 1 rfl ?_
  refine g_aload_n dL_law_2103 rfl 0 rfl ?_
  refine g_iload dL_law_2104 4 rfl ?_
  refine g_iconst (v := 1) dL_law_2106 (by decide) ?_
  refine g_iadd dL_law_2107 ?_
  obtain ⟨h1, h⟩ := h
  refine g_sld dL_law_2108 h1 ?_
  refine g_aload_n dL_law_2109 rfl 0 rfl ?_
  refine g_iload dL_law_2110 4 rfl ?_
  refine g_iconst (v := 2) dL_law_2112 (by decide) ?_
  refine g_iadd dL_law_2113 ?_
  obtain ⟨h1, h⟩ := h
  refine g_sld dL_law_2114 h1 ?_
  refine g_aload_n dL_law_2115 rfl 0 rfl ?_
  refine g_iload dL_law_2116 4 rfl ?_
  refine g_iconst (v := 3) dL_law_2118 (by decide) ?_
  refine g_iadd dL_law_2119 ?_
  obtain ⟨h1, h⟩ := h
  refine g_sld dL_law_2120 h1 ?_
  refine g_aload_n dL_law_2121 rfl 3 rfl ?_
  obtain ⟨bc, hb9, h⟩ := h
  refine g_callSX (N := mX0_swapped) (st := []) (As := [.ref a1, .int (gsx G ((x4 + 1)).toNatClampNeg), .int (gsx G ((x4 + 2)).toNatClampNeg), .int (gsx G ((x4 + 3)).toNatClampNeg), .ref a3]) dL_law_2122 wsX0_swapped (lw_SW q1626 q1627 q107 q1628) mokX0_swapped rfl (by decide) (by decide) hb9 (Nat.zero_le _) h (fun E q s hx => AtX.never hx) (fun _ s1 hq => ?_)
  obtain ⟨rx, rfl, h⟩ := hq
  refine At.stk (st' := [.int rx]) rfl ?_
  refine g_istore (ls1 := [(5, .int rx), (0, .ref (gsb G)), (1, .ref a1), (2, .ref a2), (3, .ref a3), (4, .int x4)]) dL_law_2125 (Nat.le_of_ble_eq_true rfl) rfl ?_
  refine g_aload_n dL_law_2127 rfl 3 rfl ?_
  refine g_aload_n dL_law_2128 rfl 1 rfl ?_
  refine g_iload dL_law_2129 5 rfl ?_
  refine g_iconst (v := 1) dL_law_2131 (by decide) ?_
  refine g_iadd dL_law_2132 ?_
  obtain ⟨h1, h⟩ := h
  refine g_sld dL_law_2133 h1 ?_
  refine g_aload_n dL_law_2134 rfl 1 rfl ?_
  refine g_iload dL_law_2135 5 rfl ?_
  refine g_iconst (v := 2) dL_law_2137 (by decide) ?_
  refine g_iadd dL_law_2138 ?_
  obtain ⟨h1, h⟩ := h
  refine g_sld dL_law_2139 h1 ?_
  refine g_aload_n dL_law_2140 rfl 1 rfl ?_
  refine g_iload dL_law_2141 5 rfl ?_
  refine g_iconst (v := 3) dL_law_2143 (by decide) ?_
  refine g_iadd dL_law_2144 ?_
  obtain ⟨h1, h⟩ := h
  refine g_sld dL_law_2145 h1 ?_
  obtain ⟨⟨_, hO⟩, h⟩ := h
  refine g_callV (N := mX9_swapped) (st := []) (As := [.int (gsx G ((x4 + 1)).toNatClampNeg), .int (gsx G ((x4 + 2)).toNatClampNeg), .int (gsx G ((x4 + 3)).toNatClampNeg)]) (a := a2) dL_law_2146 wsX9_swapped (lw_V q2399 q2400 q2401 q116 q2402) rfl mokX9_swapped rfl cl9 (by decide) (by decide) (Nat.zero_le _) (Nat.zero_le _) hO h (fun E q s hx => AtX.never hx) (fun _ s1_1 hq => ?_)
  obtain ⟨ry, rfl, h⟩ := hq
  refine At.stk (st' := [.long ry]) rfl ?_
  refine g_lstore (ls1 := [(6, .long ry), (5, .int rx), (0, .ref (gsb G)), (1, .ref a1), (2, .ref a2), (3, .ref a3), (4, .int x4)]) dL_law_2149 (Nat.le_of_ble_eq_true rfl) rfl ?_
  refine g_aload_n dL_law_2151 rfl 4 rfl ?_
  obtain ⟨⟨_, hO⟩, h⟩ := h
  refine g_callV (N := mX9_thrown) (st := []) (As := []) (a := a2) dL_law_2152 wsX9_thrown (lw_V q1741 q1742 q1743 q116 q1744) rfl mokX9_thrown rfl cl9 (by decide) (by decide) (Nat.zero_le _) (Nat.zero_le _) hO h (fun E q s hx => AtX.never hx) (fun _ s1_2 hq => ?_)
  obtain ⟨es, hq⟩ := hq
  refine g_tops2 es ?_
  obtain ⟨rx_3, rfl, h⟩ := hq
  refine At.stk (st' := [.int rx_3]) rfl ?_
  refine g_iload dL_law_2155 1 rfl ?_
  refine g_icmp_eq (tgt := 2162) dL_law_2157 (by decide) (fun c => ?_) (fun c => ?_)
  · replace h := h.1 c
    refine g_iload dL_law_2162 1 rfl ?_
    refine g_if_ne (tgt := 2178) dL_law_2164 (by decide) (fun c => ?_) (fun c => ?_)
    · replace h := h.1 c
      refine g_goto (tgt := 2703) dL_law_2178 (by decide) ?_
      exact At.sub (ls := [(6, .long ry), (5, .int rx), (0, .ref (gsb G)), (1, .ref a1), (2, .ref a2), (3, .ref a3), (4, .int x4)]) [2, 3, 4, 5, 6] rfl h
    · replace h := h.2 c
      refine g_aload_n dL_law_2167 rfl 5 rfl ?_
      refine g_iconst (v := 0) dL_law_2168 (by decide) ?_
      obtain ⟨n, f, h1, h2, h⟩ := h
      refine g_lald dL_law_2169 h1 h2 ?_
      refine g_lload dL_law_2170 0 rfl ?_
      refine g_lcmp_eq (tgt := 2178) dL_law_2172 dL_law_2173 (by decide) (fun c => ?_) (fun c => ?_)
      · replace h := h.1 c
        refine g_goto (tgt := 2703) dL_law_2178 (by decide) ?_
        exact At.sub (ls := [(6, .long ry), (5, .int rx), (0, .ref (gsb G)), (1, .ref a1), (2, .ref a2), (3, .ref a3), (4, .int x4)]) [2, 3, 4, 5, 6] rfl h
      · replace h := h.2 c
        refine g_iconst (v := 0) dL_law_2176 (by decide) ?_
        exact g_zret rfl rfl dL_law_2177 h
  · replace h := h.2 c
    refine g_iconst (v := 0) dL_law_2160 (by decide) ?_
    exact g_zret rfl rfl dL_law_2161 h
set_option maxHeartbeats 4000000 in
theorem bL_law_2181 {G : GC} {Q : Option Value → PS → Prop} {X : String → Nat → PS → Prop} {b : Nat} {nm : String} {hh : List (Nat × Nat × Nat × Nat)} {a1 : Nat} {a2 : Nat} {a3 : Nat} {x4 : Int32} {σ : PS} (h : ∃ bc : Nat, bc ≤ b ∧ (∃ fs_3 : List Value, Ob (σ) 1 a1 fs_3) ∧ Call G mX1_swap 205 bc [.ref a1] (σ) (qI (fun rx s1 => (∃ fs : List Value, Ob s1 9 a2 fs) ∧ Call G mX9_swap 10 0 [.ref a2] s1 (qI (fun rx_2 s1_1 => ((rx = rx_2) → At G (mL nm hh) 210 Q X (b - bc) 2703 [(0, .ref (gsb G)), (1, .ref a1), (2, .ref a2), (3, .ref a3), (4, .int x4)] [] s1_1) ∧ ((¬ rx = rx_2) → Q (some (.int 0)) s1_1))) (fun _ _ _ => False))) (fun _ _ _ => False)) : At G (mL nm hh) 210 Q X b 2181 [(0, .ref (gsb G)), (1, .ref a1), (2, .ref a2), (3, .ref a3), (4, .int x4)] [] (σ) := by
  refine g_aload_n dL_law_2181 rfl 1 rfl ?_
  obtain ⟨bc, hb9, h⟩ := h
  obtain ⟨⟨_, hO⟩, h⟩ := h
  refine g_callV (N := mX1_swap) (st := []) (As := []) (a := a1) dL_law_2182 wsX1_swap (lw_V q791 q792 q793 q108 q794) rfl mokX1_swap rfl cl1 (by decide) (by decide) hb9 (Nat.zero_le _) hO h (fun E q s hx => AtX.never hx) (fun _ s1 hq => ?_)
  obtain ⟨rx, rfl, h⟩ := hq
  refine At.stk (st' := [.int rx]) rfl ?_
  refine g_aload_n dL_law_2185 rfl 2 rfl ?_
  obtain ⟨⟨_, hO⟩, h⟩ := h
  refine g_callV (N := mX9_swap) (st := [.int rx]) (As := []) (a := a2) dL_law_2186 wsX9_swap (lw_V q2403 q2404 q2405 q116 q2406) rfl mokX9_swap rfl cl9 (by decide) (by decide) (Nat.zero_le _) (by simp [Value.category]) hO h (fun E q s hx => AtX.never hx) (fun _ s1_1 hq => ?_)
  obtain ⟨rx_2, rfl, h⟩ := hq
  refine At.stk (st' := [.int rx_2, .int rx]) rfl ?_
  refine g_icmp_eq (tgt := 2703) dL_law_2189 (by decide) (fun c => ?_) (fun c => ?_)
  · replace h := h.1 c
    exact At.sub (ls := [(0, .ref (gsb G)), (1, .ref a1), (2, .ref a2), (3, .ref a3), (4, .int x4)]) [0, 1, 2, 3, 4] rfl h
  · replace h := h.2 c
    refine g_iconst (v := 0) dL_law_2192 (by decide) ?_
    exact g_zret rfl rfl dL_law_2193 h
set_option maxHeartbeats 4000000 in
theorem bL_law_2194 {G : GC} {Q : Option Value → PS → Prop} {X : String → Nat → PS → Prop} {b : Nat} {nm : String} {hh : List (Nat × Nat × Nat × Nat)} {a1 : Nat} {a2 : Nat} {a3 : Nat} {x4 : Int32} {σ : PS} (h : vp_in ((x4 + 1)) (gsL G) ∧ (vp_in ((x4 + 2)) (gsL G) ∧ (vp_in ((x4 + 3)) (gsL G) ∧ (∃ bc : Nat, bc ≤ b ∧ Call G mX0_day 205 bc [.ref a1, .int (gsx G ((x4 + 1)).toNatClampNeg), .int (gsx G ((x4 + 2)).toNatClampNeg), .int (gsx G ((x4 + 3)).toNatClampNeg), .ref a3] (σ) (qI (fun rx s1 => vp_in ((x4 + 1)) (gsL G) ∧ (vp_in ((x4 + 2)) (gsL G) ∧ (vp_in ((x4 + 3)) (gsL G) ∧ ((∃ fs_5 : List Value, Ob s1 9 a2 fs_5) ∧ Call G mX9_day 6 0 [.ref a2, .int (gsx G ((x4 + 1)).toNatClampNeg), .int (gsx G ((x4 + 2)).toNatClampNeg), .int (gsx G ((x4 + 3)).toNatClampNeg)] s1 (qI (fun rx_2 s1_1 => (∃ fs : List Value, Ob s1_1 9 a2 fs) ∧ CallO G mX9_thrown 3 [.ref a2] s1_1 (pI (fun rx_4 => ((rx_4 = rx) → ((¬ rx = 0) → At G (mL nm hh) 210 Q X (b - bc) 2703 [(0, .ref (gsb G)), (1, .ref a1), (2, .ref a2), (3, .ref a3), (4, .int x4)] [] s1_1) ∧ ((rx = 0) → ∃ (n : Nat) (f : Nat → Int64), La s1_1 101 a3 n f ∧ vp_in 0 n ∧ ((((f (0 : Int32).toNatClampNeg) = rx_2.toInt64) → At G (mL nm hh) 210 Q X (b - bc) 2703 [(0, .ref (gsb G)), (1, .ref a1), (2, .ref a2), (3, .ref a3), (4, .int x4)] [] s1_1) ∧ ((¬ (f (0 : Int32).toNatClampNeg) = rx_2.toInt64) → Q (some (.int 0)) s1_1)))) ∧ ((¬ rx_4 = rx) → Q (some (.int 0)) s1_1))))) (fun _ _ _ => False)))))) (fun _ _ _ => False))))) : At G (mL nm hh) 210 Q X b 2194 [(0, .ref (gsb G)), (1, .ref a1), (2, .ref a2), (3, .ref a3), (4, .int x4)] [] (σ) := by
  refine g_aload_n dL_law_2194 rfl 1 rfl ?_
  refine g_aload_n dL_law_2195 rfl 0 rfl ?_
  refine g_iload dL_law_2196 4 rfl ?_
  refine g_iconst (v := 1) dL_law_2198 (by decide) ?_
  refine g_iadd dL_law_2199 ?_
  obtain ⟨h1, h⟩ := h
  refine g_sld dL_law_2200 h1 ?_
  refine g_aload_n dL_law_2201 rfl 0 rfl ?_
  refine g_iload dL_law_2202 4 rfl ?_
  refine g_iconst (v := 2) dL_law_2204 (by decide) ?_
  refine g_iadd dL_law_2205 ?_
  obtain ⟨h1, h⟩ := h
  refine g_sld dL_law_2206 h1 ?_
  refine g_aload_n dL_law_2207 rfl 0 rfl ?_
  refine g_iload dL_law_2208 4 rfl ?_
  refine g_iconst (v := 3) dL_law_2210 (by decide) ?_
  refine g_iadd dL_law_2211 ?_
  obtain ⟨h1, h⟩ := h
  refine g_sld dL_law_2212 h1 ?_
  refine g_aload_n dL_law_2213 rfl 3 rfl ?_
  obtain ⟨bc, hb9, h⟩ := h
  refine g_callSX (N := mX0_day) (st := []) (As := [.ref a1, .int (gsx G ((x4 + 1)).toNatClampNeg), .int (gsx G ((x4 + 2)).toNatClampNeg), .int (gsx G ((x4 + 3)).toNatClampNeg), .ref a3]) dL_law_2214 wsX0_day (lw_SW q1633 q1634 q107 q1635) mokX0_day rfl (by decide) (by decide) hb9 (Nat.zero_le _) h (fun E q s hx => AtX.never hx) (fun _ s1 hq => ?_)
  obtain ⟨rx, rfl, h⟩ := hq
  refine At.stk (st' := [.int rx]) rfl ?_
  refine g_istore (ls1 := [(5, .int rx), (0, .ref (gsb G)), (1, .ref a1), (2, .ref a2), (3, .ref a3), (4, .int x4)]) dL_law_2217 (Nat.le_of_ble_eq_true rfl) rfl ?_
  refine g_aload_n dL_law_2219 rfl 3 rfl ?_
  refine g_aload_n dL_law_2220 rfl 1 rfl ?_
  refine g_iload dL_law_2221 5 rfl ?_
  refine g_iconst (v := 1) dL_law_2223 (by decide) ?_
  refine g_iadd dL_law_2224 ?_
  obtain ⟨h1, h⟩ := h
  refine g_sld dL_law_2225 h1 ?_
  refine g_aload_n dL_law_2226 rfl 1 rfl ?_
  refine g_iload dL_law_2227 5 rfl ?_
  refine g_iconst (v := 2) dL_law_2229 (by decide) ?_
  refine g_iadd dL_law_2230 ?_
  obtain ⟨h1, h⟩ := h
  refine g_sld dL_law_2231 h1 ?_
  refine g_aload_n dL_law_2232 rfl 1 rfl ?_
  refine g_iload dL_law_2233 5 rfl ?_
  refine g_iconst (v := 3) dL_law_2235 (by decide) ?_
  refine g_iadd dL_law_2236 ?_
  obtain ⟨h1, h⟩ := h
  refine g_sld dL_law_2237 h1 ?_
  obtain ⟨⟨_, hO⟩, h⟩ := h
  refine g_callV (N := mX9_day) (st := []) (As := [.int (gsx G ((x4 + 1)).toNatClampNeg), .int (gsx G ((x4 + 2)).toNatClampNeg), .int (gsx G ((x4 + 3)).toNatClampNeg)]) (a := a2) dL_law_2238 wsX9_day (lw_V q2407 q2408 q2409 q116 q2410) rfl mokX9_day rfl cl9 (by decide) (by decide) (Nat.zero_le _) (Nat.zero_le _) hO h (fun E q s hx => AtX.never hx) (fun _ s1_1 hq => ?_)
  obtain ⟨rx_2, rfl, h⟩ := hq
  refine At.stk (st' := [.int rx_2]) rfl ?_
  refine g_istore (ls1 := [(6, .int rx_2), (5, .int rx), (0, .ref (gsb G)), (1, .ref a1), (2, .ref a2), (3, .ref a3), (4, .int x4)]) dL_law_2241 (Nat.le_of_ble_eq_true rfl) rfl ?_
  refine g_aload_n dL_law_2243 rfl 4 rfl ?_
  obtain ⟨⟨_, hO⟩, h⟩ := h
  refine g_callV (N := mX9_thrown) (st := []) (As := []) (a := a2) dL_law_2244 wsX9_thrown (lw_V q1741 q1742 q1743 q116 q1744) rfl mokX9_thrown rfl cl9 (by decide) (by decide) (Nat.zero_le _) (Nat.zero_le _) hO h (fun E q s hx => AtX.never hx) (fun _ s1_3 hq => ?_)
  obtain ⟨es, hq⟩ := hq
  refine g_tops2 es ?_
  obtain ⟨rx_4, rfl, h⟩ := hq
  refine At.stk (st' := [.int rx_4]) rfl ?_
  refine g_iload dL_law_2247 1 rfl ?_
  refine g_icmp_eq (tgt := 2254) dL_law_2249 (by decide) (fun c => ?_) (fun c => ?_)
  · replace h := h.1 c
    refine g_iload dL_law_2254 1 rfl ?_
    refine g_if_ne (tgt := 2271) dL_law_2256 (by decide) (fun c => ?_) (fun c => ?_)
    · replace h := h.1 c
      refine g_goto (tgt := 2703) dL_law_2271 (by decide) ?_
      exact At.sub (ls := [(6, .int rx_2), (5, .int rx), (0, .ref (gsb G)), (1, .ref a1), (2, .ref a2), (3, .ref a3), (4, .int x4)]) [2, 3, 4, 5, 6] rfl h
    · replace h := h.2 c
      refine g_aload_n dL_law_2259 rfl 5 rfl ?_
      refine g_iconst (v := 0) dL_law_2260 (by decide) ?_
      obtain ⟨n, f, h1, h2, h⟩ := h
      refine g_lald dL_law_2261 h1 h2 ?_
      refine g_iload dL_law_2262 0 rfl ?_
      refine g_i2l dL_law_2264 ?_
      refine g_lcmp_eq (tgt := 2271) dL_law_2265 dL_law_2266 (by decide) (fun c => ?_) (fun c => ?_)
      · replace h := h.1 c
        refine g_goto (tgt := 2703) dL_law_2271 (by decide) ?_
        exact At.sub (ls := [(6, .int rx_2), (5, .int rx), (0, .ref (gsb G)), (1, .ref a1), (2, .ref a2), (3, .ref a3), (4, .int x4)]) [2, 3, 4, 5, 6] rfl h
      · replace h := h.2 c
        refine g_iconst (v := 0) dL_law_2269 (by decide) ?_
        exact g_zret rfl rfl dL_law_2270 h
  · replace h := h.2 c
    refine g_iconst (v := 0) dL_law_2252 (by decide) ?_
    exact g_zret rfl rfl dL_law_2253 h
set_option maxHeartbeats 4000000 in
theorem bL_law_2274 {G : GC} {Q : Option Value → PS → Prop} {X : String → Nat → PS → Prop} {b : Nat} {nm : String} {hh : List (Nat × Nat × Nat × Nat)} {a1 : Nat} {a2 : Nat} {a3 : Nat} {x4 : Int32} {σ : PS} (h : vp_in ((x4 + 1)) (gsL G) ∧ (vp_in ((x4 + 2)) (gsL G) ∧ (vp_in ((x4 + 3)) (gsL G) ∧ (∃ bc : Nat, bc ≤ b ∧ Call G mX0_span 205 bc [.ref a1, .int (gsx G ((x4 + 1)).toNatClampNeg), .int (gsx G ((x4 + 2)).toNatClampNeg), .int (gsx G ((x4 + 3)).toNatClampNeg), .ref a3] (σ) (qI (fun rx s1 => vp_in ((x4 + 1)) (gsL G) ∧ (vp_in ((x4 + 2)) (gsL G) ∧ (vp_in ((x4 + 3)) (gsL G) ∧ ((∃ fs_5 : List Value, Ob s1 9 a2 fs_5) ∧ Call G mX9_span 6 0 [.ref a2, .int (gsx G ((x4 + 1)).toNatClampNeg), .int (gsx G ((x4 + 2)).toNatClampNeg), .int (gsx G ((x4 + 3)).toNatClampNeg)] s1 (qI (fun rx_2 s1_1 => (∃ fs : List Value, Ob s1_1 9 a2 fs) ∧ CallO G mX9_thrown 3 [.ref a2] s1_1 (pI (fun rx_4 => ((rx_4 = rx) → ((¬ rx = 0) → At G (mL nm hh) 210 Q X (b - bc) 2703 [(0, .ref (gsb G)), (1, .ref a1), (2, .ref a2), (3, .ref a3), (4, .int x4)] [] s1_1) ∧ ((rx = 0) → ∃ (n : Nat) (f : Nat → Int64), La s1_1 101 a3 n f ∧ vp_in 0 n ∧ ((((f (0 : Int32).toNatClampNeg) = rx_2.toInt64) → At G (mL nm hh) 210 Q X (b - bc) 2703 [(0, .ref (gsb G)), (1, .ref a1), (2, .ref a2), (3, .ref a3), (4, .int x4)] [] s1_1) ∧ ((¬ (f (0 : Int32).toNatClampNeg) = rx_2.toInt64) → Q (some (.int 0)) s1_1)))) ∧ ((¬ rx_4 = rx) → Q (some (.int 0)) s1_1))))) (fun _ _ _ => False)))))) (fun _ _ _ => False))))) : At G (mL nm hh) 210 Q X b 2274 [(0, .ref (gsb G)), (1, .ref a1), (2, .ref a2), (3, .ref a3), (4, .int x4)] [] (σ) := by
  refine g_aload_n dL_law_2274 rfl 1 rfl ?_
  refine g_aload_n dL_law_2275 rfl 0 rfl ?_
  refine g_iload dL_law_2276 4 rfl ?_
  refine g_iconst (v := 1) dL_law_2278 (by decide) ?_
  refine g_iadd dL_law_2279 ?_
  obtain ⟨h1, h⟩ := h
  refine g_sld dL_law_2280 h1 ?_
  refine g_aload_n dL_law_2281 rfl 0 rfl ?_
  refine g_iload dL_law_2282 4 rfl ?_
  refine g_iconst (v := 2) dL_law_2284 (by decide) ?_
  refine g_iadd dL_law_2285 ?_
  obtain ⟨h1, h⟩ := h
  refine g_sld dL_law_2286 h1 ?_
  refine g_aload_n dL_law_2287 rfl 0 rfl ?_
  refine g_iload dL_law_2288 4 rfl ?_
  refine g_iconst (v := 3) dL_law_2290 (by decide) ?_
  refine g_iadd dL_law_2291 ?_
  obtain ⟨h1, h⟩ := h
  refine g_sld dL_law_2292 h1 ?_
  refine g_aload_n dL_law_2293 rfl 3 rfl ?_
  obtain ⟨bc, hb9, h⟩ := h
  refine g_callSX (N := mX0_span) (st := []) (As := [.ref a1, .int (gsx G ((x4 + 1)).toNatClampNeg), .int (gsx G ((x4 + 2)).toNatClampNeg), .int (gsx G ((x4 + 3)).toNatClampNeg), .ref a3]) dL_law_2294 wsX0_span (lw_SW q1693 q1694 q107 q1695) mokX0_span rfl (by decide) (by decide) hb9 (Nat.zero_le _) h (fun E q s hx => AtX.never hx) (fun _ s1 hq => ?_)
  obtain ⟨rx, rfl, h⟩ := hq
  refine At.stk (st' := [.int rx]) rfl ?_
  refine g_istore (ls1 := [(5, .int rx), (0, .ref (gsb G)), (1, .ref a1), (2, .ref a2), (3, .ref a3), (4, .int x4)]) dL_law_2297 (Nat.le_of_ble_eq_true rfl) rfl ?_
  refine g_aload_n dL_law_2299 rfl 3 rfl ?_
  refine g_aload_n dL_law_2300 rfl 1 rfl ?_
  refine g_iload dL_law_2301 5 rfl ?_
  refine g_iconst (v := 1) dL_law_2303 (by decide) ?_
  refine g_iadd dL_law_2304 ?_
  obtain ⟨h1, h⟩ := h
  refine g_sld dL_law_2305 h1 ?_
  refine g_aload_n dL_law_2306 rfl 1 rfl ?_
  refine g_iload dL_law_2307 5 rfl ?_
  refine g_iconst (v := 2) dL_law_2309 (by decide) ?_
  refine g_iadd dL_law_2310 ?_
  obtain ⟨h1, h⟩ := h
  refine g_sld dL_law_2311 h1 ?_
  refine g_aload_n dL_law_2312 rfl 1 rfl ?_
  refine g_iload dL_law_2313 5 rfl ?_
  refine g_iconst (v := 3) dL_law_2315 (by decide) ?_
  refine g_iadd dL_law_2316 ?_
  obtain ⟨h1, h⟩ := h
  refine g_sld dL_law_2317 h1 ?_
  obtain ⟨⟨_, hO⟩, h⟩ := h
  refine g_callV (N := mX9_span) (st := []) (As := [.int (gsx G ((x4 + 1)).toNatClampNeg), .int (gsx G ((x4 + 2)).toNatClampNeg), .int (gsx G ((x4 + 3)).toNatClampNeg)]) (a := a2) dL_law_2318 wsX9_span (lw_V q2424 q2425 q2426 q116 q2427) rfl mokX9_span rfl cl9 (by decide) (by decide) (Nat.zero_le _) (Nat.zero_le _) hO h (fun E q s hx => AtX.never hx) (fun _ s1_1 hq => ?_)
  obtain ⟨rx_2, rfl, h⟩ := hq
  refine At.stk (st' := [.int rx_2]) rfl ?_
  refine g_istore (ls1 := [(6, .int rx_2), (5, .int rx), (0, .ref (gsb G)), (1, .ref a1), (2, .ref a2), (3, .ref a3), (4, .int x4)]) dL_law_2321 (Nat.le_of_ble_eq_true rfl) rfl ?_
  refine g_aload_n dL_law_2323 rfl 4 rfl ?_
  obtain ⟨⟨_, hO⟩, h⟩ := h
  refine g_callV (N := mX9_thrown) (st := []) (As := []) (a := a2) dL_law_2324 wsX9_thrown (lw_V q1741 q1742 q1743 q116 q1744) rfl mokX9_thrown rfl cl9 (by decide) (by decide) (Nat.zero_le _) (Nat.zero_le _) hO h (fun E q s hx => AtX.never hx) (fun _ s1_3 hq => ?_)
  obtain ⟨es, hq⟩ := hq
  refine g_tops2 es ?_
  obtain ⟨rx_4, rfl, h⟩ := hq
  refine At.stk (st' := [.int rx_4]) rfl ?_
  refine g_iload dL_law_2327 1 rfl ?_
  refine g_icmp_eq (tgt := 2334) dL_law_2329 (by decide) (fun c => ?_) (fun c => ?_)
  · replace h := h.1 c
    refine g_iload dL_law_2334 1 rfl ?_
    refine g_if_ne (tgt := 2351) dL_law_2336 (by decide) (fun c => ?_) (fun c => ?_)
    · replace h := h.1 c
      refine g_goto (tgt := 2703) dL_law_2351 (by decide) ?_
      exact At.sub (ls := [(6, .int rx_2), (5, .int rx), (0, .ref (gsb G)), (1, .ref a1), (2, .ref a2), (3, .ref a3), (4, .int x4)]) [2, 3, 4, 5, 6] rfl h
    · replace h := h.2 c
      refine g_aload_n dL_law_2339 rfl 5 rfl ?_
      refine g_iconst (v := 0) dL_law_2340 (by decide) ?_
      obtain ⟨n, f, h1, h2, h⟩ := h
      refine g_lald dL_law_2341 h1 h2 ?_
      refine g_iload dL_law_2342 0 rfl ?_
      refine g_i2l dL_law_2344 ?_
      refine g_lcmp_eq (tgt := 2351) dL_law_2345 dL_law_2346 (by decide) (fun c => ?_) (fun c => ?_)
      · replace h := h.1 c
        refine g_goto (tgt := 2703) dL_law_2351 (by decide) ?_
        exact At.sub (ls := [(6, .int rx_2), (5, .int rx), (0, .ref (gsb G)), (1, .ref a1), (2, .ref a2), (3, .ref a3), (4, .int x4)]) [2, 3, 4, 5, 6] rfl h
      · replace h := h.2 c
        refine g_iconst (v := 0) dL_law_2349 (by decide) ?_
        exact g_zret rfl rfl dL_law_2350 h
  · replace h := h.2 c
    refine g_iconst (v := 0) dL_law_2332 (by decide) ?_
    exact g_zret rfl rfl dL_law_2333 h
set_option maxHeartbeats 4000000 in
theorem bL_law_2354 {G : GC} {Q : Option Value → PS → Prop} {X : String → Nat → PS → Prop} {b : Nat} {nm : String} {hh : List (Nat × Nat × Nat × Nat)} {a1 : Nat} {a2 : Nat} {a3 : Nat} {x4 : Int32} {σ : PS} (h : vp_in ((x4 + 1)) (gsL G) ∧ (vp_in ((x4 + 2)) (gsL G) ∧ (∃ bc : Nat, bc ≤ b ∧ Call G mX0_come 13 bc [.ref a1, .int (gsx G ((x4 + 1)).toNatClampNeg), .int (gsx G ((x4 + 2)).toNatClampNeg), .ref a3] (σ) (qI (fun rx s1 => vp_in ((x4 + 1)) (gsL G) ∧ (vp_in ((x4 + 2)) (gsL G) ∧ ((∃ fs_5 : List Value, Ob s1 9 a2 fs_5) ∧ Call G mX9_come 5 0 [.ref a2, .int (gsx G ((x4 + 1)).toNatClampNeg), .int (gsx G ((x4 + 2)).toNatClampNeg)] s1 (qI (fun rx_2 s1_1 => (∃ fs : List Value, Ob s1_1 9 a2 fs) ∧ CallO G mX9_thrown 3 [.ref a2] s1_1 (pI (fun rx_4 => ((rx_4 = rx) → ((¬ rx = 0) → At G (mL nm hh) 210 Q X (b - bc) 2703 [(0, .ref (gsb G)), (1, .ref a1), (2, .ref a2), (3, .ref a3), (4, .int x4)] [] s1_1) ∧ ((rx = 0) → ∃ (n : Nat) (f : Nat → Int64), La s1_1 101 a3 n f ∧ vp_in 0 n ∧ ((((f (0 : Int32).toNatClampNeg) = rx_2.toInt64) → At G (mL nm hh) 210 Q X (b - bc) 2703 [(0, .ref (gsb G)), (1, .ref a1), (2, .ref a2), (3, .ref a3), (4, .int x4)] [] s1_1) ∧ ((¬ (f (0 : Int32).toNatClampNeg) = rx_2.toInt64) → Q (some (.int 0)) s1_1)))) ∧ ((¬ rx_4 = rx) → Q (some (.int 0)) s1_1))))) (fun _ _ _ => False))))) (fun _ _ _ => False)))) : At G (mL nm hh) 210 Q X b 2354 [(0, .ref (gsb G)), (1, .ref a1), (2, .ref a2), (3, .ref a3), (4, .int x4)] [] (σ) := by
  refine g_aload_n dL_law_2354 rfl 1 rfl ?_
  refine g_aload_n dL_law_2355 rfl 0 rfl ?_
  refine g_iload dL_law_2356 4 rfl ?_
  refine g_iconst (v := 1) dL_law_2358 (by decide) ?_
  refine g_iadd dL_law_2359 ?_
  obtain ⟨h1, h⟩ := h
  refine g_sld dL_law_2360 h1 ?_
  refine g_aload_n dL_law_2361 rfl 0 rfl ?_
  refine g_iload dL_law_2362 4 rfl ?_
  refine g_iconst (v := 2) dL_law_2364 (by decide) ?_
  refine g_iadd dL_law_2365 ?_
  obtain ⟨h1, h⟩ := h
  refine g_sld dL_law_2366 h1 ?_
  refine g_aload_n dL_law_2367 rfl 3 rfl ?_
  obtain ⟨bc, hb9, h⟩ := h
  refine g_callSX (N := mX0_come) (st := []) (As := [.ref a1, .int (gsx G ((x4 + 1)).toNatClampNeg), .int (gsx G ((x4 + 2)).toNatClampNeg), .ref a3]) dL_law_2368 wsX0_come (lw_SW q1704 q1705 q107 q1706) mokX0_come rfl (by decide) (by decide) hb9 (Nat.zero_le _) h (fun E q s hx => AtX.never hx) (fun _ s1 hq => ?_)
  obtain ⟨rx, rfl, h⟩ := hq
  refine At.stk (st' := [.int rx]) rfl ?_
  refine g_istore (ls1 := [(5, .int rx), (0, .ref (gsb G)), (1, .ref a1), (2, .ref a2), (3, .ref a3), (4, .int x4)]) dL_law_2371 (Nat.le_of_ble_eq_true rfl) rfl ?_
  refine g_aload_n dL_law_2373 rfl 3 rfl ?_
  refine g_aload_n dL_law_2374 rfl 1 rfl ?_
  refine g_iload dL_law_2375 5 rfl ?_
  refine g_iconst (v := 1) dL_law_2377 (by decide) ?_
  refine g_iadd dL_law_2378 ?_
  obtain ⟨h1, h⟩ := h
  refine g_sld dL_law_2379 h1 ?_
  refine g_aload_n dL_law_2380 rfl 1 rfl ?_
  refine g_iload dL_law_2381 5 rfl ?_
  refine g_iconst (v := 2) dL_law_2383 (by decide) ?_
  refine g_iadd dL_law_2384 ?_
  obtain ⟨h1, h⟩ := h
  refine g_sld dL_law_2385 h1 ?_
  obtain ⟨⟨_, hO⟩, h⟩ := h
  refine g_callV (N := mX9_come) (st := []) (As := [.int (gsx G ((x4 + 1)).toNatClampNeg), .int (gsx G ((x4 + 2)).toNatClampNeg)]) (a := a2) dL_law_2386 wsX9_come (lw_V q2428 q2429 q2430 q116 q2431) rfl mokX9_come rfl cl9 (by decide) (by decide) (Nat.zero_le _) (Nat.zero_le _) hO h (fun E q s hx => AtX.never hx) (fun _ s1_1 hq => ?_)
  obtain ⟨rx_2, rfl, h⟩ := hq
  refine At.stk (st' := [.int rx_2]) rfl ?_
  refine g_istore (ls1 := [(6, .int rx_2), (5, .int rx), (0, .ref (gsb G)), (1, .ref a1), (2, .ref a2), (3, .ref a3), (4, .int x4)]) dL_law_2389 (Nat.le_of_ble_eq_true rfl) rfl ?_
  refine g_aload_n dL_law_2391 rfl 4 rfl ?_
  obtain ⟨⟨_, hO⟩, h⟩ := h
  refine g_callV (N := mX9_thrown) (st := []) (As := []) (a := a2) dL_law_2392 wsX9_thrown (lw_V q1741 q1742 q1743 q116 q1744) rfl mokX9_thrown rfl cl9 (by decide) (by decide) (Nat.zero_le _) (Nat.zero_le _) hO h (fun E q s hx => AtX.never hx) (fun _ s1_3 hq => ?_)
  obtain ⟨es, hq⟩ := hq
  refine g_tops2 es ?_
  obtain ⟨rx_4, rfl, h⟩ := hq
  refine At.stk (st' := [.int rx_4]) rfl ?_
  refine g_iload dL_law_2395 1 rfl ?_
  refine g_icmp_eq (tgt := 2402) dL_law_2397 (by decide) (fun c => ?_) (fun c => ?_)
  · replace h := h.1 c
    refine g_iload dL_law_2402 1 rfl ?_
    refine g_if_ne (tgt := 2419) dL_law_2404 (by decide) (fun c => ?_) (fun c => ?_)
    · replace h := h.1 c
      refine g_goto (tgt := 2703) dL_law_2419 (by decide) ?_
      exact At.sub (ls := [(6, .int rx_2), (5, .int rx), (0, .ref (gsb G)), (1, .ref a1), (2, .ref a2), (3, .ref a3), (4, .int x4)]) [2, 3, 4, 5, 6] rfl h
    · replace h := h.2 c
      refine g_aload_n dL_law_2407 rfl 5 rfl ?_
      refine g_iconst (v := 0) dL_law_2408 (by decide) ?_
      obtain ⟨n, f, h1, h2, h⟩ := h
      refine g_lald dL_law_2409 h1 h2 ?_
      refine g_iload dL_law_2410 0 rfl ?_
      refine g_i2l dL_law_2412 ?_
      refine g_lcmp_eq (tgt := 2419) dL_law_2413 dL_law_2414 (by decide) (fun c => ?_) (fun c => ?_)
      · replace h := h.1 c
        refine g_goto (tgt := 2703) dL_law_2419 (by decide) ?_
        exact At.sub (ls := [(6, .int rx_2), (5, .int rx), (0, .ref (gsb G)), (1, .ref a1), (2, .ref a2), (3, .ref a3), (4, .int x4)]) [2, 3, 4, 5, 6] rfl h
      · replace h := h.2 c
        refine g_iconst (v := 0) dL_law_2417 (by decide) ?_
        exact g_zret rfl rfl dL_law_2418 h
  · replace h := h.2 c
    refine g_iconst (v := 0) dL_law_2400 (by decide) ?_
    exact g_zret rfl rfl dL_law_2401 h
set_option maxHeartbeats 4000000 in
theorem bL_law_2422 {G : GC} {Q : Option Value → PS → Prop} {X : String → Nat → PS → Prop} {b : Nat} {nm : String} {hh : List (Nat × Nat × Nat × Nat)} {a1 : Nat} {a2 : Nat} {a3 : Nat} {x4 : Int32} {σ : PS} (h : vp_in ((x4 + 1)) (gsL G) ∧ (∃ bc : Nat, bc ≤ b ∧ Call G mX0_skip 13 bc [.ref a1, .int (gsx G ((x4 + 1)).toNatClampNeg), .ref a3] (σ) (qI (fun rx s1 => vp_in ((x4 + 1)) (gsL G) ∧ ((∃ fs_5 : List Value, Ob s1 9 a2 fs_5) ∧ Call G mX9_skip 5 0 [.ref a2, .int (gsx G ((x4 + 1)).toNatClampNeg)] s1 (qI (fun rx_2 s1_1 => (∃ fs : List Value, Ob s1_1 9 a2 fs) ∧ CallO G mX9_thrown 3 [.ref a2] s1_1 (pI (fun rx_4 => ((rx_4 = rx) → ((¬ rx = 0) → At G (mL nm hh) 210 Q X (b - bc) 2703 [(0, .ref (gsb G)), (1, .ref a1), (2, .ref a2), (3, .ref a3), (4, .int x4)] [] s1_1) ∧ ((rx = 0) → ∃ (n : Nat) (f : Nat → Int64), La s1_1 101 a3 n f ∧ vp_in 0 n ∧ ((((f (0 : Int32).toNatClampNeg) = rx_2.toInt64) → At G (mL nm hh) 210 Q X (b - bc) 2703 [(0, .ref (gsb G)), (1, .ref a1), (2, .ref a2), (3, .ref a3), (4, .int x4)] [] s1_1) ∧ ((¬ (f (0 : Int32).toNatClampNeg) = rx_2.toInt64) → Q (some (.int 0)) s1_1)))) ∧ ((¬ rx_4 = rx) → Q (some (.int 0)) s1_1))))) (fun _ _ _ => False)))) (fun _ _ _ => False))) : At G (mL nm hh) 210 Q X b 2422 [(0, .ref (gsb G)), (1, .ref a1), (2, .ref a2), (3, .ref a3), (4, .int x4)] [] (σ) := by
  refine g_aload_n dL_law_2422 rfl 1 rfl ?_
  refine g_aload_n dL_law_2423 rfl 0 rfl ?_
  refine g_iload dL_law_2424 4 rfl ?_
  refine g_iconst (v := 1) dL_law_2426 (by decide) ?_
  refine g_iadd dL_law_2427 ?_
  obtain ⟨h1, h⟩ := h
  refine g_sld dL_law_2428 h1 ?_
  refine g_aload_n dL_law_2429 rfl 3 rfl ?_
  obtain ⟨bc, hb9, h⟩ := h
  refine g_callSX (N := mX0_skip) (st := []) (As := [.ref a1, .int (gsx G ((x4 + 1)).toNatClampNeg), .ref a3]) dL_law_2430 wsX0_skip (lw_SW q1716 q1717 q107 q1718) mokX0_skip rfl (by decide) (by decide) hb9 (Nat.zero_le _) h (fun E q s hx => AtX.never hx) (fun _ s1 hq => ?_)
  obtain ⟨rx, rfl, h⟩ := hq
  refine At.stk (st' := [.int rx]) rfl ?_
  refine g_istore (ls1 := [(5, .int rx), (0, .ref (gsb G)), (1, .ref a1), (2, .ref a2), (3, .ref a3), (4, .int x4)]) dL_law_2433 (Nat.le_of_ble_eq_true rfl) rfl ?_
  refine g_aload_n dL_law_2435 rfl 3 rfl ?_
  refine g_aload_n dL_law_2436 rfl 1 rfl ?_
  refine g_iload dL_law_2437 5 rfl ?_
  refine g_iconst (v := 1) dL_law_2439 (by decide) ?_
  refine g_iadd dL_law_2440 ?_
  obtain ⟨h1, h⟩ := h
  refine g_sld dL_law_2441 h1 ?_
  obtain ⟨⟨_, hO⟩, h⟩ := h
  refine g_callV (N := mX9_skip) (st := []) (As := [.int (gsx G ((x4 + 1)).toNatClampNeg)]) (a := a2) dL_law_2442 wsX9_skip (lw_V q2436 q2437 q2438 q116 q2439) rfl mokX9_skip rfl cl9 (by decide) (by decide) (Nat.zero_le _) (Nat.zero_le _) hO h (fun E q s hx => AtX.never hx) (fun _ s1_1 hq => ?_)
  obtain ⟨rx_2, rfl, h⟩ := hq
  refine At.stk (st' := [.int rx_2]) rfl ?_
  refine g_istore (ls1 := [(6, .int rx_2), (5, .int rx), (0, .ref (gsb G)), (1, .ref a1), (2, .ref a2), (3, .ref a3), (4, .int x4)]) dL_law_2445 (Nat.le_of_ble_eq_true rfl) rfl ?_
  refine g_aload_n dL_law_2447 rfl 4 rfl ?_
  obtain ⟨⟨_, hO⟩, h⟩ := h
  refine g_callV (N := mX9_thrown) (st := []) (As := []) (a := a2) dL_law_2448 wsX9_thrown (lw_V q1741 q1742 q1743 q116 q1744) rfl mokX9_thrown rfl cl9 (by decide) (by decide) (Nat.zero_le _) (Nat.zero_le _) hO h (fun E q s hx => AtX.never hx) (fun _ s1_3 hq => ?_)
  obtain ⟨es, hq⟩ := hq
  refine g_tops2 es ?_
  obtain ⟨rx_4, rfl, h⟩ := hq
  refine At.stk (st' := [.int rx_4]) rfl ?_
  refine g_iload dL_law_2451 1 rfl ?_
  refine g_icmp_eq (tgt := 2458) dL_law_2453 (by decide) (fun c => ?_) (fun c => ?_)
  · replace h := h.1 c
    refine g_iload dL_law_2458 1 rfl ?_
    refine g_if_ne (tgt := 2475) dL_law_2460 (by decide) (fun c => ?_) (fun c => ?_)
    · replace h := h.1 c
      refine g_goto (tgt := 2703) dL_law_2475 (by decide) ?_
      exact At.sub (ls := [(6, .int rx_2), (5, .int rx), (0, .ref (gsb G)), (1, .ref a1), (2, .ref a2), (3, .ref a3), (4, .int x4)]) [2, 3, 4, 5, 6] rfl h
    · replace h := h.2 c
      refine g_aload_n dL_law_2463 rfl 5 rfl ?_
      refine g_iconst (v := 0) dL_law_2464 (by decide) ?_
      obtain ⟨n, f, h1, h2, h⟩ := h
      refine g_lald dL_law_2465 h1 h2 ?_
      refine g_iload dL_law_2466 0 rfl ?_
      refine g_i2l dL_law_2468 ?_
      refine g_lcmp_eq (tgt := 2475) dL_law_2469 dL_law_2470 (by decide) (fun c => ?_) (fun c => ?_)
      · replace h := h.1 c
        refine g_goto (tgt := 2703) dL_law_2475 (by decide) ?_
        exact At.sub (ls := [(6, .int rx_2), (5, .int rx), (0, .ref (gsb G)), (1, .ref a1), (2, .ref a2), (3, .ref a3), (4, .int x4)]) [2, 3, 4, 5, 6] rfl h
      · replace h := h.2 c
        refine g_iconst (v := 0) dL_law_2473 (by decide) ?_
        exact g_zret rfl rfl dL_law_2474 h
  · replace h := h.2 c
    refine g_iconst (v := 0) dL_law_2456 (by decide) ?_
    exact g_zret rfl rfl dL_law_2457 h
set_option maxHeartbeats 4000000 in
theorem bL_law_2478 {G : GC} {Q : Option Value → PS → Prop} {X : String → Nat → PS → Prop} {b : Nat} {nm : String} {hh : List (Nat × Nat × Nat × Nat)} {a1 : Nat} {a2 : Nat} {a3 : Nat} {x4 : Int32} {σ : PS} (h : vp_in ((x4 + 1)) (gsL G) ∧ (vp_in ((x4 + 2)) (gsL G) ∧ (∃ bc : Nat, bc ≤ b ∧ Call G mX0_shift 13 bc [.ref a1, .int (gsx G ((x4 + 1)).toNatClampNeg), .int (gsx G ((x4 + 2)).toNatClampNeg), .ref a3] (σ) (qI (fun rx s1 => vp_in ((x4 + 1)) (gsL G) ∧ (vp_in ((x4 + 2)) (gsL G) ∧ ((∃ fs_5 : List Value, Ob s1 9 a2 fs_5) ∧ Call G mX9_shift 5 0 [.ref a2, .int (gsx G ((x4 + 1)).toNatClampNeg), .int (gsx G ((x4 + 2)).toNatClampNeg)] s1 (qI (fun rx_2 s1_1 => (∃ fs : List Value, Ob s1_1 9 a2 fs) ∧ CallO G mX9_thrown 3 [.ref a2] s1_1 (pI (fun rx_4 => ((rx_4 = rx) → ((¬ rx = 0) → At G (mL nm hh) 210 Q X (b - bc) 2703 [(0, .ref (gsb G)), (1, .ref a1), (2, .ref a2), (3, .ref a3), (4, .int x4)] [] s1_1) ∧ ((rx = 0) → ∃ (n : Nat) (f : Nat → Int64), La s1_1 101 a3 n f ∧ vp_in 0 n ∧ ((((f (0 : Int32).toNatClampNeg) = rx_2.toInt64) → At G (mL nm hh) 210 Q X (b - bc) 2703 [(0, .ref (gsb G)), (1, .ref a1), (2, .ref a2), (3, .ref a3), (4, .int x4)] [] s1_1) ∧ ((¬ (f (0 : Int32).toNatClampNeg) = rx_2.toInt64) → Q (some (.int 0)) s1_1)))) ∧ ((¬ rx_4 = rx) → Q (some (.int 0)) s1_1))))) (fun _ _ _ => False))))) (fun _ _ _ => False)))) : At G (mL nm hh) 210 Q X b 2478 [(0, .ref (gsb G)), (1, .ref a1), (2, .ref a2), (3, .ref a3), (4, .int x4)] [] (σ) := by
  refine g_aload_n dL_law_2478 rfl 1 rfl ?_
  refine g_aload_n dL_law_2479 rfl 0 rfl ?_
  refine g_iload dL_law_2480 4 rfl ?_
  refine g_iconst (v := 1) dL_law_2482 (by decide) ?_
  refine g_iadd dL_law_2483 ?_
  obtain ⟨h1, h⟩ := h
  refine g_sld dL_law_2484 h1 ?_
  refine g_aload_n dL_law_2485 rfl 0 rfl ?_
  refine g_iload dL_law_2486 4 rfl ?_
  refine g_iconst (v := 2) dL_law_2488 (by decide) ?_
  refine g_iadd dL_law_2489 ?_
  obtain ⟨h1, h⟩ := h
  refine g_sld dL_law_2490 h1 ?_
  refine g_aload_n dL_law_2491 rfl 3 rfl ?_
  obtain ⟨bc, hb9, h⟩ := h
  refine g_callSX (N := mX0_shift) (st := []) (As := [.ref a1, .int (gsx G ((x4 + 1)).toNatClampNeg), .int (gsx G ((x4 + 2)).toNatClampNeg), .ref a3]) dL_law_2492 wsX0_shift (lw_SW q1727 q1728 q107 q1729) mokX0_shift rfl (by decide) (by decide) hb9 (Nat.zero_le _) h (fun E q s hx => AtX.never hx) (fun _ s1 hq => ?_)
  obtain ⟨rx, rfl, h⟩ := hq
  refine At.stk (st' := [.int rx]) rfl ?_
  refine g_istore (ls1 := [(5, .int rx), (0, .ref (gsb G)), (1, .ref a1), (2, .ref a2), (3, .ref a3), (4, .int x4)]) dL_law_2495 (Nat.le_of_ble_eq_true rfl) rfl ?_
  refine g_aload_n dL_law_2497 rfl 3 rfl ?_
  refine g_aload_n dL_law_2498 rfl 1 rfl ?_
  refine g_iload dL_law_2499 5 rfl ?_
  refine g_iconst (v := 1) dL_law_2501 (by decide) ?_
  refine g_iadd dL_law_2502 ?_
  obtain ⟨h1, h⟩ := h
  refine g_sld dL_law_2503 h1 ?_
  refine g_aload_n dL_law_2504 rfl 1 rfl ?_
  refine g_iload dL_law_2505 5 rfl ?_
  refine g_iconst (v := 2) dL_law_2507 (by decide) ?_
  refine g_iadd dL_law_2508 ?_
  obtain ⟨h1, h⟩ := h
  refine g_sld dL_law_2509 h1 ?_
  obtain ⟨⟨_, hO⟩, h⟩ := h
  refine g_callV (N := mX9_shift) (st := []) (As := [.int (gsx G ((x4 + 1)).toNatClampNeg), .int (gsx G ((x4 + 2)).toNatClampNeg)]) (a := a2) dL_law_2510 wsX9_shift (lw_V q2444 q2445 q2446 q116 q2447) rfl mokX9_shift rfl cl9 (by decide) (by decide) (Nat.zero_le _) (Nat.zero_le _) hO h (fun E q s hx => AtX.never hx) (fun _ s1_1 hq => ?_)
  obtain ⟨rx_2, rfl, h⟩ := hq
  refine At.stk (st' := [.int rx_2]) rfl ?_
  refine g_istore (ls1 := [(6, .int rx_2), (5, .int rx), (0, .ref (gsb G)), (1, .ref a1), (2, .ref a2), (3, .ref a3), (4, .int x4)]) dL_law_2513 (Nat.le_of_ble_eq_true rfl) rfl ?_
  refine g_aload_n dL_law_2515 rfl 4 rfl ?_
  obtain ⟨⟨_, hO⟩, h⟩ := h
  refine g_callV (N := mX9_thrown) (st := []) (As := []) (a := a2) dL_law_2516 wsX9_thrown (lw_V q1741 q1742 q1743 q116 q1744) rfl mokX9_thrown rfl cl9 (by decide) (by decide) (Nat.zero_le _) (Nat.zero_le _) hO h (fun E q s hx => AtX.never hx) (fun _ s1_3 hq => ?_)
  obtain ⟨es, hq⟩ := hq
  refine g_tops2 es ?_
  obtain ⟨rx_4, rfl, h⟩ := hq
  refine At.stk (st' := [.int rx_4]) rfl ?_
  refine g_iload dL_law_2519 1 rfl ?_
  refine g_icmp_eq (tgt := 2526) dL_law_2521 (by decide) (fun c => ?_) (fun c => ?_)
  · replace h := h.1 c
    refine g_iload dL_law_2526 1 rfl ?_
    refine g_if_ne (tgt := 2543) dL_law_2528 (by decide) (fun c => ?_) (fun c => ?_)
    · replace h := h.1 c
      refine g_goto (tgt := 2703) dL_law_2543 (by decide) ?_
      exact At.sub (ls := [(6, .int rx_2), (5, .int rx), (0, .ref (gsb G)), (1, .ref a1), (2, .ref a2), (3, .ref a3), (4, .int x4)]) [2, 3, 4, 5, 6] rfl h
    · replace h := h.2 c
      refine g_aload_n dL_law_2531 rfl 5 rfl ?_
      refine g_iconst (v := 0) dL_law_2532 (by decide) ?_
      obtain ⟨n, f, h1, h2, h⟩ := h
      refine g_lald dL_law_2533 h1 h2 ?_
      refine g_iload dL_law_2534 0 rfl ?_
      refine g_i2l dL_law_2536 ?_
      refine g_lcmp_eq (tgt := 2543) dL_law_2537 dL_law_2538 (by decide) (fun c => ?_) (fun c => ?_)
      · replace h := h.1 c
        refine g_goto (tgt := 2703) dL_law_2543 (by decide) ?_
        exact At.sub (ls := [(6, .int rx_2), (5, .int rx), (0, .ref (gsb G)), (1, .ref a1), (2, .ref a2), (3, .ref a3), (4, .int x4)]) [2, 3, 4, 5, 6] rfl h
      · replace h := h.2 c
        refine g_iconst (v := 0) dL_law_2541 (by decide) ?_
        exact g_zret rfl rfl dL_law_2542 h
  · replace h := h.2 c
    refine g_iconst (v := 0) dL_law_2524 (by decide) ?_
    exact g_zret rfl rfl dL_law_2525 h
set_option maxHeartbeats 4000000 in
theorem bL_law_2546 {G : GC} {Q : Option Value → PS → Prop} {X : String → Nat → PS → Prop} {b : Nat} {nm : String} {hh : List (Nat × Nat × Nat × Nat)} {a1 : Nat} {a2 : Nat} {a3 : Nat} {x4 : Int32} {σ : PS} (h : vp_in ((x4 + 1)) (gsL G) ∧ (vp_in ((x4 + 2)) (gsL G) ∧ (∃ bc : Nat, bc ≤ b ∧ Call G mX0_teach 13 bc [.ref a1, .int (gsx G ((x4 + 1)).toNatClampNeg), .int (gsx G ((x4 + 2)).toNatClampNeg), .ref a3] (σ) (qI (fun rx s1 => vp_in ((x4 + 1)) (gsL G) ∧ (vp_in ((x4 + 2)) (gsL G) ∧ ((∃ fs_5 : List Value, Ob s1 9 a2 fs_5) ∧ Call G mX9_teach 5 0 [.ref a2, .int (gsx G ((x4 + 1)).toNatClampNeg), .int (gsx G ((x4 + 2)).toNatClampNeg)] s1 (qI (fun rx_2 s1_1 => (∃ fs : List Value, Ob s1_1 9 a2 fs) ∧ CallO G mX9_thrown 3 [.ref a2] s1_1 (pI (fun rx_4 => ((rx_4 = rx) → ((¬ rx = 0) → At G (mL nm hh) 210 Q X (b - bc) 2703 [(0, .ref (gsb G)), (1, .ref a1), (2, .ref a2), (3, .ref a3), (4, .int x4)] [] s1_1) ∧ ((rx = 0) → ∃ (n : Nat) (f : Nat → Int64), La s1_1 101 a3 n f ∧ vp_in 0 n ∧ ((((f (0 : Int32).toNatClampNeg) = rx_2.toInt64) → At G (mL nm hh) 210 Q X (b - bc) 2703 [(0, .ref (gsb G)), (1, .ref a1), (2, .ref a2), (3, .ref a3), (4, .int x4)] [] s1_1) ∧ ((¬ (f (0 : Int32).toNatClampNeg) = rx_2.toInt64) → Q (some (.int 0)) s1_1)))) ∧ ((¬ rx_4 = rx) → Q (some (.int 0)) s1_1))))) (fun _ _ _ => False))))) (fun _ _ _ => False)))) : At G (mL nm hh) 210 Q X b 2546 [(0, .ref (gsb G)), (1, .ref a1), (2, .ref a2), (3, .ref a3), (4, .int x4)] [] (σ) := by
  refine g_aload_n dL_law_2546 rfl 1 rfl ?_
  refine g_aload_n dL_law_2547 rfl 0 rfl ?_
  refine g_iload dL_law_2548 4 rfl ?_
  refine g_iconst (v := 1) dL_law_2550 (by decide) ?_
  refine g_iadd dL_law_2551 ?_
  obtain ⟨h1, h⟩ := h
  refine g_sld dL_law_2552 h1 ?_
  refine g_aload_n dL_law_2553 rfl 0 rfl ?_
  refine g_iload dL_law_2554 4 rfl ?_
  refine g_iconst (v := 2) dL_law_2556 (by decide) ?_
  refine g_iadd dL_law_2557 ?_
  obtain ⟨h1, h⟩ := h
  refine g_sld dL_law_2558 h1 ?_
  refine g_aload_n dL_law_2559 rfl 3 rfl ?_
  obtain ⟨bc, hb9, h⟩ := h
  refine g_callSX (N := mX0_teach) (st := []) (As := [.ref a1, .int (gsx G ((x4 + 1)).toNatClampNeg), .int (gsx G ((x4 + 2)).toNatClampNeg), .ref a3]) dL_law_2560 wsX0_teach (lw_SW q1734 q1735 q107 q1736) mokX0_teach rfl (by decide) (by decide) hb9 (Nat.zero_le _) h (fun E q s hx => AtX.never hx) (fun _ s1 hq => ?_)
  obtain ⟨rx, rfl, h⟩ := hq
  refine At.stk (st' := [.int rx]) rfl ?_
  refine g_istore (ls1 := [(5, .int rx), (0, .ref (gsb G)), (1, .ref a1), (2, .ref a2), (3, .ref a3), (4, .int x4)]) dL_law_2563 (Nat.le_of_ble_eq_true rfl) rfl ?_
  refine g_aload_n dL_law_2565 rfl 3 rfl ?_
  refine g_aload_n dL_law_2566 rfl 1 rfl ?_
  refine g_iload dL_law_2567 5 rfl ?_
  refine g_iconst (v := 1) dL_law_2569 (by decide) ?_
  refine g_iadd dL_law_2570 ?_
  obtain ⟨h1, h⟩ := h
  refine g_sld dL_law_2571 h1 ?_
  refine g_aload_n dL_law_2572 rfl 1 rfl ?_
  refine g_iload dL_law_2573 5 rfl ?_
  refine g_iconst (v := 2) dL_law_2575 (by decide) ?_
  refine g_iadd dL_law_2576 ?_
  obtain ⟨h1, h⟩ := h
  refine g_sld dL_law_2577 h1 ?_
  obtain ⟨⟨_, hO⟩, h⟩ := h
  refine g_callV (N := mX9_teach) (st := []) (As := [.int (gsx G ((x4 + 1)).toNatClampNeg), .int (gsx G ((x4 + 2)).toNatClampNeg)]) (a := a2) dL_law_2578 wsX9_teach (lw_V q2448 q2449 q2450 q116 q2451) rfl mokX9_teach rfl cl9 (by decide) (by decide) (Nat.zero_le _) (Nat.zero_le _) hO h (fun E q s hx => AtX.never hx) (fun _ s1_1 hq => ?_)
  obtain ⟨rx_2, rfl, h⟩ := hq
  refine At.stk (st' := [.int rx_2]) rfl ?_
  refine g_istore (ls1 := [(6, .int rx_2), (5, .int rx), (0, .ref (gsb G)), (1, .ref a1), (2, .ref a2), (3, .ref a3), (4, .int x4)]) dL_law_2581 (Nat.le_of_ble_eq_true rfl) rfl ?_
  refine g_aload_n dL_law_2583 rfl 4 rfl ?_
  obtain ⟨⟨_, hO⟩, h⟩ := h
  refine g_callV (N := mX9_thrown) (st := []) (As := []) (a := a2) dL_law_2584 wsX9_thrown (lw_V q1741 q1742 q1743 q116 q1744) rfl mokX9_thrown rfl cl9 (by decide) (by decide) (Nat.zero_le _) (Nat.zero_le _) hO h (fun E q s hx => AtX.never hx) (fun _ s1_3 hq => ?_)
  obtain ⟨es, hq⟩ := hq
  refine g_tops2 es ?_
  obtain ⟨rx_4, rfl, h⟩ := hq
  refine At.stk (st' := [.int rx_4]) rfl ?_
  refine g_iload dL_law_2587 1 rfl ?_
  refine g_icmp_eq (tgt := 2594) dL_law_2589 (by decide) (fun c => ?_) (fun c => ?_)
  · replace h := h.1 c
    refine g_iload dL_law_2594 1 rfl ?_
    refine g_if_ne (tgt := 2611) dL_law_2596 (by decide) (fun c => ?_) (fun c => ?_)
    · replace h := h.1 c
      refine g_goto (tgt := 2703) dL_law_2611 (by decide) ?_
      exact At.sub (ls := [(6, .int rx_2), (5, .int rx), (0, .ref (gsb G)), (1, .ref a1), (2, .ref a2), (3, .ref a3), (4, .int x4)]) [2, 3, 4, 5, 6] rfl h
    · replace h := h.2 c
      refine g_aload_n dL_law_2599 rfl 5 rfl ?_
      refine g_iconst (v := 0) dL_law_2600 (by decide) ?_
      obtain ⟨n, f, h1, h2, h⟩ := h
      refine g_lald dL_law_2601 h1 h2 ?_
      refine g_iload dL_law_2602 0 rfl ?_
      refine g_i2l dL_law_2604 ?_
      refine g_lcmp_eq (tgt := 2611) dL_law_2605 dL_law_2606 (by decide) (fun c => ?_) (fun c => ?_)
      · replace h := h.1 c
        refine g_goto (tgt := 2703) dL_law_2611 (by decide) ?_
        exact At.sub (ls := [(6, .int rx_2), (5, .int rx), (0, .ref (gsb G)), (1, .ref a1), (2, .ref a2), (3, .ref a3), (4, .int x4)]) [2, 3, 4, 5, 6] rfl h
      · replace h := h.2 c
        refine g_iconst (v := 0) dL_law_2609 (by decide) ?_
        exact g_zret rfl rfl dL_law_2610 h
  · replace h := h.2 c
    refine g_iconst (v := 0) dL_law_2592 (by decide) ?_
    exact g_zret rfl rfl dL_law_2593 h
set_option maxHeartbeats 4000000 in
theorem bL_law_2614 {G : GC} {Q : Option Value → PS → Prop} {X : String → Nat → PS → Prop} {b : Nat} {nm : String} {hh : List (Nat × Nat × Nat × Nat)} {a1 : Nat} {a2 : Nat} {a3 : Nat} {x4 : Int32} {σ : PS} (h : (∃ fs_3 : List Value, Ob (σ) 1 a1 fs_3) ∧ Call G mX1_undo 4 0 [.ref a1] (σ) (qI (fun rx s1 => (∃ fs : List Value, Ob s1 9 a2 fs) ∧ Call G mX9_undo 3 0 [.ref a2] s1 (qI (fun rx_2 s1_1 => ((rx = rx_2) → At G (mL nm hh) 210 Q X b 2703 [(0, .ref (gsb G)), (1, .ref a1), (2, .ref a2), (3, .ref a3), (4, .int x4)] [] s1_1) ∧ ((¬ rx = rx_2) → Q (some (.int 0)) s1_1))) (fun _ _ _ => False))) (fun _ _ _ => False)) : At G (mL nm hh) 210 Q X b 2614 [(0, .ref (gsb G)), (1, .ref a1), (2, .ref a2), (3, .ref a3), (4, .int x4)] [] (σ) := by
  refine g_aload_n dL_law_2614 rfl 1 rfl ?_
  obtain ⟨⟨_, hO⟩, h⟩ := h
  refine g_callV (N := mX1_undo) (st := []) (As := []) (a := a1) dL_law_2615 wsX1_undo (lw_V q799 q800 q801 q108 q802) rfl mokX1_undo rfl cl1 (by decide) (by decide) (Nat.zero_le _) (Nat.zero_le _) hO h (fun E q s hx => AtX.never hx) (fun _ s1 hq => ?_)
  obtain ⟨rx, rfl, h⟩ := hq
  refine At.stk (st' := [.int rx]) rfl ?_
  refine g_aload_n dL_law_2618 rfl 2 rfl ?_
  obtain ⟨⟨_, hO⟩, h⟩ := h
  refine g_callV (N := mX9_undo) (st := [.int rx]) (As := []) (a := a2) dL_law_2619 wsX9_undo (lw_V q2452 q2453 q2454 q116 q2455) rfl mokX9_undo rfl cl9 (by decide) (by decide) (Nat.zero_le _) (by simp [Value.category]) hO h (fun E q s hx => AtX.never hx) (fun _ s1_1 hq => ?_)
  obtain ⟨rx_2, rfl, h⟩ := hq
  refine At.stk (st' := [.int rx_2, .int rx]) rfl ?_
  refine g_icmp_eq (tgt := 2703) dL_law_2622 (by decide) (fun c => ?_) (fun c => ?_)
  · replace h := h.1 c
    exact At.sub (ls := [(0, .ref (gsb G)), (1, .ref a1), (2, .ref a2), (3, .ref a3), (4, .int x4)]) [0, 1, 2, 3, 4] rfl h
  · replace h := h.2 c
    refine g_iconst (v := 0) dL_law_2625 (by decide) ?_
    exact g_zret rfl rfl dL_law_2626 h
set_option maxHeartbeats 4000000 in
theorem bL_law_2627 {G : GC} {Q : Option Value → PS → Prop} {X : String → Nat → PS → Prop} {b : Nat} {nm : String} {hh : List (Nat × Nat × Nat × Nat)} {a1 : Nat} {a2 : Nat} {a3 : Nat} {x4 : Int32} {σ : PS} (h : (∃ fs_3 : List Value, Ob (σ) 1 a1 fs_3) ∧ Call G mX1_image 4 0 [.ref a1] (σ) (qI (fun rx s1 => (∃ fs : List Value, Ob s1 9 a2 fs) ∧ Call G mX9_image 5 0 [.ref a2] s1 (qI (fun rx_2 s1_1 => ((rx = rx_2) → At G (mL nm hh) 210 Q X b 2703 [(0, .ref (gsb G)), (1, .ref a1), (2, .ref a2), (3, .ref a3), (4, .int x4)] [] s1_1) ∧ ((¬ rx = rx_2) → Q (some (.int 0)) s1_1))) (fun _ _ _ => False))) (fun _ _ _ => False)) : At G (mL nm hh) 210 Q X b 2627 [(0, .ref (gsb G)), (1, .ref a1), (2, .ref a2), (3, .ref a3), (4, .int x4)] [] (σ) := by
  refine g_aload_n dL_law_2627 rfl 1 rfl ?_
  obtain ⟨⟨_, hO⟩, h⟩ := h
  refine g_callV (N := mX1_image) (st := []) (As := []) (a := a1) dL_law_2628 wsX1_image (lw_V q808 q809 q810 q108 q811) rfl mokX1_image rfl cl1 (by decide) (by decide) (Nat.zero_le _) (Nat.zero_le _) hO h (fun E q s hx => AtX.never hx) (fun _ s1 hq => ?_)
  obtain ⟨rx, rfl, h⟩ := hq
  refine At.stk (st' := [.int rx]) rfl ?_
  refine g_aload_n dL_law_2631 rfl 2 rfl ?_
  obtain ⟨⟨_, hO⟩, h⟩ := h
  refine g_callV (N := mX9_image) (st := [.int rx]) (As := []) (a := a2) dL_law_2632 wsX9_image (lw_V q2456 q2457 q2458 q116 q2459) rfl mokX9_image rfl cl9 (by decide) (by decide) (Nat.zero_le _) (by simp [Value.category]) hO h (fun E q s hx => AtX.never hx) (fun _ s1_1 hq => ?_)
  obtain ⟨rx_2, rfl, h⟩ := hq
  refine At.stk (st' := [.int rx_2, .int rx]) rfl ?_
  refine g_icmp_eq (tgt := 2703) dL_law_2635 (by decide) (fun c => ?_) (fun c => ?_)
  · replace h := h.1 c
    exact At.sub (ls := [(0, .ref (gsb G)), (1, .ref a1), (2, .ref a2), (3, .ref a3), (4, .int x4)]) [0, 1, 2, 3, 4] rfl h
  · replace h := h.2 c
    refine g_iconst (v := 0) dL_law_2638 (by decide) ?_
    exact g_zret rfl rfl dL_law_2639 h
set_option maxHeartbeats 4000000 in
theorem bL_law_2640 {G : GC} {Q : Option Value → PS → Prop} {X : String → Nat → PS → Prop} {b : Nat} {nm : String} {hh : List (Nat × Nat × Nat × Nat)} {a1 : Nat} {a2 : Nat} {a3 : Nat} {x4 : Int32} {σ : PS} (h : (∃ fs_3 : List Value, Ob (σ) 1 a1 fs_3) ∧ Call G mX1_restore 4 0 [.ref a1] (σ) (qI (fun rx s1 => (∃ fs : List Value, Ob s1 9 a2 fs) ∧ Call G mX9_restore 5 0 [.ref a2] s1 (qI (fun rx_2 s1_1 => ((rx = rx_2) → At G (mL nm hh) 210 Q X b 2703 [(0, .ref (gsb G)), (1, .ref a1), (2, .ref a2), (3, .ref a3), (4, .int x4)] [] s1_1) ∧ ((¬ rx = rx_2) → Q (some (.int 0)) s1_1))) (fun _ _ _ => False))) (fun _ _ _ => False)) : At G (mL nm hh) 210 Q X b 2640 [(0, .ref (gsb G)), (1, .ref a1), (2, .ref a2), (3, .ref a3), (4, .int x4)] [] (σ) := by
  refine g_aload_n dL_law_2640 rfl 1 rfl ?_
  obtain ⟨⟨_, hO⟩, h⟩ := h
  refine g_callV (N := mX1_restore) (st := []) (As := []) (a := a1) dL_law_2641 wsX1_restore (lw_V q812 q813 q814 q108 q815) rfl mokX1_restore rfl cl1 (by decide) (by decide) (Nat.zero_le _) (Nat.zero_le _) hO h (fun E q s hx => AtX.never hx) (fun _ s1 hq => ?_)
  obtain ⟨rx, rfl, h⟩ := hq
  refine At.stk (st' := [.int rx]) rfl ?_
  refine g_aload_n dL_law_2644 rfl 2 rfl ?_
  obtain ⟨⟨_, hO⟩, h⟩ := h
  refine g_callV (N := mX9_restore) (st := [.int rx]) (As := []) (a := a2) dL_law_2645 wsX9_restore (lw_V q2468 q2469 q2470 q116 q2471) rfl mokX9_restore rfl cl9 (by decide) (by decide) (Nat.zero_le _) (by simp [Value.category]) hO h (fun E q s hx => AtX.never hx) (fun _ s1_1 hq => ?_)
  obtain ⟨rx_2, rfl, h⟩ := hq
  refine At.stk (st' := [.int rx_2, .int rx]) rfl ?_
  refine g_icmp_eq (tgt := 2703) dL_law_2648 (by decide) (fun c => ?_) (fun c => ?_)
  · replace h := h.1 c
    exact At.sub (ls := [(0, .ref (gsb G)), (1, .ref a1), (2, .ref a2), (3, .ref a3), (4, .int x4)]) [0, 1, 2, 3, 4] rfl h
  · replace h := h.2 c
    refine g_iconst (v := 0) dL_law_2651 (by decide) ?_
    exact g_zret rfl rfl dL_law_2652 h
set_option maxHeartbeats 4000000 in
theorem bL_law_2653 {G : GC} {Q : Option Value → PS → Prop} {X : String → Nat → PS → Prop} {b : Nat} {nm : String} {hh : List (Nat × Nat × Nat × Nat)} {a1 : Nat} {a2 : Nat} {a3 : Nat} {x4 : Int32} {σ : PS} (h : vp_in ((x4 + 1)) (gsL G) ∧ ((∃ fs_3 : List Value, Ob (σ) 1 a1 fs_3) ∧ CallO G mX1_status 3 [.ref a1, .int (gsx G ((x4 + 1)).toNatClampNeg)] (σ) (pI (fun rx => vp_in ((x4 + 1)) (gsL G) ∧ ((∃ fs : List Value, Ob (σ) 9 a2 fs) ∧ Call G mX9_status 4 0 [.ref a2, .int (gsx G ((x4 + 1)).toNatClampNeg)] (σ) (qI (fun rx_2 s1_1 => ((rx = rx_2) → At G (mL nm hh) 210 Q X b 2703 [(0, .ref (gsb G)), (1, .ref a1), (2, .ref a2), (3, .ref a3), (4, .int x4)] [] s1_1) ∧ ((¬ rx = rx_2) → Q (some (.int 0)) s1_1))) (fun _ _ _ => False)))))) : At G (mL nm hh) 210 Q X b 2653 [(0, .ref (gsb G)), (1, .ref a1), (2, .ref a2), (3, .ref a3), (4, .int x4)] [] (σ) := by
  refine g_aload_n dL_law_2653 rfl 1 rfl ?_
  refine g_aload_n dL_law_2654 rfl 0 rfl ?_
  refine g_iload dL_law_2655 4 rfl ?_
  refine g_iconst (v := 1) dL_law_2657 (by decide) ?_
  refine g_iadd dL_law_2658 ?_
  obtain ⟨h1, h⟩ := h
  refine g_sld dL_law_2659 h1 ?_
  obtain ⟨⟨_, hO⟩, h⟩ := h
  refine g_callV (N := mX1_status) (st := []) (As := [.int (gsx G ((x4 + 1)).toNatClampNeg)]) (a := a1) dL_law_2660 wsX1_status (lw_V q816 q817 q818 q108 q819) rfl mokX1_status rfl cl1 (by decide) (by decide) (Nat.zero_le _) (Nat.zero_le _) hO h (fun E q s hx => AtX.never hx) (fun _ s1 hq => ?_)
  obtain ⟨es, hq⟩ := hq
  refine g_tops2 es ?_
  obtain ⟨rx, rfl, h⟩ := hq
  refine At.stk (st' := [.int rx]) rfl ?_
  refine g_aload_n dL_law_2663 rfl 2 rfl ?_
  refine g_aload_n dL_law_2664 rfl 0 rfl ?_
  refine g_iload dL_law_2665 4 rfl ?_
  refine g_iconst (v := 1) dL_law_2667 (by decide) ?_
  refine g_iadd dL_law_2668 ?_
  obtain ⟨h1, h⟩ := h
  refine g_sld dL_law_2669 h1 ?_
  obtain ⟨⟨_, hO⟩, h⟩ := h
  refine g_callV (N := mX9_status) (st := [.int rx]) (As := [.int (gsx G ((x4 + 1)).toNatClampNeg)]) (a := a2) dL_law_2670 wsX9_status (lw_V q2472 q2473 q2474 q116 q2475) rfl mokX9_status rfl cl9 (by decide) (by decide) (Nat.zero_le _) (by simp [Value.category]) hO h (fun E q s hx => AtX.never hx) (fun _ s1_1 hq => ?_)
  obtain ⟨rx_2, rfl, h⟩ := hq
  refine At.stk (st' := [.int rx_2, .int rx]) rfl ?_
  refine g_icmp_eq (tgt := 2703) dL_law_2673 (by decide) (fun c => ?_) (fun c => ?_)
  · replace h := h.1 c
    exact At.sub (ls := [(0, .ref (gsb G)), (1, .ref a1), (2, .ref a2), (3, .ref a3), (4, .int x4)]) [0, 1, 2, 3, 4] rfl h
  · replace h := h.2 c
    refine g_iconst (v := 0) dL_law_2676 (by decide) ?_
    exact g_zret rfl rfl dL_law_2677 h
set_option maxHeartbeats 4000000 in
theorem bL_law_2678 {G : GC} {Q : Option Value → PS → Prop} {X : String → Nat → PS → Prop} {b : Nat} {nm : String} {hh : List (Nat × Nat × Nat × Nat)} {a1 : Nat} {a2 : Nat} {a3 : Nat} {x4 : Int32} {σ : PS} (h : vp_in ((x4 + 1)) (gsL G) ∧ ((∃ fs_3 : List Value, Ob (σ) 1 a1 fs_3) ∧ CallO G mX1_count 3 [.ref a1, .int (gsx G ((x4 + 1)).toNatClampNeg)] (σ) (pI (fun rx => vp_in ((x4 + 1)) (gsL G) ∧ ((∃ fs : List Value, Ob (σ) 9 a2 fs) ∧ Call G mX9_count 3 0 [.ref a2, .int (gsx G ((x4 + 1)).toNatClampNeg)] (σ) (qI (fun rx_2 s1_1 => ((rx = rx_2) → At G (mL nm hh) 210 Q X b 2703 [(0, .ref (gsb G)), (1, .ref a1), (2, .ref a2), (3, .ref a3), (4, .int x4)] [] s1_1) ∧ ((¬ rx = rx_2) → Q (some (.int 0)) s1_1))) (fun _ _ _ => False)))))) : At G (mL nm hh) 210 Q X b 2678 [(0, .ref (gsb G)), (1, .ref a1), (2, .ref a2), (3, .ref a3), (4, .int x4)] [] (σ) := by
  refine g_aload_n dL_law_2678 rfl 1 rfl ?_
  refine g_aload_n dL_law_2679 rfl 0 rfl ?_
  refine g_iload dL_law_2680 4 rfl ?_
  refine g_iconst (v := 1) dL_law_2682 (by decide) ?_
  refine g_iadd dL_law_2683 ?_
  obtain ⟨h1, h⟩ := h
  refine g_sld dL_law_2684 h1 ?_
  obtain ⟨⟨_, hO⟩, h⟩ := h
  refine g_callV (N := mX1_count) (st := []) (As := [.int (gsx G ((x4 + 1)).toNatClampNeg)]) (a := a1) dL_law_2685 wsX1_count (lw_V q820 q821 q822 q108 q823) rfl mokX1_count rfl cl1 (by decide) (by decide) (Nat.zero_le _) (Nat.zero_le _) hO h (fun E q s hx => AtX.never hx) (fun _ s1 hq => ?_)
  obtain ⟨es, hq⟩ := hq
  refine g_tops2 es ?_
  obtain ⟨rx, rfl, h⟩ := hq
  refine At.stk (st' := [.int rx]) rfl ?_
  refine g_aload_n dL_law_2688 rfl 2 rfl ?_
  refine g_aload_n dL_law_2689 rfl 0 rfl ?_
  refine g_iload dL_law_2690 4 rfl ?_
  refine g_iconst (v := 1) dL_law_2692 (by decide) ?_
  refine g_iadd dL_law_2693 ?_
  obtain ⟨h1, h⟩ := h
  refine g_sld dL_law_2694 h1 ?_
  obtain ⟨⟨_, hO⟩, h⟩ := h
  refine g_callV (N := mX9_count) (st := [.int rx]) (As := [.int (gsx G ((x4 + 1)).toNatClampNeg)]) (a := a2) dL_law_2695 wsX9_count (lw_V q2476 q2477 q2478 q116 q2479) rfl mokX9_count rfl cl9 (by decide) (by decide) (Nat.zero_le _) (by simp [Value.category]) hO h (fun E q s hx => AtX.never hx) (fun _ s1_1 hq => ?_)
  obtain ⟨rx_2, rfl, h⟩ := hq
  refine At.stk (st' := [.int rx_2, .int rx]) rfl ?_
  refine g_icmp_eq (tgt := 2703) dL_law_2698 (by decide) (fun c => ?_) (fun c => ?_)
  · replace h := h.1 c
    exact At.sub (ls := [(0, .ref (gsb G)), (1, .ref a1), (2, .ref a2), (3, .ref a3), (4, .int x4)]) [0, 1, 2, 3, 4] rfl h
  · replace h := h.2 c
    refine g_iconst (v := 0) dL_law_2701 (by decide) ?_
    exact g_zret rfl rfl dL_law_2702 h
set_option maxHeartbeats 4000000 in
theorem bL_law_2703 {G : GC} {Q : Option Value → PS → Prop} {X : String → Nat → PS → Prop} {b : Nat} {nm : String} {hh : List (Nat × Nat × Nat × Nat)} {a1 : Nat} {a2 : Nat} {a3 : Nat} {x4 : Int32} {σ : PS} (h : ∀ v4 : Int32, v4 = x4 + 6 → At G (mL nm hh) 210 Q X b 23 [(0, .ref (gsb G)), (1, .ref a1), (2, .ref a2), (3, .ref a3), (4, .int v4)] [] (σ)) : At G (mL nm hh) 210 Q X b 2703 [(0, .ref (gsb G)), (1, .ref a1), (2, .ref a2), (3, .ref a3), (4, .int x4)] [] (σ) := by
  obtain ⟨v4, ev4⟩ : ∃ z : Int32, z = x4 + 6 := ⟨_, rfl⟩
  refine g_iinc (v := v4) (ls1 := [(4, .int v4), (0, .ref (gsb G)), (1, .ref a1), (2, .ref a2), (3, .ref a3)]) dL_law_2703 4 rfl (by rw [ev4]; rfl) (Nat.le_of_ble_eq_true rfl) rfl ?_
  replace h := h v4 ev4
  refine g_goto (tgt := 23) dL_law_2706 (by decide) ?_
  exact At.sub (ls := [(4, .int v4), (0, .ref (gsb G)), (1, .ref a1), (2, .ref a2), (3, .ref a3)]) [1, 2, 3, 4, 0] rfl h
