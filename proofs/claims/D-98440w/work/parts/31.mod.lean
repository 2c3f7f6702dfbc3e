set_option maxRecDepth 100000
set_option maxHeartbeats 4000000 in
theorem bX9_habitOf_0 {G : GC} {ad : Nat → Nat} {o : Nat} {σ0 : PS} {Q : MPost} {x1 : Int32} {F : Nat → Int32} {L : Nat → Int64} {I : Nat → Nat → Int32} {J : Nat → Nat → Int64} (h : (((F 49) = 0) → ((¬ x1 = (F 47)) → ((¬ x1 = (F 48)) → Q (some (.int x1)) F L I J) ∧ ((x1 = (F 48)) → Q (some (.int (F 47))) F L I J)) ∧ ((x1 = (F 47)) → Q (some (.int (F 48))) F L I J)) ∧ ((¬ (F 49) = 0) → Q (some (.int 6)) F L I J)) : AtM G mX9_habitOf 3 ad o σ0 Q 0 [(0, .ref o), (1, .int x1)] [] F L I J := by
  refine m_aload_n dX9_habitOf_0 rfl 0 rfl ?_
  refine m_get (v := .int (F 49)) 49 dX9_habitOf_1 (by decide) q1812 rfl ?_
  refine m_if_eq (tgt := 12) dX9_habitOf_4 (by decide) (fun c => ?_) (fun c => ?_)
  · replace h := h.1 c
    refine m_iload_n dX9_habitOf_12 rfl 1 rfl ?_
    refine m_aload_n dX9_habitOf_13 rfl 0 rfl ?_
    refine m_get (v := .int (F 47)) 47 dX9_habitOf_14 (by decide) q1810 rfl ?_
    refine m_icmp_ne (tgt := 27) dX9_habitOf_17 (by decide) (fun c => ?_) (fun c => ?_)
    · replace h := h.1 c
      refine m_iload_n dX9_habitOf_27 rfl 1 rfl ?_
      refine m_aload_n dX9_habitOf_28 rfl 0 rfl ?_
      refine m_get (v := .int (F 48)) 48 dX9_habitOf_29 (by decide) q1811 rfl ?_
      refine m_icmp_ne (tgt := 42) dX9_habitOf_32 (by decide) (fun c => ?_) (fun c => ?_)
      · replace h := h.1 c
        refine m_iload_n dX9_habitOf_42 rfl 1 rfl ?_
        exact m_iret rfl dX9_habitOf_43 h
      · replace h := h.2 c
        refine m_aload_n dX9_habitOf_35 rfl 0 rfl ?_
        refine m_get (v := .int (F 47)) 47 dX9_habitOf_36 (by decide) q1810 rfl ?_
        refine m_goto (tgt := 43) dX9_habitOf_39 (by decide) ?_
        exact m_iret rfl dX9_habitOf_43 h
    · replace h := h.2 c
      refine m_aload_n dX9_habitOf_20 rfl 0 rfl ?_
      refine m_get (v := .int (F 48)) 48 dX9_habitOf_21 (by decide) q1811 rfl ?_
      refine m_goto (tgt := 43) dX9_habitOf_24 (by decide) ?_
      exact m_iret rfl dX9_habitOf_43 h
  · replace h := h.2 c
    refine m_bipush (v := 6) dX9_habitOf_7 (by decide) ?_
    refine m_goto (tgt := 43) dX9_habitOf_9 (by decide) ?_
    exact m_iret rfl dX9_habitOf_43 h
theorem eX9_habitOf {G : GC} {ad : Nat → Nat} {o : Nat} {Q : MPost} {p1 : Int32} {F : Nat → Int32} {L : Nat → Int64} {I : Nat → Nat → Int32} {J : Nat → Nat → Int64} (h : ∀ σ0, AtM G mX9_habitOf 3 ad o σ0 Q 0 [(0, .ref o), (1, .int p1)] [] F L I J) : CallM G mX9_habitOf 3 ad o [.ref o, .int p1] F L I J Q :=
  CallM.of (by decide +kernel) wsX9_habitOf rfl (Nat.le_of_ble_eq_true rfl) (fun σ0 => AtM.sub (ls := [(0, .ref o), (1, .int p1)]) [0, 1] rfl (h σ0))
set_option maxHeartbeats 4000000 in
theorem bX9_goesStep_0 {G : GC} {ad : Nat → Nat} {o : Nat} {σ0 : PS} {Q : MPost} {x1 : Int32} {x2 : Int32} {x3 : Int32} {F : Nat → Int32} {L : Nat → Int64} {I : Nat → Nat → Int32} {J : Nat → Nat → Int64} (h : vp_in (((32 * x1) + (4 * x2))) 224 ∧ (∀ v4 : Int32, v4 = (I 26 (((32 * x1) + (4 * x2))).toNatClampNeg) → ∀ w : Int32, w = (((32 * x1) + (4 * x2)) + 1) → vp_in w 224 ∧ (∀ v5 : Int32, v5 = (I 26 w.toNatClampNeg) → AtM G mX9_goesStep 6 ad o σ0 Q 35 [(0, .ref o), (1, .int x1), (2, .int x2), (3, .int x3), (4, .int v4), (5, .int v5), (6, .int 0)] [] F L I J))) : AtM G mX9_goesStep 6 ad o σ0 Q 0 [(0, .ref o), (1, .int x1), (2, .int x2), (3, .int x3)] [] F L I J := by
  refine m_aload_n dX9_goesStep_0 rfl 0 rfl ?_
  refine m_get (v := .ref (ad 26)) 26 dX9_goesStep_1 (by decide) q1789 rfl ?_
  refine m_bipush (v := 32) dX9_goesStep_4 (by decide) ?_
  refine m_iload_n dX9_goesStep_6 rfl 1 rfl ?_
  refine m_imul dX9_goesStep_7 ?_
  refine m_iconst (v := 4) dX9_goesStep_8 (by decide) ?_
  refine m_iload_n dX9_goesStep_9 rfl 2 rfl ?_
  refine m_imul dX9_goesStep_10 ?_
  refine m_iadd dX9_goesStep_11 ?_
  obtain ⟨h1, h⟩ := h
  refine m_iald 26 dX9_goesStep_12 (by decide) rfl h1 ?_
  refine m_topi (fun v4 ev4 => ?_)
  replace h := h v4 ev4
  refine m_istore (ls1 := [(4, .int v4), (0, .ref o), (1, .int x1), (2, .int x2), (3, .int x3)]) dX9_goesStep_13 (by decide) rfl ?_
  refine m_aload_n dX9_goesStep_15 rfl 1 rfl ?_
  refine m_get (v := .ref (ad 26)) 26 dX9_goesStep_16 (by decide) q1789 rfl ?_
  refine m_bipush (v := 32) dX9_goesStep_19 (by decide) ?_
  refine m_iload_n dX9_goesStep_21 rfl 2 rfl ?_
  refine m_imul dX9_goesStep_22 ?_
  refine m_iconst (v := 4) dX9_goesStep_23 (by decide) ?_
  refine m_iload_n dX9_goesStep_24 rfl 3 rfl ?_
  refine m_imul dX9_goesStep_25 ?_
  refine m_iadd dX9_goesStep_26 ?_
  refine m_iconst (v := 1) dX9_goesStep_27 (by decide) ?_
  refine m_iadd dX9_goesStep_28 ?_
  refine m_topi (fun w ew => ?_)
  replace h := h w ew
  obtain ⟨h1, h⟩ := h
  refine m_iald 26 dX9_goesStep_29 (by decide) rfl h1 ?_
  refine m_topi (fun v5 ev5 => ?_)
  replace h := h v5 ev5
  refine m_istore (ls1 := [(5, .int v5), (4, .int v4), (0, .ref o), (1, .int x1), (2, .int x2), (3, .int x3)]) dX9_goesStep_30 (by decide) rfl ?_
  refine m_iconst (v := 0) dX9_goesStep_32 (by decide) ?_
  refine m_istore (ls1 := [(6, .int 0), (5, .int v5), (4, .int v4), (0, .ref o), (1, .int x1), (2, .int x2), (3, .int x3)]) dX9_goesStep_33 (by decide) rfl ?_
  exact AtM.sub (ls := [(6, .int 0), (5, .int v5), (4, .int v4), (0, .ref o), (1, .int x1), (2, .int x2), (3, .int x3)]) [3, 4, 5, 6, 2, 1, 0] rfl h
set_option maxHeartbeats 4000000 in
theorem bX9_goesStep_35 {G : GC} {ad : Nat → Nat} {o : Nat} {σ0 : PS} {Q : MPost} {x1 : Int32} {x2 : Int32} {x3 : Int32} {x4 : Int32} {x5 : Int32} {x6 : Int32} {F : Nat → Int32} {L : Nat → Int64} {I : Nat → Nat → Int32} {J : Nat → Nat → Int64} (h : (((F 35) ≤ x6) → CallM G mX9_takesNext 3 ad o [.ref o] F L I J (mqV (fun F1 L1 I1 J1 => Q none F1 L1 I1 J1))) ∧ ((¬ (F 35) ≤ x6) → vp_in x6 16900 ∧ (∀ v7 : Int32, v7 = (I 33 x6.toNatClampNeg) → vp_in v7 16900 ∧ (∀ v8 : Int64, v8 = (J 37 v7.toNatClampNeg) → CallM G mX9_stateOf 3 ad o [.ref o, .int v7] F L I J (mqV (fun F1 L1 I1 J1 => CallM G mX9_findFacts 4 ad o [.ref o, .int x3] F1 L1 I1 J1 (mqV (fun F1_1 L1_2 I1_3 J1_4 => CallM G mX9_isSo 4 ad o [.ref o, .int x1, .int x2] F1_1 L1_2 I1_3 J1_4 (mqI (fun rx F1_5 L1_6 I1_7 J1_8 => ((¬ rx = 0) → ((¬ x5 = 0) → AtM G mX9_goesStep 6 ad o σ0 Q 106 [(0, .ref o), (1, .int x1), (2, .int x2), (3, .int x3), (4, .int x4), (5, .int x5), (6, .int x6), (7, .int v7), (8, .long v8)] [.long ((v8 * x5.toInt64) / 16)] F1_5 L1_6 I1_7 J1_8) ∧ ((x5 = 0) → AtM G mX9_goesStep 6 ad o σ0 Q 106 [(0, .ref o), (1, .int x1), (2, .int x2), (3, .int x3), (4, .int x4), (5, .int x5), (6, .int x6), (7, .int v7), (8, .long v8)] [.long v8] F1_5 L1_6 I1_7 J1_8)) ∧ ((rx = 0) → AtM G mX9_goesStep 6 ad o σ0 Q 106 [(0, .ref o), (1, .int x1), (2, .int x2), (3, .int x3), (4, .int x4), (5, .int x5), (6, .int x6), (7, .int v7), (8, .long v8)] [.long 0] F1_5 L1_6 I1_7 J1_8))))))))))) : AtM G mX9_goesStep 6 ad o σ0 Q 35 [(0, .ref o), (1, .int x1), (2, .int x2), (3, .int x3), (4, .int x4), (5, .int x5), (6, .int x6)] [] F L I J := by
  refine m_iload dX9_goesStep_35 6 rfl ?_
  refine m_aload_n dX9_goesStep_37 rfl 0 rfl ?_
  refine m_get (v := .int (F 35)) 35 dX9_goesStep_38 (by decide) q1798 rfl ?_
  refine m_icmp_ge (tgt := 141) dX9_goesStep_41 (by decide) (fun c => ?_) (fun c => ?_)
  · replace h := h.1 c
    refine m_aload_n dX9_goesStep_141 rfl 0 rfl ?_
    refine m_callV (N := mX9_takesNext) (st := []) (As := []) dX9_goesStep_142 wsX9_takesNext (lw_V q2204 q2206 qs75 q116 q2207) rfl mokX9_takesNext rfl (by decide) (by decide) (Nat.zero_le _) h (fun _ F1 L1 I1 J1 hq => ?_)
    obtain ⟨rfl, h⟩ := hq
    refine AtM.stk (st' := []) rfl ?_
    exact m_vret rfl dX9_goesStep_145 h
  · replace h := h.2 c
    refine m_aload_n dX9_goesStep_44 rfl 0 rfl ?_
    refine m_get (v := .ref (ad 33)) 33 dX9_goesStep_45 (by decide) q1796 rfl ?_
    refine m_iload dX9_goesStep_48 6 rfl ?_
    obtain ⟨h1, h⟩ := h
    refine m_iald 33 dX9_goesStep_50 (by decide) rfl h1 ?_
    refine m_topi (fun v7 ev7 => ?_)
    replace h := h v7 ev7
    refine m_istore (ls1 := [(7, .int v7), (0, .ref o), (1, .int x1), (2, .int x2), (3, .int x3), (4, .int x4), (5, .int x5), (6, .int x6)]) dX9_goesStep_51 (by decide) rfl ?_
    refine m_aload_n dX9_goesStep_53 rfl 1 rfl ?_
    refine m_get (v := .ref (ad 37)) 37 dX9_goesStep_54 (by decide) q1800 rfl ?_
    refine m_iload dX9_goesStep_57 0 rfl ?_
    obtain ⟨h1, h⟩ := h
    refine m_lald 37 dX9_goesStep_59 (by decide) rfl h1 ?_
    refine m_topl (fun v8 ev8 => ?_)
    replace h := h v8 ev8
    refine m_lstore (ls1 := [(8, .long v8), (7, .int v7), (0, .ref o), (1, .int x1), (2, .int x2), (3, .int x3), (4, .int x4), (5, .int x5), (6, .int x6)]) dX9_goesStep_60 (by decide) rfl ?_
    refine m_aload_n dX9_goesStep_62 rfl 2 rfl ?_
    refine m_iload dX9_goesStep_63 1 rfl ?_
    refine m_callV (N := mX9_stateOf) (st := []) (As := [.int v7]) dX9_goesStep_65 wsX9_stateOf (lw_V q2195 q2197 qs73 q116 q2198) rfl mokX9_stateOf rfl (by decide) (by decide) (Nat.zero_le _) h (fun _ F1 L1 I1 J1 hq => ?_)
    obtain ⟨rfl, h⟩ := hq
    refine AtM.stk (st' := []) rfl ?_
    refine m_aload_n dX9_goesStep_68 rfl 2 rfl ?_
    refine m_iload_n dX9_goesStep_69 rfl 5 rfl ?_
    refine m_callV (N := mX9_findFacts) (st := []) (As := [.int x3]) dX9_goesStep_70 wsX9_findFacts (lw_V q2228 q2230 qs81 q116 q2231) rfl mokX9_findFacts rfl (by decide) (by decide) (Nat.zero_le _) h (fun _ F1_1 L1_2 I1_3 J1_4 hq => ?_)
    obtain ⟨rfl, h⟩ := hq
    refine AtM.stk (st' := []) rfl ?_
    refine m_aload_n dX9_goesStep_73 rfl 2 rfl ?_
    refine m_iload_n dX9_goesStep_74 rfl 3 rfl ?_
    refine m_iload_n dX9_goesStep_75 rfl 4 rfl ?_
    refine m_callV (N := mX9_isSo) (st := []) (As := [.int x1, .int x2]) dX9_goesStep_76 wsX9_isSo (lw_V q2232 q2234 qs82 q116 q2235) rfl mokX9_isSo rfl (by decide) (by decide) (Nat.zero_le _) h (fun _ F1_5 L1_6 I1_7 J1_8 hq => ?_)
    obtain ⟨rx, rfl, h⟩ := hq
    refine AtM.stk (st' := [.int rx]) rfl ?_
    refine m_if_ne (tgt := 86) dX9_goesStep_79 (by decide) (fun c => ?_) (fun c => ?_)
    · replace h := h.1 c
      refine m_iload dX9_goesStep_86 7 rfl ?_
      refine m_if_ne (tgt := 96) dX9_goesStep_88 (by decide) (fun c => ?_) (fun c => ?_)
      · replace h := h.1 c
        refine m_lload dX9_goesStep_96 0 rfl ?_
        refine m_iload dX9_goesStep_98 7 rfl ?_
        refine m_i2l dX9_goesStep_100 ?_
        refine m_lmul dX9_goesStep_101 ?_
        refine m_ldc2 dX9_goesStep_102 q2199 ?_
        refine m_ldiv dX9_goesStep_105 (by decide) ?_
        exact AtM.sub (ls := [(8, .long v8), (7, .int v7), (0, .ref o), (1, .int x1), (2, .int x2), (3, .int x3), (4, .int x4), (5, .int x5), (6, .int x6)]) [2, 3, 4, 5, 6, 7, 8, 1, 0] rfl h
      · replace h := h.2 c
        refine m_lload dX9_goesStep_91 0 rfl ?_
        refine m_goto (tgt := 106) dX9_goesStep_93 (by decide) ?_
        exact AtM.sub (ls := [(8, .long v8), (7, .int v7), (0, .ref o), (1, .int x1), (2, .int x2), (3, .int x3), (4, .int x4), (5, .int x5), (6, .int x6)]) [2, 3, 4, 5, 6, 7, 8, 1, 0] rfl h
    · replace h := h.2 c
      refine m_lconst (v := 0) dX9_goesStep_82 (by decide) ?_
      refine m_goto (tgt := 106) dX9_goesStep_83 (by decide) ?_
      exact AtM.sub (ls := [(8, .long v8), (7, .int v7), (0, .ref o), (1, .int x1), (2, .int x2), (3, .int x3), (4, .int x4), (5, .int x5), (6, .int x6)]) [2, 3, 4, 5, 6, 7, 8, 1, 0] rfl h
set_option maxHeartbeats 4000000 in
theorem bX9_goesStep_106 {G : GC} {ad : Nat → Nat} {o : Nat} {σ0 : PS} {Q : MPost} {x1 : Int32} {x2 : Int32} {x3 : Int32} {x4 : Int32} {x5 : Int32} {x6 : Int32} {x7 : Int32} {y8 : Int64} {sy0 : Int64} {F : Nat → Int32} {L : Nat → Int64} {I : Nat → Nat → Int32} {J : Nat → Nat → Int64} (h : CallM G mX9_gives 3 ad o [.ref o, .int x7, .long (y8 - sy0)] F L I J (mqV (fun F1 L1 I1 J1 => ((sy0 ≤ 0) → ∀ v6 : Int32, v6 = x6 + 1 → AtM G mX9_goesStep 6 ad o σ0 Q 35 [(0, .ref o), (1, .int x1), (2, .int x2), (3, .int x3), (4, .int x4), (5, .int x5), (6, .int v6)] [] F1 L1 I1 J1) ∧ ((¬ sy0 ≤ 0) → CallM G mX9_does 5 ad o [.ref o, .int x4, .long sy0, .int x3] F1 L1 I1 J1 (mqV (fun F1_1 L1_2 I1_3 J1_4 => ∀ v6 : Int32, v6 = x6 + 1 → AtM G mX9_goesStep 6 ad o σ0 Q 35 [(0, .ref o), (1, .int x1), (2, .int x2), (3, .int x3), (4, .int x4), (5, .int x5), (6, .int v6)] [] F1_1 L1_2 I1_3 J1_4)))))) : AtM G mX9_goesStep 6 ad o σ0 Q 106 [(0, .ref o), (1, .int x1), (2, .int x2), (3, .int x3), (4, .int x4), (5, .int x5), (6, .int x6), (7, .int x7), (8, .long y8)] [.long sy0] F L I J := by
  refine m_lstore (ls1 := [(10, .long sy0), (0, .ref o), (1, .int x1), (2, .int x2), (3, .int x3), (4, .int x4), (5, .int x5), (6, .int x6), (7, .int x7), (8, .long y8)]) dX9_goesStep_106 (by decide) rfl ?_
  refine m_aload_n dX9_goesStep_108 rfl 1 rfl ?_
  refine m_iload dX9_goesStep_109 8 rfl ?_
  refine m_lload dX9_goesStep_111 9 rfl ?_
  refine m_lload dX9_goesStep_113 0 rfl ?_
  refine m_lsub dX9_goesStep_115 ?_
  refine m_callV (N := mX9_gives) (st := []) (As := [.int x7, .long (y8 - sy0)]) dX9_goesStep_116 wsX9_gives (lw_V q2200 q2202 qs74 q116 q2203) rfl mokX9_gives rfl (by decide) (by decide) (Nat.zero_le _) h (fun _ F1 L1 I1 J1 hq => ?_)
  obtain ⟨rfl, h⟩ := hq
  refine AtM.stk (st' := []) rfl ?_
  refine m_lload dX9_goesStep_119 0 rfl ?_
  refine m_lconst (v := 0) dX9_goesStep_121 (by decide) ?_
  refine m_lcmp_le (tgt := 135) dX9_goesStep_122 dX9_goesStep_123 (by decide) (fun c => ?_) (fun c => ?_)
  · replace h := h.1 c
    obtain ⟨v6, ev6⟩ : ∃ z : Int32, z = x6 + 1 := ⟨_, rfl⟩
    refine m_iinc (v := v6) (ls1 := [(6, .int v6), (10, .long sy0), (0, .ref o), (1, .int x1), (2, .int x2), (3, .int x3), (4, .int x4), (5, .int x5), (7, .int x7), (8, .long y8)]) dX9_goesStep_135 7 rfl (by rw [ev6]; rfl) (by decide) rfl ?_
    replace h := h v6 ev6
    refine m_goto (tgt := 35) dX9_goesStep_138 (by decide) ?_
    exact AtM.sub (ls := [(6, .int v6), (10, .long sy0), (0, .ref o), (1, .int x1), (2, .int x2), (3, .int x3), (4, .int x4), (5, .int x5), (7, .int x7), (8, .long y8)]) [2, 3, 4, 5, 6, 7, 0] rfl h
  · replace h := h.2 c
    refine m_aload_n dX9_goesStep_126 rfl 1 rfl ?_
    refine m_iload dX9_goesStep_127 5 rfl ?_
    refine m_lload dX9_goesStep_129 0 rfl ?_
    refine m_iload_n dX9_goesStep_131 rfl 4 rfl ?_
    refine m_callV (N := mX9_does) (st := []) (As := [.int x4, .long sy0, .int x3]) dX9_goesStep_132 wsX9_does (lw_V q2239 q2241 qs83 q116 q2242) rfl mokX9_does rfl (by decide) (by decide) (Nat.zero_le _) h (fun _ F1_1 L1_2 I1_3 J1_4 hq => ?_)
    obtain ⟨rfl, h⟩ := hq
    refine AtM.stk (st' := []) rfl ?_
    obtain ⟨v6, ev6⟩ : ∃ z : Int32, z = x6 + 1 := ⟨_, rfl⟩
    refine m_iinc (v := v6) (ls1 := [(6, .int v6), (10, .long sy0), (0, .ref o), (1, .int x1), (2, .int x2), (3, .int x3), (4, .int x4), (5, .int x5), (7, .int x7), (8, .long y8)]) dX9_goesStep_135 7 rfl (by rw [ev6]; rfl) (by decide) rfl ?_
    replace h := h v6 ev6
    refine m_goto (tgt := 35) dX9_goesStep_138 (by decide) ?_
    exact AtM.sub (ls := [(6, .int v6), (10, .long sy0), (0, .ref o), (1, .int x1), (2, .int x2), (3, .int x3), (4, .int x4), (5, .int x5), (7, .int x7), (8, .long y8)]) [2, 3, 4, 5, 6, 7, 0] rfl h
theorem eX9_goesStep {G : GC} {ad : Nat → Nat} {o : Nat} {Q : MPost} {p1 : Int32} {p2 : Int32} {p3 : Int32} {F : Nat → Int32} {L : Nat → Int64} {I : Nat → Nat → Int32} {J : Nat → Nat → Int64} (h : ∀ σ0, AtM G mX9_goesStep 6 ad o σ0 Q 0 [(0, .ref o), (1, .int p1), (2, .int p2), (3, .int p3)] [] F L I J) : CallM G mX9_goesStep 6 ad o [.ref o, .int p1, .int p2, .int p3] F L I J Q :=
  CallM.of (by decide +kernel) wsX9_goesStep rfl (Nat.le_of_ble_eq_true rfl) (fun σ0 => AtM.sub (ls := [(0, .ref o), (1, .int p1), (2, .int p2), (3, .int p3)]) [0, 1, 2, 3] rfl (h σ0))
set_option maxHeartbeats 4000000 in
theorem bX9_findFacts_0 {G : GC} {ad : Nat → Nat} {o : Nat} {σ0 : PS} {Q : MPost} {x1 : Int32} {F : Nat → Int32} {L : Nat → Int64} {I : Nat → Nat → Int32} {J : Nat → Nat → Int64} (h : (∀ I1 : Nat → Nat → Int32, I1 = aU I 56 0 (F 53) → CallMO G mX9_isWarm 3 ad o [.ref o, .int x1] F L I1 J (pI (fun rx => ((rx = 0) → (∀ I1_1 : Nat → Nat → Int32, I1_1 = aU I1 56 1 0 → (∀ I1_2 : Nat → Nat → Int32, I1_2 = aU I1_1 56 2 (((F 51) + (F 52))) → ∀ w : Int32, w = (((I1_2 11 0) - (F 51)) - (F 52)) → (∀ I1_3 : Nat → Nat → Int32, I1_3 = aU I1_2 56 3 w → (∀ I1_4 : Nat → Nat → Int32, I1_4 = aU I1_3 56 5 (F 55) → Q none F L I1_4 J))))) ∧ ((¬ rx = 0) → (∀ I1_5 : Nat → Nat → Int32, I1_5 = aU I1 56 1 1 → (∀ I1_6 : Nat → Nat → Int32, I1_6 = aU I1_5 56 2 (((F 51) + (F 52))) → ∀ w : Int32, w = (((I1_6 11 0) - (F 51)) - (F 52)) → (∀ I1_7 : Nat → Nat → Int32, I1_7 = aU I1_6 56 3 w → (∀ I1_8 : Nat → Nat → Int32, I1_8 = aU I1_7 56 5 (F 55) → Q none F L I1_8 J))))))))) : AtM G mX9_findFacts 4 ad o σ0 Q 0 [(0, .ref o), (1, .int x1)] [] F L I J := by
  refine m_aload_n dX9_findFacts_0 rfl 0 rfl ?_
  refine m_get (v := .ref (ad 56)) 56 dX9_findFacts_1 (by decide) q1819 rfl ?_
  refine m_iconst (v := 0) dX9_findFacts_4 (by decide) ?_
  refine m_aload_n dX9_findFacts_5 rfl 0 rfl ?_
  refine m_get (v := .int (F 53)) 53 dX9_findFacts_6 (by decide) q1816 rfl ?_
  refine m_iast0 (j := 0) 56 dX9_findFacts_9 (by decide) rfl (by decide) rfl (Nat.le_of_ble_eq_true rfl) ?_
  refine m_topI (fun I1 eI1 => ?_)
  replace h := h I1 eI1
  refine m_aload_n dX9_findFacts_10 rfl 0 rfl ?_
  refine m_get (v := .ref (ad 56)) 56 dX9_findFacts_11 (by decide) q1819 rfl ?_
  refine m_iconst (v := 1) dX9_findFacts_14 (by decide) ?_
  refine m_aload_n dX9_findFacts_15 rfl 0 rfl ?_
  refine m_iload_n dX9_findFacts_16 rfl 1 rfl ?_
  refine m_callV (N := mX9_isWarm) (st := [.int 1, .ref (ad 56)]) (As := [.int x1]) dX9_findFacts_17 wsX9_isWarm (lw_V q2216 q2218 qs78 q116 q2219) rfl mokX9_isWarm rfl (by decide) (by decide) (by simp [Value.category]) h (fun _ F9 L9 I9 J9 hq => ?_)
  obtain ⟨e1, e2, e3, e4, hq⟩ := hq
  refine AtM.re e1 e2 e3 e4 ?_
  obtain ⟨rx, rfl, h⟩ := hq
  refine AtM.stk (st' := [.int rx, .int 1, .ref (ad 56)]) rfl ?_
  refine m_if_eq (tgt := 27) dX9_findFacts_20 (by decide) (fun c => ?_) (fun c => ?_)
  · replace h := h.1 c
    refine m_iconst (v := 0) dX9_findFacts_27 (by decide) ?_
    refine m_iast0 (j := 1) 56 dX9_findFacts_28 (by decide) rfl (by decide) rfl (Nat.le_of_ble_eq_true rfl) ?_
    refine m_topI (fun I1_1 eI1_1 => ?_)
    replace h := h I1_1 eI1_1
    refine m_aload_n dX9_findFacts_29 rfl 0 rfl ?_
    refine m_get (v := .ref (ad 56)) 56 dX9_findFacts_30 (by decide) q1819 rfl ?_
    refine m_iconst (v := 2) dX9_findFacts_33 (by decide) ?_
    refine m_aload_n dX9_findFacts_34 rfl 0 rfl ?_
    refine m_get (v := .int (F 51)) 51 dX9_findFacts_35 (by decide) q1814 rfl ?_
    refine m_aload_n dX9_findFacts_38 rfl 0 rfl ?_
    refine m_get (v := .int (F 52)) 52 dX9_findFacts_39 (by decide) q1815 rfl ?_
    refine m_iadd dX9_findFacts_42 ?_
    refine m_iast0 (j := 2) 56 dX9_findFacts_43 (by decide) rfl (by decide) rfl (Nat.le_of_ble_eq_true rfl) ?_
    refine m_topI (fun I1_2 eI1_2 => ?_)
    replace h := h I1_2 eI1_2
    refine m_aload_n dX9_findFacts_44 rfl 0 rfl ?_
    refine m_get (v := .ref (ad 56)) 56 dX9_findFacts_45 (by decide) q1819 rfl ?_
    refine m_iconst (v := 3) dX9_findFacts_48 (by decide) ?_
    refine m_aload_n dX9_findFacts_49 rfl 0 rfl ?_
    refine m_get (v := .ref (ad 11)) 11 dX9_findFacts_50 (by decide) q1774 rfl ?_
    refine m_iconst (v := 0) dX9_findFacts_53 (by decide) ?_
    refine m_iald0 (j := 0) 11 dX9_findFacts_54 (by decide) rfl (by decide) rfl (Nat.le_of_ble_eq_true rfl) ?_
    refine m_aload_n dX9_findFacts_55 rfl 0 rfl ?_
    refine m_get (v := .int (F 51)) 51 dX9_findFacts_56 (by decide) q1814 rfl ?_
    refine m_isub dX9_findFacts_59 ?_
    refine m_aload_n dX9_findFacts_60 rfl 0 rfl ?_
    refine m_get (v := .int (F 52)) 52 dX9_findFacts_61 (by decide) q1815 rfl ?_
    refine m_isub dX9_findFacts_64 ?_
    refine m_topi (fun w ew => ?_)
    replace h := h w ew
    refine m_iast0 (j := 3) 56 dX9_findFacts_65 (by decide) rfl (by decide) rfl (Nat.le_of_ble_eq_true rfl) ?_
    refine m_topI (fun I1_3 eI1_3 => ?_)
    replace h := h I1_3 eI1_3
    refine m_aload_n dX9_findFacts_66 rfl 0 rfl ?_
    refine m_get (v := .ref (ad 56)) 56 dX9_findFacts_67 (by decide) q1819 rfl ?_
    refine m_iconst (v := 5) dX9_findFacts_70 (by decide) ?_
    refine m_aload_n dX9_findFacts_71 rfl 0 rfl ?_
    refine m_get (v := .int (F 55)) 55 dX9_findFacts_72 (by decide) q1818 rfl ?_
    refine m_iast0 (j := 5) 56 dX9_findFacts_75 (by decide) rfl (by decide) rfl (Nat.le_of_ble_eq_true rfl) ?_
    refine m_topI (fun I1_4 eI1_4 => ?_)
    replace h := h I1_4 eI1_4
    exact m_vret rfl dX9_findFacts_76 h
  · replace h := h.2 c
    refine m_iconst (v := 1) dX9_findFacts_23 (by decide) ?_
    refine m_goto (tgt := 28) dX9_findFacts_24 (by decide) ?_
    refine m_iast0 (j := 1) 56 dX9_findFacts_28 (by decide) rfl (by decide) rfl (Nat.le_of_ble_eq_true rfl) ?_
    refine m_topI (fun I1_5 eI1_5 => ?_)
    replace h := h I1_5 eI1_5
    refine m_aload_n dX9_findFacts_29 rfl 0 rfl ?_
    refine m_get (v := .ref (ad 56)) 56 dX9_findFacts_30 (by decide) q1819 rfl ?_
    refine m_iconst (v := 2) dX9_findFacts_33 (by decide) ?_
    refine m_aload_n dX9_findFacts_34 rfl 0 rfl ?_
    refine m_get (v := .int (F 51)) 51 dX9_findFacts_35 (by decide) q1814 rfl ?_
    refine m_aload_n dX9_findFacts_38 rfl 0 rfl ?_
    refine m_get (v := .int (F 52)) 52 dX9_findFacts_39 (by decide) q1815 rfl ?_
    refine m_iadd dX9_findFacts_42 ?_
    refine m_iast0 (j := 2) 56 dX9_findFacts_43 (by decide) rfl (by decide) rfl (Nat.le_of_ble_eq_true rfl) ?_
    refine m_topI (fun I1_6 eI1_6 => ?_)
    replace h := h I1_6 eI1_6
    refine m_aload_n dX9_findFacts_44 rfl 0 rfl ?_
    refine m_get (v := .ref (ad 56)) 56 dX9_findFacts_45 (by decide) q1819 rfl ?_
    refine m_iconst (v := 3) dX9_findFacts_48 (by decide) ?_
    refine m_aload_n dX9_findFacts_49 rfl 0 rfl ?_
    refine m_get (v := .ref (ad 11)) 11 dX9_findFacts_50 (by decide) q1774 rfl ?_
    refine m_iconst (v := 0) dX9_findFacts_53 (by decide) ?_
    refine m_iald0 (j := 0) 11 dX9_findFacts_54 (by decide) rfl (by decide) rfl (Nat.le_of_ble_eq_true rfl) ?_
    refine m_aload_n dX9_findFacts_55 rfl 0 rfl ?_
    refine m_get (v := .int (F 51)) 51 dX9_findFacts_56 (by decide) q1814 rfl ?_
    refine m_isub dX9_findFacts_59 ?_
    refine m_aload_n dX9_findFacts_60 rfl 0 rfl ?_
    refine m_get (v := .int (F 52)) 52 dX9_findFacts_61 (by decide) q1815 rfl ?_
    refine m_isub dX9_findFacts_64 ?_
    refine m_topi (fun w ew => ?_)
    replace h := h w ew
    refine m_iast0 (j := 3) 56 dX9_findFacts_65 (by decide) rfl (by decide) rfl (Nat.le_of_ble_eq_true rfl) ?_
    refine m_topI (fun I1_7 eI1_7 => ?_)
    replace h := h I1_7 eI1_7
    refine m_aload_n dX9_findFacts_66 rfl 0 rfl ?_
    refine m_get (v := .ref (ad 56)) 56 dX9_findFacts_67 (by decide) q1819 rfl ?_
    refine m_iconst (v := 5) dX9_findFacts_70 (by decide) ?_
    refine m_aload_n dX9_findFacts_71 rfl 0 rfl ?_
    refine m_get (v := .int (F 55)) 55 dX9_findFacts_72 (by decide) q1818 rfl ?_
    refine m_iast0 (j := 5) 56 dX9_findFacts_75 (by decide) rfl (by decide) rfl (Nat.le_of_ble_eq_true rfl) ?_
    refine m_topI (fun I1_8 eI1_8 => ?_)
    replace h := h I1_8 eI1_8
    exact m_vret rfl dX9_findFacts_76 h
theorem eX9_findFacts {G : GC} {ad : Nat → Nat} {o : Nat} {Q : MPost} {p1 : Int32} {F : Nat → Int32} {L : Nat → Int64} {I : Nat → Nat → Int32} {J : Nat → Nat → Int64} (h : ∀ σ0, AtM G mX9_findFacts 4 ad o σ0 Q 0 [(0, .ref o), (1, .int p1)] [] F L I J) : CallM G mX9_findFacts 4 ad o [.ref o, .int p1] F L I J Q :=
  CallM.of (by decide +kernel) wsX9_findFacts rfl (Nat.le_of_ble_eq_true rfl) (fun σ0 => AtM.sub (ls := [(0, .ref o), (1, .int p1)]) [0, 1] rfl (h σ0))
set_option maxHeartbeats 4000000 in
theorem bX9_isSo_0 {G : GC} {ad : Nat → Nat} {o : Nat} {σ0 : PS} {Q : MPost} {x1 : Int32} {x2 : Int32} {F : Nat → Int32} {L : Nat → Int64} {I : Nat → Nat → Int32} {J : Nat → Nat → Int64} (h : ∀ w : Int32, w = (((32 * x1) + (4 * x2)) + 2) → vp_in w 224 ∧ (∀ v3 : Int32, v3 = (I 26 w.toNatClampNeg) → ∀ w_1 : Int32, w_1 = (((32 * x1) + (4 * x2)) + 3) → vp_in w_1 224 ∧ (∀ v4 : Int32, v4 = (I 26 w_1.toNatClampNeg) → ((¬ v3 = v4) → ∀ v6 : Int32, v6 = ((150 * x1) + v3) → AtM G mX9_isSo 4 ad o σ0 Q 53 [(0, .ref o), (1, .int x1), (4, .int v4), (5, .int 0), (6, .int v6)] [] F L I J) ∧ ((v3 = v4) → Q (some (.int 1)) F L I J)))) : AtM G mX9_isSo 4 ad o σ0 Q 0 [(0, .ref o), (1, .int x1), (2, .int x2)] [] F L I J := by
  refine m_aload_n dX9_isSo_0 rfl 0 rfl ?_
  refine m_get (v := .ref (ad 26)) 26 dX9_isSo_1 (by decide) q1789 rfl ?_
  refine m_bipush (v := 32) dX9_isSo_4 (by decide) ?_
  refine m_iload_n dX9_isSo_6 rfl 1 rfl ?_
  refine m_imul dX9_isSo_7 ?_
  refine m_iconst (v := 4) dX9_isSo_8 (by decide) ?_
  refine m_iload_n dX9_isSo_9 rfl 2 rfl ?_
  refine m_imul dX9_isSo_10 ?_
  refine m_iadd dX9_isSo_11 ?_
  refine m_iconst (v := 2) dX9_isSo_12 (by decide) ?_
  refine m_iadd dX9_isSo_13 ?_
  refine m_topi (fun w ew => ?_)
  replace h := h w ew
  obtain ⟨h1, h⟩ := h
  refine m_iald 26 dX9_isSo_14 (by decide) rfl h1 ?_
  refine m_topi (fun v3 ev3 => ?_)
  replace h := h v3 ev3
  refine m_istore_n (ls1 := [(3, .int v3), (0, .ref o), (1, .int x1), (2, .int x2)]) dX9_isSo_15 rfl (by decide) rfl ?_
  refine m_aload_n dX9_isSo_16 rfl 1 rfl ?_
  refine m_get (v := .ref (ad 26)) 26 dX9_isSo_17 (by decide) q1789 rfl ?_
  refine m_bipush (v := 32) dX9_isSo_20 (by decide) ?_
  refine m_iload_n dX9_isSo_22 rfl 2 rfl ?_
  refine m_imul dX9_isSo_23 ?_
  refine m_iconst (v := 4) dX9_isSo_24 (by decide) ?_
  refine m_iload_n dX9_isSo_25 rfl 3 rfl ?_
  refine m_imul dX9_isSo_26 ?_
  refine m_iadd dX9_isSo_27 ?_
  refine m_iconst (v := 3) dX9_isSo_28 (by decide) ?_
  refine m_iadd dX9_isSo_29 ?_
  refine m_topi (fun w_1 ew_1 => ?_)
  replace h := h w_1 ew_1
  obtain ⟨h1, h⟩ := h
  refine m_iald 26 dX9_isSo_30 (by decide) rfl h1 ?_
  refine m_topi (fun v4 ev4 => ?_)
  replace h := h v4 ev4
  refine m_istore (ls1 := [(4, .int v4), (3, .int v3), (0, .ref o), (1, .int x1), (2, .int x2)]) dX9_isSo_31 (by decide) rfl ?_
  refine m_iload_n dX9_isSo_33 rfl 1 rfl ?_
  refine m_iload dX9_isSo_34 0 rfl ?_
  refine m_icmp_ne (tgt := 41) dX9_isSo_36 (by decide) (fun c => ?_) (fun c => ?_)
  · replace h := h.1 c
    refine m_iconst (v := 0) dX9_isSo_41 (by decide) ?_
    refine m_istore (ls1 := [(5, .int 0), (4, .int v4), (3, .int v3), (0, .ref o), (1, .int x1), (2, .int x2)]) dX9_isSo_42 (by decide) rfl ?_
    refine m_sipush (v := 150) dX9_isSo_44 (by decide) ?_
    refine m_iload_n dX9_isSo_47 rfl 4 rfl ?_
    refine m_imul dX9_isSo_48 ?_
    refine m_iload_n dX9_isSo_49 rfl 2 rfl ?_
    refine m_iadd dX9_isSo_50 ?_
    refine m_topi (fun v6 ev6 => ?_)
    replace h := h v6 ev6
    refine m_istore (ls1 := [(6, .int v6), (5, .int 0), (4, .int v4), (3, .int v3), (0, .ref o), (1, .int x1), (2, .int x2)]) dX9_isSo_51 (by decide) rfl ?_
    exact AtM.sub (ls := [(6, .int v6), (5, .int 0), (4, .int v4), (3, .int v3), (0, .ref o), (1, .int x1), (2, .int x2)]) [4, 5, 2, 1, 0] rfl h
  · replace h := h.2 c
    refine m_iconst (v := 1) dX9_isSo_39 (by decide) ?_
    exact m_zret rfl rfl dX9_isSo_40 h
set_option maxHeartbeats 4000000 in
theorem bX9_isSo_53 {G : GC} {ad : Nat → Nat} {o : Nat} {σ0 : PS} {Q : MPost} {x1 : Int32} {x4 : Int32} {x5 : Int32} {x6 : Int32} {F : Nat → Int32} {L : Nat → Int64} {I : Nat → Nat → Int32} {J : Nat → Nat → Int64} (h : ((((150 * x1) + x4) ≤ x6) → ((¬ (I 23 0) = 1) → Q (some (.int 0)) F L I J) ∧ (((I 23 0) = 1) → Q (some (.int 1)) F L I J)) ∧ ((¬ ((150 * x1) + x4) ≤ x6) → vp_in x6 1050 ∧ (∀ v7 : Int32, v7 = (I 24 x6.toNatClampNeg) → ((1 < v7) → ((¬ v7 = 8) → ∀ v5 : Int32, v5 = x5 + (-1) → vp_in ((v5 - 1)) 150 ∧ (vp_in v5 150 ∧ (CallP G mX9_both 3 [.int v7, .int (I 23 ((v5 - 1)).toNatClampNeg), .int (I 23 v5.toNatClampNeg)] (pI (fun rx => vp_in ((v5 - 1)) 150 ∧ (∀ I1 : Nat → Nat → Int32, I1 = aU I 23 ((v5 - 1)).toNatClampNeg rx → ∀ v6 : Int32, v6 = x6 + 1 → AtM G mX9_isSo 4 ad o σ0 Q 53 [(0, .ref o), (1, .int x1), (4, .int x4), (5, .int v5), (6, .int v6)] [] F L I1 J)))))) ∧ ((v7 = 8) → vp_in ((x5 - 1)) 150 ∧ (∀ w : Int32, w = (1 - (I 23 ((x5 - 1)).toNatClampNeg)) → vp_in ((x5 - 1)) 150 ∧ (∀ I1 : Nat → Nat → Int32, I1 = aU I 23 ((x5 - 1)).toNatClampNeg w → ∀ v6 : Int32, v6 = x6 + 1 → AtM G mX9_isSo 4 ad o σ0 Q 53 [(0, .ref o), (1, .int x1), (4, .int x4), (5, .int x5), (6, .int v6)] [] F L I1 J)))) ∧ ((¬ 1 < v7) → ((¬ v7 = 0) → vp_in x6 1050 ∧ (vp_in ((I 25 x6.toNatClampNeg)) 8 ∧ (vp_in x5 150 ∧ (∀ I1 : Nat → Nat → Int32, I1 = aU I 23 x5.toNatClampNeg ((I 56 ((I 25 x6.toNatClampNeg)).toNatClampNeg)) → ∀ v5 : Int32, v5 = x5 + 1 → ∀ v6 : Int32, v6 = x6 + 1 → AtM G mX9_isSo 4 ad o σ0 Q 53 [(0, .ref o), (1, .int x1), (4, .int x4), (5, .int v5), (6, .int v6)] [] F L I1 J)))) ∧ ((v7 = 0) → vp_in x6 1050 ∧ (vp_in x5 150 ∧ (∀ I1 : Nat → Nat → Int32, I1 = aU I 23 x5.toNatClampNeg ((I 25 x6.toNatClampNeg)) → ∀ v5 : Int32, v5 = x5 + 1 → ∀ v6 : Int32, v6 = x6 + 1 → AtM G mX9_isSo 4 ad o σ0 Q 53 [(0, .ref o), (1, .int x1), (4, .int x4), (5, .int v5), (6, .int v6)] [] F L I1 J))))))) : AtM G mX9_isSo 4 ad o σ0 Q 53 [(0, .ref o), (1, .int x1), (4, .int x4), (5, .int x5), (6, .int x6)] [] F L I J := by
  refine m_iload dX9_isSo_53 4 rfl ?_
  refine m_sipush (v := 150) dX9_isSo_55 (by decide) ?_
  refine m_iload_n dX9_isSo_58 rfl 1 rfl ?_
  refine m_imul dX9_isSo_59 ?_
  refine m_iload dX9_isSo_60 2 rfl ?_
  refine m_iadd dX9_isSo_62 ?_
  refine m_icmp_ge (tgt := 190) dX9_isSo_63 (by decide) (fun c => ?_) (fun c => ?_)
  · replace h := h.1 c
    refine m_aload_n dX9_isSo_190 rfl 0 rfl ?_
    refine m_get (v := .ref (ad 23)) 23 dX9_isSo_191 (by decide) q1786 rfl ?_
    refine m_iconst (v := 0) dX9_isSo_194 (by decide) ?_
    refine m_iald0 (j := 0) 23 dX9_isSo_195 (by decide) rfl (by decide) rfl (Nat.le_of_ble_eq_true rfl) ?_
    refine m_iconst (v := 1) dX9_isSo_196 (by decide) ?_
    refine m_icmp_ne (tgt := 204) dX9_isSo_197 (by decide) (fun c => ?_) (fun c => ?_)
    · replace h := h.1 c
      refine m_iconst (v := 0) dX9_isSo_204 (by decide) ?_
      exact m_zret rfl rfl dX9_isSo_205 h
    · replace h := h.2 c
      refine m_iconst (v := 1) dX9_isSo_200 (by decide) ?_
      refine m_goto (tgt := 205) dX9_isSo_201 (by decide) ?_
      exact m_zret rfl rfl dX9_isSo_205 h
  · replace h := h.2 c
    refine m_aload_n dX9_isSo_66 rfl 0 rfl ?_
    refine m_get (v := .ref (ad 24)) 24 dX9_isSo_67 (by decide) q1787 rfl ?_
    refine m_iload dX9_isSo_70 4 rfl ?_
    obtain ⟨h1, h⟩ := h
    refine m_iald 24 dX9_isSo_72 (by decide) rfl h1 ?_
    refine m_topi (fun v7 ev7 => ?_)
    replace h := h v7 ev7
    refine m_istore (ls1 := [(7, .int v7), (0, .ref o), (1, .int x1), (4, .int x4), (5, .int x5), (6, .int x6)]) dX9_isSo_73 (by decide) rfl ?_
    refine m_iload dX9_isSo_75 0 rfl ?_
    refine m_iconst (v := 1) dX9_isSo_77 (by decide) ?_
    refine m_icmp_gt (tgt := 121) dX9_isSo_78 (by decide) (fun c => ?_) (fun c => ?_)
    · replace h := h.1 c
      refine m_iload dX9_isSo_121 0 rfl ?_
      refine m_bipush (v := 8) dX9_isSo_123 (by decide) ?_
      refine m_icmp_ne (tgt := 151) dX9_isSo_125 (by decide) (fun c => ?_) (fun c => ?_)
      · replace h := h.1 c
        obtain ⟨v5, ev5⟩ : ∃ z : Int32, z = x5 + (-1) := ⟨_, rfl⟩
        refine m_iinc (v := v5) (ls1 := [(5, .int v5), (7, .int v7), (0, .ref o), (1, .int x1), (4, .int x4), (6, .int x6)]) dX9_isSo_151 4 rfl (by rw [ev5]; rfl) (by decide) rfl ?_
        replace h := h v5 ev5
        refine m_aload_n dX9_isSo_154 rfl 2 rfl ?_
        refine m_get (v := .ref (ad 23)) 23 dX9_isSo_155 (by decide) q1786 rfl ?_
        refine m_iload dX9_isSo_158 0 rfl ?_
        refine m_iconst (v := 1) dX9_isSo_160 (by decide) ?_
        refine m_isub dX9_isSo_161 ?_
        refine m_iload dX9_isSo_162 1 rfl ?_
        refine m_aload_n dX9_isSo_164 rfl 2 rfl ?_
        refine m_get (v := .ref (ad 23)) 23 dX9_isSo_165 (by decide) q1786 rfl ?_
        refine m_iload dX9_isSo_168 0 rfl ?_
        refine m_iconst (v := 1) dX9_isSo_170 (by decide) ?_
        refine m_isub dX9_isSo_171 ?_
        obtain ⟨h1, h⟩ := h
        refine m_iald 23 dX9_isSo_172 (by decide) rfl h1 ?_
        refine m_aload_n dX9_isSo_173 rfl 2 rfl ?_
        refine m_get (v := .ref (ad 23)) 23 dX9_isSo_174 (by decide) q1786 rfl ?_
        refine m_iload dX9_isSo_177 0 rfl ?_
        obtain ⟨h1, h⟩ := h
        refine m_iald 23 dX9_isSo_179 (by decide) rfl h1 ?_
        refine m_callP (N := mX9_both) (st := [.int (v5 - 1), .ref (ad 23)]) (As := [.int v7, .int (I 23 ((v5 - 1)).toNatClampNeg), .int (I 23 v5.toNatClampNeg)]) dX9_isSo_180 wsX9_both (lw_S q2236 q2237 q116 q2238) mokX9_both rfl (by decide) (by decide) (by simp [Value.category]) h (fun _ hq => ?_)
        obtain ⟨rx, rfl, h⟩ := hq
        refine AtM.stk (st' := [.int rx, .int (v5 - 1), .ref (ad 23)]) rfl ?_
        obtain ⟨h1, h⟩ := h
        refine m_iast 23 dX9_isSo_183 (by decide) rfl h1 ?_
        refine m_topI (fun I1 eI1 => ?_)
        replace h := h I1 eI1
        obtain ⟨v6, ev6⟩ : ∃ z : Int32, z = x6 + 1 := ⟨_, rfl⟩
        refine m_iinc (v := v6) (ls1 := [(6, .int v6), (5, .int v5), (7, .int v7), (0, .ref o), (1, .int x1), (4, .int x4)]) dX9_isSo_184 5 rfl (by rw [ev6]; rfl) (by decide) rfl ?_
        replace h := h v6 ev6
        refine m_goto (tgt := 53) dX9_isSo_187 (by decide) ?_
        exact AtM.sub (ls := [(6, .int v6), (5, .int v5), (7, .int v7), (0, .ref o), (1, .int x1), (4, .int x4)]) [3, 4, 5, 1, 0] rfl h
      · replace h := h.2 c
        refine m_aload_n dX9_isSo_128 rfl 1 rfl ?_
        refine m_get (v := .ref (ad 23)) 23 dX9_isSo_129 (by decide) q1786 rfl ?_
        refine m_iload dX9_isSo_132 4 rfl ?_
        refine m_iconst (v := 1) dX9_isSo_134 (by decide) ?_
        refine m_isub dX9_isSo_135 ?_
        refine m_iconst (v := 1) dX9_isSo_136 (by decide) ?_
        refine m_aload_n dX9_isSo_137 rfl 1 rfl ?_
        refine m_get (v := .ref (ad 23)) 23 dX9_isSo_138 (by decide) q1786 rfl ?_
        refine m_iload dX9_isSo_141 4 rfl ?_
        refine m_iconst (v := 1) dX9_isSo_143 (by decide) ?_
        refine m_isub dX9_isSo_144 ?_
        obtain ⟨h1, h⟩ := h
        refine m_iald 23 dX9_isSo_145 (by decide) rfl h1 ?_
        refine m_isub dX9_isSo_146 ?_
        refine m_topi (fun w ew => ?_)
        replace h := h w ew
        obtain ⟨h1, h⟩ := h
        refine m_iast 23 dX9_isSo_147 (by decide) rfl h1 ?_
        refine m_topI (fun I1 eI1 => ?_)
        replace h := h I1 eI1
        refine m_goto (tgt := 184) dX9_isSo_148 (by decide) ?_
        obtain ⟨v6, ev6⟩ : ∃ z : Int32, z = x6 + 1 := ⟨_, rfl⟩
        refine m_iinc (v := v6) (ls1 := [(6, .int v6), (7, .int v7), (0, .ref o), (1, .int x1), (4, .int x4), (5, .int x5)]) dX9_isSo_184 5 rfl (by rw [ev6]; rfl) (by decide) rfl ?_
        replace h := h v6 ev6
        refine m_goto (tgt := 53) dX9_isSo_187 (by decide) ?_
        exact AtM.sub (ls := [(6, .int v6), (7, .int v7), (0, .ref o), (1, .int x1), (4, .int x4), (5, .int x5)]) [2, 3, 4, 5, 0] rfl h
    · replace h := h.2 c
      refine m_aload_n dX9_isSo_81 rfl 1 rfl ?_
      refine m_get (v := .ref (ad 23)) 23 dX9_isSo_82 (by decide) q1786 rfl ?_
      refine m_iload dX9_isSo_85 4 rfl ?_
      refine m_iload dX9_isSo_87 0 rfl ?_
      refine m_if_ne (tgt := 102) dX9_isSo_89 (by decide) (fun c => ?_) (fun c => ?_)
      · replace h := h.1 c
        refine m_aload_n dX9_isSo_102 rfl 1 rfl ?_
        refine m_get (v := .ref (ad 56)) 56 dX9_isSo_103 (by decide) q1819 rfl ?_
        refine m_aload_n dX9_isSo_106 rfl 1 rfl ?_
        refine m_get (v := .ref (ad 25)) 25 dX9_isSo_107 (by decide) q1788 rfl ?_
        refine m_iload dX9_isSo_110 5 rfl ?_
        obtain ⟨h1, h⟩ := h
        refine m_iald 25 dX9_isSo_112 (by decide) rfl h1 ?_
        obtain ⟨h1, h⟩ := h
        refine m_iald 56 dX9_isSo_113 (by decide) rfl h1 ?_
        obtain ⟨h1, h⟩ := h
        refine m_iast 23 dX9_isSo_114 (by decide) rfl h1 ?_
        refine m_topI (fun I1 eI1 => ?_)
        replace h := h I1 eI1
        obtain ⟨v5, ev5⟩ : ∃ z : Int32, z = x5 + 1 := ⟨_, rfl⟩
        refine m_iinc (v := v5) (ls1 := [(5, .int v5), (7, .int v7), (0, .ref o), (1, .int x1), (4, .int x4), (6, .int x6)]) dX9_isSo_115 4 rfl (by rw [ev5]; rfl) (by decide) rfl ?_
        replace h := h v5 ev5
        refine m_goto (tgt := 184) dX9_isSo_118 (by decide) ?_
        obtain ⟨v6, ev6⟩ : ∃ z : Int32, z = x6 + 1 := ⟨_, rfl⟩
        refine m_iinc (v := v6) (ls1 := [(6, .int v6), (5, .int v5), (7, .int v7), (0, .ref o), (1, .int x1), (4, .int x4)]) dX9_isSo_184 5 rfl (by rw [ev6]; rfl) (by decide) rfl ?_
        replace h := h v6 ev6
        refine m_goto (tgt := 53) dX9_isSo_187 (by decide) ?_
        exact AtM.sub (ls := [(6, .int v6), (5, .int v5), (7, .int v7), (0, .ref o), (1, .int x1), (4, .int x4)]) [3, 4, 5, 1, 0] rfl h
      · replace h := h.2 c
        refine m_aload_n dX9_isSo_92 rfl 1 rfl ?_
        refine m_get (v := .ref (ad 25)) 25 dX9_isSo_93 (by decide) q1788 rfl ?_
        refine m_iload dX9_isSo_96 5 rfl ?_
        obtain ⟨h1, h⟩ := h
        refine m_iald 25 dX9_isSo_98 (by decide) rfl h1 ?_
        refine m_goto (tgt := 114) dX9_isSo_99 (by decide) ?_
        obtain ⟨h1, h⟩ := h
        refine m_iast 23 dX9_isSo_114 (by decide) rfl h1 ?_
        refine m_topI (fun I1 eI1 => ?_)
        replace h := h I1 eI1
        obtain ⟨v5, ev5⟩ : ∃ z : Int32, z = x5 + 1 := ⟨_, rfl⟩
        refine m_iinc (v := v5) (ls1 := [(5, .int v5), (7, .int v7), (0, .ref o), (1, .int x1), (4, .int x4), (6, .int x6)]) dX9_isSo_115 4 rfl (by rw [ev5]; rfl) (by decide) rfl ?_
        replace h := h v5 ev5
        refine m_goto (tgt := 184) dX9_isSo_118 (by decide) ?_
        obtain ⟨v6, ev6⟩ : ∃ z : Int32, z = x6 + 1 := ⟨_, rfl⟩
        refine m_iinc (v := v6) (ls1 := [(6, .int v6), (5, .int v5), (7, .int v7), (0, .ref o), (1, .int x1), (4, .int x4)]) dX9_isSo_184 5 rfl (by rw [ev6]; rfl) (by decide) rfl ?_
        replace h := h v6 ev6
        refine m_goto (tgt := 53) dX9_isSo_187 (by decide) ?_
        exact AtM.sub (ls := [(6, .int v6), (5, .int v5), (7, .int v7), (0, .ref o), (1, .int x1), (4, .int x4)]) [3, 4, 5, 1, 0] rfl h
theorem eX9_isSo {G : GC} {ad : Nat → Nat} {o : Nat} {Q : MPost} {p1 : Int32} {p2 : Int32} {F : Nat → Int32} {L : Nat → Int64} {I : Nat → Nat → Int32} {J : Nat → Nat → Int64} (h : ∀ σ0, AtM G mX9_isSo 4 ad o σ0 Q 0 [(0, .ref o), (1, .int p1), (2, .int p2)] [] F L I J) : CallM G mX9_isSo 4 ad o [.ref o, .int p1, .int p2] F L I J Q :=
  CallM.of (by decide +kernel) wsX9_isSo rfl (Nat.le_of_ble_eq_true rfl) (fun σ0 => AtM.sub (ls := [(0, .ref o), (1, .int p1), (2, .int p2)]) [0, 1, 2] rfl (h σ0))
set_option maxHeartbeats 4000000 in
theorem bX9_both_0 {G : GC} {Q : Option Value → PS → Prop} {X : String → Nat → PS → Prop} {b : Nat} {x0 : Int32} {x1 : Int32} {x2 : Int32} {σ : PS} (h : ((4 < x0) → ((¬ x0 = 5) → ((¬ x0 = 6) → ((¬ x0 = 7) → ((¬ x0 = 9) → (((x1 + x2) ≤ 0) → At G mX9_both 3 Q X b 119 [] [.int 0] (σ)) ∧ ((¬ (x1 + x2) ≤ 0) → At G mX9_both 3 Q X b 119 [] [.int 1] (σ))) ∧ ((x0 = 9) → ((¬ (x1 + x2) = 2) → At G mX9_both 3 Q X b 119 [] [.int 0] (σ)) ∧ (((x1 + x2) = 2) → At G mX9_both 3 Q X b 119 [] [.int 1] (σ)))) ∧ ((x0 = 7) → ((¬ x1 = x2) → At G mX9_both 3 Q X b 119 [] [.int 0] (σ)) ∧ ((x1 = x2) → At G mX9_both 3 Q X b 119 [] [.int 1] (σ)))) ∧ ((x0 = 6) → ((x1 ≤ x2) → At G mX9_both 3 Q X b 119 [] [.int 0] (σ)) ∧ ((¬ x1 ≤ x2) → At G mX9_both 3 Q X b 119 [] [.int 1] (σ)))) ∧ ((x0 = 5) → ((x2 ≤ x1) → At G mX9_both 3 Q X b 119 [] [.int 0] (σ)) ∧ ((¬ x2 ≤ x1) → At G mX9_both 3 Q X b 119 [] [.int 1] (σ)))) ∧ ((¬ 4 < x0) → ((¬ x0 = 2) → ((¬ x0 = 3) → Q (some (.int (x1 * x2))) (σ)) ∧ ((x0 = 3) → Q (some (.int (x1 - x2))) (σ))) ∧ ((x0 = 2) → Q (some (.int (x1 + x2))) (σ)))) : At G mX9_both 3 Q X b 0 [(0, .int x0), (1, .int x1), (2, .int x2)] [] (σ) := by
  refine g_iload_n dX9_both_0 rfl 0 rfl ?_
  refine g_iconst (v := 4) dX9_both_1 (by decide) ?_
  refine g_icmp_gt (tgt := 31) dX9_both_2 (by decide) (fun c => ?_) (fun c => ?_)
  · replace h := h.1 c
    refine g_iload_n dX9_both_31 rfl 0 rfl ?_
    refine g_iconst (v := 5) dX9_both_32 (by decide) ?_
    refine g_icmp_ne (tgt := 49) dX9_both_33 (by decide) (fun c => ?_) (fun c => ?_)
    · replace h := h.1 c
      refine g_iload_n dX9_both_49 rfl 0 rfl ?_
      refine g_bipush (v := 6) dX9_both_50 (by decide) ?_
      refine g_icmp_ne (tgt := 68) dX9_both_52 (by decide) (fun c => ?_) (fun c => ?_)
      · replace h := h.1 c
        refine g_iload_n dX9_both_68 rfl 0 rfl ?_
        refine g_bipush (v := 7) dX9_both_69 (by decide) ?_
        refine g_icmp_ne (tgt := 87) dX9_both_71 (by decide) (fun c => ?_) (fun c => ?_)
        · replace h := h.1 c
          refine g_iload_n dX9_both_87 rfl 0 rfl ?_
          refine g_bipush (v := 9) dX9_both_88 (by decide) ?_
          refine g_icmp_ne (tgt := 108) dX9_both_90 (by decide) (fun c => ?_) (fun c => ?_)
          · replace h := h.1 c
            refine g_iload_n dX9_both_108 rfl 1 rfl ?_
            refine g_iload_n dX9_both_109 rfl 2 rfl ?_
            refine g_iadd dX9_both_110 ?_
            refine g_if_le (tgt := 118) dX9_both_111 (by decide) (fun c => ?_) (fun c => ?_)
            · replace h := h.1 c
              refine g_iconst (v := 0) dX9_both_118 (by decide) ?_
              exact At.sub (ls := [(0, .int x0), (1, .int x1), (2, .int x2)]) [] rfl h
            · replace h := h.2 c
              refine g_iconst (v := 1) dX9_both_114 (by decide) ?_
              refine g_goto (tgt := 119) dX9_both_115 (by decide) ?_
              exact At.sub (ls := [(0, .int x0), (1, .int x1), (2, .int x2)]) [] rfl h
          · replace h := h.2 c
            refine g_iload_n dX9_both_93 rfl 1 rfl ?_
            refine g_iload_n dX9_both_94 rfl 2 rfl ?_
            refine g_iadd dX9_both_95 ?_
            refine g_iconst (v := 2) dX9_both_96 (by decide) ?_
            refine g_icmp_ne (tgt := 104) dX9_both_97 (by decide) (fun c => ?_) (fun c => ?_)
            · replace h := h.1 c
              refine g_iconst (v := 0) dX9_both_104 (by decide) ?_
              refine g_goto (tgt := 119) dX9_both_105 (by decide) ?_
              exact At.sub (ls := [(0, .int x0), (1, .int x1), (2, .int x2)]) [] rfl h
            · replace h := h.2 c
              refine g_iconst (v := 1) dX9_both_100 (by decide) ?_
              refine g_goto (tgt := 119) dX9_both_101 (by decide) ?_
              exact At.sub (ls := [(0, .int x0), (1, .int x1), (2, .int x2)]) [] rfl h
        · replace h := h.2 c
          refine g_iload_n dX9_both_74 rfl 1 rfl ?_
          refine g_iload_n dX9_both_75 rfl 2 rfl ?_
          refine g_icmp_ne (tgt := 83) dX9_both_76 (by decide) (fun c => ?_) (fun c => ?_)
          · replace h := h.1 c
            refine g_iconst (v := 0) dX9_both_83 (by decide) ?_
            refine g_goto (tgt := 119) dX9_both_84 (by decide) ?_
            exact At.sub (ls := [(0, .int x0), (1, .int x1), (2, .int x2)]) [] rfl h
          · replace h := h.2 c
            refine g_iconst (v := 1) dX9_both_79 (by decide) ?_
            refine g_goto (tgt := 119) dX9_both_80 (by decide) ?_
            exact At.sub (ls := [(0, .int x0), (1, .int x1), (2, .int x2)]) [] rfl h
      · replace h := h.2 c
        refine g_iload_n dX9_both_55 rfl 1 rfl ?_
        refine g_iload_n dX9_both_56 rfl 2 rfl ?_
        refine g_icmp_le (tgt := 64) dX9_both_57 (by decide) (fun c => ?_) (fun c => ?_)
        · replace h := h.1 c
          refine g_iconst (v := 0) dX9_both_64 (by decide) ?_
          refine g_goto (tgt := 119) dX9_both_65 (by decide) ?_
          exact At.sub (ls := [(0, .int x0), (1, .int x1), (2, .int x2)]) [] rfl h
        · replace h := h.2 c
          refine g_iconst (v := 1) dX9_both_60 (by decide) ?_
          refine g_goto (tgt := 119) dX9_both_61 (by decide) ?_
          exact At.sub (ls := [(0, .int x0), (1, .int x1), (2, .int x2)]) [] rfl h
    · replace h := h.2 c
      refine g_iload_n dX9_both_36 rfl 1 rfl ?_
      refine g_iload_n dX9_both_37 rfl 2 rfl ?_
      refine g_icmp_ge (tgt := 45) dX9_both_38 (by decide) (fun c => ?_) (fun c => ?_)
      · replace h := h.1 c
        refine g_iconst (v := 0) dX9_both_45 (by decide) ?_
        refine g_goto (tgt := 119) dX9_both_46 (by decide) ?_
        exact At.sub (ls := [(0, .int x0), (1, .int x1), (2, .int x2)]) [] rfl h
      · replace h := h.2 c
        refine g_iconst (v := 1) dX9_both_41 (by decide) ?_
        refine g_goto (tgt := 119) dX9_both_42 (by decide) ?_
        exact At.sub (ls := [(0, .int x0), (1, .int x1), (2, .int x2)]) [] rfl h
  · replace h := h.2 c
    refine g_iload_n dX9_both_5 rfl 0 rfl ?_
    refine g_iconst (v := 2) dX9_both_6 (by decide) ?_
    refine g_icmp_ne (tgt := 16) dX9_both_7 (by decide) (fun c => ?_) (fun c => ?_)
    · replace h := h.1 c
      refine g_iload_n dX9_both_16 rfl 0 rfl ?_
      refine g_iconst (v := 3) dX9_both_17 (by decide) ?_
      refine g_icmp_ne (tgt := 27) dX9_both_18 (by decide) (fun c => ?_) (fun c => ?_)
      · replace h := h.1 c
        refine g_iload_n dX9_both_27 rfl 1 rfl ?_
        refine g_iload_n dX9_both_28 rfl 2 rfl ?_
        refine g_imul dX9_both_29 ?_
        exact g_iret rfl dX9_both_30 h
      · replace h := h.2 c
        refine g_iload_n dX9_both_21 rfl 1 rfl ?_
        refine g_iload_n dX9_both_22 rfl 2 rfl ?_
        refine g_isub dX9_both_23 ?_
        refine g_goto (tgt := 30) dX9_both_24 (by decide) ?_
        exact g_iret rfl dX9_both_30 h
    · replace h := h.2 c
      refine g_iload_n dX9_both_10 rfl 1 rfl ?_
      refine g_iload_n dX9_both_11 rfl 2 rfl ?_
      refine g_iadd dX9_both_12 ?_
      refine g_goto (tgt := 30) dX9_both_13 (by decide) ?_
      exact g_iret rfl dX9_both_30 h
set_option maxHeartbeats 4000000 in
theorem bX9_both_119 {G : GC} {Q : Option Value → PS → Prop} {X : String → Nat → PS → Prop} {b : Nat} {sx0 : Int32} {σ : PS} (h : ((sx0 = 0) → Q (some (.int 0)) (σ)) ∧ ((¬ sx0 = 0) → Q (some (.int 1)) (σ))) : At G mX9_both 3 Q X b 119 [] [.int sx0] (σ) := by
  refine g_istore_n (ls1 := [(3, .int sx0)]) dX9_both_119 rfl (by decide) rfl ?_
  refine g_iload_n dX9_both_120 rfl 0 rfl ?_
  refine g_if_eq (tgt := 128) dX9_both_121 (by decide) (fun c => ?_) (fun c => ?_)
  · replace h := h.1 c
    refine g_iconst (v := 0) dX9_both_128 (by decide) ?_
    exact g_iret rfl dX9_both_129 h
  · replace h := h.2 c
    refine g_iconst (v := 1) dX9_both_124 (by decide) ?_
    refine g_goto (tgt := 129) dX9_both_125 (by decide) ?_
    exact g_iret rfl dX9_both_129 h
theorem eX9_both {G : GC} {Q : Option Value → PS → Prop} {X : String → Nat → PS → Prop} {b : Nat} {p0 : Int32} {p1 : Int32} {p2 : Int32} {σ : PS} (h : At G mX9_both 3 Q X b 0 [(0, .int p0), (1, .int p1), (2, .int p2)] [] σ) : Call G mX9_both 3 b [.int p0, .int p1, .int p2] σ Q X :=
  Call.of (by decide +kernel) wsX9_both rfl (Nat.le_of_ble_eq_true rfl) (At.sub (ls := [(0, .int p0), (1, .int p1), (2, .int p2)]) [0, 1, 2] rfl h)
set_option maxHeartbeats 4000000 in
theorem bX9_does_0 {G : GC} {ad : Nat → Nat} {o : Nat} {σ0 : PS} {Q : MPost} {x1 : Int32} {y2 : Int64} {x4 : Int32} {F : Nat → Int32} {L : Nat → Int64} {I : Nat → Nat → Int32} {J : Nat → Nat → Int64} (h : ((¬ x1 = 0) → ((¬ x1 = 1) → ((¬ x1 = 2) → ((¬ x1 = 3) → ((¬ x1 = 4) → ((¬ x1 = 5) → ((¬ x1 = 6) → AtM G mX9_does 5 ad o σ0 Q 255 [(0, .ref o), (2, .long y2)] [.int (1 - (F 53)), .int (F 52), .int (F 51), .ref o] F L I J) ∧ ((x1 = 6) → AtM G mX9_does 5 ad o σ0 Q 255 [(0, .ref o), (2, .long y2)] [.int 0, .int (F 52), .int (F 51), .ref o] F L I J)) ∧ ((x1 = 5) → AtM G mX9_does 5 ad o σ0 Q 255 [(0, .ref o), (2, .long y2)] [.int 1, .int (F 52), .int (F 51), .ref o] F L I J)) ∧ ((x1 = 4) → CallP G mX9_index 3 [.int 0, .int 0, .int (F 53), .int (F 54), .int (F 55)] (pI (fun rx => CallM G mX9_gives 3 ad o [.ref o, .int rx, .long y2] F L I J (mqV (fun F1 L1 I1 J1 => Q none F1 L1 I1 J1)))))) ∧ ((x1 = 3) → CallM G mX9_starts 4 ad o [.ref o, .long y2, .int x4] F L I J (mqV (fun F1 L1 I1 J1 => Q none F1 L1 I1 J1)))) ∧ ((x1 = 2) → (∀ L1 : Nat → Int64, L1 = fU L 42 (((L 42) + y2)) → (((F 52) ≤ 0) → AtM G mX9_does 5 ad o σ0 Q 114 [(0, .ref o), (2, .long y2)] [.long 0] F L1 I J) ∧ ((¬ (F 52) ≤ 0) → ∀ w : Int64, w = ((y2 * (F 44).toInt64) / 16) → AtM G mX9_does 5 ad o σ0 Q 114 [(0, .ref o), (2, .long y2)] [.long w] F L1 I J)))) ∧ ((x1 = 1) → CallM G mX9_takes 4 ad o [.ref o, .long y2, .int x4] F L I J (mqV (fun F1 L1 I1 J1 => Q none F1 L1 I1 J1)))) ∧ ((x1 = 0) → (((I 11 0) ≤ ((F 51) + (F 52))) → CallP G mX9_index 3 [.int (F 51), .int (F 52), .int (F 53), .int (F 54), .int (F 55)] (pI (fun rx => CallM G mX9_gives 3 ad o [.ref o, .int rx, .long y2] F L I J (mqV (fun F1 L1 I1 J1 => Q none F1 L1 I1 J1))))) ∧ ((¬ (I 11 0) ≤ ((F 51) + (F 52))) → CallP G mX9_index 3 [.int (F 51), .int ((F 52) + 1), .int (F 53), .int (F 54), .int (F 55)] (pI (fun rx => CallM G mX9_gives 3 ad o [.ref o, .int rx, .long y2] F L I J (mqV (fun F1 L1 I1 J1 => Q none F1 L1 I1 J1))))))) : AtM G mX9_does 5 ad o σ0 Q 0 [(0, .ref o), (1, .int x1), (2, .long y2), (4, .int x4)] [] F L I J := by
  refine m_iload_n dX9_does_0 rfl 1 rfl ?_
  refine m_if_ne (tgt := 62) dX9_does_1 (by decide) (fun c => ?_) (fun c => ?_)
  · replace h := h.1 c
    refine m_iload_n dX9_does_62 rfl 1 rfl ?_
    refine m_iconst (v := 1) dX9_does_63 (by decide) ?_
    refine m_icmp_ne (tgt := 77) dX9_does_64 (by decide) (fun c => ?_) (fun c => ?_)
    · replace h := h.1 c
      refine m_iload_n dX9_does_77 rfl 1 rfl ?_
      refine m_iconst (v := 2) dX9_does_78 (by decide) ?_
      refine m_icmp_ne (tgt := 176) dX9_does_79 (by decide) (fun c => ?_) (fun c => ?_)
      · replace h := h.1 c
        refine m_iload_n dX9_does_176 rfl 1 rfl ?_
        refine m_iconst (v := 3) dX9_does_177 (by decide) ?_
        refine m_icmp_ne (tgt := 191) dX9_does_178 (by decide) (fun c => ?_) (fun c => ?_)
        · replace h := h.1 c
          refine m_iload_n dX9_does_191 rfl 1 rfl ?_
          refine m_iconst (v := 4) dX9_does_192 (by decide) ?_
          refine m_icmp_ne (tgt := 221) dX9_does_193 (by decide) (fun c => ?_) (fun c => ?_)
          · replace h := h.1 c
            refine m_aload_n dX9_does_221 rfl 0 rfl ?_
            refine m_aload_n dX9_does_222 rfl 0 rfl ?_
            refine m_get (v := .int (F 51)) 51 dX9_does_223 (by decide) q1814 rfl ?_
            refine m_aload_n dX9_does_226 rfl 0 rfl ?_
            refine m_get (v := .int (F 52)) 52 dX9_does_227 (by decide) q1815 rfl ?_
            refine m_iload_n dX9_does_230 rfl 1 rfl ?_
            refine m_iconst (v := 5) dX9_does_231 (by decide) ?_
            refine m_icmp_ne (tgt := 239) dX9_does_232 (by decide) (fun c => ?_) (fun c => ?_)
            · replace h := h.1 c
              refine m_iload_n dX9_does_239 rfl 1 rfl ?_
              refine m_bipush (v := 6) dX9_does_240 (by decide) ?_
              refine m_icmp_ne (tgt := 249) dX9_does_242 (by decide) (fun c => ?_) (fun c => ?_)
              · replace h := h.1 c
                refine m_iconst (v := 1) dX9_does_249 (by decide) ?_
                refine m_aload_n dX9_does_250 rfl 0 rfl ?_
                refine m_get (v := .int (F 53)) 53 dX9_does_251 (by decide) q1816 rfl ?_
                refine m_isub dX9_does_254 ?_
                exact AtM.sub (ls := [(0, .ref o), (1, .int x1), (2, .long y2), (4, .int x4)]) [0, 2] rfl h
              · replace h := h.2 c
                refine m_iconst (v := 0) dX9_does_245 (by decide) ?_
                refine m_goto (tgt := 255) dX9_does_246 (by decide) ?_
                exact AtM.sub (ls := [(0, .ref o), (1, .int x1), (2, .long y2), (4, .int x4)]) [0, 2] rfl h
            · replace h := h.2 c
              refine m_iconst (v := 1) dX9_does_235 (by decide) ?_
              refine m_goto (tgt := 255) dX9_does_236 (by decide) ?_
              exact AtM.sub (ls := [(0, .ref o), (1, .int x1), (2, .long y2), (4, .int x4)]) [0, 2] rfl h
          · replace h := h.2 c
            refine m_aload_n dX9_does_196 rfl 0 rfl ?_
            refine m_iconst (v := 0) dX9_does_197 (by decide) ?_
            refine m_iconst (v := 0) dX9_does_198 (by decide) ?_
            refine m_aload_n dX9_does_199 rfl 0 rfl ?_
            refine m_get (v := .int (F 53)) 53 dX9_does_200 (by decide) q1816 rfl ?_
            refine m_aload_n dX9_does_203 rfl 0 rfl ?_
            refine m_get (v := .int (F 54)) 54 dX9_does_204 (by decide) q1817 rfl ?_
            refine m_aload_n dX9_does_207 rfl 0 rfl ?_
            refine m_get (v := .int (F 55)) 55 dX9_does_208 (by decide) q1818 rfl ?_
            refine m_callP (N := mX9_index) (st := [.ref o]) (As := [.int 0, .int 0, .int (F 53), .int (F 54), .int (F 55)]) dX9_does_211 wsX9_index (lw_S q2183 q2184 q116 q2185) mokX9_index rfl (by decide) (by decide) (by simp [Value.category]) h (fun _ hq => ?_)
            obtain ⟨rx, rfl, h⟩ := hq
            refine AtM.stk (st' := [.int rx, .ref o]) rfl ?_
            refine m_lload_n dX9_does_214 rfl 2 rfl ?_
            refine m_callV (N := mX9_gives) (st := []) (As := [.int rx, .long y2]) dX9_does_215 wsX9_gives (lw_V q2200 q2202 qs74 q116 q2203) rfl mokX9_gives rfl (by decide) (by decide) (Nat.zero_le _) h (fun _ F1 L1 I1 J1 hq => ?_)
            obtain ⟨rfl, h⟩ := hq
            refine AtM.stk (st' := []) rfl ?_
            refine m_goto (tgt := 270) dX9_does_218 (by decide) ?_
            exact m_vret rfl dX9_does_270 h
        · replace h := h.2 c
          refine m_aload_n dX9_does_181 rfl 0 rfl ?_
          refine m_lload_n dX9_does_182 rfl 2 rfl ?_
          refine m_iload dX9_does_183 3 rfl ?_
          refine m_callV (N := mX9_starts) (st := []) (As := [.long y2, .int x4]) dX9_does_185 wsX9_starts (lw_V q2247 q2249 qs85 q116 q2250) rfl mokX9_starts rfl (by decide) (by decide) (Nat.zero_le _) h (fun _ F1 L1 I1 J1 hq => ?_)
          obtain ⟨rfl, h⟩ := hq
          refine AtM.stk (st' := []) rfl ?_
          refine m_goto (tgt := 270) dX9_does_188 (by decide) ?_
          exact m_vret rfl dX9_does_270 h
      · replace h := h.2 c
        refine m_aload_n dX9_does_82 rfl 0 rfl ?_
        refine m_dup dX9_does_83 rfl ?_
        refine m_get (v := .long (L 42)) 42 dX9_does_84 (by decide) q1805 rfl ?_
        refine m_lload_n dX9_does_87 rfl 2 rfl ?_
        refine m_ladd dX9_does_88 ?_
        refine m_putL 42 dX9_does_89 (by decide) q1805 rfl rfl rfl rfl ?_
        refine m_topL (fun L1 eL1 => ?_)
        replace h := h L1 eL1
        refine m_aload_n dX9_does_92 rfl 0 rfl ?_
        refine m_get (v := .int (F 52)) 52 dX9_does_93 (by decide) q1815 rfl ?_
        refine m_if_le (tgt := 113) dX9_does_96 (by decide) (fun c => ?_) (fun c => ?_)
        · replace h := h.1 c
          refine m_lconst (v := 0) dX9_does_113 (by decide) ?_
          exact AtM.sub (ls := [(0, .ref o), (1, .int x1), (2, .long y2), (4, .int x4)]) [0, 2] rfl h
        · replace h := h.2 c
          refine m_lload_n dX9_does_99 rfl 2 rfl ?_
          refine m_aload_n dX9_does_100 rfl 0 rfl ?_
          refine m_get (v := .int (F 44)) 44 dX9_does_101 (by decide) q1807 rfl ?_
          refine m_i2l dX9_does_104 ?_
          refine m_lmul dX9_does_105 ?_
          refine m_ldc2 dX9_does_106 q2199 ?_
          refine m_ldiv dX9_does_109 (by decide) ?_
          refine m_topl (fun w ew => ?_)
          replace h := h w ew
          refine m_goto (tgt := 114) dX9_does_110 (by decide) ?_
          exact AtM.sub (ls := [(0, .ref o), (1, .int x1), (2, .long y2), (4, .int x4)]) [0, 2] rfl h
    · replace h := h.2 c
      refine m_aload_n dX9_does_67 rfl 0 rfl ?_
      refine m_lload_n dX9_does_68 rfl 2 rfl ?_
      refine m_iload dX9_does_69 3 rfl ?_
      refine m_callV (N := mX9_takes) (st := []) (As := [.long y2, .int x4]) dX9_does_71 wsX9_takes (lw_V q2243 q2245 qs84 q116 q2246) rfl mokX9_takes rfl (by decide) (by decide) (Nat.zero_le _) h (fun _ F1 L1 I1 J1 hq => ?_)
      obtain ⟨rfl, h⟩ := hq
      refine AtM.stk (st' := []) rfl ?_
      refine m_goto (tgt := 270) dX9_does_74 (by decide) ?_
      exact m_vret rfl dX9_does_270 h
  · replace h := h.2 c
    refine m_aload_n dX9_does_4 rfl 0 rfl ?_
    refine m_aload_n dX9_does_5 rfl 0 rfl ?_
    refine m_get (v := .int (F 51)) 51 dX9_does_6 (by decide) q1814 rfl ?_
    refine m_aload_n dX9_does_9 rfl 0 rfl ?_
    refine m_get (v := .int (F 51)) 51 dX9_does_10 (by decide) q1814 rfl ?_
    refine m_aload_n dX9_does_13 rfl 0 rfl ?_
    refine m_get (v := .int (F 52)) 52 dX9_does_14 (by decide) q1815 rfl ?_
    refine m_iadd dX9_does_17 ?_
    refine m_aload_n dX9_does_18 rfl 0 rfl ?_
    refine m_get (v := .ref (ad 11)) 11 dX9_does_19 (by decide) q1774 rfl ?_
    refine m_iconst (v := 0) dX9_does_22 (by decide) ?_
    refine m_iald0 (j := 0) 11 dX9_does_23 (by decide) rfl (by decide) rfl (Nat.le_of_ble_eq_true rfl) ?_
    refine m_icmp_ge (tgt := 36) dX9_does_24 (by decide) (fun c => ?_) (fun c => ?_)
    · replace h := h.1 c
      refine m_aload_n dX9_does_36 rfl 0 rfl ?_
      refine m_get (v := .int (F 52)) 52 dX9_does_37 (by decide) q1815 rfl ?_
      refine m_aload_n dX9_does_40 rfl 0 rfl ?_
      refine m_get (v := .int (F 53)) 53 dX9_does_41 (by decide) q1816 rfl ?_
      refine m_aload_n dX9_does_44 rfl 0 rfl ?_
      refine m_get (v := .int (F 54)) 54 dX9_does_45 (by decide) q1817 rfl ?_
      refine m_aload_n dX9_does_48 rfl 0 rfl ?_
      refine m_get (v := .int (F 55)) 55 dX9_does_49 (by decide) q1818 rfl ?_
      refine m_callP (N := mX9_index) (st := [.ref o]) (As := [.int (F 51), .int (F 52), .int (F 53), .int (F 54), .int (F 55)]) dX9_does_52 wsX9_index (lw_S q2183 q2184 q116 q2185) mokX9_index rfl (by decide) (by decide) (by simp [Value.category]) h (fun _ hq => ?_)
      obtain ⟨rx, rfl, h⟩ := hq
      refine AtM.stk (st' := [.int rx, .ref o]) rfl ?_
      refine m_lload_n dX9_does_55 rfl 2 rfl ?_
      refine m_callV (N := mX9_gives) (st := []) (As := [.int rx, .long y2]) dX9_does_56 wsX9_gives (lw_V q2200 q2202 qs74 q116 q2203) rfl mokX9_gives rfl (by decide) (by decide) (Nat.zero_le _) h (fun _ F1 L1 I1 J1 hq => ?_)
      obtain ⟨rfl, h⟩ := hq
      refine AtM.stk (st' := []) rfl ?_
      refine m_goto (tgt := 270) dX9_does_59 (by decide) ?_
      exact m_vret rfl dX9_does_270 h
    · replace h := h.2 c
      refine m_aload_n dX9_does_27 rfl 0 rfl ?_
      refine m_get (v := .int (F 52)) 52 dX9_does_28 (by decide) q1815 rfl ?_
      refine m_iconst (v := 1) dX9_does_31 (by decide) ?_
      refine m_iadd dX9_does_32 ?_
      refine m_goto (tgt := 40) dX9_does_33 (by decide) ?_
      refine m_aload_n dX9_does_40 rfl 0 rfl ?_
      refine m_get (v := .int (F 53)) 53 dX9_does_41 (by decide) q1816 rfl ?_
      refine m_aload_n dX9_does_44 rfl 0 rfl ?_
      refine m_get (v := .int (F 54)) 54 dX9_does_45 (by decide) q1817 rfl ?_
      refine m_aload_n dX9_does_48 rfl 0 rfl ?_
      refine m_get (v := .int (F 55)) 55 dX9_does_49 (by decide) q1818 rfl ?_
      refine m_callP (N := mX9_index) (st := [.ref o]) (As := [.int (F 51), .int ((F 52) + 1), .int (F 53), .int (F 54), .int (F 55)]) dX9_does_52 wsX9_index (lw_S q2183 q2184 q116 q2185) mokX9_index rfl (by decide) (by decide) (by simp [Value.category]) h (fun _ hq => ?_)
      obtain ⟨rx, rfl, h⟩ := hq
      refine AtM.stk (st' := [.int rx, .ref o]) rfl ?_
      refine m_lload_n dX9_does_55 rfl 2 rfl ?_
      refine m_callV (N := mX9_gives) (st := []) (As := [.int rx, .long y2]) dX9_does_56 wsX9_gives (lw_V q2200 q2202 qs74 q116 q2203) rfl mokX9_gives rfl (by decide) (by decide) (Nat.zero_le _) h (fun _ F1 L1 I1 J1 hq => ?_)
      obtain ⟨rfl, h⟩ := hq
      refine AtM.stk (st' := []) rfl ?_
      refine m_goto (tgt := 270) dX9_does_59 (by decide) ?_
      exact m_vret rfl dX9_does_270 h
set_option maxHeartbeats 4000000 in
theorem bX9_does_114 {G : GC} {ad : Nat → Nat} {o : Nat} {σ0 : PS} {Q : MPost} {y2 : Int64} {sy0 : Int64} {F : Nat → Int32} {L : Nat → Int64} {I : Nat → Nat → Int32} {J : Nat → Nat → Int64} (h : CallP G mX9_index 3 [.int (F 51), .int (F 52), .int (F 53), .int (F 54), .int 1] (pI (fun rx => CallM G mX9_gives 3 ad o [.ref o, .int rx, .long sy0] F L I J (mqV (fun F1 L1 I1 J1 => CallP G mX9_index 3 [.int (F1 51), .int (F1 52), .int (F1 53), .int (F1 54), .int (F1 55)] (pI (fun rx_1 => CallM G mX9_gives 3 ad o [.ref o, .int rx_1, .long (y2 - sy0)] F1 L1 I1 J1 (mqV (fun F1_2 L1_3 I1_4 J1_5 => Q none F1_2 L1_3 I1_4 J1_5))))))))) : AtM G mX9_does 5 ad o σ0 Q 114 [(0, .ref o), (2, .long y2)] [.long sy0] F L I J := by
  refine m_lstore (ls1 := [(5, .long sy0), (0, .ref o), (2, .long y2)]) dX9_does_114 (by decide) rfl ?_
  refine m_aload_n dX9_does_116 rfl 1 rfl ?_
  refine m_aload_n dX9_does_117 rfl 1 rfl ?_
  refine m_get (v := .int (F 51)) 51 dX9_does_118 (by decide) q1814 rfl ?_
  refine m_aload_n dX9_does_121 rfl 1 rfl ?_
  refine m_get (v := .int (F 52)) 52 dX9_does_122 (by decide) q1815 rfl ?_
  refine m_aload_n dX9_does_125 rfl 1 rfl ?_
  refine m_get (v := .int (F 53)) 53 dX9_does_126 (by decide) q1816 rfl ?_
  refine m_aload_n dX9_does_129 rfl 1 rfl ?_
  refine m_get (v := .int (F 54)) 54 dX9_does_130 (by decide) q1817 rfl ?_
  refine m_iconst (v := 1) dX9_does_133 (by decide) ?_
  refine m_callP (N := mX9_index) (st := [.ref o]) (As := [.int (F 51), .int (F 52), .int (F 53), .int (F 54), .int 1]) dX9_does_134 wsX9_index (lw_S q2183 q2184 q116 q2185) mokX9_index rfl (by decide) (by decide) (by simp [Value.category]) h (fun _ hq => ?_)
  obtain ⟨rx, rfl, h⟩ := hq
  refine AtM.stk (st' := [.int rx, .ref o]) rfl ?_
  refine m_lload dX9_does_137 0 rfl ?_
  refine m_callV (N := mX9_gives) (st := []) (As := [.int rx, .long sy0]) dX9_does_139 wsX9_gives (lw_V q2200 q2202 qs74 q116 q2203) rfl mokX9_gives rfl (by decide) (by decide) (Nat.zero_le _) h (fun _ F1 L1 I1 J1 hq => ?_)
  obtain ⟨rfl, h⟩ := hq
  refine AtM.stk (st' := []) rfl ?_
  refine m_aload_n dX9_does_142 rfl 1 rfl ?_
  refine m_aload_n dX9_does_143 rfl 1 rfl ?_
  refine m_get (v := .int (F1 51)) 51 dX9_does_144 (by decide) q1814 rfl ?_
  refine m_aload_n dX9_does_147 rfl 1 rfl ?_
  refine m_get (v := .int (F1 52)) 52 dX9_does_148 (by decide) q1815 rfl ?_
  refine m_aload_n dX9_does_151 rfl 1 rfl ?_
  refine m_get (v := .int (F1 53)) 53 dX9_does_152 (by decide) q1816 rfl ?_
  refine m_aload_n dX9_does_155 rfl 1 rfl ?_
  refine m_get (v := .int (F1 54)) 54 dX9_does_156 (by decide) q1817 rfl ?_
  refine m_aload_n dX9_does_159 rfl 1 rfl ?_
  refine m_get (v := .int (F1 55)) 55 dX9_does_160 (by decide) q1818 rfl ?_
  refine m_callP (N := mX9_index) (st := [.ref o]) (As := [.int (F1 51), .int (F1 52), .int (F1 53), .int (F1 54), .int (F1 55)]) dX9_does_163 wsX9_index (lw_S q2183 q2184 q116 q2185) mokX9_index rfl (by decide) (by decide) (by simp [Value.category]) h (fun _ hq => ?_)
  obtain ⟨rx_1, rfl, h⟩ := hq
  refine AtM.stk (st' := [.int rx_1, .ref o]) rfl ?_
  refine m_lload_n dX9_does_166 rfl 2 rfl ?_
  refine m_lload dX9_does_167 0 rfl ?_
  refine m_lsub dX9_does_169 ?_
  refine m_callV (N := mX9_gives) (st := []) (As := [.int rx_1, .long (y2 - sy0)]) dX9_does_170 wsX9_gives (lw_V q2200 q2202 qs74 q116 q2203) rfl mokX9_gives rfl (by decide) (by decide) (Nat.zero_le _) h (fun _ F1_2 L1_3 I1_4 J1_5 hq => ?_)
  obtain ⟨rfl, h⟩ := hq
  refine AtM.stk (st' := []) rfl ?_
  refine m_goto (tgt := 270) dX9_does_173 (by decide) ?_
  exact m_vret rfl dX9_does_270 h
set_option maxHeartbeats 4000000 in
theorem bX9_does_255 {G : GC} {ad : Nat → Nat} {o : Nat} {σ0 : PS} {Q : MPost} {y2 : Int64} {sx1 : Int32} {sx2 : Int32} {sx3 : Int32} {F : Nat → Int32} {L : Nat → Int64} {I : Nat → Nat → Int32} {J : Nat → Nat → Int64} (h : CallP G mX9_index 3 [.int sx1, .int sx2, .int sx3, .int (F 54), .int (F 55)] (pI (fun rx => CallM G mX9_gives 3 ad o [.ref o, .int rx, .long y2] F L I J (mqV (fun F1 L1 I1 J1 => Q none F1 L1 I1 J1))))) : AtM G mX9_does 5 ad o σ0 Q 255 [(0, .ref o), (2, .long y2)] [.int sx3, .int sx2, .int sx1, .ref o] F L I J := by
  refine m_aload_n dX9_does_255 rfl 0 rfl ?_
  refine m_get (v := .int (F 54)) 54 dX9_does_256 (by decide) q1817 rfl ?_
  refine m_aload_n dX9_does_259 rfl 0 rfl ?_
  refine m_get (v := .int (F 55)) 55 dX9_does_260 (by decide) q1818 rfl ?_
  refine m_callP (N := mX9_index) (st := [.ref o]) (As := [.int sx1, .int sx2, .int sx3, .int (F 54), .int (F 55)]) dX9_does_263 wsX9_index (lw_S q2183 q2184 q116 q2185) mokX9_index rfl (by decide) (by decide) (by simp [Value.category]) h (fun _ hq => ?_)
  obtain ⟨rx, rfl, h⟩ := hq
  refine AtM.stk (st' := [.int rx, .ref o]) rfl ?_
  refine m_lload_n dX9_does_266 rfl 1 rfl ?_
  refine m_callV (N := mX9_gives) (st := []) (As := [.int rx, .long y2]) dX9_does_267 wsX9_gives (lw_V q2200 q2202 qs74 q116 q2203) rfl mokX9_gives rfl (by decide) (by decide) (Nat.zero_le _) h (fun _ F1 L1 I1 J1 hq => ?_)
  obtain ⟨rfl, h⟩ := hq
  refine AtM.stk (st' := []) rfl ?_
  exact m_vret rfl dX9_does_270 h
theorem eX9_does {G : GC} {ad : Nat → Nat} {o : Nat} {Q : MPost} {p1 : Int32} {p2 : Int64} {p4 : Int32} {F : Nat → Int32} {L : Nat → Int64} {I : Nat → Nat → Int32} {J : Nat → Nat → Int64} (h : ∀ σ0, AtM G mX9_does 5 ad o σ0 Q 0 [(0, .ref o), (1, .int p1), (2, .long p2), (4, .int p4)] [] F L I J) : CallM G mX9_does 5 ad o [.ref o, .int p1, .long p2, .int p4] F L I J Q :=
  CallM.of (by decide +kernel) wsX9_does rfl (Nat.le_of_ble_eq_true rfl) (fun σ0 => AtM.sub (ls := [(0, .ref o), (1, .int p1), (2, .long p2), (4, .int p4)]) [0, 1, 2, 3] rfl (h σ0))
set_option maxHeartbeats 4000000 in
theorem bX9_takes_0 {G : GC} {ad : Nat → Nat} {o : Nat} {σ0 : PS} {Q : MPost} {y1 : Int64} {x3 : Int32} {F : Nat → Int32} {L : Nat → Int64} {I : Nat → Nat → Int32} {J : Nat → Nat → Int64} (h : ((¬ ((F 51) + (F 52)) = 0) → ∀ w : Int64, w = (((F 51) + (F 52))).toInt64 → ¬ w = 0 ∧ (∀ w_1 : Int64, w_1 = ((y1 * (F 52).toInt64) / w) → AtM G mX9_takes 4 ad o σ0 Q 34 [(0, .ref o), (1, .long y1), (3, .int x3)] [.long w_1] F L I J)) ∧ ((((F 51) + (F 52)) = 0) → AtM G mX9_takes 4 ad o σ0 Q 34 [(0, .ref o), (1, .long y1), (3, .int x3)] [.long 0] F L I J)) : AtM G mX9_takes 4 ad o σ0 Q 0 [(0, .ref o), (1, .long y1), (3, .int x3)] [] F L I J := by
  refine m_aload_n dX9_takes_0 rfl 0 rfl ?_
  refine m_get (v := .int (F 51)) 51 dX9_takes_1 (by decide) q1814 rfl ?_
  refine m_aload_n dX9_takes_4 rfl 0 rfl ?_
  refine m_get (v := .int (F 52)) 52 dX9_takes_5 (by decide) q1815 rfl ?_
  refine m_iadd dX9_takes_8 ?_
  refine m_if_ne (tgt := 16) dX9_takes_9 (by decide) (fun c => ?_) (fun c => ?_)
  · replace h := h.1 c
    refine m_lload_n dX9_takes_16 rfl 1 rfl ?_
    refine m_aload_n dX9_takes_17 rfl 0 rfl ?_
    refine m_get (v := .int (F 52)) 52 dX9_takes_18 (by decide) q1815 rfl ?_
    refine m_i2l dX9_takes_21 ?_
    refine m_lmul dX9_takes_22 ?_
    refine m_aload_n dX9_takes_23 rfl 0 rfl ?_
    refine m_get (v := .int (F 51)) 51 dX9_takes_24 (by decide) q1814 rfl ?_
    refine m_aload_n dX9_takes_27 rfl 0 rfl ?_
    refine m_get (v := .int (F 52)) 52 dX9_takes_28 (by decide) q1815 rfl ?_
    refine m_iadd dX9_takes_31 ?_
    refine m_i2l dX9_takes_32 ?_
    refine m_topl (fun w ew => ?_)
    replace h := h w ew
    obtain ⟨hnz, h⟩ := h
    refine m_ldiv dX9_takes_33 hnz ?_
    refine m_topl (fun w_1 ew_1 => ?_)
    replace h := h w_1 ew_1
    exact AtM.sub (ls := [(0, .ref o), (1, .long y1), (3, .int x3)]) [0, 1, 2] rfl h
  · replace h := h.2 c
    refine m_lconst (v := 0) dX9_takes_12 (by decide) ?_
    refine m_goto (tgt := 34) dX9_takes_13 (by decide) ?_
    exact AtM.sub (ls := [(0, .ref o), (1, .long y1), (3, .int x3)]) [0, 1, 2] rfl h
set_option maxHeartbeats 4000000 in
theorem bX9_takes_34 {G : GC} {ad : Nat → Nat} {o : Nat} {σ0 : PS} {Q : MPost} {y1 : Int64} {x3 : Int32} {sy0 : Int64} {F : Nat → Int32} {L : Nat → Int64} {I : Nat → Nat → Int32} {J : Nat → Nat → Int64} (h : vp_in x3 24 ∧ (vp_in ((I 14 x3.toNatClampNeg)) 6 ∧ (∀ w : Int64, w = ((J 39 ((I 14 x3.toNatClampNeg)).toNatClampNeg) + sy0) → vp_in ((I 14 x3.toNatClampNeg)) 6 ∧ (∀ J1 : Nat → Nat → Int64, J1 = aU J 39 ((I 14 x3.toNatClampNeg)).toNatClampNeg w → (((F 52) ≤ 0) → AtM G mX9_takes 4 ad o σ0 Q 90 [(0, .ref o), (1, .long y1), (4, .long sy0)] [] F L I J1) ∧ ((¬ (F 52) ≤ 0) → CallP G mX9_index 3 [.int (F 51), .int ((F 52) - 1), .int (F 53), .int (F 54), .int (F 55)] (pI (fun rx => CallM G mX9_gives 3 ad o [.ref o, .int rx, .long sy0] F L I J1 (mqV (fun F1 L1 I1 J1_1 => AtM G mX9_takes 4 ad o σ0 Q 90 [(0, .ref o), (1, .long y1), (4, .long sy0)] [] F1 L1 I1 J1_1))))))))) : AtM G mX9_takes 4 ad o σ0 Q 34 [(0, .ref o), (1, .long y1), (3, .int x3)] [.long sy0] F L I J := by
  refine m_lstore (ls1 := [(4, .long sy0), (0, .ref o), (1, .long y1), (3, .int x3)]) dX9_takes_34 (by decide) rfl ?_
  refine m_aload_n dX9_takes_36 rfl 1 rfl ?_
  refine m_get (v := .ref (ad 39)) 39 dX9_takes_37 (by decide) q1802 rfl ?_
  refine m_aload_n dX9_takes_40 rfl 1 rfl ?_
  refine m_get (v := .ref (ad 14)) 14 dX9_takes_41 (by decide) q1777 rfl ?_
  refine m_iload_n dX9_takes_44 rfl 3 rfl ?_
  obtain ⟨h1, h⟩ := h
  refine m_iald 14 dX9_takes_45 (by decide) rfl h1 ?_
  refine m_dup2 dX9_takes_46 rfl rfl ?_
  obtain ⟨h1, h⟩ := h
  refine m_lald 39 dX9_takes_47 (by decide) rfl h1 ?_
  refine m_lload dX9_takes_48 0 rfl ?_
  refine m_ladd dX9_takes_50 ?_
  refine m_topl (fun w ew => ?_)
  replace h := h w ew
  obtain ⟨h1, h⟩ := h
  refine m_last 39 dX9_takes_51 (by decide) rfl h1 ?_
  refine m_topJ (fun J1 eJ1 => ?_)
  replace h := h J1 eJ1
  refine m_aload_n dX9_takes_52 rfl 1 rfl ?_
  refine m_get (v := .int (F 52)) 52 dX9_takes_53 (by decide) q1815 rfl ?_
  refine m_if_le (tgt := 90) dX9_takes_56 (by decide) (fun c => ?_) (fun c => ?_)
  · replace h := h.1 c
    exact AtM.sub (ls := [(4, .long sy0), (0, .ref o), (1, .long y1), (3, .int x3)]) [1, 2, 0] rfl h
  · replace h := h.2 c
    refine m_aload_n dX9_takes_59 rfl 1 rfl ?_
    refine m_aload_n dX9_takes_60 rfl 1 rfl ?_
    refine m_get (v := .int (F 51)) 51 dX9_takes_61 (by decide) q1814 rfl ?_
    refine m_aload_n dX9_takes_64 rfl 1 rfl ?_
    refine m_get (v := .int (F 52)) 52 dX9_takes_65 (by decide) q1815 rfl ?_
    refine m_iconst (v := 1) dX9_takes_68 (by decide) ?_
    refine m_isub dX9_takes_69 ?_
    refine m_aload_n dX9_takes_70 rfl 1 rfl ?_
    refine m_get (v := .int (F 53)) 53 dX9_takes_71 (by decide) q1816 rfl ?_
    refine m_aload_n dX9_takes_74 rfl 1 rfl ?_
    refine m_get (v := .int (F 54)) 54 dX9_takes_75 (by decide) q1817 rfl ?_
    refine m_aload_n dX9_takes_78 rfl 1 rfl ?_
    refine m_get (v := .int (F 55)) 55 dX9_takes_79 (by decide) q1818 rfl ?_
    refine m_callP (N := mX9_index) (st := [.ref o]) (As := [.int (F 51), .int ((F 52) - 1), .int (F 53), .int (F 54), .int (F 55)]) dX9_takes_82 wsX9_index (lw_S q2183 q2184 q116 q2185) mokX9_index rfl (by decide) (by decide) (by simp [Value.category]) h (fun _ hq => ?_)
    obtain ⟨rx, rfl, h⟩ := hq
    refine AtM.stk (st' := [.int rx, .ref o]) rfl ?_
    refine m_lload dX9_takes_85 0 rfl ?_
    refine m_callV (N := mX9_gives) (st := []) (As := [.int rx, .long sy0]) dX9_takes_87 wsX9_gives (lw_V q2200 q2202 qs74 q116 q2203) rfl mokX9_gives rfl (by decide) (by decide) (Nat.zero_le _) h (fun _ F1 L1 I1 J1_1 hq => ?_)
    obtain ⟨rfl, h⟩ := hq
    refine AtM.stk (st' := []) rfl ?_
    exact AtM.sub (ls := [(4, .long sy0), (0, .ref o), (1, .long y1), (3, .int x3)]) [1, 2, 0] rfl h
set_option maxHeartbeats 4000000 in
theorem bX9_takes_90 {G : GC} {ad : Nat → Nat} {o : Nat} {σ0 : PS} {Q : MPost} {y1 : Int64} {y4 : Int64} {F : Nat → Int32} {L : Nat → Int64} {I : Nat → Nat → Int32} {J : Nat → Nat → Int64} (h : (((F 51) ≤ 0) → CallP G mX9_index 3 [.int (F 51), .int (F 52), .int (F 53), .int (F 54), .int (F 55)] (pI (fun rx => CallM G mX9_gives 3 ad o [.ref o, .int rx, .long (y1 - y4)] F L I J (mqV (fun F1 L1 I1 J1 => Q none F1 L1 I1 J1))))) ∧ ((¬ (F 51) ≤ 0) → CallP G mX9_index 3 [.int ((F 51) - 1), .int (F 52), .int (F 53), .int (F 54), .int (F 55)] (pI (fun rx => CallM G mX9_gives 3 ad o [.ref o, .int rx, .long (y1 - y4)] F L I J (mqV (fun F1 L1 I1 J1 => Q none F1 L1 I1 J1)))))) : AtM G mX9_takes 4 ad o σ0 Q 90 [(0, .ref o), (1, .long y1), (4, .long y4)] [] F L I J := by
  refine m_aload_n dX9_takes_90 rfl 0 rfl ?_
  refine m_aload_n dX9_takes_91 rfl 0 rfl ?_
  refine m_get (v := .int (F 51)) 51 dX9_takes_92 (by decide) q1814 rfl ?_
  refine m_if_le (tgt := 107) dX9_takes_95 (by decide) (fun c => ?_) (fun c => ?_)
  · replace h := h.1 c
    refine m_aload_n dX9_takes_107 rfl 0 rfl ?_
    refine m_get (v := .int (F 51)) 51 dX9_takes_108 (by decide) q1814 rfl ?_
    refine m_aload_n dX9_takes_111 rfl 0 rfl ?_
    refine m_get (v := .int (F 52)) 52 dX9_takes_112 (by decide) q1815 rfl ?_
    refine m_aload_n dX9_takes_115 rfl 0 rfl ?_
    refine m_get (v := .int (F 53)) 53 dX9_takes_116 (by decide) q1816 rfl ?_
    refine m_aload_n dX9_takes_119 rfl 0 rfl ?_
    refine m_get (v := .int (F 54)) 54 dX9_takes_120 (by decide) q1817 rfl ?_
    refine m_aload_n dX9_takes_123 rfl 0 rfl ?_
    refine m_get (v := .int (F 55)) 55 dX9_takes_124 (by decide) q1818 rfl ?_
    refine m_callP (N := mX9_index) (st := [.ref o]) (As := [.int (F 51), .int (F 52), .int (F 53), .int (F 54), .int (F 55)]) dX9_takes_127 wsX9_index (lw_S q2183 q2184 q116 q2185) mokX9_index rfl (by decide) (by decide) (by simp [Value.category]) h (fun _ hq => ?_)
    obtain ⟨rx, rfl, h⟩ := hq
    refine AtM.stk (st' := [.int rx, .ref o]) rfl ?_
    refine m_lload_n dX9_takes_130 rfl 1 rfl ?_
    refine m_lload dX9_takes_131 2 rfl ?_
    refine m_lsub dX9_takes_133 ?_
    refine m_callV (N := mX9_gives) (st := []) (As := [.int rx, .long (y1 - y4)]) dX9_takes_134 wsX9_gives (lw_V q2200 q2202 qs74 q116 q2203) rfl mokX9_gives rfl (by decide) (by decide) (Nat.zero_le _) h (fun _ F1 L1 I1 J1 hq => ?_)
    obtain ⟨rfl, h⟩ := hq
    refine AtM.stk (st' := []) rfl ?_
    exact m_vret rfl dX9_takes_137 h
  · replace h := h.2 c
    refine m_aload_n dX9_takes_98 rfl 0 rfl ?_
    refine m_get (v := .int (F 51)) 51 dX9_takes_99 (by decide) q1814 rfl ?_
    refine m_iconst (v := 1) dX9_takes_102 (by decide) ?_
    refine m_isub dX9_takes_103 ?_
    refine m_goto (tgt := 111) dX9_takes_104 (by decide) ?_
    refine m_aload_n dX9_takes_111 rfl 0 rfl ?_
    refine m_get (v := .int (F 52)) 52 dX9_takes_112 (by decide) q1815 rfl ?_
    refine m_aload_n dX9_takes_115 rfl 0 rfl ?_
    refine m_get (v := .int (F 53)) 53 dX9_takes_116 (by decide) q1816 rfl ?_
    refine m_aload_n dX9_takes_119 rfl 0 rfl ?_
    refine m_get (v := .int (F 54)) 54 dX9_takes_120 (by decide) q1817 rfl ?_
    refine m_aload_n dX9_takes_123 rfl 0 rfl ?_
    refine m_get (v := .int (F 55)) 55 dX9_takes_124 (by decide) q1818 rfl ?_
    refine m_callP (N := mX9_index) (st := [.ref o]) (As := [.int ((F 51) - 1), .int (F 52), .int (F 53), .int (F 54), .int (F 55)]) dX9_takes_127 wsX9_index (lw_S q2183 q2184 q116 q2185) mokX9_index rfl (by decide) (by decide) (by simp [Value.category]) h (fun _ hq => ?_)
    obtain ⟨rx, rfl, h⟩ := hq
    refine AtM.stk (st' := [.int rx, .ref o]) rfl ?_
    refine m_lload_n dX9_takes_130 rfl 1 rfl ?_
    refine m_lload dX9_takes_131 2 rfl ?_
    refine m_lsub dX9_takes_133 ?_
    refine m_callV (N := mX9_gives) (st := []) (As := [.int rx, .long (y1 - y4)]) dX9_takes_134 wsX9_gives (lw_V q2200 q2202 qs74 q116 q2203) rfl mokX9_gives rfl (by decide) (by decide) (Nat.zero_le _) h (fun _ F1 L1 I1 J1 hq => ?_)
    obtain ⟨rfl, h⟩ := hq
    refine AtM.stk (st' := []) rfl ?_
    exact m_vret rfl dX9_takes_137 h
theorem eX9_takes {G : GC} {ad : Nat → Nat} {o : Nat} {Q : MPost} {p1 : Int64} {p3 : Int32} {F : Nat → Int32} {L : Nat → Int64} {I : Nat → Nat → Int32} {J : Nat → Nat → Int64} (h : ∀ σ0, AtM G mX9_takes 4 ad o σ0 Q 0 [(0, .ref o), (1, .long p1), (3, .int p3)] [] F L I J) : CallM G mX9_takes 4 ad o [.ref o, .long p1, .int p3] F L I J Q :=
  CallM.of (by decide +kernel) wsX9_takes rfl (Nat.le_of_ble_eq_true rfl) (fun σ0 => AtM.sub (ls := [(0, .ref o), (1, .long p1), (3, .int p3)]) [0, 1, 2] rfl (h σ0))
set_option maxHeartbeats 4000000 in
theorem bX9_starts_0 {G : GC} {ad : Nat → Nat} {o : Nat} {σ0 : PS} {Q : MPost} {y1 : Int64} {x3 : Int32} {F : Nat → Int32} {L : Nat → Int64} {I : Nat → Nat → Int32} {J : Nat → Nat → Int64} (h : ((¬ ((F 51) + (F 52)) = 0) → ∀ w : Int64, w = ((L 41) + (y1 * (F 51).toInt64)) → (∀ L1 : Nat → Int64, L1 = fU L 41 w → CallP G mX9_index 3 [.int ((F 51) + (F 52)), .int 0, .int (F 53), .int (x3 + 1), .int (F 55)] (pI (fun rx => CallM G mX9_gives 3 ad o [.ref o, .int rx, .long y1] F L1 I J (mqV (fun F1 L1_1 I1 J1 => Q none F1 L1_1 I1 J1)))))) ∧ ((((F 51) + (F 52)) = 0) → CallP G mX9_index 3 [.int (F 51), .int (F 52), .int (F 53), .int (F 54), .int (F 55)] (pI (fun rx => CallM G mX9_gives 3 ad o [.ref o, .int rx, .long y1] F L I J (mqV (fun F1 L1 I1 J1 => Q none F1 L1 I1 J1)))))) : AtM G mX9_starts 4 ad o σ0 Q 0 [(0, .ref o), (1, .long y1), (3, .int x3)] [] F L I J := by
  refine m_aload_n dX9_starts_0 rfl 0 rfl ?_
  refine m_get (v := .int (F 51)) 51 dX9_starts_1 (by decide) q1814 rfl ?_
  refine m_aload_n dX9_starts_4 rfl 0 rfl ?_
  refine m_get (v := .int (F 52)) 52 dX9_starts_5 (by decide) q1815 rfl ?_
  refine m_iadd dX9_starts_8 ?_
  refine m_if_ne (tgt := 41) dX9_starts_9 (by decide) (fun c => ?_) (fun c => ?_)
  · replace h := h.1 c
    refine m_aload_n dX9_starts_41 rfl 0 rfl ?_
    refine m_dup dX9_starts_42 rfl ?_
    refine m_get (v := .long (L 41)) 41 dX9_starts_43 (by decide) q1804 rfl ?_
    refine m_lload_n dX9_starts_46 rfl 1 rfl ?_
    refine m_aload_n dX9_starts_47 rfl 0 rfl ?_
    refine m_get (v := .int (F 51)) 51 dX9_starts_48 (by decide) q1814 rfl ?_
    refine m_i2l dX9_starts_51 ?_
    refine m_lmul dX9_starts_52 ?_
    refine m_ladd dX9_starts_53 ?_
    refine m_topl (fun w ew => ?_)
    replace h := h w ew
    refine m_putL 41 dX9_starts_54 (by decide) q1804 rfl rfl rfl rfl ?_
    refine m_topL (fun L1 eL1 => ?_)
    replace h := h L1 eL1
    refine m_aload_n dX9_starts_57 rfl 0 rfl ?_
    refine m_aload_n dX9_starts_58 rfl 0 rfl ?_
    refine m_get (v := .int (F 51)) 51 dX9_starts_59 (by decide) q1814 rfl ?_
    refine m_aload_n dX9_starts_62 rfl 0 rfl ?_
    refine m_get (v := .int (F 52)) 52 dX9_starts_63 (by decide) q1815 rfl ?_
    refine m_iadd dX9_starts_66 ?_
    refine m_iconst (v := 0) dX9_starts_67 (by decide) ?_
    refine m_aload_n dX9_starts_68 rfl 0 rfl ?_
    refine m_get (v := .int (F 53)) 53 dX9_starts_69 (by decide) q1816 rfl ?_
    refine m_iload_n dX9_starts_72 rfl 2 rfl ?_
    refine m_iconst (v := 1) dX9_starts_73 (by decide) ?_
    refine m_iadd dX9_starts_74 ?_
    refine m_aload_n dX9_starts_75 rfl 0 rfl ?_
    refine m_get (v := .int (F 55)) 55 dX9_starts_76 (by decide) q1818 rfl ?_
    refine m_callP (N := mX9_index) (st := [.ref o]) (As := [.int ((F 51) + (F 52)), .int 0, .int (F 53), .int (x3 + 1), .int (F 55)]) dX9_starts_79 wsX9_index (lw_S q2183 q2184 q116 q2185) mokX9_index rfl (by decide) (by decide) (by simp [Value.category]) h (fun _ hq => ?_)
    obtain ⟨rx, rfl, h⟩ := hq
    refine AtM.stk (st' := [.int rx, .ref o]) rfl ?_
    refine m_lload_n dX9_starts_82 rfl 1 rfl ?_
    refine m_callV (N := mX9_gives) (st := []) (As := [.int rx, .long y1]) dX9_starts_83 wsX9_gives (lw_V q2200 q2202 qs74 q116 q2203) rfl mokX9_gives rfl (by decide) (by decide) (Nat.zero_le _) h (fun _ F1 L1_1 I1 J1 hq => ?_)
    obtain ⟨rfl, h⟩ := hq
    refine AtM.stk (st' := []) rfl ?_
    exact m_vret rfl dX9_starts_86 h
  · replace h := h.2 c
    refine m_aload_n dX9_starts_12 rfl 0 rfl ?_
    refine m_aload_n dX9_starts_13 rfl 0 rfl ?_
    refine m_get (v := .int (F 51)) 51 dX9_starts_14 (by decide) q1814 rfl ?_
    refine m_aload_n dX9_starts_17 rfl 0 rfl ?_
    refine m_get (v := .int (F 52)) 52 dX9_starts_18 (by decide) q1815 rfl ?_
    refine m_aload_n dX9_starts_21 rfl 0 rfl ?_
    refine m_get (v := .int (F 53)) 53 dX9_starts_22 (by decide) q1816 rfl ?_
    refine m_aload_n dX9_starts_25 rfl 0 rfl ?_
    refine m_get (v := .int (F 54)) 54 dX9_starts_26 (by decide) q1817 rfl ?_
    refine m_aload_n dX9_starts_29 rfl 0 rfl ?_
    refine m_get (v := .int (F 55)) 55 dX9_starts_30 (by decide) q1818 rfl ?_
    refine m_callP (N := mX9_index) (st := [.ref o]) (As := [.int (F 51), .int (F 52), .int (F 53), .int (F 54), .int (F 55)]) dX9_starts_33 wsX9_index (lw_S q2183 q2184 q116 q2185) mokX9_index rfl (by decide) (by decide) (by simp [Value.category]) h (fun _ hq => ?_)
    obtain ⟨rx, rfl, h⟩ := hq
    refine AtM.stk (st' := [.int rx, .ref o]) rfl ?_
    refine m_lload_n dX9_starts_36 rfl 1 rfl ?_
    refine m_callV (N := mX9_gives) (st := []) (As := [.int rx, .long y1]) dX9_starts_37 wsX9_gives (lw_V q2200 q2202 qs74 q116 q2203) rfl mokX9_gives rfl (by decide) (by decide) (Nat.zero_le _) h (fun _ F1 L1 I1 J1 hq => ?_)
    obtain ⟨rfl, h⟩ := hq
    refine AtM.stk (st' := []) rfl ?_
    exact m_vret rfl dX9_starts_40 h
theorem eX9_starts {G : GC} {ad : Nat → Nat} {o : Nat} {Q : MPost} {p1 : Int64} {p3 : Int32} {F : Nat → Int32} {L : Nat → Int64} {I : Nat → Nat → Int32} {J : Nat → Nat → Int64} (h : ∀ σ0, AtM G mX9_starts 4 ad o σ0 Q 0 [(0, .ref o), (1, .long p1), (3, .int p3)] [] F L I J) : CallM G mX9_starts 4 ad o [.ref o, .long p1, .int p3] F L I J Q :=
  CallM.of (by decide +kernel) wsX9_starts rfl (Nat.le_of_ble_eq_true rfl) (fun σ0 => AtM.sub (ls := [(0, .ref o), (1, .long p1), (3, .int p3)]) [0, 1, 2] rfl (h σ0))
set_option maxHeartbeats 4000000 in
theorem bX9_ends_0 {G : GC} {ad : Nat → Nat} {o : Nat} {σ0 : PS} {Q : MPost} {x1 : Int32} {F : Nat → Int32} {L : Nat → Int64} {I : Nat → Nat → Int32} {J : Nat → Nat → Int64} (h : AtM G mX9_ends 5 ad o σ0 Q 2 [(0, .ref o), (1, .int x1), (2, .int 0)] [] F L I J) : AtM G mX9_ends 5 ad o σ0 Q 0 [(0, .ref o), (1, .int x1)] [] F L I J := by
  refine m_iconst (v := 0) dX9_ends_0 (by decide) ?_
  refine m_istore_n (ls1 := [(2, .int 0), (0, .ref o), (1, .int x1)]) dX9_ends_1 rfl (by decide) rfl ?_
  exact AtM.sub (ls := [(2, .int 0), (0, .ref o), (1, .int x1)]) [1, 2, 0] rfl h
set_option maxHeartbeats 4000000 in
theorem bX9_ends_2 {G : GC} {ad : Nat → Nat} {o : Nat} {σ0 : PS} {Q : MPost} {x1 : Int32} {x2 : Int32} {F : Nat → Int32} {L : Nat → Int64} {I : Nat → Nat → Int32} {J : Nat → Nat → Int64} (h : (((F 35) ≤ x2) → CallM G mX9_takesNext 3 ad o [.ref o] F L I J (mqV (fun F1 L1 I1 J1 => Q none F1 L1 I1 J1))) ∧ ((¬ (F 35) ≤ x2) → vp_in x2 16900 ∧ (∀ v3 : Int32, v3 = (I 33 x2.toNatClampNeg) → CallM G mX9_stateOf 3 ad o [.ref o, .int v3] F L I J (mqV (fun F1 L1 I1 J1 => (∀ F1_1 : Nat → Int32, F1_1 = fU F1 55 0 → (((F1_1 45) ≤ 0) → AtM G mX9_ends 5 ad o σ0 Q 64 [(0, .ref o), (1, .int x1), (2, .int x2), (3, .int v3)] [] F1_1 L1 I1 J1) ∧ ((¬ (F1_1 45) ≤ 0) → ((((F1_1 51) + (F1_1 52)) < (F1_1 45)) → AtM G mX9_ends 5 ad o σ0 Q 64 [(0, .ref o), (1, .int x1), (2, .int x2), (3, .int v3)] [] F1_1 L1 I1 J1) ∧ ((¬ ((F1_1 51) + (F1_1 52)) < (F1_1 45)) → vp_in v3 16900 ∧ (CallM G mX9_starts 4 ad o [.ref o, .long (J1 37 v3.toNatClampNeg), .int x1] F1_1 L1 I1 J1 (mqV (fun F1_2 L1_3 I1_4 J1_5 => ∀ v2 : Int32, v2 = x2 + 1 → AtM G mX9_ends 5 ad o σ0 Q 2 [(0, .ref o), (1, .int x1), (2, .int v2)] [] F1_2 L1_3 I1_4 J1_5))))))))))) : AtM G mX9_ends 5 ad o σ0 Q 2 [(0, .ref o), (1, .int x1), (2, .int x2)] [] F L I J := by
  refine m_iload_n dX9_ends_2 rfl 2 rfl ?_
  refine m_aload_n dX9_ends_3 rfl 0 rfl ?_
  refine m_get (v := .int (F 35)) 35 dX9_ends_4 (by decide) q1798 rfl ?_
  refine m_icmp_ge (tgt := 100) dX9_ends_7 (by decide) (fun c => ?_) (fun c => ?_)
  · replace h := h.1 c
    refine m_aload_n dX9_ends_100 rfl 0 rfl ?_
    refine m_callV (N := mX9_takesNext) (st := []) (As := []) dX9_ends_101 wsX9_takesNext (lw_V q2204 q2206 qs75 q116 q2207) rfl mokX9_takesNext rfl (by decide) (by decide) (Nat.zero_le _) h (fun _ F1 L1 I1 J1 hq => ?_)
    obtain ⟨rfl, h⟩ := hq
    refine AtM.stk (st' := []) rfl ?_
    exact m_vret rfl dX9_ends_104 h
  · replace h := h.2 c
    refine m_aload_n dX9_ends_10 rfl 0 rfl ?_
    refine m_get (v := .ref (ad 33)) 33 dX9_ends_11 (by decide) q1796 rfl ?_
    refine m_iload_n dX9_ends_14 rfl 2 rfl ?_
    obtain ⟨h1, h⟩ := h
    refine m_iald 33 dX9_ends_15 (by decide) rfl h1 ?_
    refine m_topi (fun v3 ev3 => ?_)
    replace h := h v3 ev3
    refine m_istore_n (ls1 := [(3, .int v3), (0, .ref o), (1, .int x1), (2, .int x2)]) dX9_ends_16 rfl (by decide) rfl ?_
    refine m_aload_n dX9_ends_17 rfl 1 rfl ?_
    refine m_iload_n dX9_ends_18 rfl 0 rfl ?_
    refine m_callV (N := mX9_stateOf) (st := []) (As := [.int v3]) dX9_ends_19 wsX9_stateOf (lw_V q2195 q2197 qs73 q116 q2198) rfl mokX9_stateOf rfl (by decide) (by decide) (Nat.zero_le _) h (fun _ F1 L1 I1 J1 hq => ?_)
    obtain ⟨rfl, h⟩ := hq
    refine AtM.stk (st' := []) rfl ?_
    refine m_aload_n dX9_ends_22 rfl 1 rfl ?_
    refine m_iconst (v := 0) dX9_ends_23 (by decide) ?_
    refine m_putI 55 dX9_ends_24 (by decide) q1818 rfl rfl rfl rfl ?_
    refine m_topF (fun F1_1 eF1_1 => ?_)
    replace h := h F1_1 eF1_1
    refine m_aload_n dX9_ends_27 rfl 1 rfl ?_
    refine m_get (v := .int (F1_1 45)) 45 dX9_ends_28 (by decide) q1808 rfl ?_
    refine m_if_le (tgt := 64) dX9_ends_31 (by decide) (fun c => ?_) (fun c => ?_)
    · replace h := h.1 c
      exact AtM.sub (ls := [(3, .int v3), (0, .ref o), (1, .int x1), (2, .int x2)]) [1, 2, 3, 0] rfl h
    · replace h := h.2 c
      refine m_aload_n dX9_ends_34 rfl 1 rfl ?_
      refine m_get (v := .int (F1_1 51)) 51 dX9_ends_35 (by decide) q1814 rfl ?_
      refine m_aload_n dX9_ends_38 rfl 1 rfl ?_
      refine m_get (v := .int (F1_1 52)) 52 dX9_ends_39 (by decide) q1815 rfl ?_
      refine m_iadd dX9_ends_42 ?_
      refine m_aload_n dX9_ends_43 rfl 1 rfl ?_
      refine m_get (v := .int (F1_1 45)) 45 dX9_ends_44 (by decide) q1808 rfl ?_
      refine m_icmp_lt (tgt := 64) dX9_ends_47 (by decide) (fun c => ?_) (fun c => ?_)
      · replace h := h.1 c
        exact AtM.sub (ls := [(3, .int v3), (0, .ref o), (1, .int x1), (2, .int x2)]) [1, 2, 3, 0] rfl h
      · replace h := h.2 c
        refine m_aload_n dX9_ends_50 rfl 1 rfl ?_
        refine m_aload_n dX9_ends_51 rfl 1 rfl ?_
        refine m_get (v := .ref (ad 37)) 37 dX9_ends_52 (by decide) q1800 rfl ?_
        refine m_iload_n dX9_ends_55 rfl 0 rfl ?_
        obtain ⟨h1, h⟩ := h
        refine m_lald 37 dX9_ends_56 (by decide) rfl h1 ?_
        refine m_iload_n dX9_ends_57 rfl 2 rfl ?_
        refine m_callV (N := mX9_starts) (st := []) (As := [.long (J1 37 v3.toNatClampNeg), .int x1]) dX9_ends_58 wsX9_starts (lw_V q2247 q2249 qs85 q116 q2250) rfl mokX9_starts rfl (by decide) (by decide) (Nat.zero_le _) h (fun _ F1_2 L1_3 I1_4 J1_5 hq => ?_)
        obtain ⟨rfl, h⟩ := hq
        refine AtM.stk (st' := []) rfl ?_
        refine m_goto (tgt := 94) dX9_ends_61 (by decide) ?_
        obtain ⟨v2, ev2⟩ : ∃ z : Int32, z = x2 + 1 := ⟨_, rfl⟩
        refine m_iinc (v := v2) (ls1 := [(2, .int v2), (3, .int v3), (0, .ref o), (1, .int x1)]) dX9_ends_94 3 rfl (by rw [ev2]; rfl) (by decide) rfl ?_
        replace h := h v2 ev2
        refine m_goto (tgt := 2) dX9_ends_97 (by decide) ?_
        exact AtM.sub (ls := [(2, .int v2), (3, .int v3), (0, .ref o), (1, .int x1)]) [2, 3, 0] rfl h
set_option maxHeartbeats 4000000 in
theorem bX9_ends_64 {G : GC} {ad : Nat → Nat} {o : Nat} {σ0 : PS} {Q : MPost} {x1 : Int32} {x2 : Int32} {x3 : Int32} {F : Nat → Int32} {L : Nat → Int64} {I : Nat → Nat → Int32} {J : Nat → Nat → Int64} (h : CallP G mX9_index 3 [.int (F 51), .int (F 52), .int (F 53), .int (F 54), .int 0] (pI (fun rx => vp_in x3 16900 ∧ (CallM G mX9_gives 3 ad o [.ref o, .int rx, .long (J 37 x3.toNatClampNeg)] F L I J (mqV (fun F1 L1 I1 J1 => ∀ v2 : Int32, v2 = x2 + 1 → AtM G mX9_ends 5 ad o σ0 Q 2 [(0, .ref o), (1, .int x1), (2, .int v2)] [] F1 L1 I1 J1)))))) : AtM G mX9_ends 5 ad o σ0 Q 64 [(0, .ref o), (1, .int x1), (2, .int x2), (3, .int x3)] [] F L I J := by
  refine m_aload_n dX9_ends_64 rfl 0 rfl ?_
  refine m_aload_n dX9_ends_65 rfl 0 rfl ?_
  refine m_get (v := .int (F 51)) 51 dX9_ends_66 (by decide) q1814 rfl ?_
  refine m_aload_n dX9_ends_69 rfl 0 rfl ?_
  refine m_get (v := .int (F 52)) 52 dX9_ends_70 (by decide) q1815 rfl ?_
  refine m_aload_n dX9_ends_73 rfl 0 rfl ?_
  refine m_get (v := .int (F 53)) 53 dX9_ends_74 (by decide) q1816 rfl ?_
  refine m_aload_n dX9_ends_77 rfl 0 rfl ?_
  refine m_get (v := .int (F 54)) 54 dX9_ends_78 (by decide) q1817 rfl ?_
  refine m_iconst (v := 0) dX9_ends_81 (by decide) ?_
  refine m_callP (N := mX9_index) (st := [.ref o]) (As := [.int (F 51), .int (F 52), .int (F 53), .int (F 54), .int 0]) dX9_ends_82 wsX9_index (lw_S q2183 q2184 q116 q2185) mokX9_index rfl (by decide) (by decide) (by simp [Value.category]) h (fun _ hq => ?_)
  obtain ⟨rx, rfl, h⟩ := hq
  refine AtM.stk (st' := [.int rx, .ref o]) rfl ?_
  refine m_aload_n dX9_ends_85 rfl 0 rfl ?_
  refine m_get (v := .ref (ad 37)) 37 dX9_ends_86 (by decide) q1800 rfl ?_
  refine m_iload_n dX9_ends_89 rfl 3 rfl ?_
  obtain ⟨h1, h⟩ := h
  refine m_lald 37 dX9_ends_90 (by decide) rfl h1 ?_
  refine m_callV (N := mX9_gives) (st := []) (As := [.int rx, .long (J 37 x3.toNatClampNeg)]) dX9_ends_91 wsX9_gives (lw_V q2200 q2202 qs74 q116 q2203) rfl mokX9_gives rfl (by decide) (by decide) (Nat.zero_le _) h (fun _ F1 L1 I1 J1 hq => ?_)
  obtain ⟨rfl, h⟩ := hq
  refine AtM.stk (st' := []) rfl ?_
  obtain ⟨v2, ev2⟩ : ∃ z : Int32, z = x2 + 1 := ⟨_, rfl⟩
  refine m_iinc (v := v2) (ls1 := [(2, .int v2), (0, .ref o), (1, .int x1), (3, .int x3)]) dX9_ends_94 2 rfl (by rw [ev2]; rfl) (by decide) rfl ?_
  replace h := h v2 ev2
  refine m_goto (tgt := 2) dX9_ends_97 (by decide) ?_
  exact AtM.sub (ls := [(2, .int v2), (0, .ref o), (1, .int x1), (3, .int x3)]) [1, 2, 0] rfl h
theorem eX9_ends {G : GC} {ad : Nat → Nat} {o : Nat} {Q : MPost} {p1 : Int32} {F : Nat → Int32} {L : Nat → Int64} {I : Nat → Nat → Int32} {J : Nat → Nat → Int64} (h : ∀ σ0, AtM G mX9_ends 5 ad o σ0 Q 0 [(0, .ref o), (1, .int p1)] [] F L I J) : CallM G mX9_ends 5 ad o [.ref o, .int p1] F L I J Q :=
  CallM.of (by decide +kernel) wsX9_ends rfl (Nat.le_of_ble_eq_true rfl) (fun σ0 => AtM.sub (ls := [(0, .ref o), (1, .int p1)]) [0, 1] rfl (h σ0))
set_option maxHeartbeats 4000000 in
theorem bX9_likelyOf_0 {G : GC} {ad : Nat → Nat} {o : Nat} {σ0 : PS} {Q : MPost} {x1 : Int32} {x2 : Int32} {F : Nat → Int32} {L : Nat → Int64} {I : Nat → Nat → Int32} {J : Nat → Nat → Int64} (h : AtM G mX9_likelyOf 5 ad o σ0 Q 5 [(0, .ref o), (1, .int x1), (2, .int x2), (3, .long 0), (5, .int 0)] [] F L I J) : AtM G mX9_likelyOf 5 ad o σ0 Q 0 [(0, .ref o), (1, .int x1), (2, .int x2)] [] F L I J := by
  refine m_lconst (v := 0) dX9_likelyOf_0 (by decide) ?_
  refine m_lstore_n (ls1 := [(3, .long 0), (0, .ref o), (1, .int x1), (2, .int x2)]) dX9_likelyOf_1 rfl (by decide) rfl ?_
  refine m_iconst (v := 0) dX9_likelyOf_2 (by decide) ?_
  refine m_istore (ls1 := [(5, .int 0), (3, .long 0), (0, .ref o), (1, .int x1), (2, .int x2)]) dX9_likelyOf_3 (by decide) rfl ?_
  exact AtM.sub (ls := [(5, .int 0), (3, .long 0), (0, .ref o), (1, .int x1), (2, .int x2)]) [2, 3, 4, 1, 0] rfl h
set_option maxHeartbeats 4000000 in
theorem bX9_likelyOf_5 {G : GC} {ad : Nat → Nat} {o : Nat} {σ0 : PS} {Q : MPost} {x1 : Int32} {x2 : Int32} {y3 : Int64} {x5 : Int32} {F : Nat → Int32} {L : Nat → Int64} {I : Nat → Nat → Int32} {J : Nat → Nat → Int64} (h : (((F 35) ≤ x5) → Q (some (.long y3)) F L I J) ∧ ((¬ (F 35) ≤ x5) → vp_in x5 16900 ∧ (∀ v6 : Int32, v6 = (I 33 x5.toNatClampNeg) → CallM G mX9_stateOf 3 ad o [.ref o, .int v6] F L I J (mqV (fun F1 L1 I1 J1 => CallMO G mX9_isOf 4 ad o [.ref o, .int x1, .int x2] F1 L1 I1 J1 (pI (fun rx => ((rx = 0) → ∀ v3 : Int64, v3 = (y3 + 0) → ∀ v5 : Int32, v5 = x5 + 1 → AtM G mX9_likelyOf 5 ad o σ0 Q 5 [(0, .ref o), (1, .int x1), (2, .int x2), (3, .long v3), (5, .int v5)] [] F1 L1 I1 J1) ∧ ((¬ rx = 0) → vp_in v6 16900 ∧ (∀ w : Int64, w = (y3 + (J1 37 v6.toNatClampNeg)) → ∀ v5 : Int32, v5 = x5 + 1 → AtM G mX9_likelyOf 5 ad o σ0 Q 5 [(0, .ref o), (1, .int x1), (2, .int x2), (3, .long w), (5, .int v5)] [] F1 L1 I1 J1))))))))) : AtM G mX9_likelyOf 5 ad o σ0 Q 5 [(0, .ref o), (1, .int x1), (2, .int x2), (3, .long y3), (5, .int x5)] [] F L I J := by
  refine m_iload dX9_likelyOf_5 4 rfl ?_
  refine m_aload_n dX9_likelyOf_7 rfl 0 rfl ?_
  refine m_get (v := .int (F 35)) 35 dX9_likelyOf_8 (by decide) q1798 rfl ?_
  refine m_icmp_ge (tgt := 58) dX9_likelyOf_11 (by decide) (fun c => ?_) (fun c => ?_)
  · replace h := h.1 c
    refine m_lload_n dX9_likelyOf_58 rfl 3 rfl ?_
    exact m_lret rfl dX9_likelyOf_59 h
  · replace h := h.2 c
    refine m_aload_n dX9_likelyOf_14 rfl 0 rfl ?_
    refine m_get (v := .ref (ad 33)) 33 dX9_likelyOf_15 (by decide) q1796 rfl ?_
    refine m_iload dX9_likelyOf_18 4 rfl ?_
    obtain ⟨h1, h⟩ := h
    refine m_iald 33 dX9_likelyOf_20 (by decide) rfl h1 ?_
    refine m_topi (fun v6 ev6 => ?_)
    replace h := h v6 ev6
    refine m_istore (ls1 := [(6, .int v6), (0, .ref o), (1, .int x1), (2, .int x2), (3, .long y3), (5, .int x5)]) dX9_likelyOf_21 (by decide) rfl ?_
    refine m_aload_n dX9_likelyOf_23 rfl 1 rfl ?_
    refine m_iload dX9_likelyOf_24 0 rfl ?_
    refine m_callV (N := mX9_stateOf) (st := []) (As := [.int v6]) dX9_likelyOf_26 wsX9_stateOf (lw_V q2195 q2197 qs73 q116 q2198) rfl mokX9_stateOf rfl (by decide) (by decide) (Nat.zero_le _) h (fun _ F1 L1 I1 J1 hq => ?_)
    obtain ⟨rfl, h⟩ := hq
    refine AtM.stk (st' := []) rfl ?_
    refine m_lload_n dX9_likelyOf_29 rfl 4 rfl ?_
    refine m_aload_n dX9_likelyOf_30 rfl 1 rfl ?_
    refine m_iload_n dX9_likelyOf_31 rfl 2 rfl ?_
    refine m_iload_n dX9_likelyOf_32 rfl 3 rfl ?_
    refine m_callV (N := mX9_isOf) (st := [.long y3]) (As := [.int x1, .int x2]) dX9_likelyOf_33 wsX9_isOf (lw_V q2259 q2261 qs88 q116 q2262) rfl mokX9_isOf rfl (by decide) (by decide) (by simp [Value.category]) h (fun _ F9 L9 I9 J9 hq => ?_)
    obtain ⟨e1, e2, e3, e4, hq⟩ := hq
    refine AtM.re e1 e2 e3 e4 ?_
    obtain ⟨rx, rfl, h⟩ := hq
    refine AtM.stk (st' := [.int rx, .long y3]) rfl ?_
    refine m_if_eq (tgt := 49) dX9_likelyOf_36 (by decide) (fun c => ?_) (fun c => ?_)
    · replace h := h.1 c
      refine m_lconst (v := 0) dX9_likelyOf_49 (by decide) ?_
      refine m_ladd dX9_likelyOf_50 ?_
      refine m_topl (fun v3 ev3 => ?_)
      replace h := h v3 ev3
      refine m_lstore_n (ls1 := [(3, .long v3), (6, .int v6), (0, .ref o), (1, .int x1), (2, .int x2), (5, .int x5)]) dX9_likelyOf_51 rfl (by decide) rfl ?_
      obtain ⟨v5, ev5⟩ : ∃ z : Int32, z = x5 + 1 := ⟨_, rfl⟩
      refine m_iinc (v := v5) (ls1 := [(5, .int v5), (3, .long v3), (6, .int v6), (0, .ref o), (1, .int x1), (2, .int x2)]) dX9_likelyOf_52 5 rfl (by rw [ev5]; rfl) (by decide) rfl ?_
      replace h := h v5 ev5
      refine m_goto (tgt := 5) dX9_likelyOf_55 (by decide) ?_
      exact AtM.sub (ls := [(5, .int v5), (3, .long v3), (6, .int v6), (0, .ref o), (1, .int x1), (2, .int x2)]) [3, 4, 5, 1, 0] rfl h
    · replace h := h.2 c
      refine m_aload_n dX9_likelyOf_39 rfl 1 rfl ?_
      refine m_get (v := .ref (ad 37)) 37 dX9_likelyOf_40 (by decide) q1800 rfl ?_
      refine m_iload dX9_likelyOf_43 0 rfl ?_
      obtain ⟨h1, h⟩ := h
      refine m_lald 37 dX9_likelyOf_45 (by decide) rfl h1 ?_
      refine m_goto (tgt := 50) dX9_likelyOf_46 (by decide) ?_
      refine m_ladd dX9_likelyOf_50 ?_
      refine m_topl (fun w ew => ?_)
      replace h := h w ew
      refine m_lstore_n (ls1 := [(3, .long w), (6, .int v6), (0, .ref o), (1, .int x1), (2, .int x2), (5, .int x5)]) dX9_likelyOf_51 rfl (by decide) rfl ?_
      obtain ⟨v5, ev5⟩ : ∃ z : Int32, z = x5 + 1 := ⟨_, rfl⟩
      refine m_iinc (v := v5) (ls1 := [(5, .int v5), (3, .long w), (6, .int v6), (0, .ref o), (1, .int x1), (2, .int x2)]) dX9_likelyOf_52 5 rfl (by rw [ev5]; rfl) (by decide) rfl ?_
      replace h := h v5 ev5
      refine m_goto (tgt := 5) dX9_likelyOf_55 (by decide) ?_
      exact AtM.sub (ls := [(5, .int v5), (3, .long w), (6, .int v6), (0, .ref o), (1, .int x1), (2, .int x2)]) [3, 4, 5, 1, 0] rfl h
theorem eX9_likelyOf {G : GC} {ad : Nat → Nat} {o : Nat} {Q : MPost} {p1 : Int32} {p2 : Int32} {F : Nat → Int32} {L : Nat → Int64} {I : Nat → Nat → Int32} {J : Nat → Nat → Int64} (h : ∀ σ0, AtM G mX9_likelyOf 5 ad o σ0 Q 0 [(0, .ref o), (1, .int p1), (2, .int p2)] [] F L I J) : CallM G mX9_likelyOf 5 ad o [.ref o, .int p1, .int p2] F L I J Q :=
  CallM.of (by decide +kernel) wsX9_likelyOf rfl (Nat.le_of_ble_eq_true rfl) (fun σ0 => AtM.sub (ls := [(0, .ref o), (1, .int p1), (2, .int p2)]) [0, 1, 2] rfl (h σ0))
set_option maxHeartbeats 4000000 in
theorem bX9_isOf_0 {G : GC} {ad : Nat → Nat} {o : Nat} {σ0 : PS} {Q : MPost} {x1 : Int32} {x2 : Int32} {F : Nat → Int32} {L : Nat → Int64} {I : Nat → Nat → Int32} {J : Nat → Nat → Int64} (h : ((¬ x1 = 0) → ((¬ x1 = 1) → ((¬ x1 = 2) → ((¬ x1 = 3) → ((¬ x1 = 4) → ((¬ ((F 51) + (F 52)) = (I 11 0)) → Q (some (.int 0)) F L I J) ∧ ((((F 51) + (F 52)) = (I 11 0)) → Q (some (.int 1)) F L I J)) ∧ ((x1 = 4) → ((¬ ((F 51) + (F 52)) = 0) → Q (some (.int 0)) F L I J) ∧ ((((F 51) + (F 52)) = 0) → Q (some (.int 1)) F L I J))) ∧ ((x1 = 3) → ((¬ (F 53) = 1) → Q (some (.int 0)) F L I J) ∧ (((F 53) = 1) → Q (some (.int 1)) F L I J))) ∧ ((x1 = 2) → CallMO G mX9_isWarm 3 ad o [.ref o, .int x2] F L I J (pI (fun rx => (rx = 0 ∨ rx = 1) ∧ Q (some (.int rx)) F L I J)))) ∧ ((x1 = 1) → ((¬ (F 53) = 1) → AtM G mX9_isOf 4 ad o σ0 Q 35 [(0, .ref o)] [.int 0] F L I J) ∧ (((F 53) = 1) → AtM G mX9_isOf 4 ad o σ0 Q 35 [(0, .ref o)] [.int 1] F L I J))) ∧ ((x1 = 0) → ((¬ (F 52) = 0) → Q (some (.int 0)) F L I J) ∧ (((F 52) = 0) → Q (some (.int 1)) F L I J))) : AtM G mX9_isOf 4 ad o σ0 Q 0 [(0, .ref o), (1, .int x1), (2, .int x2)] [] F L I J := by
  refine m_iload_n dX9_isOf_0 rfl 1 rfl ?_
  refine m_if_ne (tgt := 17) dX9_isOf_1 (by decide) (fun c => ?_) (fun c => ?_)
  · replace h := h.1 c
    refine m_iload_n dX9_isOf_17 rfl 1 rfl ?_
    refine m_iconst (v := 1) dX9_isOf_18 (by decide) ?_
    refine m_icmp_ne (tgt := 56) dX9_isOf_19 (by decide) (fun c => ?_) (fun c => ?_)
    · replace h := h.1 c
      refine m_iload_n dX9_isOf_56 rfl 1 rfl ?_
      refine m_iconst (v := 2) dX9_isOf_57 (by decide) ?_
      refine m_icmp_ne (tgt := 67) dX9_isOf_58 (by decide) (fun c => ?_) (fun c => ?_)
      · replace h := h.1 c
        refine m_iload_n dX9_isOf_67 rfl 1 rfl ?_
        refine m_iconst (v := 3) dX9_isOf_68 (by decide) ?_
        refine m_icmp_ne (tgt := 86) dX9_isOf_69 (by decide) (fun c => ?_) (fun c => ?_)
        · replace h := h.1 c
          refine m_iload_n dX9_isOf_86 rfl 1 rfl ?_
          refine m_iconst (v := 4) dX9_isOf_87 (by decide) ?_
          refine m_icmp_ne (tgt := 111) dX9_isOf_88 (by decide) (fun c => ?_) (fun c => ?_)
          · replace h := h.1 c
            refine m_aload_n dX9_isOf_111 rfl 0 rfl ?_
            refine m_get (v := .int (F 51)) 51 dX9_isOf_112 (by decide) q1814 rfl ?_
            refine m_aload_n dX9_isOf_115 rfl 0 rfl ?_
            refine m_get (v := .int (F 52)) 52 dX9_isOf_116 (by decide) q1815 rfl ?_
            refine m_iadd dX9_isOf_119 ?_
            refine m_aload_n dX9_isOf_120 rfl 0 rfl ?_
            refine m_get (v := .ref (ad 11)) 11 dX9_isOf_121 (by decide) q1774 rfl ?_
            refine m_iconst (v := 0) dX9_isOf_124 (by decide) ?_
            refine m_iald0 (j := 0) 11 dX9_isOf_125 (by decide) rfl (by decide) rfl (Nat.le_of_ble_eq_true rfl) ?_
            refine m_icmp_ne (tgt := 133) dX9_isOf_126 (by decide) (fun c => ?_) (fun c => ?_)
            · replace h := h.1 c
              refine m_iconst (v := 0) dX9_isOf_133 (by decide) ?_
              exact m_zret rfl rfl dX9_isOf_134 h
            · replace h := h.2 c
              refine m_iconst (v := 1) dX9_isOf_129 (by decide) ?_
              refine m_goto (tgt := 134) dX9_isOf_130 (by decide) ?_
              exact m_zret rfl rfl dX9_isOf_134 h
          · replace h := h.2 c
            refine m_aload_n dX9_isOf_91 rfl 0 rfl ?_
            refine m_get (v := .int (F 51)) 51 dX9_isOf_92 (by decide) q1814 rfl ?_
            refine m_aload_n dX9_isOf_95 rfl 0 rfl ?_
            refine m_get (v := .int (F 52)) 52 dX9_isOf_96 (by decide) q1815 rfl ?_
            refine m_iadd dX9_isOf_99 ?_
            refine m_if_ne (tgt := 107) dX9_isOf_100 (by decide) (fun c => ?_) (fun c => ?_)
            · replace h := h.1 c
              refine m_iconst (v := 0) dX9_isOf_107 (by decide) ?_
              refine m_goto (tgt := 134) dX9_isOf_108 (by decide) ?_
              exact m_zret rfl rfl dX9_isOf_134 h
            · replace h := h.2 c
              refine m_iconst (v := 1) dX9_isOf_103 (by decide) ?_
              refine m_goto (tgt := 134) dX9_isOf_104 (by decide) ?_
              exact m_zret rfl rfl dX9_isOf_134 h
        · replace h := h.2 c
          refine m_aload_n dX9_isOf_72 rfl 0 rfl ?_
          refine m_get (v := .int (F 53)) 53 dX9_isOf_73 (by decide) q1816 rfl ?_
          refine m_iconst (v := 1) dX9_isOf_76 (by decide) ?_
          refine m_icmp_ne (tgt := 84) dX9_isOf_77 (by decide) (fun c => ?_) (fun c => ?_)
          · replace h := h.1 c
            refine m_iconst (v := 0) dX9_isOf_84 (by decide) ?_
            exact m_zret rfl rfl dX9_isOf_85 h
          · replace h := h.2 c
            refine m_iconst (v := 1) dX9_isOf_80 (by decide) ?_
            refine m_goto (tgt := 85) dX9_isOf_81 (by decide) ?_
            exact m_zret rfl rfl dX9_isOf_85 h
      · replace h := h.2 c
        refine m_aload_n dX9_isOf_61 rfl 0 rfl ?_
        refine m_iload_n dX9_isOf_62 rfl 2 rfl ?_
        refine m_callV (N := mX9_isWarm) (st := []) (As := [.int x2]) dX9_isOf_63 wsX9_isWarm (lw_V q2216 q2218 qs78 q116 q2219) rfl mokX9_isWarm rfl (by decide) (by decide) (Nat.zero_le _) h (fun _ F9 L9 I9 J9 hq => ?_)
        obtain ⟨e1, e2, e3, e4, hq⟩ := hq
        refine AtM.re e1 e2 e3 e4 ?_
        obtain ⟨rx, rfl, h⟩ := hq
        refine AtM.stk (st' := [.int rx]) rfl ?_
        exact m_zret rfl (nar_z h.1) dX9_isOf_66 h.2
    · replace h := h.2 c
      refine m_aload_n dX9_isOf_22 rfl 0 rfl ?_
      refine m_get (v := .int (F 53)) 53 dX9_isOf_23 (by decide) q1816 rfl ?_
      refine m_iconst (v := 1) dX9_isOf_26 (by decide) ?_
      refine m_icmp_ne (tgt := 34) dX9_isOf_27 (by decide) (fun c => ?_) (fun c => ?_)
      · replace h := h.1 c
        refine m_iconst (v := 0) dX9_isOf_34 (by decide) ?_
        exact AtM.sub (ls := [(0, .ref o), (1, .int x1), (2, .int x2)]) [0] rfl h
      · replace h := h.2 c
        refine m_iconst (v := 1) dX9_isOf_30 (by decide) ?_
        refine m_goto (tgt := 35) dX9_isOf_31 (by decide) ?_
        exact AtM.sub (ls := [(0, .ref o), (1, .int x1), (2, .int x2)]) [0] rfl h
  · replace h := h.2 c
    refine m_aload_n dX9_isOf_4 rfl 0 rfl ?_
    refine m_get (v := .int (F 52)) 52 dX9_isOf_5 (by decide) q1815 rfl ?_
    refine m_if_ne (tgt := 15) dX9_isOf_8 (by decide) (fun c => ?_) (fun c => ?_)
    · replace h := h.1 c
      refine m_iconst (v := 0) dX9_isOf_15 (by decide) ?_
      exact m_zret rfl rfl dX9_isOf_16 h
    · replace h := h.2 c
      refine m_iconst (v := 1) dX9_isOf_11 (by decide) ?_
      refine m_goto (tgt := 16) dX9_isOf_12 (by decide) ?_
      exact m_zret rfl rfl dX9_isOf_16 h
set_option maxHeartbeats 4000000 in
theorem bX9_isOf_35 {G : GC} {ad : Nat → Nat} {o : Nat} {σ0 : PS} {Q : MPost} {sx0 : Int32} {F : Nat → Int32} {L : Nat → Int64} {I : Nat → Nat → Int32} {J : Nat → Nat → Int64} (h : ((¬ (F 52) = 0) → ((¬ sx0 = 0) → Q (some (.int 0)) F L I J) ∧ ((sx0 = 0) → Q (some (.int 1)) F L I J)) ∧ (((F 52) = 0) → ((¬ sx0 = 1) → Q (some (.int 0)) F L I J) ∧ ((sx0 = 1) → Q (some (.int 1)) F L I J))) : AtM G mX9_isOf 4 ad o σ0 Q 35 [(0, .ref o)] [.int sx0] F L I J := by
  refine m_aload_n dX9_isOf_35 rfl 0 rfl ?_
  refine m_get (v := .int (F 52)) 52 dX9_isOf_36 (by decide) q1815 rfl ?_
  refine m_if_ne (tgt := 46) dX9_isOf_39 (by decide) (fun c => ?_) (fun c => ?_)
  · replace h := h.1 c
    refine m_iconst (v := 0) dX9_isOf_46 (by decide) ?_
    refine m_icmp_ne (tgt := 54) dX9_isOf_47 (by decide) (fun c => ?_) (fun c => ?_)
    · replace h := h.1 c
      refine m_iconst (v := 0) dX9_isOf_54 (by decide) ?_
      exact m_zret rfl rfl dX9_isOf_55 h
    · replace h := h.2 c
      refine m_iconst (v := 1) dX9_isOf_50 (by decide) ?_
      refine m_goto (tgt := 55) dX9_isOf_51 (by decide) ?_
      exact m_zret rfl rfl dX9_isOf_55 h
  · replace h := h.2 c
    refine m_iconst (v := 1) dX9_isOf_42 (by decide) ?_
    refine m_goto (tgt := 47) dX9_isOf_43 (by decide) ?_
    refine m_icmp_ne (tgt := 54) dX9_isOf_47 (by decide) (fun c => ?_) (fun c => ?_)
    · replace h := h.1 c
      refine m_iconst (v := 0) dX9_isOf_54 (by decide) ?_
      exact m_zret rfl rfl dX9_isOf_55 h
    · replace h := h.2 c
      refine m_iconst (v := 1) dX9_isOf_50 (by decide) ?_
      refine m_goto (tgt := 55) dX9_isOf_51 (by decide) ?_
      exact m_zret rfl rfl dX9_isOf_55 h
theorem eX9_isOf {G : GC} {ad : Nat → Nat} {o : Nat} {Q : MPost} {p1 : Int32} {p2 : Int32} {F : Nat → Int32} {L : Nat → Int64} {I : Nat → Nat → Int32} {J : Nat → Nat → Int64} (h : ∀ σ0, AtM G mX9_isOf 4 ad o σ0 Q 0 [(0, .ref o), (1, .int p1), (2, .int p2)] [] F L I J) : CallM G mX9_isOf 4 ad o [.ref o, .int p1, .int p2] F L I J Q :=
  CallM.of (by decide +kernel) wsX9_isOf rfl (Nat.le_of_ble_eq_true rfl) (fun σ0 => AtM.sub (ls := [(0, .ref o), (1, .int p1), (2, .int p2)]) [0, 1, 2] rfl (h σ0))
set_option maxHeartbeats 4000000 in
theorem bX9_likely_0 {G : GC} {ad : Nat → Nat} {o : Nat} {σ0 : PS} {Q : MPost} {x1 : Int32} {x2 : Int32} {F : Nat → Int32} {L : Nat → Int64} {I : Nat → Nat → Int32} {J : Nat → Nat → Int64} (h : (∀ F1 : Nat → Int32, F1 = fU F 0 0 → CallM G mX9_isVisit 4 ad o [.ref o, .int x1, .int 1] F1 L I J (mqI (fun rx F1_1 L1 I1 J1 => ((rx = 0) → Q (some (.long 0)) F1_1 L1 I1 J1) ∧ ((¬ rx = 0) → CallP G mX9_within 3 [.int x2, .int 0, .int 5] (pI (fun rx_2 => CallM G mX9_may 3 ad o [.ref o, .int rx_2, .int 2, .int 1] F1_1 L1 I1 J1 (mqI (fun rx_3 F1_4 L1_5 I1_6 J1_7 => ((¬ rx_3 = 0) → CallM G mX9_plain 3 ad o [.ref o] F1_4 L1_5 I1_6 J1_7 (mqV (fun F1_8 L1_9 I1_10 J1_11 => CallM G mX9_goes 7 ad o [.ref o, .int x1] F1_8 L1_9 I1_10 J1_11 (mqV (fun F1_12 L1_13 I1_14 J1_15 => CallM G mX9_likelyOf 5 ad o [.ref o, .int x2, .int x1] F1_12 L1_13 I1_14 J1_15 (mqJ (fun ry F1_16 L1_17 I1_18 J1_19 => Q (some (.long ry)) F1_16 L1_17 I1_18 J1_19))))))) ∧ ((rx_3 = 0) → Q (some (.long 0)) F1_4 L1_5 I1_6 J1_7)))))))))) : AtM G mX9_likely 8 ad o σ0 Q 0 [(0, .ref o), (1, .int x1), (2, .int x2)] [] F L I J := by
  refine m_aload_n dX9_likely_0 rfl 0 rfl ?_
  refine m_iconst (v := 0) dX9_likely_1 (by decide) ?_
  refine m_putI 0 dX9_likely_2 (by decide) q1763 rfl rfl rfl rfl ?_
  refine m_topF (fun F1 eF1 => ?_)
  replace h := h F1 eF1
  refine m_aload_n dX9_likely_5 rfl 0 rfl ?_
  refine m_iload_n dX9_likely_6 rfl 1 rfl ?_
  refine m_iconst (v := 1) dX9_likely_7 (by decide) ?_
  refine m_callV (N := mX9_isVisit) (st := []) (As := [.int x1, .int 1]) dX9_likely_8 wsX9_isVisit (lw_V q2147 q2149 qs65 q116 q2150) rfl mokX9_isVisit rfl (by decide) (by decide) (Nat.zero_le _) h (fun _ F1_1 L1 I1 J1 hq => ?_)
  obtain ⟨rx, rfl, h⟩ := hq
  refine AtM.stk (st' := [.int rx]) rfl ?_
  refine m_if_eq (tgt := 29) dX9_likely_11 (by decide) (fun c => ?_) (fun c => ?_)
  · replace h := h.1 c
    refine m_lconst (v := 0) dX9_likely_29 (by decide) ?_
    exact m_lret rfl dX9_likely_30 h
  · replace h := h.2 c
    refine m_aload_n dX9_likely_14 rfl 0 rfl ?_
    refine m_iload_n dX9_likely_15 rfl 2 rfl ?_
    refine m_iconst (v := 0) dX9_likely_16 (by decide) ?_
    refine m_iconst (v := 5) dX9_likely_17 (by decide) ?_
    refine m_callP (N := mX9_within) (st := [.ref o]) (As := [.int x2, .int 0, .int 5]) dX9_likely_18 wsX9_within (lw_S q2059 q2060 q116 q2061) mokX9_within rfl (by decide) (by decide) (by simp [Value.category]) h (fun _ hq => ?_)
    obtain ⟨rx_2, rfl, h⟩ := hq
    refine AtM.stk (st' := [.int rx_2, .ref o]) rfl ?_
    refine m_iconst (v := 2) dX9_likely_21 (by decide) ?_
    refine m_iconst (v := 1) dX9_likely_22 (by decide) ?_
    refine m_callV (N := mX9_may) (st := []) (As := [.int rx_2, .int 2, .int 1]) dX9_likely_23 wsX9_may (lw_V q1971 q1973 qs38 q116 q1974) rfl mokX9_may rfl (by decide) (by decide) (Nat.zero_le _) h (fun _ F1_4 L1_5 I1_6 J1_7 hq => ?_)
    obtain ⟨rx_3, rfl, h⟩ := hq
    refine AtM.stk (st' := [.int rx_3]) rfl ?_
    refine m_if_ne (tgt := 31) dX9_likely_26 (by decide) (fun c => ?_) (fun c => ?_)
    · replace h := h.1 c
      refine m_aload_n dX9_likely_31 rfl 0 rfl ?_
      refine m_callV (N := mX9_plain) (st := []) (As := []) dX9_likely_32 wsX9_plain (lw_V q2171 q2173 qs68 q116 q2174) rfl mokX9_plain rfl (by decide) (by decide) (Nat.zero_le _) h (fun _ F1_8 L1_9 I1_10 J1_11 hq => ?_)
      obtain ⟨rfl, h⟩ := hq
      refine AtM.stk (st' := []) rfl ?_
      refine m_aload_n dX9_likely_35 rfl 0 rfl ?_
      refine m_iload_n dX9_likely_36 rfl 1 rfl ?_
      refine m_callV (N := mX9_goes) (st := []) (As := [.int x1]) dX9_likely_37 wsX9_goes (lw_V q2175 q2177 qs69 q116 q2178) rfl mokX9_goes rfl (by decide) (by decide) (Nat.zero_le _) h (fun _ F1_12 L1_13 I1_14 J1_15 hq => ?_)
      obtain ⟨rfl, h⟩ := hq
      refine AtM.stk (st' := []) rfl ?_
      refine m_aload_n dX9_likely_40 rfl 0 rfl ?_
      refine m_iload_n dX9_likely_41 rfl 2 rfl ?_
      refine m_iload_n dX9_likely_42 rfl 1 rfl ?_
      refine m_callV (N := mX9_likelyOf) (st := []) (As := [.int x2, .int x1]) dX9_likely_43 wsX9_likelyOf (lw_V q2255 q2257 qs87 q116 q2258) rfl mokX9_likelyOf rfl (by decide) (by decide) (Nat.zero_le _) h (fun _ F1_16 L1_17 I1_18 J1_19 hq => ?_)
      obtain ⟨ry, rfl, h⟩ := hq
      refine AtM.stk (st' := [.long ry]) rfl ?_
      exact m_lret rfl dX9_likely_46 h
    · replace h := h.2 c
      refine m_lconst (v := 0) dX9_likely_29 (by decide) ?_
      exact m_lret rfl dX9_likely_30 h
theorem eX9_likely {G : GC} {ad : Nat → Nat} {o : Nat} {Q : MPost} {p1 : Int32} {p2 : Int32} {F : Nat → Int32} {L : Nat → Int64} {I : Nat → Nat → Int32} {J : Nat → Nat → Int64} (h : ∀ σ0, AtM G mX9_likely 8 ad o σ0 Q 0 [(0, .ref o), (1, .int p1), (2, .int p2)] [] F L I J) : CallM G mX9_likely 8 ad o [.ref o, .int p1, .int p2] F L I J Q :=
  CallM.of (by decide +kernel) wsX9_likely rfl (Nat.le_of_ble_eq_true rfl) (fun σ0 => AtM.sub (ls := [(0, .ref o), (1, .int p1), (2, .int p2)]) [0, 1, 2] rfl (h σ0))
set_option maxHeartbeats 4000000 in
theorem bX9_state_0 {G : GC} {ad : Nat → Nat} {o : Nat} {σ0 : PS} {Q : MPost} {x1 : Int32} {x2 : Int32} {x3 : Int32} {x4 : Int32} {F : Nat → Int32} {L : Nat → Int64} {I : Nat → Nat → Int32} {J : Nat → Nat → Int64} (h : (∀ F1 : Nat → Int32, F1 = fU F 0 0 → CallM G mX9_isVisit 4 ad o [.ref o, .int x1, .int 1] F1 L I J (mqI (fun rx F1_1 L1 I1 J1 => ((rx = 0) → Q (some (.long 0)) F1_1 L1 I1 J1) ∧ ((¬ rx = 0) → CallP G mX9_within 3 [.int x2, .int 0, .int 12] (pI (fun rx_2 => ((rx_2 = 0) → AtM G mX9_state 8 ad o σ0 Q 50 [(0, .ref o), (1, .int x1), (2, .int x2), (3, .int x3), (4, .int x4)] [.int 0, .ref o] F1_1 L1 I1 J1) ∧ ((¬ rx_2 = 0) → CallP G mX9_within 3 [.int x3, .int 0, .int 12] (pI (fun rx_3 => ((rx_3 = 0) → AtM G mX9_state 8 ad o σ0 Q 50 [(0, .ref o), (1, .int x1), (2, .int x2), (3, .int x3), (4, .int x4)] [.int 0, .ref o] F1_1 L1 I1 J1) ∧ ((¬ rx_3 = 0) → CallP G mX9_within 3 [.int x4, .int 0, .int 1] (pI (fun rx_4 => ((rx_4 = 0) → AtM G mX9_state 8 ad o σ0 Q 50 [(0, .ref o), (1, .int x1), (2, .int x2), (3, .int x3), (4, .int x4)] [.int 0, .ref o] F1_1 L1 I1 J1) ∧ ((¬ rx_4 = 0) → AtM G mX9_state 8 ad o σ0 Q 50 [(0, .ref o), (1, .int x1), (2, .int x2), (3, .int x3), (4, .int x4)] [.int 1, .ref o] F1_1 L1 I1 J1)))))))))))))) : AtM G mX9_state 8 ad o σ0 Q 0 [(0, .ref o), (1, .int x1), (2, .int x2), (3, .int x3), (4, .int x4)] [] F L I J := by
  refine m_aload_n dX9_state_0 rfl 0 rfl ?_
  refine m_iconst (v := 0) dX9_state_1 (by decide) ?_
  refine m_putI 0 dX9_state_2 (by decide) q1763 rfl rfl rfl rfl ?_
  refine m_topF (fun F1 eF1 => ?_)
  replace h := h F1 eF1
  refine m_aload_n dX9_state_5 rfl 0 rfl ?_
  refine m_iload_n dX9_state_6 rfl 1 rfl ?_
  refine m_iconst (v := 1) dX9_state_7 (by decide) ?_
  refine m_callV (N := mX9_isVisit) (st := []) (As := [.int x1, .int 1]) dX9_state_8 wsX9_isVisit (lw_V q2147 q2149 qs65 q116 q2150) rfl mokX9_isVisit rfl (by decide) (by decide) (Nat.zero_le _) h (fun _ F1_1 L1 I1 J1 hq => ?_)
  obtain ⟨rx, rfl, h⟩ := hq
  refine AtM.stk (st' := [.int rx]) rfl ?_
  refine m_if_eq (tgt := 58) dX9_state_11 (by decide) (fun c => ?_) (fun c => ?_)
  · replace h := h.1 c
    refine m_lconst (v := 0) dX9_state_58 (by decide) ?_
    exact m_lret rfl dX9_state_59 h
  · replace h := h.2 c
    refine m_aload_n dX9_state_14 rfl 0 rfl ?_
    refine m_iload_n dX9_state_15 rfl 2 rfl ?_
    refine m_iconst (v := 0) dX9_state_16 (by decide) ?_
    refine m_bipush (v := 12) dX9_state_17 (by decide) ?_
    refine m_callP (N := mX9_within) (st := [.ref o]) (As := [.int x2, .int 0, .int 12]) dX9_state_19 wsX9_within (lw_S q2059 q2060 q116 q2061) mokX9_within rfl (by decide) (by decide) (by simp [Value.category]) h (fun _ hq => ?_)
    obtain ⟨rx_2, rfl, h⟩ := hq
    refine AtM.stk (st' := [.int rx_2, .ref o]) rfl ?_
    refine m_if_eq (tgt := 49) dX9_state_22 (by decide) (fun c => ?_) (fun c => ?_)
    · replace h := h.1 c
      refine m_iconst (v := 0) dX9_state_49 (by decide) ?_
      exact AtM.sub (ls := [(0, .ref o), (1, .int x1), (2, .int x2), (3, .int x3), (4, .int x4)]) [0, 1, 2, 3, 4] rfl h
    · replace h := h.2 c
      refine m_iload_n dX9_state_25 rfl 3 rfl ?_
      refine m_iconst (v := 0) dX9_state_26 (by decide) ?_
      refine m_bipush (v := 12) dX9_state_27 (by decide) ?_
      refine m_callP (N := mX9_within) (st := [.ref o]) (As := [.int x3, .int 0, .int 12]) dX9_state_29 wsX9_within (lw_S q2059 q2060 q116 q2061) mokX9_within rfl (by decide) (by decide) (by simp [Value.category]) h (fun _ hq => ?_)
      obtain ⟨rx_3, rfl, h⟩ := hq
      refine AtM.stk (st' := [.int rx_3, .ref o]) rfl ?_
      refine m_if_eq (tgt := 49) dX9_state_32 (by decide) (fun c => ?_) (fun c => ?_)
      · replace h := h.1 c
        refine m_iconst (v := 0) dX9_state_49 (by decide) ?_
        exact AtM.sub (ls := [(0, .ref o), (1, .int x1), (2, .int x2), (3, .int x3), (4, .int x4)]) [0, 1, 2, 3, 4] rfl h
      · replace h := h.2 c
        refine m_iload dX9_state_35 4 rfl ?_
        refine m_iconst (v := 0) dX9_state_37 (by decide) ?_
        refine m_iconst (v := 1) dX9_state_38 (by decide) ?_
        refine m_callP (N := mX9_within) (st := [.ref o]) (As := [.int x4, .int 0, .int 1]) dX9_state_39 wsX9_within (lw_S q2059 q2060 q116 q2061) mokX9_within rfl (by decide) (by decide) (by simp [Value.category]) h (fun _ hq => ?_)
        obtain ⟨rx_4, rfl, h⟩ := hq
        refine AtM.stk (st' := [.int rx_4, .ref o]) rfl ?_
        refine m_if_eq (tgt := 49) dX9_state_42 (by decide) (fun c => ?_) (fun c => ?_)
        · replace h := h.1 c
          refine m_iconst (v := 0) dX9_state_49 (by decide) ?_
          exact AtM.sub (ls := [(0, .ref o), (1, .int x1), (2, .int x2), (3, .int x3), (4, .int x4)]) [0, 1, 2, 3, 4] rfl h
        · replace h := h.2 c
          refine m_iconst (v := 1) dX9_state_45 (by decide) ?_
          refine m_goto (tgt := 50) dX9_state_46 (by decide) ?_
          exact AtM.sub (ls := [(0, .ref o), (1, .int x1), (2, .int x2), (3, .int x3), (4, .int x4)]) [0, 1, 2, 3, 4] rfl h
set_option maxHeartbeats 4000000 in
theorem bX9_state_50 {G : GC} {ad : Nat → Nat} {o : Nat} {σ0 : PS} {Q : MPost} {x1 : Int32} {x2 : Int32} {x3 : Int32} {x4 : Int32} {sx1 : Int32} {F : Nat → Int32} {L : Nat → Int64} {I : Nat → Nat → Int32} {J : Nat → Nat → Int64} (h : CallM G mX9_may 3 ad o [.ref o, .int sx1, .int 2, .int 1] F L I J (mqI (fun rx F1 L1 I1 J1 => ((¬ rx = 0) → CallM G mX9_plain 3 ad o [.ref o] F1 L1 I1 J1 (mqV (fun F1_1 L1_2 I1_3 J1_4 => CallM G mX9_goes 7 ad o [.ref o, .int x1] F1_1 L1_2 I1_3 J1_4 (mqV (fun F1_5 L1_6 I1_7 J1_8 => CallMO G mX9_partsOf 4 ad o [.ref o, .int x2, .int x3, .int x4] F1_5 L1_6 I1_7 J1_8 (pJ (fun ry => Q (some (.long ry)) F1_5 L1_6 I1_7 J1_8))))))) ∧ ((rx = 0) → Q (some (.long 0)) F1 L1 I1 J1)))) : AtM G mX9_state 8 ad o σ0 Q 50 [(0, .ref o), (1, .int x1), (2, .int x2), (3, .int x3), (4, .int x4)] [.int sx1, .ref o] F L I J := by
  refine m_iconst (v := 2) dX9_state_50 (by decide) ?_
  refine m_iconst (v := 1) dX9_state_51 (by decide) ?_
  refine m_callV (N := mX9_may) (st := []) (As := [.int sx1, .int 2, .int 1]) dX9_state_52 wsX9_may (lw_V q1971 q1973 qs38 q116 q1974) rfl mokX9_may rfl (by decide) (by decide) (Nat.zero_le _) h (fun _ F1 L1 I1 J1 hq => ?_)
  obtain ⟨rx, rfl, h⟩ := hq
  refine AtM.stk (st' := [.int rx]) rfl ?_
  refine m_if_ne (tgt := 60) dX9_state_55 (by decide) (fun c => ?_) (fun c => ?_)
  · replace h := h.1 c
    refine m_aload_n dX9_state_60 rfl 0 rfl ?_
    refine m_callV (N := mX9_plain) (st := []) (As := []) dX9_state_61 wsX9_plain (lw_V q2171 q2173 qs68 q116 q2174) rfl mokX9_plain rfl (by decide) (by decide) (Nat.zero_le _) h (fun _ F1_1 L1_2 I1_3 J1_4 hq => ?_)
    obtain ⟨rfl, h⟩ := hq
    refine AtM.stk (st' := []) rfl ?_
    refine m_aload_n dX9_state_64 rfl 0 rfl ?_
    refine m_iload_n dX9_state_65 rfl 1 rfl ?_
    refine m_callV (N := mX9_goes) (st := []) (As := [.int x1]) dX9_state_66 wsX9_goes (lw_V q2175 q2177 qs69 q116 q2178) rfl mokX9_goes rfl (by decide) (by decide) (Nat.zero_le _) h (fun _ F1_5 L1_6 I1_7 J1_8 hq => ?_)
    obtain ⟨rfl, h⟩ := hq
    refine AtM.stk (st' := []) rfl ?_
    refine m_aload_n dX9_state_69 rfl 0 rfl ?_
    refine m_iload_n dX9_state_70 rfl 2 rfl ?_
    refine m_iload_n dX9_state_71 rfl 3 rfl ?_
    refine m_iload dX9_state_72 4 rfl ?_
    refine m_callV (N := mX9_partsOf) (st := []) (As := [.int x2, .int x3, .int x4]) dX9_state_74 wsX9_partsOf (lw_V q2271 q2273 qs89 q116 q2274) rfl mokX9_partsOf rfl (by decide) (by decide) (Nat.zero_le _) h (fun _ F9 L9 I9 J9 hq => ?_)
    obtain ⟨e1, e2, e3, e4, hq⟩ := hq
    refine AtM.re e1 e2 e3 e4 ?_
    obtain ⟨ry, rfl, h⟩ := hq
    refine AtM.stk (st' := [.long ry]) rfl ?_
    exact m_lret rfl dX9_state_77 h
  · replace h := h.2 c
    refine m_lconst (v := 0) dX9_state_58 (by decide) ?_
    exact m_lret rfl dX9_state_59 h
theorem eX9_state {G : GC} {ad : Nat → Nat} {o : Nat} {Q : MPost} {p1 : Int32} {p2 : Int32} {p3 : Int32} {p4 : Int32} {F : Nat → Int32} {L : Nat → Int64} {I : Nat → Nat → Int32} {J : Nat → Nat → Int64} (h : ∀ σ0, AtM G mX9_state 8 ad o σ0 Q 0 [(0, .ref o), (1, .int p1), (2, .int p2), (3, .int p3), (4, .int p4)] [] F L I J) : CallM G mX9_state 8 ad o [.ref o, .int p1, .int p2, .int p3, .int p4] F L I J Q :=
  CallM.of (by decide +kernel) wsX9_state rfl (Nat.le_of_ble_eq_true rfl) (fun σ0 => AtM.sub (ls := [(0, .ref o), (1, .int p1), (2, .int p2), (3, .int p3), (4, .int p4)]) [0, 1, 2, 3, 4] rfl (h σ0))
set_option maxHeartbeats 4000000 in
theorem bX9_partsOf_0 {G : GC} {ad : Nat → Nat} {o : Nat} {σ0 : PS} {Q : MPost} {x1 : Int32} {x2 : Int32} {x3 : Int32} {F : Nat → Int32} {L : Nat → Int64} {I : Nat → Nat → Int32} {J : Nat → Nat → Int64} (h : AtM G mX9_partsOf 4 ad o σ0 Q 6 [(0, .ref o), (1, .int x1), (2, .int x2), (3, .int x3), (4, .long 0), (6, .int 0)] [] F L I J) : AtM G mX9_partsOf 4 ad o σ0 Q 0 [(0, .ref o), (1, .int x1), (2, .int x2), (3, .int x3)] [] F L I J := by
  refine m_lconst (v := 0) dX9_partsOf_0 (by decide) ?_
  refine m_lstore (ls1 := [(4, .long 0), (0, .ref o), (1, .int x1), (2, .int x2), (3, .int x3)]) dX9_partsOf_1 (by decide) rfl ?_
  refine m_iconst (v := 0) dX9_partsOf_3 (by decide) ?_
  refine m_istore (ls1 := [(6, .int 0), (4, .long 0), (0, .ref o), (1, .int x1), (2, .int x2), (3, .int x3)]) dX9_partsOf_4 (by decide) rfl ?_
  exact AtM.sub (ls := [(6, .int 0), (4, .long 0), (0, .ref o), (1, .int x1), (2, .int x2), (3, .int x3)]) [2, 3, 4, 5, 1, 0] rfl h
set_option maxHeartbeats 4000000 in
theorem bX9_partsOf_6 {G : GC} {ad : Nat → Nat} {o : Nat} {σ0 : PS} {Q : MPost} {x1 : Int32} {x2 : Int32} {x3 : Int32} {y4 : Int64} {x6 : Int32} {F : Nat → Int32} {L : Nat → Int64} {I : Nat → Nat → Int32} {J : Nat → Nat → Int64} (h : ((25 ≤ x6) → Q (some (.long y4)) F L I J) ∧ ((¬ 25 ≤ x6) → CallP G mX9_index 3 [.int x1, .int x2, .int x3, .int x6, .int 0] (pI (fun rx => vp_in rx 16900 ∧ (∀ w : Int64, w = (y4 + (J 37 rx.toNatClampNeg)) → ∀ v6 : Int32, v6 = x6 + 1 → AtM G mX9_partsOf 4 ad o σ0 Q 6 [(0, .ref o), (1, .int x1), (2, .int x2), (3, .int x3), (4, .long w), (6, .int v6)] [] F L I J))))) : AtM G mX9_partsOf 4 ad o σ0 Q 6 [(0, .ref o), (1, .int x1), (2, .int x2), (3, .int x3), (4, .long y4), (6, .int x6)] [] F L I J := by
  refine m_iload dX9_partsOf_6 5 rfl ?_
  refine m_bipush (v := 25) dX9_partsOf_8 (by decide) ?_
  refine m_icmp_ge (tgt := 38) dX9_partsOf_10 (by decide) (fun c => ?_) (fun c => ?_)
  · replace h := h.1 c
    refine m_lload dX9_partsOf_38 4 rfl ?_
    exact m_lret rfl dX9_partsOf_40 h
  · replace h := h.2 c
    refine m_lload dX9_partsOf_13 4 rfl ?_
    refine m_aload_n dX9_partsOf_15 rfl 0 rfl ?_
    refine m_get (v := .ref (ad 37)) 37 dX9_partsOf_16 (by decide) q1800 rfl ?_
    refine m_iload_n dX9_partsOf_19 rfl 1 rfl ?_
    refine m_iload_n dX9_partsOf_20 rfl 2 rfl ?_
    refine m_iload_n dX9_partsOf_21 rfl 3 rfl ?_
    refine m_iload dX9_partsOf_22 5 rfl ?_
    refine m_iconst (v := 0) dX9_partsOf_24 (by decide) ?_
    refine m_callP (N := mX9_index) (st := [.ref (ad 37), .long y4]) (As := [.int x1, .int x2, .int x3, .int x6, .int 0]) dX9_partsOf_25 wsX9_index (lw_S q2183 q2184 q116 q2185) mokX9_index rfl (by decide) (by decide) (by simp [Value.category]) h (fun _ hq => ?_)
    obtain ⟨rx, rfl, h⟩ := hq
    refine AtM.stk (st' := [.int rx, .ref (ad 37), .long y4]) rfl ?_
    obtain ⟨h1, h⟩ := h
    refine m_lald 37 dX9_partsOf_28 (by decide) rfl h1 ?_
    refine m_ladd dX9_partsOf_29 ?_
    refine m_topl (fun w ew => ?_)
    replace h := h w ew
    refine m_lstore (ls1 := [(4, .long w), (0, .ref o), (1, .int x1), (2, .int x2), (3, .int x3), (6, .int x6)]) dX9_partsOf_30 (by decide) rfl ?_
    obtain ⟨v6, ev6⟩ : ∃ z : Int32, z = x6 + 1 := ⟨_, rfl⟩
    refine m_iinc (v := v6) (ls1 := [(6, .int v6), (4, .long w), (0, .ref o), (1, .int x1), (2, .int x2), (3, .int x3)]) dX9_partsOf_32 5 rfl (by rw [ev6]; rfl) (by decide) rfl ?_
    replace h := h v6 ev6
    refine m_goto (tgt := 6) dX9_partsOf_35 (by decide) ?_
    exact AtM.sub (ls := [(6, .int v6), (4, .long w), (0, .ref o), (1, .int x1), (2, .int x2), (3, .int x3)]) [2, 3, 4, 5, 1, 0] rfl h
theorem eX9_partsOf {G : GC} {ad : Nat → Nat} {o : Nat} {Q : MPost} {p1 : Int32} {p2 : Int32} {p3 : Int32} {F : Nat → Int32} {L : Nat → Int64} {I : Nat → Nat → Int32} {J : Nat → Nat → Int64} (h : ∀ σ0, AtM G mX9_partsOf 4 ad o σ0 Q 0 [(0, .ref o), (1, .int p1), (2, .int p2), (3, .int p3)] [] F L I J) : CallM G mX9_partsOf 4 ad o [.ref o, .int p1, .int p2, .int p3] F L I J Q :=
  CallM.of (by decide +kernel) wsX9_partsOf rfl (Nat.le_of_ble_eq_true rfl) (fun σ0 => AtM.sub (ls := [(0, .ref o), (1, .int p1), (2, .int p2), (3, .int p3)]) [0, 1, 2, 3] rfl (h σ0))
set_option maxHeartbeats 4000000 in
theorem bX9_likeliest_0 {G : GC} {ad : Nat → Nat} {o : Nat} {σ0 : PS} {Q : MPost} {x1 : Int32} {F : Nat → Int32} {L : Nat → Int64} {I : Nat → Nat → Int32} {J : Nat → Nat → Int64} (h : (∀ F1 : Nat → Int32, F1 = fU F 0 0 → CallM G mX9_isVisit 4 ad o [.ref o, .int x1, .int 1] F1 L I J (mqI (fun rx F1_1 L1 I1 J1 => ((¬ rx = 0) → CallM G mX9_plain 3 ad o [.ref o] F1_1 L1 I1 J1 (mqV (fun F1_2 L1_3 I1_4 J1_5 => CallM G mX9_goes 7 ad o [.ref o, .int x1] F1_2 L1_3 I1_4 J1_5 (mqV (fun F1_6 L1_7 I1_8 J1_9 => AtM G mX9_likeliest 8 ad o σ0 Q 32 [(0, .ref o), (2, .int (-1)), (3, .long 0), (5, .int 0)] [] F1_6 L1_7 I1_8 J1_9))))) ∧ ((rx = 0) → Q (some (.int 0)) F1_1 L1 I1 J1))))) : AtM G mX9_likeliest 8 ad o σ0 Q 0 [(0, .ref o), (1, .int x1)] [] F L I J := by
  refine m_aload_n dX9_likeliest_0 rfl 0 rfl ?_
  refine m_iconst (v := 0) dX9_likeliest_1 (by decide) ?_
  refine m_putI 0 dX9_likeliest_2 (by decide) q1763 rfl rfl rfl rfl ?_
  refine m_topF (fun F1 eF1 => ?_)
  replace h := h F1 eF1
  refine m_aload_n dX9_likeliest_5 rfl 0 rfl ?_
  refine m_iload_n dX9_likeliest_6 rfl 1 rfl ?_
  refine m_iconst (v := 1) dX9_likeliest_7 (by decide) ?_
  refine m_callV (N := mX9_isVisit) (st := []) (As := [.int x1, .int 1]) dX9_likeliest_8 wsX9_isVisit (lw_V q2147 q2149 qs65 q116 q2150) rfl mokX9_isVisit rfl (by decide) (by decide) (Nat.zero_le _) h (fun _ F1_1 L1 I1 J1 hq => ?_)
  obtain ⟨rx, rfl, h⟩ := hq
  refine AtM.stk (st' := [.int rx]) rfl ?_
  refine m_if_ne (tgt := 16) dX9_likeliest_11 (by decide) (fun c => ?_) (fun c => ?_)
  · replace h := h.1 c
    refine m_aload_n dX9_likeliest_16 rfl 0 rfl ?_
    refine m_callV (N := mX9_plain) (st := []) (As := []) dX9_likeliest_17 wsX9_plain (lw_V q2171 q2173 qs68 q116 q2174) rfl mokX9_plain rfl (by decide) (by decide) (Nat.zero_le _) h (fun _ F1_2 L1_3 I1_4 J1_5 hq => ?_)
    obtain ⟨rfl, h⟩ := hq
    refine AtM.stk (st' := []) rfl ?_
    refine m_aload_n dX9_likeliest_20 rfl 0 rfl ?_
    refine m_iload_n dX9_likeliest_21 rfl 1 rfl ?_
    refine m_callV (N := mX9_goes) (st := []) (As := [.int x1]) dX9_likeliest_22 wsX9_goes (lw_V q2175 q2177 qs69 q116 q2178) rfl mokX9_goes rfl (by decide) (by decide) (Nat.zero_le _) h (fun _ F1_6 L1_7 I1_8 J1_9 hq => ?_)
    obtain ⟨rfl, h⟩ := hq
    refine AtM.stk (st' := []) rfl ?_
    refine m_iconst (v := (-1)) dX9_likeliest_25 (by decide) ?_
    refine m_istore_n (ls1 := [(2, .int (-1)), (0, .ref o), (1, .int x1)]) dX9_likeliest_26 rfl (by decide) rfl ?_
    refine m_lconst (v := 0) dX9_likeliest_27 (by decide) ?_
    refine m_lstore_n (ls1 := [(3, .long 0), (2, .int (-1)), (0, .ref o), (1, .int x1)]) dX9_likeliest_28 rfl (by decide) rfl ?_
    refine m_iconst (v := 0) dX9_likeliest_29 (by decide) ?_
    refine m_istore (ls1 := [(5, .int 0), (3, .long 0), (2, .int (-1)), (0, .ref o), (1, .int x1)]) dX9_likeliest_30 (by decide) rfl ?_
    exact AtM.sub (ls := [(5, .int 0), (3, .long 0), (2, .int (-1)), (0, .ref o), (1, .int x1)]) [3, 2, 1, 0] rfl h
  · replace h := h.2 c
    refine m_iconst (v := 0) dX9_likeliest_14 (by decide) ?_
    exact m_iret rfl dX9_likeliest_15 h
set_option maxHeartbeats 4000000 in
theorem bX9_likeliest_32 {G : GC} {ad : Nat → Nat} {o : Nat} {σ0 : PS} {Q : MPost} {x2 : Int32} {y3 : Int64} {x5 : Int32} {F : Nat → Int32} {L : Nat → Int64} {I : Nat → Nat → Int32} {J : Nat → Nat → Int64} (h : ((12 < x5) → Q (some (.int x2)) F L I J) ∧ ((¬ 12 < x5) → AtM G mX9_likeliest 8 ad o σ0 Q 42 [(0, .ref o), (2, .int x2), (3, .long y3), (5, .int x5), (6, .int 0)] [] F L I J)) : AtM G mX9_likeliest 8 ad o σ0 Q 32 [(0, .ref o), (2, .int x2), (3, .long y3), (5, .int x5)] [] F L I J := by
  refine m_iload dX9_likeliest_32 3 rfl ?_
  refine m_bipush (v := 12) dX9_likeliest_34 (by decide) ?_
  refine m_icmp_gt (tgt := 115) dX9_likeliest_36 (by decide) (fun c => ?_) (fun c => ?_)
  · replace h := h.1 c
    refine m_iload_n dX9_likeliest_115 rfl 1 rfl ?_
    exact m_iret rfl dX9_likeliest_116 h
  · replace h := h.2 c
    refine m_iconst (v := 0) dX9_likeliest_39 (by decide) ?_
    refine m_istore (ls1 := [(6, .int 0), (0, .ref o), (2, .int x2), (3, .long y3), (5, .int x5)]) dX9_likeliest_40 (by decide) rfl ?_
    exact AtM.sub (ls := [(6, .int 0), (0, .ref o), (2, .int x2), (3, .long y3), (5, .int x5)]) [1, 2, 3, 4, 0] rfl h
set_option maxHeartbeats 4000000 in
theorem bX9_likeliest_42 {G : GC} {ad : Nat → Nat} {o : Nat} {σ0 : PS} {Q : MPost} {x2 : Int32} {y3 : Int64} {x5 : Int32} {x6 : Int32} {F : Nat → Int32} {L : Nat → Int64} {I : Nat → Nat → Int32} {J : Nat → Nat → Int64} (h : ((12 < x6) → ∀ v5 : Int32, v5 = x5 + 1 → AtM G mX9_likeliest 8 ad o σ0 Q 32 [(0, .ref o), (2, .int x2), (3, .long y3), (5, .int v5)] [] F L I J) ∧ ((¬ 12 < x6) → AtM G mX9_likeliest 8 ad o σ0 Q 52 [(0, .ref o), (2, .int x2), (3, .long y3), (5, .int x5), (6, .int x6), (7, .int 0)] [] F L I J)) : AtM G mX9_likeliest 8 ad o σ0 Q 42 [(0, .ref o), (2, .int x2), (3, .long y3), (5, .int x5), (6, .int x6)] [] F L I J := by
  refine m_iload dX9_likeliest_42 4 rfl ?_
  refine m_bipush (v := 12) dX9_likeliest_44 (by decide) ?_
  refine m_icmp_gt (tgt := 109) dX9_likeliest_46 (by decide) (fun c => ?_) (fun c => ?_)
  · replace h := h.1 c
    obtain ⟨v5, ev5⟩ : ∃ z : Int32, z = x5 + 1 := ⟨_, rfl⟩
    refine m_iinc (v := v5) (ls1 := [(5, .int v5), (0, .ref o), (2, .int x2), (3, .long y3), (6, .int x6)]) dX9_likeliest_109 3 rfl (by rw [ev5]; rfl) (by decide) rfl ?_
    replace h := h v5 ev5
    refine m_goto (tgt := 32) dX9_likeliest_112 (by decide) ?_
    exact AtM.sub (ls := [(5, .int v5), (0, .ref o), (2, .int x2), (3, .long y3), (6, .int x6)]) [1, 2, 3, 0] rfl h
  · replace h := h.2 c
    refine m_iconst (v := 0) dX9_likeliest_49 (by decide) ?_
    refine m_istore (ls1 := [(7, .int 0), (0, .ref o), (2, .int x2), (3, .long y3), (5, .int x5), (6, .int x6)]) dX9_likeliest_50 (by decide) rfl ?_
    exact AtM.sub (ls := [(7, .int 0), (0, .ref o), (2, .int x2), (3, .long y3), (5, .int x5), (6, .int x6)]) [1, 2, 3, 4, 5, 0] rfl h
set_option maxHeartbeats 4000000 in
theorem bX9_likeliest_52 {G : GC} {ad : Nat → Nat} {o : Nat} {σ0 : PS} {Q : MPost} {x2 : Int32} {y3 : Int64} {x5 : Int32} {x6 : Int32} {x7 : Int32} {F : Nat → Int32} {L : Nat → Int64} {I : Nat → Nat → Int32} {J : Nat → Nat → Int64} (h : ((2 ≤ x7) → ∀ v6 : Int32, v6 = x6 + 1 → AtM G mX9_likeliest 8 ad o σ0 Q 42 [(0, .ref o), (2, .int x2), (3, .long y3), (5, .int x5), (6, .int v6)] [] F L I J) ∧ ((¬ 2 ≤ x7) → CallMO G mX9_partsOf 4 ad o [.ref o, .int x5, .int x6, .int x7] F L I J (pJ (fun ry => ((y3 < ry) → ∀ w : Int32, w = (((100 * x5) + (2 * x6)) + x7) → ∀ v7 : Int32, v7 = x7 + 1 → AtM G mX9_likeliest 8 ad o σ0 Q 52 [(0, .ref o), (2, .int w), (3, .long ry), (5, .int x5), (6, .int x6), (7, .int v7)] [] F L I J) ∧ ((¬ y3 < ry) → ∀ v7 : Int32, v7 = x7 + 1 → AtM G mX9_likeliest 8 ad o σ0 Q 52 [(0, .ref o), (2, .int x2), (3, .long y3), (5, .int x5), (6, .int x6), (7, .int v7)] [] F L I J))))) : AtM G mX9_likeliest 8 ad o σ0 Q 52 [(0, .ref o), (2, .int x2), (3, .long y3), (5, .int x5), (6, .int x6), (7, .int x7)] [] F L I J := by
  refine m_iload dX9_likeliest_52 5 rfl ?_
  refine m_iconst (v := 2) dX9_likeliest_54 (by decide) ?_
  refine m_icmp_ge (tgt := 103) dX9_likeliest_55 (by decide) (fun c => ?_) (fun c => ?_)
  · replace h := h.1 c
    obtain ⟨v6, ev6⟩ : ∃ z : Int32, z = x6 + 1 := ⟨_, rfl⟩
    refine m_iinc (v := v6) (ls1 := [(6, .int v6), (0, .ref o), (2, .int x2), (3, .long y3), (5, .int x5), (7, .int x7)]) dX9_likeliest_103 4 rfl (by rw [ev6]; rfl) (by decide) rfl ?_
    replace h := h v6 ev6
    refine m_goto (tgt := 42) dX9_likeliest_106 (by decide) ?_
    exact AtM.sub (ls := [(6, .int v6), (0, .ref o), (2, .int x2), (3, .long y3), (5, .int x5), (7, .int x7)]) [1, 2, 3, 4, 0] rfl h
  · replace h := h.2 c
    refine m_aload_n dX9_likeliest_58 rfl 0 rfl ?_
    refine m_iload dX9_likeliest_59 3 rfl ?_
    refine m_iload dX9_likeliest_61 4 rfl ?_
    refine m_iload dX9_likeliest_63 5 rfl ?_
    refine m_callV (N := mX9_partsOf) (st := []) (As := [.int x5, .int x6, .int x7]) dX9_likeliest_65 wsX9_partsOf (lw_V q2271 q2273 qs89 q116 q2274) rfl mokX9_partsOf rfl (by decide) (by decide) (Nat.zero_le _) h (fun _ F9 L9 I9 J9 hq => ?_)
    obtain ⟨e1, e2, e3, e4, hq⟩ := hq
    refine AtM.re e1 e2 e3 e4 ?_
    obtain ⟨ry, rfl, h⟩ := hq
    refine AtM.stk (st' := [.long ry]) rfl ?_
    refine m_lstore (ls1 := [(8, .long ry), (0, .ref o), (2, .int x2), (3, .long y3), (5, .int x5), (6, .int x6), (7, .int x7)]) dX9_likeliest_68 (by decide) rfl ?_
    refine m_lload dX9_likeliest_70 0 rfl ?_
    refine m_lload_n dX9_likeliest_72 rfl 3 rfl ?_
    refine m_lcmp_gt (tgt := 80) dX9_likeliest_73 dX9_likeliest_74 (by decide) (fun c => ?_) (fun c => ?_)
    · replace h := h.1 c
      refine m_lload dX9_likeliest_80 0 rfl ?_
      refine m_lstore_n (ls1 := [(3, .long ry), (8, .long ry), (0, .ref o), (2, .int x2), (5, .int x5), (6, .int x6), (7, .int x7)]) dX9_likeliest_82 rfl (by decide) rfl ?_
      refine m_bipush (v := 100) dX9_likeliest_83 (by decide) ?_
      refine m_iload dX9_likeliest_85 4 rfl ?_
      refine m_imul dX9_likeliest_87 ?_
      refine m_iconst (v := 2) dX9_likeliest_88 (by decide) ?_
      refine m_iload dX9_likeliest_89 5 rfl ?_
      refine m_imul dX9_likeliest_91 ?_
      refine m_iadd dX9_likeliest_92 ?_
      refine m_iload dX9_likeliest_93 6 rfl ?_
      refine m_iadd dX9_likeliest_95 ?_
      refine m_topi (fun w ew => ?_)
      replace h := h w ew
      refine m_istore_n (ls1 := [(2, .int w), (3, .long ry), (8, .long ry), (0, .ref o), (5, .int x5), (6, .int x6), (7, .int x7)]) dX9_likeliest_96 rfl (by decide) rfl ?_
      obtain ⟨v7, ev7⟩ : ∃ z : Int32, z = x7 + 1 := ⟨_, rfl⟩
      refine m_iinc (v := v7) (ls1 := [(7, .int v7), (2, .int w), (3, .long ry), (8, .long ry), (0, .ref o), (5, .int x5), (6, .int x6)]) dX9_likeliest_97 6 rfl (by rw [ev7]; rfl) (by decide) rfl ?_
      replace h := h v7 ev7
      refine m_goto (tgt := 52) dX9_likeliest_100 (by decide) ?_
      exact AtM.sub (ls := [(7, .int v7), (2, .int w), (3, .long ry), (8, .long ry), (0, .ref o), (5, .int x5), (6, .int x6)]) [4, 1, 2, 5, 6, 0] rfl h
    · replace h := h.2 c
      refine m_goto (tgt := 97) dX9_likeliest_77 (by decide) ?_
      obtain ⟨v7, ev7⟩ : ∃ z : Int32, z = x7 + 1 := ⟨_, rfl⟩
      refine m_iinc (v := v7) (ls1 := [(7, .int v7), (8, .long ry), (0, .ref o), (2, .int x2), (3, .long y3), (5, .int x5), (6, .int x6)]) dX9_likeliest_97 6 rfl (by rw [ev7]; rfl) (by decide) rfl ?_
      replace h := h v7 ev7
      refine m_goto (tgt := 52) dX9_likeliest_100 (by decide) ?_
      exact AtM.sub (ls := [(7, .int v7), (8, .long ry), (0, .ref o), (2, .int x2), (3, .long y3), (5, .int x5), (6, .int x6)]) [2, 3, 4, 5, 6, 0] rfl h
theorem eX9_likeliest {G : GC} {ad : Nat → Nat} {o : Nat} {Q : MPost} {p1 : Int32} {F : Nat → Int32} {L : Nat → Int64} {I : Nat → Nat → Int32} {J : Nat → Nat → Int64} (h : ∀ σ0, AtM G mX9_likeliest 8 ad o σ0 Q 0 [(0, .ref o), (1, .int p1)] [] F L I J) : CallM G mX9_likeliest 8 ad o [.ref o, .int p1] F L I J Q :=
  CallM.of (by decide +kernel) wsX9_likeliest rfl (Nat.le_of_ble_eq_true rfl) (fun σ0 => AtM.sub (ls := [(0, .ref o), (1, .int p1)]) [0, 1] rfl (h σ0))
set_option maxHeartbeats 4000000 in
theorem bX9_mean_0 {G : GC} {ad : Nat → Nat} {o : Nat} {σ0 : PS} {Q : MPost} {x1 : Int32} {x2 : Int32} {x3 : Int32} {F : Nat → Int32} {L : Nat → Int64} {I : Nat → Nat → Int32} {J : Nat → Nat → Int64} (h : (∀ F1 : Nat → Int32, F1 = fU F 0 0 → CallM G mX9_isVisit 4 ad o [.ref o, .int x1, .int 1] F1 L I J (mqI (fun rx F1_1 L1 I1 J1 => ((rx = 0) → Q (some (.long 0)) F1_1 L1 I1 J1) ∧ ((¬ rx = 0) → CallP G mX9_within 3 [.int x2, .int 0, .int 1] (pI (fun rx_2 => ((rx_2 = 0) → AtM G mX9_mean 8 ad o σ0 Q 38 [(0, .ref o), (1, .int x1), (2, .int x2), (3, .int x3)] [.int 0, .ref o] F1_1 L1 I1 J1) ∧ ((¬ rx_2 = 0) → CallP G mX9_within 3 [.int x3, .int 0, .int 1] (pI (fun rx_3 => ((rx_3 = 0) → AtM G mX9_mean 8 ad o σ0 Q 38 [(0, .ref o), (1, .int x1), (2, .int x2), (3, .int x3)] [.int 0, .ref o] F1_1 L1 I1 J1) ∧ ((¬ rx_3 = 0) → AtM G mX9_mean 8 ad o σ0 Q 38 [(0, .ref o), (1, .int x1), (2, .int x2), (3, .int x3)] [.int 1, .ref o] F1_1 L1 I1 J1))))))))))) : AtM G mX9_mean 8 ad o σ0 Q 0 [(0, .ref o), (1, .int x1), (2, .int x2), (3, .int x3)] [] F L I J := by
  refine m_aload_n dX9_mean_0 rfl 0 rfl ?_
  refine m_iconst (v := 0) dX9_mean_1 (by decide) ?_
  refine m_putI 0 dX9_mean_2 (by decide) q1763 rfl rfl rfl rfl ?_
  refine m_topF (fun F1 eF1 => ?_)
  replace h := h F1 eF1
  refine m_aload_n dX9_mean_5 rfl 0 rfl ?_
  refine m_iload_n dX9_mean_6 rfl 1 rfl ?_
  refine m_iconst (v := 1) dX9_mean_7 (by decide) ?_
  refine m_callV (N := mX9_isVisit) (st := []) (As := [.int x1, .int 1]) dX9_mean_8 wsX9_isVisit (lw_V q2147 q2149 qs65 q116 q2150) rfl mokX9_isVisit rfl (by decide) (by decide) (Nat.zero_le _) h (fun _ F1_1 L1 I1 J1 hq => ?_)
  obtain ⟨rx, rfl, h⟩ := hq
  refine AtM.stk (st' := [.int rx]) rfl ?_
  refine m_if_eq (tgt := 46) dX9_mean_11 (by decide) (fun c => ?_) (fun c => ?_)
  · replace h := h.1 c
    refine m_lconst (v := 0) dX9_mean_46 (by decide) ?_
    exact m_lret rfl dX9_mean_47 h
  · replace h := h.2 c
    refine m_aload_n dX9_mean_14 rfl 0 rfl ?_
    refine m_iload_n dX9_mean_15 rfl 2 rfl ?_
    refine m_iconst (v := 0) dX9_mean_16 (by decide) ?_
    refine m_iconst (v := 1) dX9_mean_17 (by decide) ?_
    refine m_callP (N := mX9_within) (st := [.ref o]) (As := [.int x2, .int 0, .int 1]) dX9_mean_18 wsX9_within (lw_S q2059 q2060 q116 q2061) mokX9_within rfl (by decide) (by decide) (by simp [Value.category]) h (fun _ hq => ?_)
    obtain ⟨rx_2, rfl, h⟩ := hq
    refine AtM.stk (st' := [.int rx_2, .ref o]) rfl ?_
    refine m_if_eq (tgt := 37) dX9_mean_21 (by decide) (fun c => ?_) (fun c => ?_)
    · replace h := h.1 c
      refine m_iconst (v := 0) dX9_mean_37 (by decide) ?_
      exact AtM.sub (ls := [(0, .ref o), (1, .int x1), (2, .int x2), (3, .int x3)]) [0, 1, 2, 3] rfl h
    · replace h := h.2 c
      refine m_iload_n dX9_mean_24 rfl 3 rfl ?_
      refine m_iconst (v := 0) dX9_mean_25 (by decide) ?_
      refine m_iconst (v := 1) dX9_mean_26 (by decide) ?_
      refine m_callP (N := mX9_within) (st := [.ref o]) (As := [.int x3, .int 0, .int 1]) dX9_mean_27 wsX9_within (lw_S q2059 q2060 q116 q2061) mokX9_within rfl (by decide) (by decide) (by simp [Value.category]) h (fun _ hq => ?_)
      obtain ⟨rx_3, rfl, h⟩ := hq
      refine AtM.stk (st' := [.int rx_3, .ref o]) rfl ?_
      refine m_if_eq (tgt := 37) dX9_mean_30 (by decide) (fun c => ?_) (fun c => ?_)
      · replace h := h.1 c
        refine m_iconst (v := 0) dX9_mean_37 (by decide) ?_
        exact AtM.sub (ls := [(0, .ref o), (1, .int x1), (2, .int x2), (3, .int x3)]) [0, 1, 2, 3] rfl h
      · replace h := h.2 c
        refine m_iconst (v := 1) dX9_mean_33 (by decide) ?_
        refine m_goto (tgt := 38) dX9_mean_34 (by decide) ?_
        exact AtM.sub (ls := [(0, .ref o), (1, .int x1), (2, .int x2), (3, .int x3)]) [0, 1, 2, 3] rfl h
set_option maxHeartbeats 4000000 in
theorem bX9_mean_38 {G : GC} {ad : Nat → Nat} {o : Nat} {σ0 : PS} {Q : MPost} {x1 : Int32} {x2 : Int32} {x3 : Int32} {sx1 : Int32} {F : Nat → Int32} {L : Nat → Int64} {I : Nat → Nat → Int32} {J : Nat → Nat → Int64} (h : CallM G mX9_may 3 ad o [.ref o, .int sx1, .int 2, .int 1] F L I J (mqI (fun rx F1 L1 I1 J1 => ((¬ rx = 0) → CallM G mX9_plain 3 ad o [.ref o] F1 L1 I1 J1 (mqV (fun F1_1 L1_2 I1_3 J1_4 => CallM G mX9_goes 7 ad o [.ref o, .int x1] F1_1 L1_2 I1_3 J1_4 (mqV (fun F1_5 L1_6 I1_7 J1_8 => AtM G mX9_mean 8 ad o σ0 Q 63 [(0, .ref o), (2, .int x2), (3, .int x3), (4, .long 0), (6, .int 0)] [] F1_5 L1_6 I1_7 J1_8))))) ∧ ((rx = 0) → Q (some (.long 0)) F1 L1 I1 J1)))) : AtM G mX9_mean 8 ad o σ0 Q 38 [(0, .ref o), (1, .int x1), (2, .int x2), (3, .int x3)] [.int sx1, .ref o] F L I J := by
  refine m_iconst (v := 2) dX9_mean_38 (by decide) ?_
  refine m_iconst (v := 1) dX9_mean_39 (by decide) ?_
  refine m_callV (N := mX9_may) (st := []) (As := [.int sx1, .int 2, .int 1]) dX9_mean_40 wsX9_may (lw_V q1971 q1973 qs38 q116 q1974) rfl mokX9_may rfl (by decide) (by decide) (Nat.zero_le _) h (fun _ F1 L1 I1 J1 hq => ?_)
  obtain ⟨rx, rfl, h⟩ := hq
  refine AtM.stk (st' := [.int rx]) rfl ?_
  refine m_if_ne (tgt := 48) dX9_mean_43 (by decide) (fun c => ?_) (fun c => ?_)
  · replace h := h.1 c
    refine m_aload_n dX9_mean_48 rfl 0 rfl ?_
    refine m_callV (N := mX9_plain) (st := []) (As := []) dX9_mean_49 wsX9_plain (lw_V q2171 q2173 qs68 q116 q2174) rfl mokX9_plain rfl (by decide) (by decide) (Nat.zero_le _) h (fun _ F1_1 L1_2 I1_3 J1_4 hq => ?_)
    obtain ⟨rfl, h⟩ := hq
    refine AtM.stk (st' := []) rfl ?_
    refine m_aload_n dX9_mean_52 rfl 0 rfl ?_
    refine m_iload_n dX9_mean_53 rfl 1 rfl ?_
    refine m_callV (N := mX9_goes) (st := []) (As := [.int x1]) dX9_mean_54 wsX9_goes (lw_V q2175 q2177 qs69 q116 q2178) rfl mokX9_goes rfl (by decide) (by decide) (Nat.zero_le _) h (fun _ F1_5 L1_6 I1_7 J1_8 hq => ?_)
    obtain ⟨rfl, h⟩ := hq
    refine AtM.stk (st' := []) rfl ?_
    refine m_lconst (v := 0) dX9_mean_57 (by decide) ?_
    refine m_lstore (ls1 := [(4, .long 0), (0, .ref o), (1, .int x1), (2, .int x2), (3, .int x3)]) dX9_mean_58 (by decide) rfl ?_
    refine m_iconst (v := 0) dX9_mean_60 (by decide) ?_
    refine m_istore (ls1 := [(6, .int 0), (4, .long 0), (0, .ref o), (1, .int x1), (2, .int x2), (3, .int x3)]) dX9_mean_61 (by decide) rfl ?_
    exact AtM.sub (ls := [(6, .int 0), (4, .long 0), (0, .ref o), (1, .int x1), (2, .int x2), (3, .int x3)]) [2, 4, 5, 1, 0] rfl h
  · replace h := h.2 c
    refine m_lconst (v := 0) dX9_mean_46 (by decide) ?_
    exact m_lret rfl dX9_mean_47 h
set_option maxHeartbeats 4000000 in
theorem bX9_mean_63 {G : GC} {ad : Nat → Nat} {o : Nat} {σ0 : PS} {Q : MPost} {x2 : Int32} {x3 : Int32} {y4 : Int64} {x6 : Int32} {F : Nat → Int32} {L : Nat → Int64} {I : Nat → Nat → Int32} {J : Nat → Nat → Int64} (h : (((F 35) ≤ x6) → CallP G mX9_least 3 [.long y4, .long 1099511627776, .int x3] (pJ (fun ry => Q (some (.long ry)) F L I J))) ∧ ((¬ (F 35) ≤ x6) → vp_in x6 16900 ∧ (∀ v7 : Int32, v7 = (I 33 x6.toNatClampNeg) → CallM G mX9_stateOf 3 ad o [.ref o, .int v7] F L I J (mqV (fun F1 L1 I1 J1 => vp_in v7 16900 ∧ (((¬ x2 = 0) → ∀ w : Int64, w = ((J1 37 v7.toNatClampNeg) * (F1 52).toInt64) → ∀ v4 : Int64, v4 = (y4 + w) → ∀ v6 : Int32, v6 = x6 + 1 → AtM G mX9_mean 8 ad o σ0 Q 63 [(0, .ref o), (2, .int x2), (3, .int x3), (4, .long v4), (6, .int v6)] [] F1 L1 I1 J1) ∧ ((x2 = 0) → ∀ w : Int64, w = ((J1 37 v7.toNatClampNeg) * (F1 51).toInt64) → ∀ v4 : Int64, v4 = (y4 + w) → ∀ v6 : Int32, v6 = x6 + 1 → AtM G mX9_mean 8 ad o σ0 Q 63 [(0, .ref o), (2, .int x2), (3, .int x3), (4, .long v4), (6, .int v6)] [] F1 L1 I1 J1))))))) : AtM G mX9_mean 8 ad o σ0 Q 63 [(0, .ref o), (2, .int x2), (3, .int x3), (4, .long y4), (6, .int x6)] [] F L I J := by
  refine m_iload dX9_mean_63 4 rfl ?_
  refine m_aload_n dX9_mean_65 rfl 0 rfl ?_
  refine m_get (v := .int (F 35)) 35 dX9_mean_66 (by decide) q1798 rfl ?_
  refine m_icmp_ge (tgt := 122) dX9_mean_69 (by decide) (fun c => ?_) (fun c => ?_)
  · replace h := h.1 c
    refine m_lload dX9_mean_122 3 rfl ?_
    refine m_ldc2 dX9_mean_124 q2186 ?_
    refine m_iload_n dX9_mean_127 rfl 2 rfl ?_
    refine m_callP (N := mX9_least) (st := []) (As := [.long y4, .long 1099511627776, .int x3]) dX9_mean_128 wsX9_least (lw_S q2283 q2284 q116 q2285) mokX9_least rfl (by decide) (by decide) (Nat.zero_le _) h (fun _ hq => ?_)
    obtain ⟨ry, rfl, h⟩ := hq
    refine AtM.stk (st' := [.long ry]) rfl ?_
    exact m_lret rfl dX9_mean_131 h
  · replace h := h.2 c
    refine m_aload_n dX9_mean_72 rfl 0 rfl ?_
    refine m_get (v := .ref (ad 33)) 33 dX9_mean_73 (by decide) q1796 rfl ?_
    refine m_iload dX9_mean_76 4 rfl ?_
    obtain ⟨h1, h⟩ := h
    refine m_iald 33 dX9_mean_78 (by decide) rfl h1 ?_
    refine m_topi (fun v7 ev7 => ?_)
    replace h := h v7 ev7
    refine m_istore (ls1 := [(7, .int v7), (0, .ref o), (2, .int x2), (3, .int x3), (4, .long y4), (6, .int x6)]) dX9_mean_79 (by decide) rfl ?_
    refine m_aload_n dX9_mean_81 rfl 1 rfl ?_
    refine m_iload dX9_mean_82 0 rfl ?_
    refine m_callV (N := mX9_stateOf) (st := []) (As := [.int v7]) dX9_mean_84 wsX9_stateOf (lw_V q2195 q2197 qs73 q116 q2198) rfl mokX9_stateOf rfl (by decide) (by decide) (Nat.zero_le _) h (fun _ F1 L1 I1 J1 hq => ?_)
    obtain ⟨rfl, h⟩ := hq
    refine AtM.stk (st' := []) rfl ?_
    refine m_lload dX9_mean_87 4 rfl ?_
    refine m_aload_n dX9_mean_89 rfl 1 rfl ?_
    refine m_get (v := .ref (ad 37)) 37 dX9_mean_90 (by decide) q1800 rfl ?_
    refine m_iload dX9_mean_93 0 rfl ?_
    obtain ⟨h1, h⟩ := h
    refine m_lald 37 dX9_mean_95 (by decide) rfl h1 ?_
    refine m_iload_n dX9_mean_96 rfl 2 rfl ?_
    refine m_if_ne (tgt := 107) dX9_mean_97 (by decide) (fun c => ?_) (fun c => ?_)
    · replace h := h.1 c
      refine m_aload_n dX9_mean_107 rfl 1 rfl ?_
      refine m_get (v := .int (F1 52)) 52 dX9_mean_108 (by decide) q1815 rfl ?_
      refine m_i2l dX9_mean_111 ?_
      refine m_lmul dX9_mean_112 ?_
      refine m_topl (fun w ew => ?_)
      replace h := h w ew
      refine m_ladd dX9_mean_113 ?_
      refine m_topl (fun v4 ev4 => ?_)
      replace h := h v4 ev4
      refine m_lstore (ls1 := [(4, .long v4), (7, .int v7), (0, .ref o), (2, .int x2), (3, .int x3), (6, .int x6)]) dX9_mean_114 (by decide) rfl ?_
      obtain ⟨v6, ev6⟩ : ∃ z : Int32, z = x6 + 1 := ⟨_, rfl⟩
      refine m_iinc (v := v6) (ls1 := [(6, .int v6), (4, .long v4), (7, .int v7), (0, .ref o), (2, .int x2), (3, .int x3)]) dX9_mean_116 5 rfl (by rw [ev6]; rfl) (by decide) rfl ?_
      replace h := h v6 ev6
      refine m_goto (tgt := 63) dX9_mean_119 (by decide) ?_
      exact AtM.sub (ls := [(6, .int v6), (4, .long v4), (7, .int v7), (0, .ref o), (2, .int x2), (3, .int x3)]) [3, 4, 5, 1, 0] rfl h
    · replace h := h.2 c
      refine m_aload_n dX9_mean_100 rfl 1 rfl ?_
      refine m_get (v := .int (F1 51)) 51 dX9_mean_101 (by decide) q1814 rfl ?_
      refine m_goto (tgt := 111) dX9_mean_104 (by decide) ?_
      refine m_i2l dX9_mean_111 ?_
      refine m_lmul dX9_mean_112 ?_
      refine m_topl (fun w ew => ?_)
      replace h := h w ew
      refine m_ladd dX9_mean_113 ?_
      refine m_topl (fun v4 ev4 => ?_)
      replace h := h v4 ev4
      refine m_lstore (ls1 := [(4, .long v4), (7, .int v7), (0, .ref o), (2, .int x2), (3, .int x3), (6, .int x6)]) dX9_mean_114 (by decide) rfl ?_
      obtain ⟨v6, ev6⟩ : ∃ z : Int32, z = x6 + 1 := ⟨_, rfl⟩
      refine m_iinc (v := v6) (ls1 := [(6, .int v6), (4, .long v4), (7, .int v7), (0, .ref o), (2, .int x2), (3, .int x3)]) dX9_mean_116 5 rfl (by rw [ev6]; rfl) (by decide) rfl ?_
      replace h := h v6 ev6
      refine m_goto (tgt := 63) dX9_mean_119 (by decide) ?_
      exact AtM.sub (ls := [(6, .int v6), (4, .long v4), (7, .int v7), (0, .ref o), (2, .int x2), (3, .int x3)]) [3, 4, 5, 1, 0] rfl h
theorem eX9_mean {G : GC} {ad : Nat → Nat} {o : Nat} {Q : MPost} {p1 : Int32} {p2 : Int32} {p3 : Int32} {F : Nat → Int32} {L : Nat → Int64} {I : Nat → Nat → Int32} {J : Nat → Nat → Int64} (h : ∀ σ0, AtM G mX9_mean 8 ad o σ0 Q 0 [(0, .ref o), (1, .int p1), (2, .int p2), (3, .int p3)] [] F L I J) : CallM G mX9_mean 8 ad o [.ref o, .int p1, .int p2, .int p3] F L I J Q :=
  CallM.of (by decide +kernel) wsX9_mean rfl (Nat.le_of_ble_eq_true rfl) (fun σ0 => AtM.sub (ls := [(0, .ref o), (1, .int p1), (2, .int p2), (3, .int p3)]) [0, 1, 2, 3] rfl (h σ0))
set_option maxHeartbeats 4000000 in
theorem bX9_least_0 {G : GC} {Q : Option Value → PS → Prop} {X : String → Nat → PS → Prop} {b : Nat} {y0 : Int64} {y2 : Int64} {x4 : Int32} {σ : PS} (h : At G mX9_least 3 Q X b 6 [(0, .long y0), (2, .long y2), (4, .int x4), (5, .long y0), (7, .long y2)] [] (σ)) : At G mX9_least 3 Q X b 0 [(0, .long y0), (2, .long y2), (4, .int x4)] [] (σ) := by
  refine g_lload_n dX9_least_0 rfl 0 rfl ?_
  refine g_lstore (ls1 := [(5, .long y0), (0, .long y0), (2, .long y2), (4, .int x4)]) dX9_least_1 (by decide) rfl ?_
  refine g_lload_n dX9_least_3 rfl 2 rfl ?_
  refine g_lstore (ls1 := [(7, .long y2), (5, .long y0), (0, .long y0), (2, .long y2), (4, .int x4)]) dX9_least_4 (by decide) rfl ?_
  exact At.sub (ls := [(7, .long y2), (5, .long y0), (0, .long y0), (2, .long y2), (4, .int x4)]) [2, 3, 4, 1, 0] rfl h
set_option maxHeartbeats 4000000 in
theorem bX9_least_6 {G : GC} {Q : Option Value → PS → Prop} {X : String → Nat → PS → Prop} {b : Nat} {y0 : Int64} {y2 : Int64} {x4 : Int32} {y5 : Int64} {y7 : Int64} {σ : PS} (h : ((y7 = 0) → ((¬ x4 = 0) → ¬ y5 = 0 ∧ (Q (some (.long (y2 / y5))) (σ))) ∧ ((x4 = 0) → ¬ y5 = 0 ∧ (Q (some (.long (y0 / y5))) (σ)))) ∧ ((¬ y7 = 0) → ¬ y7 = 0 ∧ (∀ v9 : Int64, v9 = (y5 - y5 / y7 * y7) → At G mX9_least 3 Q X b 6 [(0, .long y0), (2, .long y2), (4, .int x4), (5, .long y7), (7, .long v9)] [] (σ)))) : At G mX9_least 3 Q X b 6 [(0, .long y0), (2, .long y2), (4, .int x4), (5, .long y5), (7, .long y7)] [] (σ) := by
  refine g_lload dX9_least_6 4 rfl ?_
  refine g_lconst (v := 0) dX9_least_8 (by decide) ?_
  refine g_lcmp_eq (tgt := 31) dX9_least_9 dX9_least_10 (by decide) (fun c => ?_) (fun c => ?_)
  · replace h := h.1 c
    refine g_iload dX9_least_31 2 rfl ?_
    refine g_if_ne (tgt := 40) dX9_least_33 (by decide) (fun c => ?_) (fun c => ?_)
    · replace h := h.1 c
      refine g_lload_n dX9_least_40 rfl 1 rfl ?_
      refine g_lload dX9_least_41 3 rfl ?_
      obtain ⟨hnz, h⟩ := h
      refine g_ldiv dX9_least_43 hnz ?_
      exact g_lret rfl dX9_least_44 h
    · replace h := h.2 c
      refine g_lload_n dX9_least_36 rfl 0 rfl ?_
      refine g_goto (tgt := 41) dX9_least_37 (by decide) ?_
      refine g_lload dX9_least_41 3 rfl ?_
      obtain ⟨hnz, h⟩ := h
      refine g_ldiv dX9_least_43 hnz ?_
      exact g_lret rfl dX9_least_44 h
  · replace h := h.2 c
    refine g_lload dX9_least_13 3 rfl ?_
    refine g_lload dX9_least_15 4 rfl ?_
    obtain ⟨hnz, h⟩ := h
    refine g_lrem dX9_least_17 hnz ?_
    refine g_topl (fun v9 ev9 => ?_)
    replace h := h v9 ev9
    refine g_lstore (ls1 := [(9, .long v9), (0, .long y0), (2, .long y2), (4, .int x4), (5, .long y5), (7, .long y7)]) dX9_least_18 (by decide) rfl ?_
    refine g_lload dX9_least_20 5 rfl ?_
    refine g_lstore (ls1 := [(5, .long y7), (9, .long v9), (0, .long y0), (2, .long y2), (4, .int x4), (7, .long y7)]) dX9_least_22 (by decide) rfl ?_
    refine g_lload dX9_least_24 1 rfl ?_
    refine g_lstore (ls1 := [(7, .long v9), (5, .long y7), (9, .long v9), (0, .long y0), (2, .long y2), (4, .int x4)]) dX9_least_26 (by decide) rfl ?_
    refine g_goto (tgt := 6) dX9_least_28 (by decide) ?_
    exact At.sub (ls := [(7, .long v9), (5, .long y7), (9, .long v9), (0, .long y0), (2, .long y2), (4, .int x4)]) [3, 4, 5, 1, 0] rfl h
theorem eX9_least {G : GC} {Q : Option Value → PS → Prop} {X : String → Nat → PS → Prop} {b : Nat} {p0 : Int64} {p2 : Int64} {p4 : Int32} {σ : PS} (h : At G mX9_least 3 Q X b 0 [(0, .long p0), (2, .long p2), (4, .int p4)] [] σ) : Call G mX9_least 3 b [.long p0, .long p2, .int p4] σ Q X :=
  Call.of (by decide +kernel) wsX9_least rfl (Nat.le_of_ble_eq_true rfl) (At.sub (ls := [(0, .long p0), (2, .long p2), (4, .int p4)]) [0, 1, 2] rfl h)
set_option maxHeartbeats 4000000 in
theorem bX9_often_0 {G : GC} {ad : Nat → Nat} {o : Nat} {σ0 : PS} {Q : MPost} {x1 : Int32} {F : Nat → Int32} {L : Nat → Int64} {I : Nat → Nat → Int32} {J : Nat → Nat → Int64} (h : (∀ F1 : Nat → Int32, F1 = fU F 0 0 → CallM G mX9_isPart 4 ad o [.ref o, .int x1] F1 L I J (mqI (fun rx F1_1 L1 I1 J1 => ((¬ rx = 0) → ((¬ (F1_1 19) = 0) → CallM G mX9_plain 3 ad o [.ref o] F1_1 L1 I1 J1 (mqV (fun F1_2 L1_3 I1_4 J1_5 => CallM G mX9_goesAll 8 ad o [.ref o] F1_2 L1_3 I1_4 J1_5 (mqV (fun F1_6 L1_7 I1_8 J1_9 => AtM G mX9_often 9 ad o σ0 Q 38 [(0, .ref o), (1, .int x1), (2, .long 0), (4, .int 0)] [] F1_6 L1_7 I1_8 J1_9))))) ∧ (((F1_1 19) = 0) → Q (some (.long x1.toInt64)) F1_1 L1 I1 J1)) ∧ ((rx = 0) → Q (some (.long 0)) F1_1 L1 I1 J1))))) : AtM G mX9_often 9 ad o σ0 Q 0 [(0, .ref o), (1, .int x1)] [] F L I J := by
  refine m_aload_n dX9_often_0 rfl 0 rfl ?_
  refine m_iconst (v := 0) dX9_often_1 (by decide) ?_
  refine m_putI 0 dX9_often_2 (by decide) q1763 rfl rfl rfl rfl ?_
  refine m_topF (fun F1 eF1 => ?_)
  replace h := h F1 eF1
  refine m_aload_n dX9_often_5 rfl 0 rfl ?_
  refine m_iload_n dX9_often_6 rfl 1 rfl ?_
  refine m_callV (N := mX9_isPart) (st := []) (As := [.int x1]) dX9_often_7 wsX9_isPart (lw_V q2290 q2292 qs90 q116 q2293) rfl mokX9_isPart rfl (by decide) (by decide) (Nat.zero_le _) h (fun _ F1_1 L1 I1 J1 hq => ?_)
  obtain ⟨rx, rfl, h⟩ := hq
  refine AtM.stk (st' := [.int rx]) rfl ?_
  refine m_if_ne (tgt := 15) dX9_often_10 (by decide) (fun c => ?_) (fun c => ?_)
  · replace h := h.1 c
    refine m_aload_n dX9_often_15 rfl 0 rfl ?_
    refine m_get (v := .int (F1_1 19)) 19 dX9_often_16 (by decide) q1782 rfl ?_
    refine m_if_ne (tgt := 25) dX9_often_19 (by decide) (fun c => ?_) (fun c => ?_)
    · replace h := h.1 c
      refine m_aload_n dX9_often_25 rfl 0 rfl ?_
      refine m_callV (N := mX9_plain) (st := []) (As := []) dX9_often_26 wsX9_plain (lw_V q2171 q2173 qs68 q116 q2174) rfl mokX9_plain rfl (by decide) (by decide) (Nat.zero_le _) h (fun _ F1_2 L1_3 I1_4 J1_5 hq => ?_)
      obtain ⟨rfl, h⟩ := hq
      refine AtM.stk (st' := []) rfl ?_
      refine m_aload_n dX9_often_29 rfl 0 rfl ?_
      refine m_callV (N := mX9_goesAll) (st := []) (As := []) dX9_often_30 wsX9_goesAll (lw_V q2294 q2296 qs91 q116 q2297) rfl mokX9_goesAll rfl (by decide) (by decide) (Nat.zero_le _) h (fun _ F1_6 L1_7 I1_8 J1_9 hq => ?_)
      obtain ⟨rfl, h⟩ := hq
      refine AtM.stk (st' := []) rfl ?_
      refine m_lconst (v := 0) dX9_often_33 (by decide) ?_
      refine m_lstore_n (ls1 := [(2, .long 0), (0, .ref o), (1, .int x1)]) dX9_often_34 rfl (by decide) rfl ?_
      refine m_iconst (v := 0) dX9_often_35 (by decide) ?_
      refine m_istore (ls1 := [(4, .int 0), (2, .long 0), (0, .ref o), (1, .int x1)]) dX9_often_36 (by decide) rfl ?_
      exact AtM.sub (ls := [(4, .int 0), (2, .long 0), (0, .ref o), (1, .int x1)]) [2, 3, 1, 0] rfl h
    · replace h := h.2 c
      refine m_iload_n dX9_often_22 rfl 1 rfl ?_
      refine m_i2l dX9_often_23 ?_
      exact m_lret rfl dX9_often_24 h
  · replace h := h.2 c
    refine m_lconst (v := 0) dX9_often_13 (by decide) ?_
    exact m_lret rfl dX9_often_14 h
set_option maxHeartbeats 4000000 in
theorem bX9_often_38 {G : GC} {ad : Nat → Nat} {o : Nat} {σ0 : PS} {Q : MPost} {x1 : Int32} {y2 : Int64} {x4 : Int32} {F : Nat → Int32} {L : Nat → Int64} {I : Nat → Nat → Int32} {J : Nat → Nat → Int64} (h : (((F 19) ≤ x4) → ∀ w : Int64, w = (1099511627776 * (F 19).toInt64) → CallP G mX9_least 3 [.long y2, .long w, .int x1] (pJ (fun ry => Q (some (.long ry)) F L I J))) ∧ ((¬ (F 19) ≤ x4) → vp_in x4 24 ∧ (∀ w : Int64, w = (y2 + (J 40 x4.toNatClampNeg)) → ∀ v4 : Int32, v4 = x4 + 1 → AtM G mX9_often 9 ad o σ0 Q 38 [(0, .ref o), (1, .int x1), (2, .long w), (4, .int v4)] [] F L I J))) : AtM G mX9_often 9 ad o σ0 Q 38 [(0, .ref o), (1, .int x1), (2, .long y2), (4, .int x4)] [] F L I J := by
  refine m_iload dX9_often_38 3 rfl ?_
  refine m_aload_n dX9_often_40 rfl 0 rfl ?_
  refine m_get (v := .int (F 19)) 19 dX9_often_41 (by decide) q1782 rfl ?_
  refine m_icmp_ge (tgt := 63) dX9_often_44 (by decide) (fun c => ?_) (fun c => ?_)
  · replace h := h.1 c
    refine m_lload_n dX9_often_63 rfl 2 rfl ?_
    refine m_ldc2 dX9_often_64 q2186 ?_
    refine m_aload_n dX9_often_67 rfl 0 rfl ?_
    refine m_get (v := .int (F 19)) 19 dX9_often_68 (by decide) q1782 rfl ?_
    refine m_i2l dX9_often_71 ?_
    refine m_lmul dX9_often_72 ?_
    refine m_topl (fun w ew => ?_)
    replace h := h w ew
    refine m_iload_n dX9_often_73 rfl 1 rfl ?_
    refine m_callP (N := mX9_least) (st := []) (As := [.long y2, .long w, .int x1]) dX9_often_74 wsX9_least (lw_S q2283 q2284 q116 q2285) mokX9_least rfl (by decide) (by decide) (Nat.zero_le _) h (fun _ hq => ?_)
    obtain ⟨ry, rfl, h⟩ := hq
    refine AtM.stk (st' := [.long ry]) rfl ?_
    exact m_lret rfl dX9_often_77 h
  · replace h := h.2 c
    refine m_lload_n dX9_often_47 rfl 2 rfl ?_
    refine m_aload_n dX9_often_48 rfl 0 rfl ?_
    refine m_get (v := .ref (ad 40)) 40 dX9_often_49 (by decide) q1803 rfl ?_
    refine m_iload dX9_often_52 3 rfl ?_
    obtain ⟨h1, h⟩ := h
    refine m_lald 40 dX9_often_54 (by decide) rfl h1 ?_
    refine m_ladd dX9_often_55 ?_
    refine m_topl (fun w ew => ?_)
    replace h := h w ew
    refine m_lstore_n (ls1 := [(2, .long w), (0, .ref o), (1, .int x1), (4, .int x4)]) dX9_often_56 rfl (by decide) rfl ?_
    obtain ⟨v4, ev4⟩ : ∃ z : Int32, z = x4 + 1 := ⟨_, rfl⟩
    refine m_iinc (v := v4) (ls1 := [(4, .int v4), (2, .long w), (0, .ref o), (1, .int x1)]) dX9_often_57 3 rfl (by rw [ev4]; rfl) (by decide) rfl ?_
    replace h := h v4 ev4
    refine m_goto (tgt := 38) dX9_often_60 (by decide) ?_
    exact AtM.sub (ls := [(4, .int v4), (2, .long w), (0, .ref o), (1, .int x1)]) [2, 3, 1, 0] rfl h
theorem eX9_often {G : GC} {ad : Nat → Nat} {o : Nat} {Q : MPost} {p1 : Int32} {F : Nat → Int32} {L : Nat → Int64} {I : Nat → Nat → Int32} {J : Nat → Nat → Int64} (h : ∀ σ0, AtM G mX9_often 9 ad o σ0 Q 0 [(0, .ref o), (1, .int p1)] [] F L I J) : CallM G mX9_often 9 ad o [.ref o, .int p1] F L I J Q :=
  CallM.of (by decide +kernel) wsX9_often rfl (Nat.le_of_ble_eq_true rfl) (fun σ0 => AtM.sub (ls := [(0, .ref o), (1, .int p1)]) [0, 1] rfl (h σ0))
set_option maxHeartbeats 4000000 in
theorem bX9_isPart_0 {G : GC} {ad : Nat → Nat} {o : Nat} {σ0 : PS} {Q : MPost} {x1 : Int32} {F : Nat → Int32} {L : Nat → Int64} {I : Nat → Nat → Int32} {J : Nat → Nat → Int64} (h : CallP G mX9_within 3 [.int x1, .int 0, .int 1] (pI (fun rx => CallM G mX9_may 3 ad o [.ref o, .int rx, .int 1, .int 1] F L I J (mqI (fun rx_1 F1 L1 I1 J1 => (rx_1 = 0 ∨ rx_1 = 1) ∧ Q (some (.int rx_1)) F1 L1 I1 J1))))) : AtM G mX9_isPart 4 ad o σ0 Q 0 [(0, .ref o), (1, .int x1)] [] F L I J := by
  refine m_aload_n dX9_isPart_0 rfl 0 rfl ?_
  refine m_iload_n dX9_isPart_1 rfl 1 rfl ?_
  refine m_iconst (v := 0) dX9_isPart_2 (by decide) ?_
  refine m_iconst (v := 1) dX9_isPart_3 (by decide) ?_
  refine m_callP (N := mX9_within) (st := [.ref o]) (As := [.int x1, .int 0, .int 1]) dX9_isPart_4 wsX9_within (lw_S q2059 q2060 q116 q2061) mokX9_within rfl (by decide) (by decide) (by simp [Value.category]) h (fun _ hq => ?_)
  obtain ⟨rx, rfl, h⟩ := hq
  refine AtM.stk (st' := [.int rx, .ref o]) rfl ?_
  refine m_iconst (v := 1) dX9_isPart_7 (by decide) ?_
  refine m_iconst (v := 1) dX9_isPart_8 (by decide) ?_
  refine m_callV (N := mX9_may) (st := []) (As := [.int rx, .int 1, .int 1]) dX9_isPart_9 wsX9_may (lw_V q1971 q1973 qs38 q116 q1974) rfl mokX9_may rfl (by decide) (by decide) (Nat.zero_le _) h (fun _ F1 L1 I1 J1 hq => ?_)
  obtain ⟨rx_1, rfl, h⟩ := hq
  refine AtM.stk (st' := [.int rx_1]) rfl ?_
  exact m_zret rfl (nar_z h.1) dX9_isPart_12 h.2
theorem eX9_isPart {G : GC} {ad : Nat → Nat} {o : Nat} {Q : MPost} {p1 : Int32} {F : Nat → Int32} {L : Nat → Int64} {I : Nat → Nat → Int32} {J : Nat → Nat → Int64} (h : ∀ σ0, AtM G mX9_isPart 4 ad o σ0 Q 0 [(0, .ref o), (1, .int p1)] [] F L I J) : CallM G mX9_isPart 4 ad o [.ref o, .int p1] F L I J Q :=
  CallM.of (by decide +kernel) wsX9_isPart rfl (Nat.le_of_ble_eq_true rfl) (fun σ0 => AtM.sub (ls := [(0, .ref o), (1, .int p1)]) [0, 1] rfl (h σ0))
set_option maxHeartbeats 4000000 in
theorem bX9_goesAll_0 {G : GC} {ad : Nat → Nat} {o : Nat} {σ0 : PS} {Q : MPost} {F : Nat → Int32} {L : Nat → Int64} {I : Nat → Nat → Int32} {J : Nat → Nat → Int64} (h : CallM G mX9_goes 7 ad o [.ref o, .int ((F 19) - 1)] F L I J (mqV (fun F1 L1 I1 J1 => Q none F1 L1 I1 J1))) : AtM G mX9_goesAll 8 ad o σ0 Q 0 [(0, .ref o)] [] F L I J := by
  refine m_aload_n dX9_goesAll_0 rfl 0 rfl ?_
  refine m_aload_n dX9_goesAll_1 rfl 0 rfl ?_
  refine m_get (v := .int (F 19)) 19 dX9_goesAll_2 (by decide) q1782 rfl ?_
  refine m_iconst (v := 1) dX9_goesAll_5 (by decide) ?_
  refine m_isub dX9_goesAll_6 ?_
  refine m_callV (N := mX9_goes) (st := []) (As := [.int ((F 19) - 1)]) dX9_goesAll_7 wsX9_goes (lw_V q2175 q2177 qs69 q116 q2178) rfl mokX9_goes rfl (by decide) (by decide) (Nat.zero_le _) h (fun _ F1 L1 I1 J1 hq => ?_)
  obtain ⟨rfl, h⟩ := hq
  refine AtM.stk (st' := []) rfl ?_
  exact m_vret rfl dX9_goesAll_10 h
theorem eX9_goesAll {G : GC} {ad : Nat → Nat} {o : Nat} {Q : MPost} {F : Nat → Int32} {L : Nat → Int64} {I : Nat → Nat → Int32} {J : Nat → Nat → Int64} (h : ∀ σ0, AtM G mX9_goesAll 8 ad o σ0 Q 0 [(0, .ref o)] [] F L I J) : CallM G mX9_goesAll 8 ad o [.ref o] F L I J Q :=
  CallM.of (by decide +kernel) wsX9_goesAll rfl (Nat.le_of_ble_eq_true rfl) (fun σ0 => AtM.sub (ls := [(0, .ref o)]) [0] rfl (h σ0))
set_option maxHeartbeats 4000000 in
theorem bX9_since_0 {G : GC} {ad : Nat → Nat} {o : Nat} {σ0 : PS} {Q : MPost} {F : Nat → Int32} {L : Nat → Int64} {I : Nat → Nat → Int32} {J : Nat → Nat → Int64} (h : (∀ F1 : Nat → Int32, F1 = fU F 0 0 → CallM G mX9_plain 3 ad o [.ref o] F1 L I J (mqV (fun F1_1 L1 I1 J1 => CallM G mX9_goesAll 8 ad o [.ref o] F1_1 L1 I1 J1 (mqV (fun F1_2 L1_3 I1_4 J1_5 => AtM G mX9_since 9 ad o σ0 Q 15 [(0, .ref o), (1, .int 0)] [] F1_2 L1_3 I1_4 J1_5)))))) : AtM G mX9_since 9 ad o σ0 Q 0 [(0, .ref o)] [] F L I J := by
  refine m_aload_n dX9_since_0 rfl 0 rfl ?_
  refine m_iconst (v := 0) dX9_since_1 (by decide) ?_
  refine m_putI 0 dX9_since_2 (by decide) q1763 rfl rfl rfl rfl ?_
  refine m_topF (fun F1 eF1 => ?_)
  replace h := h F1 eF1
  refine m_aload_n dX9_since_5 rfl 0 rfl ?_
  refine m_callV (N := mX9_plain) (st := []) (As := []) dX9_since_6 wsX9_plain (lw_V q2171 q2173 qs68 q116 q2174) rfl mokX9_plain rfl (by decide) (by decide) (Nat.zero_le _) h (fun _ F1_1 L1 I1 J1 hq => ?_)
  obtain ⟨rfl, h⟩ := hq
  refine AtM.stk (st' := []) rfl ?_
  refine m_aload_n dX9_since_9 rfl 0 rfl ?_
  refine m_callV (N := mX9_goesAll) (st := []) (As := []) dX9_since_10 wsX9_goesAll (lw_V q2294 q2296 qs91 q116 q2297) rfl mokX9_goesAll rfl (by decide) (by decide) (Nat.zero_le _) h (fun _ F1_2 L1_3 I1_4 J1_5 hq => ?_)
  obtain ⟨rfl, h⟩ := hq
  refine AtM.stk (st' := []) rfl ?_
  refine m_iconst (v := 0) dX9_since_13 (by decide) ?_
  refine m_istore_n (ls1 := [(1, .int 0), (0, .ref o)]) dX9_since_14 rfl (by decide) rfl ?_
  exact AtM.sub (ls := [(1, .int 0), (0, .ref o)]) [1, 0] rfl h
set_option maxHeartbeats 4000000 in
theorem bX9_since_15 {G : GC} {ad : Nat → Nat} {o : Nat} {σ0 : PS} {Q : MPost} {x1 : Int32} {F : Nat → Int32} {L : Nat → Int64} {I : Nat → Nat → Int32} {J : Nat → Nat → Int64} (h : (((F 19) ≤ x1) → Q (some (.int (-1))) F L I J) ∧ ((¬ (F 19) ≤ x1) → vp_in x1 24 ∧ (∀ w : Int64, w = (2 * (J 40 x1.toNatClampNeg)) → ((1099511627776 ≤ w) → ∀ v1 : Int32, v1 = x1 + 1 → AtM G mX9_since 9 ad o σ0 Q 15 [(0, .ref o), (1, .int v1)] [] F L I J) ∧ ((¬ 1099511627776 ≤ w) → Q (some (.int x1)) F L I J)))) : AtM G mX9_since 9 ad o σ0 Q 15 [(0, .ref o), (1, .int x1)] [] F L I J := by
  refine m_iload_n dX9_since_15 rfl 1 rfl ?_
  refine m_aload_n dX9_since_16 rfl 0 rfl ?_
  refine m_get (v := .int (F 19)) 19 dX9_since_17 (by decide) q1782 rfl ?_
  refine m_icmp_ge (tgt := 48) dX9_since_20 (by decide) (fun c => ?_) (fun c => ?_)
  · replace h := h.1 c
    refine m_iconst (v := (-1)) dX9_since_48 (by decide) ?_
    exact m_iret rfl dX9_since_49 h
  · replace h := h.2 c
    refine m_ldc2 dX9_since_23 q2302 ?_
    refine m_aload_n dX9_since_26 rfl 0 rfl ?_
    refine m_get (v := .ref (ad 40)) 40 dX9_since_27 (by decide) q1803 rfl ?_
    refine m_iload_n dX9_since_30 rfl 1 rfl ?_
    obtain ⟨h1, h⟩ := h
    refine m_lald 40 dX9_since_31 (by decide) rfl h1 ?_
    refine m_lmul dX9_since_32 ?_
    refine m_topl (fun w ew => ?_)
    replace h := h w ew
    refine m_ldc2 dX9_since_33 q2186 ?_
    refine m_lcmp_ge (tgt := 42) dX9_since_36 dX9_since_37 (by decide) (fun c => ?_) (fun c => ?_)
    · replace h := h.1 c
      obtain ⟨v1, ev1⟩ : ∃ z : Int32, z = x1 + 1 := ⟨_, rfl⟩
      refine m_iinc (v := v1) (ls1 := [(1, .int v1), (0, .ref o)]) dX9_since_42 1 rfl (by rw [ev1]; rfl) (by decide) rfl ?_
      replace h := h v1 ev1
      refine m_goto (tgt := 15) dX9_since_45 (by decide) ?_
      exact AtM.sub (ls := [(1, .int v1), (0, .ref o)]) [1, 0] rfl h
    · replace h := h.2 c
      refine m_iload_n dX9_since_40 rfl 1 rfl ?_
      exact m_iret rfl dX9_since_41 h
theorem eX9_since {G : GC} {ad : Nat → Nat} {o : Nat} {Q : MPost} {F : Nat → Int32} {L : Nat → Int64} {I : Nat → Nat → Int32} {J : Nat → Nat → Int64} (h : ∀ σ0, AtM G mX9_since 9 ad o σ0 Q 0 [(0, .ref o)] [] F L I J) : CallM G mX9_since 9 ad o [.ref o] F L I J Q :=
  CallM.of (by decide +kernel) wsX9_since rfl (Nat.le_of_ble_eq_true rfl) (fun σ0 => AtM.sub (ls := [(0, .ref o)]) [0] rfl (h σ0))
set_option maxHeartbeats 4000000 in
theorem bX9_drunk_0 {G : GC} {ad : Nat → Nat} {o : Nat} {σ0 : PS} {Q : MPost} {x1 : Int32} {x2 : Int32} {F : Nat → Int32} {L : Nat → Int64} {I : Nat → Nat → Int32} {J : Nat → Nat → Int64} (h : (∀ F1 : Nat → Int32, F1 = fU F 0 0 → CallM G mX9_isPerson 4 ad o [.ref o, .int x1, .int 1] F1 L I J (mqI (fun rx F1_1 L1 I1 J1 => ((rx = 0) → Q (some (.long 0)) F1_1 L1 I1 J1) ∧ ((¬ rx = 0) → CallP G mX9_within 3 [.int x2, .int 0, .int 1] (pI (fun rx_2 => CallM G mX9_may 3 ad o [.ref o, .int rx_2, .int 2, .int 1] F1_1 L1 I1 J1 (mqI (fun rx_3 F1_4 L1_5 I1_6 J1_7 => ((¬ rx_3 = 0) → CallM G mX9_plain 3 ad o [.ref o] F1_4 L1_5 I1_6 J1_7 (mqV (fun F1_8 L1_9 I1_10 J1_11 => CallM G mX9_goesAll 8 ad o [.ref o] F1_8 L1_9 I1_10 J1_11 (mqV (fun F1_12 L1_13 I1_14 J1_15 => vp_in x1 6 ∧ (CallP G mX9_least 3 [.long (J1_15 39 x1.toNatClampNeg), .long 1099511627776, .int x2] (pJ (fun ry => Q (some (.long ry)) F1_12 L1_13 I1_14 J1_15)))))))) ∧ ((rx_3 = 0) → Q (some (.long 0)) F1_4 L1_5 I1_6 J1_7)))))))))) : AtM G mX9_drunk 9 ad o σ0 Q 0 [(0, .ref o), (1, .int x1), (2, .int x2)] [] F L I J := by
  refine m_aload_n dX9_drunk_0 rfl 0 rfl ?_
  refine m_iconst (v := 0) dX9_drunk_1 (by decide) ?_
  refine m_putI 0 dX9_drunk_2 (by decide) q1763 rfl rfl rfl rfl ?_
  refine m_topF (fun F1 eF1 => ?_)
  replace h := h F1 eF1
  refine m_aload_n dX9_drunk_5 rfl 0 rfl ?_
  refine m_iload_n dX9_drunk_6 rfl 1 rfl ?_
  refine m_iconst (v := 1) dX9_drunk_7 (by decide) ?_
  refine m_callV (N := mX9_isPerson) (st := []) (As := [.int x1, .int 1]) dX9_drunk_8 wsX9_isPerson (lw_V q2055 q2057 qs53 q116 q2058) rfl mokX9_isPerson rfl (by decide) (by decide) (Nat.zero_le _) h (fun _ F1_1 L1 I1 J1 hq => ?_)
  obtain ⟨rx, rfl, h⟩ := hq
  refine AtM.stk (st' := [.int rx]) rfl ?_
  refine m_if_eq (tgt := 29) dX9_drunk_11 (by decide) (fun c => ?_) (fun c => ?_)
  · replace h := h.1 c
    refine m_lconst (v := 0) dX9_drunk_29 (by decide) ?_
    exact m_lret rfl dX9_drunk_30 h
  · replace h := h.2 c
    refine m_aload_n dX9_drunk_14 rfl 0 rfl ?_
    refine m_iload_n dX9_drunk_15 rfl 2 rfl ?_
    refine m_iconst (v := 0) dX9_drunk_16 (by decide) ?_
    refine m_iconst (v := 1) dX9_drunk_17 (by decide) ?_
    refine m_callP (N := mX9_within) (st := [.ref o]) (As := [.int x2, .int 0, .int 1]) dX9_drunk_18 wsX9_within (lw_S q2059 q2060 q116 q2061) mokX9_within rfl (by decide) (by decide) (by simp [Value.category]) h (fun _ hq => ?_)
    obtain ⟨rx_2, rfl, h⟩ := hq
    refine AtM.stk (st' := [.int rx_2, .ref o]) rfl ?_
    refine m_iconst (v := 2) dX9_drunk_21 (by decide) ?_
    refine m_iconst (v := 1) dX9_drunk_22 (by decide) ?_
    refine m_callV (N := mX9_may) (st := []) (As := [.int rx_2, .int 2, .int 1]) dX9_drunk_23 wsX9_may (lw_V q1971 q1973 qs38 q116 q1974) rfl mokX9_may rfl (by decide) (by decide) (Nat.zero_le _) h (fun _ F1_4 L1_5 I1_6 J1_7 hq => ?_)
    obtain ⟨rx_3, rfl, h⟩ := hq
    refine AtM.stk (st' := [.int rx_3]) rfl ?_
    refine m_if_ne (tgt := 31) dX9_drunk_26 (by decide) (fun c => ?_) (fun c => ?_)
    · replace h := h.1 c
      refine m_aload_n dX9_drunk_31 rfl 0 rfl ?_
      refine m_callV (N := mX9_plain) (st := []) (As := []) dX9_drunk_32 wsX9_plain (lw_V q2171 q2173 qs68 q116 q2174) rfl mokX9_plain rfl (by decide) (by decide) (Nat.zero_le _) h (fun _ F1_8 L1_9 I1_10 J1_11 hq => ?_)
      obtain ⟨rfl, h⟩ := hq
      refine AtM.stk (st' := []) rfl ?_
      refine m_aload_n dX9_drunk_35 rfl 0 rfl ?_
      refine m_callV (N := mX9_goesAll) (st := []) (As := []) dX9_drunk_36 wsX9_goesAll (lw_V q2294 q2296 qs91 q116 q2297) rfl mokX9_goesAll rfl (by decide) (by decide) (Nat.zero_le _) h (fun _ F1_12 L1_13 I1_14 J1_15 hq => ?_)
      obtain ⟨rfl, h⟩ := hq
      refine AtM.stk (st' := []) rfl ?_
      refine m_aload_n dX9_drunk_39 rfl 0 rfl ?_
      refine m_get (v := .ref (ad 39)) 39 dX9_drunk_40 (by decide) q1802 rfl ?_
      refine m_iload_n dX9_drunk_43 rfl 1 rfl ?_
      obtain ⟨h1, h⟩ := h
      refine m_lald 39 dX9_drunk_44 (by decide) rfl h1 ?_
      refine m_ldc2 dX9_drunk_45 q2186 ?_
      refine m_iload_n dX9_drunk_48 rfl 2 rfl ?_
      refine m_callP (N := mX9_least) (st := []) (As := [.long (J1_15 39 x1.toNatClampNeg), .long 1099511627776, .int x2]) dX9_drunk_49 wsX9_least (lw_S q2283 q2284 q116 q2285) mokX9_least rfl (by decide) (by decide) (Nat.zero_le _) h (fun _ hq => ?_)
      obtain ⟨ry, rfl, h⟩ := hq
      refine AtM.stk (st' := [.long ry]) rfl ?_
      exact m_lret rfl dX9_drunk_52 h
    · replace h := h.2 c
      refine m_lconst (v := 0) dX9_drunk_29 (by decide) ?_
      exact m_lret rfl dX9_drunk_30 h
theorem eX9_drunk {G : GC} {ad : Nat → Nat} {o : Nat} {Q : MPost} {p1 : Int32} {p2 : Int32} {F : Nat → Int32} {L : Nat → Int64} {I : Nat → Nat → Int32} {J : Nat → Nat → Int64} (h : ∀ σ0, AtM G mX9_drunk 9 ad o σ0 Q 0 [(0, .ref o), (1, .int p1), (2, .int p2)] [] F L I J) : CallM G mX9_drunk 9 ad o [.ref o, .int p1, .int p2] F L I J Q :=
  CallM.of (by decide +kernel) wsX9_drunk rfl (Nat.le_of_ble_eq_true rfl) (fun σ0 => AtM.sub (ls := [(0, .ref o), (1, .int p1), (2, .int p2)]) [0, 1, 2] rfl (h σ0))
set_option maxHeartbeats 4000000 in
theorem bX9_done_0 {G : GC} {ad : Nat → Nat} {o : Nat} {σ0 : PS} {Q : MPost} {x1 : Int32} {x2 : Int32} {F : Nat → Int32} {L : Nat → Int64} {I : Nat → Nat → Int32} {J : Nat → Nat → Int64} (h : (∀ F1 : Nat → Int32, F1 = fU F 0 0 → CallP G mX9_within 3 [.int x1, .int 0, .int 1] (pI (fun rx => ((rx = 0) → AtM G mX9_done 9 ad o σ0 Q 29 [(0, .ref o), (1, .int x1), (2, .int x2)] [.int 0, .ref o] F1 L I J) ∧ ((¬ rx = 0) → CallP G mX9_within 3 [.int x2, .int 0, .int 1] (pI (fun rx_1 => ((rx_1 = 0) → AtM G mX9_done 9 ad o σ0 Q 29 [(0, .ref o), (1, .int x1), (2, .int x2)] [.int 0, .ref o] F1 L I J) ∧ ((¬ rx_1 = 0) → AtM G mX9_done 9 ad o σ0 Q 29 [(0, .ref o), (1, .int x1), (2, .int x2)] [.int 1, .ref o] F1 L I J)))))))) : AtM G mX9_done 9 ad o σ0 Q 0 [(0, .ref o), (1, .int x1), (2, .int x2)] [] F L I J := by
  refine m_aload_n dX9_done_0 rfl 0 rfl ?_
  refine m_iconst (v := 0) dX9_done_1 (by decide) ?_
  refine m_putI 0 dX9_done_2 (by decide) q1763 rfl rfl rfl rfl ?_
  refine m_topF (fun F1 eF1 => ?_)
  replace h := h F1 eF1
  refine m_aload_n dX9_done_5 rfl 0 rfl ?_
  refine m_iload_n dX9_done_6 rfl 1 rfl ?_
  refine m_iconst (v := 0) dX9_done_7 (by decide) ?_
  refine m_iconst (v := 1) dX9_done_8 (by decide) ?_
  refine m_callP (N := mX9_within) (st := [.ref o]) (As := [.int x1, .int 0, .int 1]) dX9_done_9 wsX9_within (lw_S q2059 q2060 q116 q2061) mokX9_within rfl (by decide) (by decide) (by simp [Value.category]) h (fun _ hq => ?_)
  obtain ⟨rx, rfl, h⟩ := hq
  refine AtM.stk (st' := [.int rx, .ref o]) rfl ?_
  refine m_if_eq (tgt := 28) dX9_done_12 (by decide) (fun c => ?_) (fun c => ?_)
  · replace h := h.1 c
    refine m_iconst (v := 0) dX9_done_28 (by decide) ?_
    exact AtM.sub (ls := [(0, .ref o), (1, .int x1), (2, .int x2)]) [0, 1, 2] rfl h
  · replace h := h.2 c
    refine m_iload_n dX9_done_15 rfl 2 rfl ?_
    refine m_iconst (v := 0) dX9_done_16 (by decide) ?_
    refine m_iconst (v := 1) dX9_done_17 (by decide) ?_
    refine m_callP (N := mX9_within) (st := [.ref o]) (As := [.int x2, .int 0, .int 1]) dX9_done_18 wsX9_within (lw_S q2059 q2060 q116 q2061) mokX9_within rfl (by decide) (by decide) (by simp [Value.category]) h (fun _ hq => ?_)
    obtain ⟨rx_1, rfl, h⟩ := hq
    refine AtM.stk (st' := [.int rx_1, .ref o]) rfl ?_
    refine m_if_eq (tgt := 28) dX9_done_21 (by decide) (fun c => ?_) (fun c => ?_)
    · replace h := h.1 c
      refine m_iconst (v := 0) dX9_done_28 (by decide) ?_
      exact AtM.sub (ls := [(0, .ref o), (1, .int x1), (2, .int x2)]) [0, 1, 2] rfl h
    · replace h := h.2 c
      refine m_iconst (v := 1) dX9_done_24 (by decide) ?_
      refine m_goto (tgt := 29) dX9_done_25 (by decide) ?_
      exact AtM.sub (ls := [(0, .ref o), (1, .int x1), (2, .int x2)]) [0, 1, 2] rfl h
set_option maxHeartbeats 4000000 in
theorem bX9_done_29 {G : GC} {ad : Nat → Nat} {o : Nat} {σ0 : PS} {Q : MPost} {x1 : Int32} {x2 : Int32} {sx1 : Int32} {F : Nat → Int32} {L : Nat → Int64} {I : Nat → Nat → Int32} {J : Nat → Nat → Int64} (h : CallM G mX9_may 3 ad o [.ref o, .int sx1, .int 1, .int 1] F L I J (mqI (fun rx F1 L1 I1 J1 => ((¬ rx = 0) → CallM G mX9_plain 3 ad o [.ref o] F1 L1 I1 J1 (mqV (fun F1_1 L1_2 I1_3 J1_4 => CallM G mX9_goesAll 8 ad o [.ref o] F1_1 L1_2 I1_3 J1_4 (mqV (fun F1_5 L1_6 I1_7 J1_8 => ((¬ x1 = 0) → CallP G mX9_least 3 [.long (L1_6 42), .long 1099511627776, .int x2] (pJ (fun ry => Q (some (.long ry)) F1_5 L1_6 I1_7 J1_8))) ∧ ((x1 = 0) → CallP G mX9_least 3 [.long (L1_6 41), .long 1099511627776, .int x2] (pJ (fun ry => Q (some (.long ry)) F1_5 L1_6 I1_7 J1_8)))))))) ∧ ((rx = 0) → Q (some (.long 0)) F1 L1 I1 J1)))) : AtM G mX9_done 9 ad o σ0 Q 29 [(0, .ref o), (1, .int x1), (2, .int x2)] [.int sx1, .ref o] F L I J := by
  refine m_iconst (v := 1) dX9_done_29 (by decide) ?_
  refine m_iconst (v := 1) dX9_done_30 (by decide) ?_
  refine m_callV (N := mX9_may) (st := []) (As := [.int sx1, .int 1, .int 1]) dX9_done_31 wsX9_may (lw_V q1971 q1973 qs38 q116 q1974) rfl mokX9_may rfl (by decide) (by decide) (Nat.zero_le _) h (fun _ F1 L1 I1 J1 hq => ?_)
  obtain ⟨rx, rfl, h⟩ := hq
  refine AtM.stk (st' := [.int rx]) rfl ?_
  refine m_if_ne (tgt := 39) dX9_done_34 (by decide) (fun c => ?_) (fun c => ?_)
  · replace h := h.1 c
    refine m_aload_n dX9_done_39 rfl 0 rfl ?_
    refine m_callV (N := mX9_plain) (st := []) (As := []) dX9_done_40 wsX9_plain (lw_V q2171 q2173 qs68 q116 q2174) rfl mokX9_plain rfl (by decide) (by decide) (Nat.zero_le _) h (fun _ F1_1 L1_2 I1_3 J1_4 hq => ?_)
    obtain ⟨rfl, h⟩ := hq
    refine AtM.stk (st' := []) rfl ?_
    refine m_aload_n dX9_done_43 rfl 0 rfl ?_
    refine m_callV (N := mX9_goesAll) (st := []) (As := []) dX9_done_44 wsX9_goesAll (lw_V q2294 q2296 qs91 q116 q2297) rfl mokX9_goesAll rfl (by decide) (by decide) (Nat.zero_le _) h (fun _ F1_5 L1_6 I1_7 J1_8 hq => ?_)
    obtain ⟨rfl, h⟩ := hq
    refine AtM.stk (st' := []) rfl ?_
    refine m_iload_n dX9_done_47 rfl 1 rfl ?_
    refine m_if_ne (tgt := 58) dX9_done_48 (by decide) (fun c => ?_) (fun c => ?_)
    · replace h := h.1 c
      refine m_aload_n dX9_done_58 rfl 0 rfl ?_
      refine m_get (v := .long (L1_6 42)) 42 dX9_done_59 (by decide) q1805 rfl ?_
      refine m_ldc2 dX9_done_62 q2186 ?_
      refine m_iload_n dX9_done_65 rfl 2 rfl ?_
      refine m_callP (N := mX9_least) (st := []) (As := [.long (L1_6 42), .long 1099511627776, .int x2]) dX9_done_66 wsX9_least (lw_S q2283 q2284 q116 q2285) mokX9_least rfl (by decide) (by decide) (Nat.zero_le _) h (fun _ hq => ?_)
      obtain ⟨ry, rfl, h⟩ := hq
      refine AtM.stk (st' := [.long ry]) rfl ?_
      exact m_lret rfl dX9_done_69 h
    · replace h := h.2 c
      refine m_aload_n dX9_done_51 rfl 0 rfl ?_
      refine m_get (v := .long (L1_6 41)) 41 dX9_done_52 (by decide) q1804 rfl ?_
      refine m_goto (tgt := 62) dX9_done_55 (by decide) ?_
      refine m_ldc2 dX9_done_62 q2186 ?_
      refine m_iload_n dX9_done_65 rfl 2 rfl ?_
      refine m_callP (N := mX9_least) (st := []) (As := [.long (L1_6 41), .long 1099511627776, .int x2]) dX9_done_66 wsX9_least (lw_S q2283 q2284 q116 q2285) mokX9_least rfl (by decide) (by decide) (Nat.zero_le _) h (fun _ hq => ?_)
      obtain ⟨ry, rfl, h⟩ := hq
      refine AtM.stk (st' := [.long ry]) rfl ?_
      exact m_lret rfl dX9_done_69 h
  · replace h := h.2 c
    refine m_lconst (v := 0) dX9_done_37 (by decide) ?_
    exact m_lret rfl dX9_done_38 h
theorem eX9_done {G : GC} {ad : Nat → Nat} {o : Nat} {Q : MPost} {p1 : Int32} {p2 : Int32} {F : Nat → Int32} {L : Nat → Int64} {I : Nat → Nat → Int32} {J : Nat → Nat → Int64} (h : ∀ σ0, AtM G mX9_done 9 ad o σ0 Q 0 [(0, .ref o), (1, .int p1), (2, .int p2)] [] F L I J) : CallM G mX9_done 9 ad o [.ref o, .int p1, .int p2] F L I J Q :=
  CallM.of (by decide +kernel) wsX9_done rfl (Nat.le_of_ble_eq_true rfl) (fun σ0 => AtM.sub (ls := [(0, .ref o), (1, .int p1), (2, .int p2)]) [0, 1, 2] rfl (h σ0))
set_option maxHeartbeats 4000000 in
theorem bX9_cost_0 {G : GC} {ad : Nat → Nat} {o : Nat} {σ0 : PS} {Q : MPost} {x1 : Int32} {F : Nat → Int32} {L : Nat → Int64} {I : Nat → Nat → Int32} {J : Nat → Nat → Int64} (h : (∀ F1 : Nat → Int32, F1 = fU F 0 0 → CallM G mX9_isPart 4 ad o [.ref o, .int x1] F1 L I J (mqI (fun rx F1_1 L1 I1 J1 => ((¬ rx = 0) → CallM G mX9_plain 3 ad o [.ref o] F1_1 L1 I1 J1 (mqV (fun F1_2 L1_3 I1_4 J1_5 => CallM G mX9_costNow 9 ad o [.ref o] F1_2 L1_3 I1_4 J1_5 (mqJ (fun ry F1_6 L1_7 I1_8 J1_9 => CallP G mX9_least 3 [.long ry, .long 1099511627776, .int x1] (pJ (fun ry_10 => Q (some (.long ry_10)) F1_6 L1_7 I1_8 J1_9))))))) ∧ ((rx = 0) → Q (some (.long 0)) F1_1 L1 I1 J1))))) : AtM G mX9_cost 10 ad o σ0 Q 0 [(0, .ref o), (1, .int x1)] [] F L I J := by
  refine m_aload_n dX9_cost_0 rfl 0 rfl ?_
  refine m_iconst (v := 0) dX9_cost_1 (by decide) ?_
  refine m_putI 0 dX9_cost_2 (by decide) q1763 rfl rfl rfl rfl ?_
  refine m_topF (fun F1 eF1 => ?_)
  replace h := h F1 eF1
  refine m_aload_n dX9_cost_5 rfl 0 rfl ?_
  refine m_iload_n dX9_cost_6 rfl 1 rfl ?_
  refine m_callV (N := mX9_isPart) (st := []) (As := [.int x1]) dX9_cost_7 wsX9_isPart (lw_V q2290 q2292 qs90 q116 q2293) rfl mokX9_isPart rfl (by decide) (by decide) (Nat.zero_le _) h (fun _ F1_1 L1 I1 J1 hq => ?_)
  obtain ⟨rx, rfl, h⟩ := hq
  refine AtM.stk (st' := [.int rx]) rfl ?_
  refine m_if_ne (tgt := 15) dX9_cost_10 (by decide) (fun c => ?_) (fun c => ?_)
  · replace h := h.1 c
    refine m_aload_n dX9_cost_15 rfl 0 rfl ?_
    refine m_callV (N := mX9_plain) (st := []) (As := []) dX9_cost_16 wsX9_plain (lw_V q2171 q2173 qs68 q116 q2174) rfl mokX9_plain rfl (by decide) (by decide) (Nat.zero_le _) h (fun _ F1_2 L1_3 I1_4 J1_5 hq => ?_)
    obtain ⟨rfl, h⟩ := hq
    refine AtM.stk (st' := []) rfl ?_
    refine m_aload_n dX9_cost_19 rfl 0 rfl ?_
    refine m_callV (N := mX9_costNow) (st := []) (As := []) dX9_cost_20 wsX9_costNow (lw_V q2315 q2317 qs92 q116 q2318) rfl mokX9_costNow rfl (by decide) (by decide) (Nat.zero_le _) h (fun _ F1_6 L1_7 I1_8 J1_9 hq => ?_)
    obtain ⟨ry, rfl, h⟩ := hq
    refine AtM.stk (st' := [.long ry]) rfl ?_
    refine m_ldc2 dX9_cost_23 q2186 ?_
    refine m_iload_n dX9_cost_26 rfl 1 rfl ?_
    refine m_callP (N := mX9_least) (st := []) (As := [.long ry, .long 1099511627776, .int x1]) dX9_cost_27 wsX9_least (lw_S q2283 q2284 q116 q2285) mokX9_least rfl (by decide) (by decide) (Nat.zero_le _) h (fun _ hq => ?_)
    obtain ⟨ry_10, rfl, h⟩ := hq
    refine AtM.stk (st' := [.long ry_10]) rfl ?_
    exact m_lret rfl dX9_cost_30 h
  · replace h := h.2 c
    refine m_lconst (v := 0) dX9_cost_13 (by decide) ?_
    exact m_lret rfl dX9_cost_14 h
theorem eX9_cost {G : GC} {ad : Nat → Nat} {o : Nat} {Q : MPost} {p1 : Int32} {F : Nat → Int32} {L : Nat → Int64} {I : Nat → Nat → Int32} {J : Nat → Nat → Int64} (h : ∀ σ0, AtM G mX9_cost 10 ad o σ0 Q 0 [(0, .ref o), (1, .int p1)] [] F L I J) : CallM G mX9_cost 10 ad o [.ref o, .int p1] F L I J Q :=
  CallM.of (by decide +kernel) wsX9_cost rfl (Nat.le_of_ble_eq_true rfl) (fun σ0 => AtM.sub (ls := [(0, .ref o), (1, .int p1)]) [0, 1] rfl (h σ0))
set_option maxHeartbeats 4000000 in
theorem bX9_costNow_0 {G : GC} {ad : Nat → Nat} {o : Nat} {σ0 : PS} {Q : MPost} {F : Nat → Int32} {L : Nat → Int64} {I : Nat → Nat → Int32} {J : Nat → Nat → Int64} (h : CallM G mX9_goesAll 8 ad o [.ref o] F L I J (mqV (fun F1 L1 I1 J1 => AtM G mX9_costNow 9 ad o σ0 Q 8 [(0, .ref o), (1, .long 0), (3, .int 0)] [] F1 L1 I1 J1))) : AtM G mX9_costNow 9 ad o σ0 Q 0 [(0, .ref o)] [] F L I J := by
  refine m_aload_n dX9_costNow_0 rfl 0 rfl ?_
  refine m_callV (N := mX9_goesAll) (st := []) (As := []) dX9_costNow_1 wsX9_goesAll (lw_V q2294 q2296 qs91 q116 q2297) rfl mokX9_goesAll rfl (by decide) (by decide) (Nat.zero_le _) h (fun _ F1 L1 I1 J1 hq => ?_)
  obtain ⟨rfl, h⟩ := hq
  refine AtM.stk (st' := []) rfl ?_
  refine m_lconst (v := 0) dX9_costNow_4 (by decide) ?_
  refine m_lstore_n (ls1 := [(1, .long 0), (0, .ref o)]) dX9_costNow_5 rfl (by decide) rfl ?_
  refine m_iconst (v := 0) dX9_costNow_6 (by decide) ?_
  refine m_istore_n (ls1 := [(3, .int 0), (1, .long 0), (0, .ref o)]) dX9_costNow_7 rfl (by decide) rfl ?_
  exact AtM.sub (ls := [(3, .int 0), (1, .long 0), (0, .ref o)]) [2, 1, 0] rfl h
set_option maxHeartbeats 4000000 in
theorem bX9_costNow_8 {G : GC} {ad : Nat → Nat} {o : Nat} {σ0 : PS} {Q : MPost} {y1 : Int64} {x3 : Int32} {F : Nat → Int32} {L : Nat → Int64} {I : Nat → Nat → Int32} {J : Nat → Nat → Int64} (h : ((6 ≤ x3) → ∀ w : Int64, w = (((I 11 8)).toInt64 * (L 41)) → ∀ w_1 : Int64, w_1 = ((((I 11 7)).toInt64 * y1) + w) → ∀ w_2 : Int64, w_2 = (((I 11 9)).toInt64 * (L 42)) → Q (some (.long (w_1 + w_2))) F L I J) ∧ ((¬ 6 ≤ x3) → vp_in x3 6 ∧ (∀ w : Int64, w = (y1 + (J 39 x3.toNatClampNeg)) → ∀ v3 : Int32, v3 = x3 + 1 → AtM G mX9_costNow 9 ad o σ0 Q 8 [(0, .ref o), (1, .long w), (3, .int v3)] [] F L I J))) : AtM G mX9_costNow 9 ad o σ0 Q 8 [(0, .ref o), (1, .long y1), (3, .int x3)] [] F L I J := by
  refine m_iload_n dX9_costNow_8 rfl 2 rfl ?_
  refine m_bipush (v := 6) dX9_costNow_9 (by decide) ?_
  refine m_icmp_ge (tgt := 29) dX9_costNow_11 (by decide) (fun c => ?_) (fun c => ?_)
  · replace h := h.1 c
    refine m_aload_n dX9_costNow_29 rfl 0 rfl ?_
    refine m_get (v := .ref (ad 11)) 11 dX9_costNow_30 (by decide) q1774 rfl ?_
    refine m_bipush (v := 7) dX9_costNow_33 (by decide) ?_
    refine m_iald0 (j := 7) 11 dX9_costNow_35 (by decide) rfl (by decide) rfl (Nat.le_of_ble_eq_true rfl) ?_
    refine m_i2l dX9_costNow_36 ?_
    refine m_lload_n dX9_costNow_37 rfl 1 rfl ?_
    refine m_lmul dX9_costNow_38 ?_
    refine m_aload_n dX9_costNow_39 rfl 0 rfl ?_
    refine m_get (v := .ref (ad 11)) 11 dX9_costNow_40 (by decide) q1774 rfl ?_
    refine m_bipush (v := 8) dX9_costNow_43 (by decide) ?_
    refine m_iald0 (j := 8) 11 dX9_costNow_45 (by decide) rfl (by decide) rfl (Nat.le_of_ble_eq_true rfl) ?_
    refine m_i2l dX9_costNow_46 ?_
    refine m_aload_n dX9_costNow_47 rfl 0 rfl ?_
    refine m_get (v := .long (L 41)) 41 dX9_costNow_48 (by decide) q1804 rfl ?_
    refine m_lmul dX9_costNow_51 ?_
    refine m_topl (fun w ew => ?_)
    replace h := h w ew
    refine m_ladd dX9_costNow_52 ?_
    refine m_topl (fun w_1 ew_1 => ?_)
    replace h := h w_1 ew_1
    refine m_aload_n dX9_costNow_53 rfl 0 rfl ?_
    refine m_get (v := .ref (ad 11)) 11 dX9_costNow_54 (by decide) q1774 rfl ?_
    refine m_bipush (v := 9) dX9_costNow_57 (by decide) ?_
    refine m_iald0 (j := 9) 11 dX9_costNow_59 (by decide) rfl (by decide) rfl (Nat.le_of_ble_eq_true rfl) ?_
    refine m_i2l dX9_costNow_60 ?_
    refine m_aload_n dX9_costNow_61 rfl 0 rfl ?_
    refine m_get (v := .long (L 42)) 42 dX9_costNow_62 (by decide) q1805 rfl ?_
    refine m_lmul dX9_costNow_65 ?_
    refine m_topl (fun w_2 ew_2 => ?_)
    replace h := h w_2 ew_2
    refine m_ladd dX9_costNow_66 ?_
    exact m_lret rfl dX9_costNow_67 h
  · replace h := h.2 c
    refine m_lload_n dX9_costNow_14 rfl 1 rfl ?_
    refine m_aload_n dX9_costNow_15 rfl 0 rfl ?_
    refine m_get (v := .ref (ad 39)) 39 dX9_costNow_16 (by decide) q1802 rfl ?_
    refine m_iload_n dX9_costNow_19 rfl 2 rfl ?_
    obtain ⟨h1, h⟩ := h
    refine m_lald 39 dX9_costNow_20 (by decide) rfl h1 ?_
    refine m_ladd dX9_costNow_21 ?_
    refine m_topl (fun w ew => ?_)
    replace h := h w ew
    refine m_lstore_n (ls1 := [(1, .long w), (0, .ref o), (3, .int x3)]) dX9_costNow_22 rfl (by decide) rfl ?_
    obtain ⟨v3, ev3⟩ : ∃ z : Int32, z = x3 + 1 := ⟨_, rfl⟩
    refine m_iinc (v := v3) (ls1 := [(3, .int v3), (1, .long w), (0, .ref o)]) dX9_costNow_23 2 rfl (by rw [ev3]; rfl) (by decide) rfl ?_
    replace h := h v3 ev3
    refine m_goto (tgt := 8) dX9_costNow_26 (by decide) ?_
    exact AtM.sub (ls := [(3, .int v3), (1, .long w), (0, .ref o)]) [2, 1, 0] rfl h
theorem eX9_costNow {G : GC} {ad : Nat → Nat} {o : Nat} {Q : MPost} {F : Nat → Int32} {L : Nat → Int64} {I : Nat → Nat → Int32} {J : Nat → Nat → Int64} (h : ∀ σ0, AtM G mX9_costNow 9 ad o σ0 Q 0 [(0, .ref o)] [] F L I J) : CallM G mX9_costNow 9 ad o [.ref o] F L I J Q :=
  CallM.of (by decide +kernel) wsX9_costNow rfl (Nat.le_of_ble_eq_true rfl) (fun σ0 => AtM.sub (ls := [(0, .ref o)]) [0] rfl (h σ0))
set_option maxHeartbeats 4000000 in
theorem bX9_fits_0 {G : GC} {ad : Nat → Nat} {o : Nat} {σ0 : PS} {Q : MPost} {x1 : Int32} {F : Nat → Int32} {L : Nat → Int64} {I : Nat → Nat → Int32} {J : Nat → Nat → Int64} (h : (∀ F1 : Nat → Int32, F1 = fU F 0 0 → CallM G mX9_isPart 4 ad o [.ref o, .int x1] F1 L I J (mqI (fun rx F1_1 L1 I1 J1 => ((¬ rx = 0) → CallM G mX9_plain 3 ad o [.ref o] F1_1 L1 I1 J1 (mqV (fun F1_2 L1_3 I1_4 J1_5 => (∀ F1_6 : Nat → Int32, F1_6 = fU F1_2 50 1 → CallM G mX9_goesAll 8 ad o [.ref o] F1_6 L1_3 I1_4 J1_5 (mqV (fun F1_7 L1_8 I1_9 J1_10 => CallMO G mX9_all 3 ad o [.ref o] F1_7 L1_8 I1_9 J1_10 (pJ (fun ry => CallP G mX9_least 3 [.long ry, .long 1099511627776, .int x1] (pJ (fun ry_11 => Q (some (.long ry_11)) F1_7 L1_8 I1_9 J1_10)))))))))) ∧ ((rx = 0) → Q (some (.long 0)) F1_1 L1 I1 J1))))) : AtM G mX9_fits 9 ad o σ0 Q 0 [(0, .ref o), (1, .int x1)] [] F L I J := by
  refine m_aload_n dX9_fits_0 rfl 0 rfl ?_
  refine m_iconst (v := 0) dX9_fits_1 (by decide) ?_
  refine m_putI 0 dX9_fits_2 (by decide) q1763 rfl rfl rfl rfl ?_
  refine m_topF (fun F1 eF1 => ?_)
  replace h := h F1 eF1
  refine m_aload_n dX9_fits_5 rfl 0 rfl ?_
  refine m_iload_n dX9_fits_6 rfl 1 rfl ?_
  refine m_callV (N := mX9_isPart) (st := []) (As := [.int x1]) dX9_fits_7 wsX9_isPart (lw_V q2290 q2292 qs90 q116 q2293) rfl mokX9_isPart rfl (by decide) (by decide) (Nat.zero_le _) h (fun _ F1_1 L1 I1 J1 hq => ?_)
  obtain ⟨rx, rfl, h⟩ := hq
  refine AtM.stk (st' := [.int rx]) rfl ?_
  refine m_if_ne (tgt := 15) dX9_fits_10 (by decide) (fun c => ?_) (fun c => ?_)
  · replace h := h.1 c
    refine m_aload_n dX9_fits_15 rfl 0 rfl ?_
    refine m_callV (N := mX9_plain) (st := []) (As := []) dX9_fits_16 wsX9_plain (lw_V q2171 q2173 qs68 q116 q2174) rfl mokX9_plain rfl (by decide) (by decide) (Nat.zero_le _) h (fun _ F1_2 L1_3 I1_4 J1_5 hq => ?_)
    obtain ⟨rfl, h⟩ := hq
    refine AtM.stk (st' := []) rfl ?_
    refine m_aload_n dX9_fits_19 rfl 0 rfl ?_
    refine m_iconst (v := 1) dX9_fits_20 (by decide) ?_
    refine m_putI 50 dX9_fits_21 (by decide) q1813 rfl rfl rfl rfl ?_
    refine m_topF (fun F1_6 eF1_6 => ?_)
    replace h := h F1_6 eF1_6
    refine m_aload_n dX9_fits_24 rfl 0 rfl ?_
    refine m_callV (N := mX9_goesAll) (st := []) (As := []) dX9_fits_25 wsX9_goesAll (lw_V q2294 q2296 qs91 q116 q2297) rfl mokX9_goesAll rfl (by decide) (by decide) (Nat.zero_le _) h (fun _ F1_7 L1_8 I1_9 J1_10 hq => ?_)
    obtain ⟨rfl, h⟩ := hq
    refine AtM.stk (st' := []) rfl ?_
    refine m_aload_n dX9_fits_28 rfl 0 rfl ?_
    refine m_callV (N := mX9_all) (st := []) (As := []) dX9_fits_29 wsX9_all (lw_V q2323 q2325 qs93 q116 q2326) rfl mokX9_all rfl (by decide) (by decide) (Nat.zero_le _) h (fun _ F9 L9 I9 J9 hq => ?_)
    obtain ⟨e1, e2, e3, e4, hq⟩ := hq
    refine AtM.re e1 e2 e3 e4 ?_
    obtain ⟨ry, rfl, h⟩ := hq
    refine AtM.stk (st' := [.long ry]) rfl ?_
    refine m_ldc2 dX9_fits_32 q2186 ?_
    refine m_iload_n dX9_fits_35 rfl 1 rfl ?_
    refine m_callP (N := mX9_least) (st := []) (As := [.long ry, .long 1099511627776, .int x1]) dX9_fits_36 wsX9_least (lw_S q2283 q2284 q116 q2285) mokX9_least rfl (by decide) (by decide) (Nat.zero_le _) h (fun _ hq => ?_)
    obtain ⟨ry_11, rfl, h⟩ := hq
    refine AtM.stk (st' := [.long ry_11]) rfl ?_
    exact m_lret rfl dX9_fits_39 h
  · replace h := h.2 c
    refine m_lconst (v := 0) dX9_fits_13 (by decide) ?_
    exact m_lret rfl dX9_fits_14 h
theorem eX9_fits {G : GC} {ad : Nat → Nat} {o : Nat} {Q : MPost} {p1 : Int32} {F : Nat → Int32} {L : Nat → Int64} {I : Nat → Nat → Int32} {J : Nat → Nat → Int64} (h : ∀ σ0, AtM G mX9_fits 9 ad o σ0 Q 0 [(0, .ref o), (1, .int p1)] [] F L I J) : CallM G mX9_fits 9 ad o [.ref o, .int p1] F L I J Q :=
  CallM.of (by decide +kernel) wsX9_fits rfl (Nat.le_of_ble_eq_true rfl) (fun σ0 => AtM.sub (ls := [(0, .ref o), (1, .int p1)]) [0, 1] rfl (h σ0))
set_option maxHeartbeats 4000000 in
theorem bX9_all_0 {G : GC} {ad : Nat → Nat} {o : Nat} {σ0 : PS} {Q : MPost} {F : Nat → Int32} {L : Nat → Int64} {I : Nat → Nat → Int32} {J : Nat → Nat → Int64} (h : AtM G mX9_all 3 ad o σ0 Q 4 [(0, .ref o), (1, .long 0), (3, .int 0)] [] F L I J) : AtM G mX9_all 3 ad o σ0 Q 0 [(0, .ref o)] [] F L I J := by
  refine m_lconst (v := 0) dX9_all_0 (by decide) ?_
  refine m_lstore_n (ls1 := [(1, .long 0), (0, .ref o)]) dX9_all_1 rfl (by decide) rfl ?_
  refine m_iconst (v := 0) dX9_all_2 (by decide) ?_
  refine m_istore_n (ls1 := [(3, .int 0), (1, .long 0), (0, .ref o)]) dX9_all_3 rfl (by decide) rfl ?_
  exact AtM.sub (ls := [(3, .int 0), (1, .long 0), (0, .ref o)]) [2, 1, 0] rfl h
set_option maxHeartbeats 4000000 in
theorem bX9_all_4 {G : GC} {ad : Nat → Nat} {o : Nat} {σ0 : PS} {Q : MPost} {y1 : Int64} {x3 : Int32} {F : Nat → Int32} {L : Nat → Int64} {I : Nat → Nat → Int32} {J : Nat → Nat → Int64} (h : (((F 35) ≤ x3) → Q (some (.long y1)) F L I J) ∧ ((¬ (F 35) ≤ x3) → vp_in x3 16900 ∧ (vp_in ((I 33 x3.toNatClampNeg)) 16900 ∧ (∀ w : Int64, w = (y1 + (J 37 ((I 33 x3.toNatClampNeg)).toNatClampNeg)) → ∀ v3 : Int32, v3 = x3 + 1 → AtM G mX9_all 3 ad o σ0 Q 4 [(0, .ref o), (1, .long w), (3, .int v3)] [] F L I J)))) : AtM G mX9_all 3 ad o σ0 Q 4 [(0, .ref o), (1, .long y1), (3, .int x3)] [] F L I J := by
  refine m_iload_n dX9_all_4 rfl 2 rfl ?_
  refine m_aload_n dX9_all_5 rfl 0 rfl ?_
  refine m_get (v := .int (F 35)) 35 dX9_all_6 (by decide) q1798 rfl ?_
  refine m_icmp_ge (tgt := 32) dX9_all_9 (by decide) (fun c => ?_) (fun c => ?_)
  · replace h := h.1 c
    refine m_lload_n dX9_all_32 rfl 1 rfl ?_
    exact m_lret rfl dX9_all_33 h
  · replace h := h.2 c
    refine m_lload_n dX9_all_12 rfl 1 rfl ?_
    refine m_aload_n dX9_all_13 rfl 0 rfl ?_
    refine m_get (v := .ref (ad 37)) 37 dX9_all_14 (by decide) q1800 rfl ?_
    refine m_aload_n dX9_all_17 rfl 0 rfl ?_
    refine m_get (v := .ref (ad 33)) 33 dX9_all_18 (by decide) q1796 rfl ?_
    refine m_iload_n dX9_all_21 rfl 2 rfl ?_
    obtain ⟨h1, h⟩ := h
    refine m_iald 33 dX9_all_22 (by decide) rfl h1 ?_
    obtain ⟨h1, h⟩ := h
    refine m_lald 37 dX9_all_23 (by decide) rfl h1 ?_
    refine m_ladd dX9_all_24 ?_
    refine m_topl (fun w ew => ?_)
    replace h := h w ew
    refine m_lstore_n (ls1 := [(1, .long w), (0, .ref o), (3, .int x3)]) dX9_all_25 rfl (by decide) rfl ?_
    obtain ⟨v3, ev3⟩ : ∃ z : Int32, z = x3 + 1 := ⟨_, rfl⟩
    refine m_iinc (v := v3) (ls1 := [(3, .int v3), (1, .long w), (0, .ref o)]) dX9_all_26 2 rfl (by rw [ev3]; rfl) (by decide) rfl ?_
    replace h := h v3 ev3
    refine m_goto (tgt := 4) dX9_all_29 (by decide) ?_
    exact AtM.sub (ls := [(3, .int v3), (1, .long w), (0, .ref o)]) [2, 1, 0] rfl h
theorem eX9_all {G : GC} {ad : Nat → Nat} {o : Nat} {Q : MPost} {F : Nat → Int32} {L : Nat → Int64} {I : Nat → Nat → Int32} {J : Nat → Nat → Int64} (h : ∀ σ0, AtM G mX9_all 3 ad o σ0 Q 0 [(0, .ref o)] [] F L I J) : CallM G mX9_all 3 ad o [.ref o] F L I J Q :=
  CallM.of (by decide +kernel) wsX9_all rfl (Nat.le_of_ble_eq_true rfl) (fun σ0 => AtM.sub (ls := [(0, .ref o)]) [0] rfl (h σ0))
set_option maxHeartbeats 4000000 in
theorem bX9_given_0 {G : GC} {ad : Nat → Nat} {o : Nat} {σ0 : PS} {Q : MPost} {x1 : Int32} {x2 : Int32} {x3 : Int32} {F : Nat → Int32} {L : Nat → Int64} {I : Nat → Nat → Int32} {J : Nat → Nat → Int64} (h : (∀ F1 : Nat → Int32, F1 = fU F 0 0 → CallM G mX9_isVisit 4 ad o [.ref o, .int x1, .int 1] F1 L I J (mqI (fun rx F1_1 L1 I1 J1 => ((rx = 0) → Q (some (.long 0)) F1_1 L1 I1 J1) ∧ ((¬ rx = 0) → CallP G mX9_within 3 [.int x2, .int 0, .int 5] (pI (fun rx_2 => ((rx_2 = 0) → AtM G mX9_given 9 ad o σ0 Q 38 [(0, .ref o), (1, .int x1), (2, .int x2), (3, .int x3)] [.int 0, .ref o] F1_1 L1 I1 J1) ∧ ((¬ rx_2 = 0) → CallP G mX9_within 3 [.int x3, .int 0, .int 1] (pI (fun rx_3 => ((rx_3 = 0) → AtM G mX9_given 9 ad o σ0 Q 38 [(0, .ref o), (1, .int x1), (2, .int x2), (3, .int x3)] [.int 0, .ref o] F1_1 L1 I1 J1) ∧ ((¬ rx_3 = 0) → AtM G mX9_given 9 ad o σ0 Q 38 [(0, .ref o), (1, .int x1), (2, .int x2), (3, .int x3)] [.int 1, .ref o] F1_1 L1 I1 J1))))))))))) : AtM G mX9_given 9 ad o σ0 Q 0 [(0, .ref o), (1, .int x1), (2, .int x2), (3, .int x3)] [] F L I J := by
  refine m_aload_n dX9_given_0 rfl 0 rfl ?_
  refine m_iconst (v := 0) dX9_given_1 (by decide) ?_
  refine m_putI 0 dX9_given_2 (by decide) q1763 rfl rfl rfl rfl ?_
  refine m_topF (fun F1 eF1 => ?_)
  replace h := h F1 eF1
  refine m_aload_n dX9_given_5 rfl 0 rfl ?_
  refine m_iload_n dX9_given_6 rfl 1 rfl ?_
  refine m_iconst (v := 1) dX9_given_7 (by decide) ?_
  refine m_callV (N := mX9_isVisit) (st := []) (As := [.int x1, .int 1]) dX9_given_8 wsX9_isVisit (lw_V q2147 q2149 qs65 q116 q2150) rfl mokX9_isVisit rfl (by decide) (by decide) (Nat.zero_le _) h (fun _ F1_1 L1 I1 J1 hq => ?_)
  obtain ⟨rx, rfl, h⟩ := hq
  refine AtM.stk (st' := [.int rx]) rfl ?_
  refine m_if_eq (tgt := 46) dX9_given_11 (by decide) (fun c => ?_) (fun c => ?_)
  · replace h := h.1 c
    refine m_lconst (v := 0) dX9_given_46 (by decide) ?_
    exact m_lret rfl dX9_given_47 h
  · replace h := h.2 c
    refine m_aload_n dX9_given_14 rfl 0 rfl ?_
    refine m_iload_n dX9_given_15 rfl 2 rfl ?_
    refine m_iconst (v := 0) dX9_given_16 (by decide) ?_
    refine m_iconst (v := 5) dX9_given_17 (by decide) ?_
    refine m_callP (N := mX9_within) (st := [.ref o]) (As := [.int x2, .int 0, .int 5]) dX9_given_18 wsX9_within (lw_S q2059 q2060 q116 q2061) mokX9_within rfl (by decide) (by decide) (by simp [Value.category]) h (fun _ hq => ?_)
    obtain ⟨rx_2, rfl, h⟩ := hq
    refine AtM.stk (st' := [.int rx_2, .ref o]) rfl ?_
    refine m_if_eq (tgt := 37) dX9_given_21 (by decide) (fun c => ?_) (fun c => ?_)
    · replace h := h.1 c
      refine m_iconst (v := 0) dX9_given_37 (by decide) ?_
      exact AtM.sub (ls := [(0, .ref o), (1, .int x1), (2, .int x2), (3, .int x3)]) [0, 1, 2, 3] rfl h
    · replace h := h.2 c
      refine m_iload_n dX9_given_24 rfl 3 rfl ?_
      refine m_iconst (v := 0) dX9_given_25 (by decide) ?_
      refine m_iconst (v := 1) dX9_given_26 (by decide) ?_
      refine m_callP (N := mX9_within) (st := [.ref o]) (As := [.int x3, .int 0, .int 1]) dX9_given_27 wsX9_within (lw_S q2059 q2060 q116 q2061) mokX9_within rfl (by decide) (by decide) (by simp [Value.category]) h (fun _ hq => ?_)
      obtain ⟨rx_3, rfl, h⟩ := hq
      refine AtM.stk (st' := [.int rx_3, .ref o]) rfl ?_
      refine m_if_eq (tgt := 37) dX9_given_30 (by decide) (fun c => ?_) (fun c => ?_)
      · replace h := h.1 c
        refine m_iconst (v := 0) dX9_given_37 (by decide) ?_
        exact AtM.sub (ls := [(0, .ref o), (1, .int x1), (2, .int x2), (3, .int x3)]) [0, 1, 2, 3] rfl h
      · replace h := h.2 c
        refine m_iconst (v := 1) dX9_given_33 (by decide) ?_
        refine m_goto (tgt := 38) dX9_given_34 (by decide) ?_
        exact AtM.sub (ls := [(0, .ref o), (1, .int x1), (2, .int x2), (3, .int x3)]) [0, 1, 2, 3] rfl h
set_option maxHeartbeats 4000000 in
theorem bX9_given_38 {G : GC} {ad : Nat → Nat} {o : Nat} {σ0 : PS} {Q : MPost} {x1 : Int32} {x2 : Int32} {x3 : Int32} {sx1 : Int32} {F : Nat → Int32} {L : Nat → Int64} {I : Nat → Nat → Int32} {J : Nat → Nat → Int64} (h : CallM G mX9_may 3 ad o [.ref o, .int sx1, .int 2, .int 1] F L I J (mqI (fun rx F1 L1 I1 J1 => ((¬ rx = 0) → CallM G mX9_goesGiven 8 ad o [.ref o, .int x1] F1 L1 I1 J1 (mqV (fun F1_1 L1_2 I1_3 J1_4 => CallM G mX9_likelyOf 5 ad o [.ref o, .int x2, .int x1] F1_1 L1_2 I1_3 J1_4 (mqJ (fun ry F1_5 L1_6 I1_7 J1_8 => CallMO G mX9_share 4 ad o [.ref o, .long ry, .int x3] F1_5 L1_6 I1_7 J1_8 (pJ (fun ry_9 => Q (some (.long ry_9)) F1_5 L1_6 I1_7 J1_8))))))) ∧ ((rx = 0) → Q (some (.long 0)) F1 L1 I1 J1)))) : AtM G mX9_given 9 ad o σ0 Q 38 [(0, .ref o), (1, .int x1), (2, .int x2), (3, .int x3)] [.int sx1, .ref o] F L I J := by
  refine m_iconst (v := 2) dX9_given_38 (by decide) ?_
  refine m_iconst (v := 1) dX9_given_39 (by decide) ?_
  refine m_callV (N := mX9_may) (st := []) (As := [.int sx1, .int 2, .int 1]) dX9_given_40 wsX9_may (lw_V q1971 q1973 qs38 q116 q1974) rfl mokX9_may rfl (by decide) (by decide) (Nat.zero_le _) h (fun _ F1 L1 I1 J1 hq => ?_)
  obtain ⟨rx, rfl, h⟩ := hq
  refine AtM.stk (st' := [.int rx]) rfl ?_
  refine m_if_ne (tgt := 48) dX9_given_43 (by decide) (fun c => ?_) (fun c => ?_)
  · replace h := h.1 c
    refine m_aload_n dX9_given_48 rfl 0 rfl ?_
    refine m_iload_n dX9_given_49 rfl 1 rfl ?_
    refine m_callV (N := mX9_goesGiven) (st := []) (As := [.int x1]) dX9_given_50 wsX9_goesGiven (lw_V q2331 q2333 qs94 q116 q2334) rfl mokX9_goesGiven rfl (by decide) (by decide) (Nat.zero_le _) h (fun _ F1_1 L1_2 I1_3 J1_4 hq => ?_)
    obtain ⟨rfl, h⟩ := hq
    refine AtM.stk (st' := []) rfl ?_
    refine m_aload_n dX9_given_53 rfl 0 rfl ?_
    refine m_aload_n dX9_given_54 rfl 0 rfl ?_
    refine m_iload_n dX9_given_55 rfl 2 rfl ?_
    refine m_iload_n dX9_given_56 rfl 1 rfl ?_
    refine m_callV (N := mX9_likelyOf) (st := [.ref o]) (As := [.int x2, .int x1]) dX9_given_57 wsX9_likelyOf (lw_V q2255 q2257 qs87 q116 q2258) rfl mokX9_likelyOf rfl (by decide) (by decide) (by simp [Value.category]) h (fun _ F1_5 L1_6 I1_7 J1_8 hq => ?_)
    obtain ⟨ry, rfl, h⟩ := hq
    refine AtM.stk (st' := [.long ry, .ref o]) rfl ?_
    refine m_iload_n dX9_given_60 rfl 3 rfl ?_
    refine m_callV (N := mX9_share) (st := []) (As := [.long ry, .int x3]) dX9_given_61 wsX9_share (lw_V q2335 q2337 qs95 q116 q2338) rfl mokX9_share rfl (by decide) (by decide) (Nat.zero_le _) h (fun _ F9 L9 I9 J9 hq => ?_)
    obtain ⟨e1, e2, e3, e4, hq⟩ := hq
    refine AtM.re e1 e2 e3 e4 ?_
    obtain ⟨ry_9, rfl, h⟩ := hq
    refine AtM.stk (st' := [.long ry_9]) rfl ?_
    exact m_lret rfl dX9_given_64 h
  · replace h := h.2 c
    refine m_lconst (v := 0) dX9_given_46 (by decide) ?_
    exact m_lret rfl dX9_given_47 h
theorem eX9_given {G : GC} {ad : Nat → Nat} {o : Nat} {Q : MPost} {p1 : Int32} {p2 : Int32} {p3 : Int32} {F : Nat → Int32} {L : Nat → Int64} {I : Nat → Nat → Int32} {J : Nat → Nat → Int64} (h : ∀ σ0, AtM G mX9_given 9 ad o σ0 Q 0 [(0, .ref o), (1, .int p1), (2, .int p2), (3, .int p3)] [] F L I J) : CallM G mX9_given 9 ad o [.ref o, .int p1, .int p2, .int p3] F L I J Q :=
  CallM.of (by decide +kernel) wsX9_given rfl (Nat.le_of_ble_eq_true rfl) (fun σ0 => AtM.sub (ls := [(0, .ref o), (1, .int p1), (2, .int p2), (3, .int p3)]) [0, 1, 2, 3] rfl (h σ0))
set_option maxHeartbeats 4000000 in
theorem bX9_goesGiven_0 {G : GC} {ad : Nat → Nat} {o : Nat} {σ0 : PS} {Q : MPost} {x1 : Int32} {F : Nat → Int32} {L : Nat → Int64} {I : Nat → Nat → Int32} {J : Nat → Nat → Int64} (h : CallM G mX9_plain 3 ad o [.ref o] F L I J (mqV (fun F1 L1 I1 J1 => (∀ F1_1 : Nat → Int32, F1_1 = fU F1 50 1 → CallM G mX9_goes 7 ad o [.ref o, .int (x1 - 1)] F1_1 L1 I1 J1 (mqV (fun F1_2 L1_3 I1_4 J1_5 => CallM G mX9_comes 6 ad o [.ref o, .int x1] F1_2 L1_3 I1_4 J1_5 (mqV (fun F1_6 L1_7 I1_8 J1_9 => Q none F1_6 L1_7 I1_8 J1_9)))))))) : AtM G mX9_goesGiven 8 ad o σ0 Q 0 [(0, .ref o), (1, .int x1)] [] F L I J := by
  refine m_aload_n dX9_goesGiven_0 rfl 0 rfl ?_
  refine m_callV (N := mX9_plain) (st := []) (As := []) dX9_goesGiven_1 wsX9_plain (lw_V q2171 q2173 qs68 q116 q2174) rfl mokX9_plain rfl (by decide) (by decide) (Nat.zero_le _) h (fun _ F1 L1 I1 J1 hq => ?_)
  obtain ⟨rfl, h⟩ := hq
  refine AtM.stk (st' := []) rfl ?_
  refine m_aload_n dX9_goesGiven_4 rfl 0 rfl ?_
  refine m_iconst (v := 1) dX9_goesGiven_5 (by decide) ?_
  refine m_putI 50 dX9_goesGiven_6 (by decide) q1813 rfl rfl rfl rfl ?_
  refine m_topF (fun F1_1 eF1_1 => ?_)
  replace h := h F1_1 eF1_1
  refine m_aload_n dX9_goesGiven_9 rfl 0 rfl ?_
  refine m_iload_n dX9_goesGiven_10 rfl 1 rfl ?_
  refine m_iconst (v := 1) dX9_goesGiven_11 (by decide) ?_
  refine m_isub dX9_goesGiven_12 ?_
  refine m_callV (N := mX9_goes) (st := []) (As := [.int (x1 - 1)]) dX9_goesGiven_13 wsX9_goes (lw_V q2175 q2177 qs69 q116 q2178) rfl mokX9_goes rfl (by decide) (by decide) (Nat.zero_le _) h (fun _ F1_2 L1_3 I1_4 J1_5 hq => ?_)
  obtain ⟨rfl, h⟩ := hq
  refine AtM.stk (st' := []) rfl ?_
  refine m_aload_n dX9_goesGiven_16 rfl 0 rfl ?_
  refine m_iload_n dX9_goesGiven_17 rfl 1 rfl ?_
  refine m_callV (N := mX9_comes) (st := []) (As := [.int x1]) dX9_goesGiven_18 wsX9_comes (lw_V q2187 q2189 qs71 q116 q2190) rfl mokX9_comes rfl (by decide) (by decide) (Nat.zero_le _) h (fun _ F1_6 L1_7 I1_8 J1_9 hq => ?_)
  obtain ⟨rfl, h⟩ := hq
  refine AtM.stk (st' := []) rfl ?_
  exact m_vret rfl dX9_goesGiven_21 h
theorem eX9_goesGiven {G : GC} {ad : Nat → Nat} {o : Nat} {Q : MPost} {p1 : Int32} {F : Nat → Int32} {L : Nat → Int64} {I : Nat → Nat → Int32} {J : Nat → Nat → Int64} (h : ∀ σ0, AtM G mX9_goesGiven 8 ad o σ0 Q 0 [(0, .ref o), (1, .int p1)] [] F L I J) : CallM G mX9_goesGiven 8 ad o [.ref o, .int p1] F L I J Q :=
  CallM.of (by decide +kernel) wsX9_goesGiven rfl (Nat.le_of_ble_eq_true rfl) (fun σ0 => AtM.sub (ls := [(0, .ref o), (1, .int p1)]) [0, 1] rfl (h σ0))
set_option maxHeartbeats 4000000 in
theorem bX9_share_0 {G : GC} {ad : Nat → Nat} {o : Nat} {σ0 : PS} {Q : MPost} {y1 : Int64} {x3 : Int32} {F : Nat → Int32} {L : Nat → Int64} {I : Nat → Nat → Int32} {J : Nat → Nat → Int64} (h : CallMO G mX9_all 3 ad o [.ref o] F L I J (pJ (fun ry => ((¬ ry = 0) → CallP G mX9_least 3 [.long y1, .long ry, .int x3] (pJ (fun ry_1 => Q (some (.long ry_1)) F L I J))) ∧ ((ry = 0) → Q (some (.long x3.toInt64)) F L I J)))) : AtM G mX9_share 4 ad o σ0 Q 0 [(0, .ref o), (1, .long y1), (3, .int x3)] [] F L I J := by
  refine m_aload_n dX9_share_0 rfl 0 rfl ?_
  refine m_callV (N := mX9_all) (st := []) (As := []) dX9_share_1 wsX9_all (lw_V q2323 q2325 qs93 q116 q2326) rfl mokX9_all rfl (by decide) (by decide) (Nat.zero_le _) h (fun _ F9 L9 I9 J9 hq => ?_)
  obtain ⟨e1, e2, e3, e4, hq⟩ := hq
  refine AtM.re e1 e2 e3 e4 ?_
  obtain ⟨ry, rfl, h⟩ := hq
  refine AtM.stk (st' := [.long ry]) rfl ?_
  refine m_lstore (ls1 := [(4, .long ry), (0, .ref o), (1, .long y1), (3, .int x3)]) dX9_share_4 (by decide) rfl ?_
  refine m_lload dX9_share_6 0 rfl ?_
  refine m_lconst (v := 0) dX9_share_8 (by decide) ?_
  refine m_lcmp_ne (tgt := 18) dX9_share_9 dX9_share_10 (by decide) (fun c => ?_) (fun c => ?_)
  · replace h := h.1 c
    refine m_lload_n dX9_share_18 rfl 2 rfl ?_
    refine m_lload dX9_share_19 0 rfl ?_
    refine m_iload_n dX9_share_21 rfl 3 rfl ?_
    refine m_callP (N := mX9_least) (st := []) (As := [.long y1, .long ry, .int x3]) dX9_share_22 wsX9_least (lw_S q2283 q2284 q116 q2285) mokX9_least rfl (by decide) (by decide) (Nat.zero_le _) h (fun _ hq => ?_)
    obtain ⟨ry_1, rfl, h⟩ := hq
    refine AtM.stk (st' := [.long ry_1]) rfl ?_
    exact m_lret rfl dX9_share_25 h
  · replace h := h.2 c
    refine m_iload_n dX9_share_13 rfl 3 rfl ?_
    refine m_i2l dX9_share_14 ?_
    refine m_goto (tgt := 25) dX9_share_15 (by decide) ?_
    exact m_lret rfl dX9_share_25 h
theorem eX9_share {G : GC} {ad : Nat → Nat} {o : Nat} {Q : MPost} {p1 : Int64} {p3 : Int32} {F : Nat → Int32} {L : Nat → Int64} {I : Nat → Nat → Int32} {J : Nat → Nat → Int64} (h : ∀ σ0, AtM G mX9_share 4 ad o σ0 Q 0 [(0, .ref o), (1, .long p1), (3, .int p3)] [] F L I J) : CallM G mX9_share 4 ad o [.ref o, .long p1, .int p3] F L I J Q :=
  CallM.of (by decide +kernel) wsX9_share rfl (Nat.le_of_ble_eq_true rfl) (fun σ0 => AtM.sub (ls := [(0, .ref o), (1, .long p1), (3, .int p3)]) [0, 1, 2] rfl (h σ0))
set_option maxHeartbeats 4000000 in
theorem bX9_best_0 {G : GC} {ad : Nat → Nat} {o : Nat} {σ0 : PS} {Q : MPost} {x1 : Int32} {F : Nat → Int32} {L : Nat → Int64} {I : Nat → Nat → Int32} {J : Nat → Nat → Int64} (h : (∀ F1 : Nat → Int32, F1 = fU F 0 0 → CallM G mX9_isVisit 4 ad o [.ref o, .int x1, .int 1] F1 L I J (mqI (fun rx F1_1 L1 I1 J1 => ((¬ rx = 0) → CallM G mX9_goesGiven 8 ad o [.ref o, .int x1] F1_1 L1 I1 J1 (mqV (fun F1_2 L1_3 I1_4 J1_5 => CallMO G mX9_all 3 ad o [.ref o] F1_2 L1_3 I1_4 J1_5 (pJ (fun ry => ((¬ ry = 0) → AtM G mX9_best 9 ad o σ0 Q 36 [(0, .ref o), (2, .int 0), (3, .int 1)] [] F1_2 L1_3 I1_4 J1_5) ∧ ((ry = 0) → Q (some (.int (-1))) F1_2 L1_3 I1_4 J1_5)))))) ∧ ((rx = 0) → Q (some (.int 0)) F1_1 L1 I1 J1))))) : AtM G mX9_best 9 ad o σ0 Q 0 [(0, .ref o), (1, .int x1)] [] F L I J := by
  refine m_aload_n dX9_best_0 rfl 0 rfl ?_
  refine m_iconst (v := 0) dX9_best_1 (by decide) ?_
  refine m_putI 0 dX9_best_2 (by decide) q1763 rfl rfl rfl rfl ?_
  refine m_topF (fun F1 eF1 => ?_)
  replace h := h F1 eF1
  refine m_aload_n dX9_best_5 rfl 0 rfl ?_
  refine m_iload_n dX9_best_6 rfl 1 rfl ?_
  refine m_iconst (v := 1) dX9_best_7 (by decide) ?_
  refine m_callV (N := mX9_isVisit) (st := []) (As := [.int x1, .int 1]) dX9_best_8 wsX9_isVisit (lw_V q2147 q2149 qs65 q116 q2150) rfl mokX9_isVisit rfl (by decide) (by decide) (Nat.zero_le _) h (fun _ F1_1 L1 I1 J1 hq => ?_)
  obtain ⟨rx, rfl, h⟩ := hq
  refine AtM.stk (st' := [.int rx]) rfl ?_
  refine m_if_ne (tgt := 16) dX9_best_11 (by decide) (fun c => ?_) (fun c => ?_)
  · replace h := h.1 c
    refine m_aload_n dX9_best_16 rfl 0 rfl ?_
    refine m_iload_n dX9_best_17 rfl 1 rfl ?_
    refine m_callV (N := mX9_goesGiven) (st := []) (As := [.int x1]) dX9_best_18 wsX9_goesGiven (lw_V q2331 q2333 qs94 q116 q2334) rfl mokX9_goesGiven rfl (by decide) (by decide) (Nat.zero_le _) h (fun _ F1_2 L1_3 I1_4 J1_5 hq => ?_)
    obtain ⟨rfl, h⟩ := hq
    refine AtM.stk (st' := []) rfl ?_
    refine m_aload_n dX9_best_21 rfl 0 rfl ?_
    refine m_callV (N := mX9_all) (st := []) (As := []) dX9_best_22 wsX9_all (lw_V q2323 q2325 qs93 q116 q2326) rfl mokX9_all rfl (by decide) (by decide) (Nat.zero_le _) h (fun _ F9 L9 I9 J9 hq => ?_)
    obtain ⟨e1, e2, e3, e4, hq⟩ := hq
    refine AtM.re e1 e2 e3 e4 ?_
    obtain ⟨ry, rfl, h⟩ := hq
    refine AtM.stk (st' := [.long ry]) rfl ?_
    refine m_lconst (v := 0) dX9_best_25 (by decide) ?_
    refine m_lcmp_ne (tgt := 32) dX9_best_26 dX9_best_27 (by decide) (fun c => ?_) (fun c => ?_)
    · replace h := h.1 c
      refine m_iconst (v := 0) dX9_best_32 (by decide) ?_
      refine m_istore_n (ls1 := [(2, .int 0), (0, .ref o), (1, .int x1)]) dX9_best_33 rfl (by decide) rfl ?_
      refine m_iconst (v := 1) dX9_best_34 (by decide) ?_
      refine m_istore_n (ls1 := [(3, .int 1), (2, .int 0), (0, .ref o), (1, .int x1)]) dX9_best_35 rfl (by decide) rfl ?_
      exact AtM.sub (ls := [(3, .int 1), (2, .int 0), (0, .ref o), (1, .int x1)]) [2, 1, 0] rfl h
    · replace h := h.2 c
      refine m_iconst (v := (-1)) dX9_best_30 (by decide) ?_
      exact m_iret rfl dX9_best_31 h
  · replace h := h.2 c
    refine m_iconst (v := 0) dX9_best_14 (by decide) ?_
    exact m_iret rfl dX9_best_15 h
set_option maxHeartbeats 4000000 in
theorem bX9_best_36 {G : GC} {ad : Nat → Nat} {o : Nat} {σ0 : PS} {Q : MPost} {x2 : Int32} {x3 : Int32} {F : Nat → Int32} {L : Nat → Int64} {I : Nat → Nat → Int32} {J : Nat → Nat → Int64} (h : ((4 ≤ x3) → Q (some (.int x2)) F L I J) ∧ ((¬ 4 ≤ x3) → CallM G mX9_worthOf 4 ad o [.ref o, .int x3] F L I J (mqJ (fun ry F1 L1 I1 J1 => CallM G mX9_worthOf 4 ad o [.ref o, .int x2] F1 L1 I1 J1 (mqJ (fun ry_1 F1_2 L1_3 I1_4 J1_5 => ((ry_1 ≤ ry) → ∀ v3 : Int32, v3 = x3 + 1 → AtM G mX9_best 9 ad o σ0 Q 36 [(0, .ref o), (2, .int x2), (3, .int v3)] [] F1_2 L1_3 I1_4 J1_5) ∧ ((¬ ry_1 ≤ ry) → ∀ v3 : Int32, v3 = x3 + 1 → AtM G mX9_best 9 ad o σ0 Q 36 [(0, .ref o), (2, .int x3), (3, .int v3)] [] F1_2 L1_3 I1_4 J1_5))))))) : AtM G mX9_best 9 ad o σ0 Q 36 [(0, .ref o), (2, .int x2), (3, .int x3)] [] F L I J := by
  refine m_iload_n dX9_best_36 rfl 2 rfl ?_
  refine m_iconst (v := 4) dX9_best_37 (by decide) ?_
  refine m_icmp_ge (tgt := 63) dX9_best_38 (by decide) (fun c => ?_) (fun c => ?_)
  · replace h := h.1 c
    refine m_iload_n dX9_best_63 rfl 1 rfl ?_
    exact m_iret rfl dX9_best_64 h
  · replace h := h.2 c
    refine m_aload_n dX9_best_41 rfl 0 rfl ?_
    refine m_iload_n dX9_best_42 rfl 2 rfl ?_
    refine m_callV (N := mX9_worthOf) (st := []) (As := [.int x3]) dX9_best_43 wsX9_worthOf (lw_V q2343 q2345 qs96 q116 q2346) rfl mokX9_worthOf rfl (by decide) (by decide) (Nat.zero_le _) h (fun _ F1 L1 I1 J1 hq => ?_)
    obtain ⟨ry, rfl, h⟩ := hq
    refine AtM.stk (st' := [.long ry]) rfl ?_
    refine m_aload_n dX9_best_46 rfl 0 rfl ?_
    refine m_iload_n dX9_best_47 rfl 1 rfl ?_
    refine m_callV (N := mX9_worthOf) (st := [.long ry]) (As := [.int x2]) dX9_best_48 wsX9_worthOf (lw_V q2343 q2345 qs96 q116 q2346) rfl mokX9_worthOf rfl (by decide) (by decide) (by simp [Value.category]) h (fun _ F1_2 L1_3 I1_4 J1_5 hq => ?_)
    obtain ⟨ry_1, rfl, h⟩ := hq
    refine AtM.stk (st' := [.long ry_1, .long ry]) rfl ?_
    refine m_lcmp_ge (tgt := 57) dX9_best_51 dX9_best_52 (by decide) (fun c => ?_) (fun c => ?_)
    · replace h := h.1 c
      obtain ⟨v3, ev3⟩ : ∃ z : Int32, z = x3 + 1 := ⟨_, rfl⟩
      refine m_iinc (v := v3) (ls1 := [(3, .int v3), (0, .ref o), (2, .int x2)]) dX9_best_57 2 rfl (by rw [ev3]; rfl) (by decide) rfl ?_
      replace h := h v3 ev3
      refine m_goto (tgt := 36) dX9_best_60 (by decide) ?_
      exact AtM.sub (ls := [(3, .int v3), (0, .ref o), (2, .int x2)]) [1, 2, 0] rfl h
    · replace h := h.2 c
      refine m_iload_n dX9_best_55 rfl 2 rfl ?_
      refine m_istore_n (ls1 := [(2, .int x3), (0, .ref o), (3, .int x3)]) dX9_best_56 rfl (by decide) rfl ?_
      obtain ⟨v3, ev3⟩ : ∃ z : Int32, z = x3 + 1 := ⟨_, rfl⟩
      refine m_iinc (v := v3) (ls1 := [(3, .int v3), (2, .int x3), (0, .ref o)]) dX9_best_57 2 rfl (by rw [ev3]; rfl) (by decide) rfl ?_
      replace h := h v3 ev3
      refine m_goto (tgt := 36) dX9_best_60 (by decide) ?_
      exact AtM.sub (ls := [(3, .int v3), (2, .int x3), (0, .ref o)]) [2, 1, 0] rfl h
theorem eX9_best {G : GC} {ad : Nat → Nat} {o : Nat} {Q : MPost} {p1 : Int32} {F : Nat → Int32} {L : Nat → Int64} {I : Nat → Nat → Int32} {J : Nat → Nat → Int64} (h : ∀ σ0, AtM G mX9_best 9 ad o σ0 Q 0 [(0, .ref o), (1, .int p1)] [] F L I J) : CallM G mX9_best 9 ad o [.ref o, .int p1] F L I J Q :=
  CallM.of (by decide +kernel) wsX9_best rfl (Nat.le_of_ble_eq_true rfl) (fun σ0 => AtM.sub (ls := [(0, .ref o), (1, .int p1)]) [0, 1] rfl (h σ0))
set_option maxHeartbeats 4000000 in
theorem bX9_worthOf_0 {G : GC} {ad : Nat → Nat} {o : Nat} {σ0 : PS} {Q : MPost} {x1 : Int32} {F : Nat → Int32} {L : Nat → Int64} {I : Nat → Nat → Int32} {J : Nat → Nat → Int64} (h : AtM G mX9_worthOf 4 ad o σ0 Q 17 [(0, .ref o), (1, .int x1), (2, .long 0), (4, .long 0), (6, .long 0), (8, .long 0), (10, .long 0), (12, .int 0)] [] F L I J) : AtM G mX9_worthOf 4 ad o σ0 Q 0 [(0, .ref o), (1, .int x1)] [] F L I J := by
  refine m_lconst (v := 0) dX9_worthOf_0 (by decide) ?_
  refine m_lstore_n (ls1 := [(2, .long 0), (0, .ref o), (1, .int x1)]) dX9_worthOf_1 rfl (by decide) rfl ?_
  refine m_lconst (v := 0) dX9_worthOf_2 (by decide) ?_
  refine m_lstore (ls1 := [(4, .long 0), (2, .long 0), (0, .ref o), (1, .int x1)]) dX9_worthOf_3 (by decide) rfl ?_
  refine m_lconst (v := 0) dX9_worthOf_5 (by decide) ?_
  refine m_lstore (ls1 := [(6, .long 0), (4, .long 0), (2, .long 0), (0, .ref o), (1, .int x1)]) dX9_worthOf_6 (by decide) rfl ?_
  refine m_lconst (v := 0) dX9_worthOf_8 (by decide) ?_
  refine m_lstore (ls1 := [(8, .long 0), (6, .long 0), (4, .long 0), (2, .long 0), (0, .ref o), (1, .int x1)]) dX9_worthOf_9 (by decide) rfl ?_
  refine m_lconst (v := 0) dX9_worthOf_11 (by decide) ?_
  refine m_lstore (ls1 := [(10, .long 0), (8, .long 0), (6, .long 0), (4, .long 0), (2, .long 0), (0, .ref o), (1, .int x1)]) dX9_worthOf_12 (by decide) rfl ?_
  refine m_iconst (v := 0) dX9_worthOf_14 (by decide) ?_
  refine m_istore (ls1 := [(12, .int 0), (10, .long 0), (8, .long 0), (6, .long 0), (4, .long 0), (2, .long 0), (0, .ref o), (1, .int x1)]) dX9_worthOf_15 (by decide) rfl ?_
  exact AtM.sub (ls := [(12, .int 0), (10, .long 0), (8, .long 0), (6, .long 0), (4, .long 0), (2, .long 0), (0, .ref o), (1, .int x1)]) [6, 7, 5, 4, 3, 2, 1, 0] rfl h
set_option maxHeartbeats 4000000 in
theorem bX9_worthOf_17 {G : GC} {ad : Nat → Nat} {o : Nat} {σ0 : PS} {Q : MPost} {x1 : Int32} {y2 : Int64} {y4 : Int64} {y6 : Int64} {y8 : Int64} {y10 : Int64} {x12 : Int32} {F : Nat → Int32} {L : Nat → Int64} {I : Nat → Nat → Int32} {J : Nat → Nat → Int64} (h : (((F 35) ≤ x12) → ((y6 ≤ y4) → ((y10 ≤ y8) → Q (some (.long ((y2 + y6) + y10))) F L I J) ∧ ((¬ y10 ≤ y8) → Q (some (.long ((y2 + y6) + y8))) F L I J)) ∧ ((¬ y6 ≤ y4) → ((y10 ≤ y8) → Q (some (.long ((y2 + y4) + y10))) F L I J) ∧ ((¬ y10 ≤ y8) → Q (some (.long ((y2 + y4) + y8))) F L I J))) ∧ ((¬ (F 35) ≤ x12) → vp_in x12 16900 ∧ (∀ v13 : Int32, v13 = (I 33 x12.toNatClampNeg) → vp_in v13 16900 ∧ (∀ v14 : Int64, v14 = (J 37 v13.toNatClampNeg) → CallM G mX9_stateOf 3 ad o [.ref o, .int v13] F L I J (mqV (fun F1 L1 I1 J1 => ((¬ x1 = 0) → AtM G mX9_worthOf 4 ad o σ0 Q 63 [(0, .ref o), (1, .int x1), (2, .long y2), (4, .long y4), (6, .long y6), (8, .long y8), (10, .long y10), (12, .int x12), (14, .long v14)] [] F1 L1 I1 J1) ∧ ((x1 = 0) → CallMO G mX9_takeCost 3 ad o [.ref o, .long v14] F1 L1 I1 J1 (pJ (fun ry => ∀ v2 : Int64, v2 = (y2 + ry) → AtM G mX9_worthOf 4 ad o σ0 Q 63 [(0, .ref o), (1, .int x1), (2, .long v2), (4, .long y4), (6, .long y6), (8, .long y8), (10, .long y10), (12, .int x12), (14, .long v14)] [] F1 L1 I1 J1))))))))) : AtM G mX9_worthOf 4 ad o σ0 Q 17 [(0, .ref o), (1, .int x1), (2, .long y2), (4, .long y4), (6, .long y6), (8, .long y8), (10, .long y10), (12, .int x12)] [] F L I J := by
  refine m_iload dX9_worthOf_17 7 rfl ?_
  refine m_aload_n dX9_worthOf_19 rfl 0 rfl ?_
  refine m_get (v := .int (F 35)) 35 dX9_worthOf_20 (by decide) q1798 rfl ?_
  refine m_icmp_ge (tgt := 254) dX9_worthOf_23 (by decide) (fun c => ?_) (fun c => ?_)
  · replace h := h.1 c
    refine m_lload_n dX9_worthOf_254 rfl 2 rfl ?_
    refine m_lload dX9_worthOf_255 3 rfl ?_
    refine m_lload dX9_worthOf_257 4 rfl ?_
    refine m_lcmp_ge (tgt := 268) dX9_worthOf_259 dX9_worthOf_260 (by decide) (fun c => ?_) (fun c => ?_)
    · replace h := h.1 c
      refine m_lload dX9_worthOf_268 4 rfl ?_
      refine m_ladd dX9_worthOf_270 ?_
      refine m_lload dX9_worthOf_271 5 rfl ?_
      refine m_lload dX9_worthOf_273 6 rfl ?_
      refine m_lcmp_ge (tgt := 284) dX9_worthOf_275 dX9_worthOf_276 (by decide) (fun c => ?_) (fun c => ?_)
      · replace h := h.1 c
        refine m_lload dX9_worthOf_284 6 rfl ?_
        refine m_ladd dX9_worthOf_286 ?_
        exact m_lret rfl dX9_worthOf_287 h
      · replace h := h.2 c
        refine m_lload dX9_worthOf_279 5 rfl ?_
        refine m_goto (tgt := 286) dX9_worthOf_281 (by decide) ?_
        refine m_ladd dX9_worthOf_286 ?_
        exact m_lret rfl dX9_worthOf_287 h
    · replace h := h.2 c
      refine m_lload dX9_worthOf_263 3 rfl ?_
      refine m_goto (tgt := 270) dX9_worthOf_265 (by decide) ?_
      refine m_ladd dX9_worthOf_270 ?_
      refine m_lload dX9_worthOf_271 5 rfl ?_
      refine m_lload dX9_worthOf_273 6 rfl ?_
      refine m_lcmp_ge (tgt := 284) dX9_worthOf_275 dX9_worthOf_276 (by decide) (fun c => ?_) (fun c => ?_)
      · replace h := h.1 c
        refine m_lload dX9_worthOf_284 6 rfl ?_
        refine m_ladd dX9_worthOf_286 ?_
        exact m_lret rfl dX9_worthOf_287 h
      · replace h := h.2 c
        refine m_lload dX9_worthOf_279 5 rfl ?_
        refine m_goto (tgt := 286) dX9_worthOf_281 (by decide) ?_
        refine m_ladd dX9_worthOf_286 ?_
        exact m_lret rfl dX9_worthOf_287 h
  · replace h := h.2 c
    refine m_aload_n dX9_worthOf_26 rfl 0 rfl ?_
    refine m_get (v := .ref (ad 33)) 33 dX9_worthOf_27 (by decide) q1796 rfl ?_
    refine m_iload dX9_worthOf_30 7 rfl ?_
    obtain ⟨h1, h⟩ := h
    refine m_iald 33 dX9_worthOf_32 (by decide) rfl h1 ?_
    refine m_topi (fun v13 ev13 => ?_)
    replace h := h v13 ev13
    refine m_istore (ls1 := [(13, .int v13), (0, .ref o), (1, .int x1), (2, .long y2), (4, .long y4), (6, .long y6), (8, .long y8), (10, .long y10), (12, .int x12)]) dX9_worthOf_33 (by decide) rfl ?_
    refine m_aload_n dX9_worthOf_35 rfl 1 rfl ?_
    refine m_get (v := .ref (ad 37)) 37 dX9_worthOf_36 (by decide) q1800 rfl ?_
    refine m_iload dX9_worthOf_39 0 rfl ?_
    obtain ⟨h1, h⟩ := h
    refine m_lald 37 dX9_worthOf_41 (by decide) rfl h1 ?_
    refine m_topl (fun v14 ev14 => ?_)
    replace h := h v14 ev14
    refine m_lstore (ls1 := [(14, .long v14), (13, .int v13), (0, .ref o), (1, .int x1), (2, .long y2), (4, .long y4), (6, .long y6), (8, .long y8), (10, .long y10), (12, .int x12)]) dX9_worthOf_42 (by decide) rfl ?_
    refine m_aload_n dX9_worthOf_44 rfl 2 rfl ?_
    refine m_iload dX9_worthOf_45 1 rfl ?_
    refine m_callV (N := mX9_stateOf) (st := []) (As := [.int v13]) dX9_worthOf_47 wsX9_stateOf (lw_V q2195 q2197 qs73 q116 q2198) rfl mokX9_stateOf rfl (by decide) (by decide) (Nat.zero_le _) h (fun _ F1 L1 I1 J1 hq => ?_)
    obtain ⟨rfl, h⟩ := hq
    refine AtM.stk (st' := []) rfl ?_
    refine m_iload_n dX9_worthOf_50 rfl 3 rfl ?_
    refine m_if_ne (tgt := 63) dX9_worthOf_51 (by decide) (fun c => ?_) (fun c => ?_)
    · replace h := h.1 c
      exact AtM.sub (ls := [(14, .long v14), (13, .int v13), (0, .ref o), (1, .int x1), (2, .long y2), (4, .long y4), (6, .long y6), (8, .long y8), (10, .long y10), (12, .int x12)]) [2, 3, 4, 5, 6, 7, 8, 9, 0] rfl h
    · replace h := h.2 c
      refine m_lload_n dX9_worthOf_54 rfl 4 rfl ?_
      refine m_aload_n dX9_worthOf_55 rfl 2 rfl ?_
      refine m_lload dX9_worthOf_56 0 rfl ?_
      refine m_callV (N := mX9_takeCost) (st := [.long y2]) (As := [.long v14]) dX9_worthOf_58 wsX9_takeCost (lw_V q2347 q2349 qs97 q116 q2350) rfl mokX9_takeCost rfl (by decide) (by decide) (by simp [Value.category]) h (fun _ F9 L9 I9 J9 hq => ?_)
      obtain ⟨e1, e2, e3, e4, hq⟩ := hq
      refine AtM.re e1 e2 e3 e4 ?_
      obtain ⟨ry, rfl, h⟩ := hq
      refine AtM.stk (st' := [.long ry, .long y2]) rfl ?_
      refine m_ladd dX9_worthOf_61 ?_
      refine m_topl (fun v2 ev2 => ?_)
      replace h := h v2 ev2
      refine m_lstore_n (ls1 := [(2, .long v2), (14, .long v14), (13, .int v13), (0, .ref o), (1, .int x1), (4, .long y4), (6, .long y6), (8, .long y8), (10, .long y10), (12, .int x12)]) dX9_worthOf_62 rfl (by decide) rfl ?_
      exact AtM.sub (ls := [(2, .long v2), (14, .long v14), (13, .int v13), (0, .ref o), (1, .int x1), (4, .long y4), (6, .long y6), (8, .long y8), (10, .long y10), (12, .int x12)]) [3, 4, 0, 5, 6, 7, 8, 9, 1] rfl h
set_option maxHeartbeats 4000000 in
theorem bX9_worthOf_63 {G : GC} {ad : Nat → Nat} {o : Nat} {σ0 : PS} {Q : MPost} {x1 : Int32} {y2 : Int64} {y4 : Int64} {y6 : Int64} {y8 : Int64} {y10 : Int64} {x12 : Int32} {y14 : Int64} {F : Nat → Int32} {L : Nat → Int64} {I : Nat → Nat → Int32} {J : Nat → Nat → Int64} (h : ((¬ x1 = 1) → AtM G mX9_worthOf 4 ad o σ0 Q 82 [(0, .ref o), (1, .int x1), (2, .long y2), (4, .long y4), (6, .long y6), (8, .long y8), (10, .long y10), (12, .int x12), (14, .long y14)] [] F L I J) ∧ ((x1 = 1) → ∀ w : Int64, w = (((I 11 10)).toInt64 * y14) → ∀ v2 : Int64, v2 = (y2 + w) → AtM G mX9_worthOf 4 ad o σ0 Q 82 [(0, .ref o), (1, .int x1), (2, .long v2), (4, .long y4), (6, .long y6), (8, .long y8), (10, .long y10), (12, .int x12), (14, .long y14)] [] F L I J)) : AtM G mX9_worthOf 4 ad o σ0 Q 63 [(0, .ref o), (1, .int x1), (2, .long y2), (4, .long y4), (6, .long y6), (8, .long y8), (10, .long y10), (12, .int x12), (14, .long y14)] [] F L I J := by
  refine m_iload_n dX9_worthOf_63 rfl 1 rfl ?_
  refine m_iconst (v := 1) dX9_worthOf_64 (by decide) ?_
  refine m_icmp_ne (tgt := 82) dX9_worthOf_65 (by decide) (fun c => ?_) (fun c => ?_)
  · replace h := h.1 c
    exact AtM.sub (ls := [(0, .ref o), (1, .int x1), (2, .long y2), (4, .long y4), (6, .long y6), (8, .long y8), (10, .long y10), (12, .int x12), (14, .long y14)]) [0, 1, 2, 3, 4, 5, 6, 7, 8] rfl h
  · replace h := h.2 c
    refine m_lload_n dX9_worthOf_68 rfl 2 rfl ?_
    refine m_aload_n dX9_worthOf_69 rfl 0 rfl ?_
    refine m_get (v := .ref (ad 11)) 11 dX9_worthOf_70 (by decide) q1774 rfl ?_
    refine m_bipush (v := 10) dX9_worthOf_73 (by decide) ?_
    refine m_iald0 (j := 10) 11 dX9_worthOf_75 (by decide) rfl (by decide) rfl (Nat.le_of_ble_eq_true rfl) ?_
    refine m_i2l dX9_worthOf_76 ?_
    refine m_lload dX9_worthOf_77 8 rfl ?_
    refine m_lmul dX9_worthOf_79 ?_
    refine m_topl (fun w ew => ?_)
    replace h := h w ew
    refine m_ladd dX9_worthOf_80 ?_
    refine m_topl (fun v2 ev2 => ?_)
    replace h := h v2 ev2
    refine m_lstore_n (ls1 := [(2, .long v2), (0, .ref o), (1, .int x1), (4, .long y4), (6, .long y6), (8, .long y8), (10, .long y10), (12, .int x12), (14, .long y14)]) dX9_worthOf_81 rfl (by decide) rfl ?_
    exact AtM.sub (ls := [(2, .long v2), (0, .ref o), (1, .int x1), (4, .long y4), (6, .long y6), (8, .long y8), (10, .long y10), (12, .int x12), (14, .long y14)]) [1, 2, 0, 3, 4, 5, 6, 7, 8] rfl h
set_option maxHeartbeats 4000000 in
theorem bX9_worthOf_82 {G : GC} {ad : Nat → Nat} {o : Nat} {σ0 : PS} {Q : MPost} {x1 : Int32} {y2 : Int64} {y4 : Int64} {y6 : Int64} {y8 : Int64} {y10 : Int64} {x12 : Int32} {y14 : Int64} {F : Nat → Int32} {L : Nat → Int64} {I : Nat → Nat → Int32} {J : Nat → Nat → Int64} (h : ((¬ x1 = 3) → AtM G mX9_worthOf 4 ad o σ0 Q 138 [(0, .ref o), (1, .int x1), (2, .long y2), (4, .long y4), (6, .long y6), (8, .long y8), (10, .long y10), (12, .int x12), (14, .long y14)] [] F L I J) ∧ ((x1 = 3) → ∀ w : Int32, w = (((I 11 8) * (F 51)) + (I 11 11)) → ((¬ ((F 51) + (F 52)) = 0) → ∀ w_1 : Int64, w_1 = (y2 + (((w + 0)).toInt64 * y14)) → AtM G mX9_worthOf 4 ad o σ0 Q 138 [(0, .ref o), (1, .int x1), (2, .long w_1), (4, .long y4), (6, .long y6), (8, .long y8), (10, .long y10), (12, .int x12), (14, .long y14)] [] F L I J) ∧ ((((F 51) + (F 52)) = 0) → ∀ w_2 : Int64, w_2 = (((w + (I 11 10))).toInt64 * y14) → ∀ v2 : Int64, v2 = (y2 + w_2) → AtM G mX9_worthOf 4 ad o σ0 Q 138 [(0, .ref o), (1, .int x1), (2, .long v2), (4, .long y4), (6, .long y6), (8, .long y8), (10, .long y10), (12, .int x12), (14, .long y14)] [] F L I J))) : AtM G mX9_worthOf 4 ad o σ0 Q 82 [(0, .ref o), (1, .int x1), (2, .long y2), (4, .long y4), (6, .long y6), (8, .long y8), (10, .long y10), (12, .int x12), (14, .long y14)] [] F L I J := by
  refine m_iload_n dX9_worthOf_82 rfl 1 rfl ?_
  refine m_iconst (v := 3) dX9_worthOf_83 (by decide) ?_
  refine m_icmp_ne (tgt := 138) dX9_worthOf_84 (by decide) (fun c => ?_) (fun c => ?_)
  · replace h := h.1 c
    exact AtM.sub (ls := [(0, .ref o), (1, .int x1), (2, .long y2), (4, .long y4), (6, .long y6), (8, .long y8), (10, .long y10), (12, .int x12), (14, .long y14)]) [0, 1, 2, 3, 4, 5, 6, 7, 8] rfl h
  · replace h := h.2 c
    refine m_lload_n dX9_worthOf_87 rfl 2 rfl ?_
    refine m_aload_n dX9_worthOf_88 rfl 0 rfl ?_
    refine m_get (v := .ref (ad 11)) 11 dX9_worthOf_89 (by decide) q1774 rfl ?_
    refine m_bipush (v := 8) dX9_worthOf_92 (by decide) ?_
    refine m_iald0 (j := 8) 11 dX9_worthOf_94 (by decide) rfl (by decide) rfl (Nat.le_of_ble_eq_true rfl) ?_
    refine m_aload_n dX9_worthOf_95 rfl 0 rfl ?_
    refine m_get (v := .int (F 51)) 51 dX9_worthOf_96 (by decide) q1814 rfl ?_
    refine m_imul dX9_worthOf_99 ?_
    refine m_aload_n dX9_worthOf_100 rfl 0 rfl ?_
    refine m_get (v := .ref (ad 11)) 11 dX9_worthOf_101 (by decide) q1774 rfl ?_
    refine m_bipush (v := 11) dX9_worthOf_104 (by decide) ?_
    refine m_iald0 (j := 11) 11 dX9_worthOf_106 (by decide) rfl (by decide) rfl (Nat.le_of_ble_eq_true rfl) ?_
    refine m_iadd dX9_worthOf_107 ?_
    refine m_topi (fun w ew => ?_)
    replace h := h w ew
    refine m_aload_n dX9_worthOf_108 rfl 0 rfl ?_
    refine m_get (v := .int (F 51)) 51 dX9_worthOf_109 (by decide) q1814 rfl ?_
    refine m_aload_n dX9_worthOf_112 rfl 0 rfl ?_
    refine m_get (v := .int (F 52)) 52 dX9_worthOf_113 (by decide) q1815 rfl ?_
    refine m_iadd dX9_worthOf_116 ?_
    refine m_if_ne (tgt := 130) dX9_worthOf_117 (by decide) (fun c => ?_) (fun c => ?_)
    · replace h := h.1 c
      refine m_iconst (v := 0) dX9_worthOf_130 (by decide) ?_
      refine m_iadd dX9_worthOf_131 ?_
      refine m_i2l dX9_worthOf_132 ?_
      refine m_lload dX9_worthOf_133 8 rfl ?_
      refine m_lmul dX9_worthOf_135 ?_
      refine m_ladd dX9_worthOf_136 ?_
      refine m_topl (fun w_1 ew_1 => ?_)
      replace h := h w_1 ew_1
      refine m_lstore_n (ls1 := [(2, .long w_1), (0, .ref o), (1, .int x1), (4, .long y4), (6, .long y6), (8, .long y8), (10, .long y10), (12, .int x12), (14, .long y14)]) dX9_worthOf_137 rfl (by decide) rfl ?_
      exact AtM.sub (ls := [(2, .long w_1), (0, .ref o), (1, .int x1), (4, .long y4), (6, .long y6), (8, .long y8), (10, .long y10), (12, .int x12), (14, .long y14)]) [1, 2, 0, 3, 4, 5, 6, 7, 8] rfl h
    · replace h := h.2 c
      refine m_aload_n dX9_worthOf_120 rfl 0 rfl ?_
      refine m_get (v := .ref (ad 11)) 11 dX9_worthOf_121 (by decide) q1774 rfl ?_
      refine m_bipush (v := 10) dX9_worthOf_124 (by decide) ?_
      refine m_iald0 (j := 10) 11 dX9_worthOf_126 (by decide) rfl (by decide) rfl (Nat.le_of_ble_eq_true rfl) ?_
      refine m_goto (tgt := 131) dX9_worthOf_127 (by decide) ?_
      refine m_iadd dX9_worthOf_131 ?_
      refine m_i2l dX9_worthOf_132 ?_
      refine m_lload dX9_worthOf_133 8 rfl ?_
      refine m_lmul dX9_worthOf_135 ?_
      refine m_topl (fun w_2 ew_2 => ?_)
      replace h := h w_2 ew_2
      refine m_ladd dX9_worthOf_136 ?_
      refine m_topl (fun v2 ev2 => ?_)
      replace h := h v2 ev2
      refine m_lstore_n (ls1 := [(2, .long v2), (0, .ref o), (1, .int x1), (4, .long y4), (6, .long y6), (8, .long y8), (10, .long y10), (12, .int x12), (14, .long y14)]) dX9_worthOf_137 rfl (by decide) rfl ?_
      exact AtM.sub (ls := [(2, .long v2), (0, .ref o), (1, .int x1), (4, .long y4), (6, .long y6), (8, .long y8), (10, .long y10), (12, .int x12), (14, .long y14)]) [1, 2, 0, 3, 4, 5, 6, 7, 8] rfl h
set_option maxHeartbeats 4000000 in
theorem bX9_worthOf_138 {G : GC} {ad : Nat → Nat} {o : Nat} {σ0 : PS} {Q : MPost} {x1 : Int32} {y2 : Int64} {y4 : Int64} {y6 : Int64} {y8 : Int64} {y10 : Int64} {x12 : Int32} {y14 : Int64} {F : Nat → Int32} {L : Nat → Int64} {I : Nat → Nat → Int32} {J : Nat → Nat → Int64} (h : ((x1 = 2) → (((F 52) ≤ 0) → AtM G mX9_worthOf 4 ad o σ0 Q 172 [(0, .ref o), (1, .int x1), (2, .long y2), (4, .long y4), (6, .long y6), (8, .long y8), (10, .long y10), (12, .int x12), (14, .long y14)] [.long 0] F L I J) ∧ ((¬ (F 52) ≤ 0) → ∀ w : Int64, w = ((y14 * ((I 11 6)).toInt64) / 16) → AtM G mX9_worthOf 4 ad o σ0 Q 172 [(0, .ref o), (1, .int x1), (2, .long y2), (4, .long y4), (6, .long y6), (8, .long y8), (10, .long y10), (12, .int x12), (14, .long y14)] [.long w] F L I J)) ∧ ((¬ x1 = 2) → ∀ v12 : Int32, v12 = x12 + 1 → AtM G mX9_worthOf 4 ad o σ0 Q 17 [(0, .ref o), (1, .int x1), (2, .long y2), (4, .long y4), (6, .long y6), (8, .long y8), (10, .long y10), (12, .int v12)] [] F L I J)) : AtM G mX9_worthOf 4 ad o σ0 Q 138 [(0, .ref o), (1, .int x1), (2, .long y2), (4, .long y4), (6, .long y6), (8, .long y8), (10, .long y10), (12, .int x12), (14, .long y14)] [] F L I J := by
  refine m_iload_n dX9_worthOf_138 rfl 1 rfl ?_
  refine m_iconst (v := 2) dX9_worthOf_139 (by decide) ?_
  refine m_icmp_eq (tgt := 146) dX9_worthOf_140 (by decide) (fun c => ?_) (fun c => ?_)
  · replace h := h.1 c
    refine m_aload_n dX9_worthOf_146 rfl 0 rfl ?_
    refine m_get (v := .int (F 52)) 52 dX9_worthOf_147 (by decide) q1815 rfl ?_
    refine m_if_le (tgt := 171) dX9_worthOf_150 (by decide) (fun c => ?_) (fun c => ?_)
    · replace h := h.1 c
      refine m_lconst (v := 0) dX9_worthOf_171 (by decide) ?_
      exact AtM.sub (ls := [(0, .ref o), (1, .int x1), (2, .long y2), (4, .long y4), (6, .long y6), (8, .long y8), (10, .long y10), (12, .int x12), (14, .long y14)]) [0, 1, 2, 3, 4, 5, 6, 7, 8] rfl h
    · replace h := h.2 c
      refine m_lload dX9_worthOf_153 8 rfl ?_
      refine m_aload_n dX9_worthOf_155 rfl 0 rfl ?_
      refine m_get (v := .ref (ad 11)) 11 dX9_worthOf_156 (by decide) q1774 rfl ?_
      refine m_bipush (v := 6) dX9_worthOf_159 (by decide) ?_
      refine m_iald0 (j := 6) 11 dX9_worthOf_161 (by decide) rfl (by decide) rfl (Nat.le_of_ble_eq_true rfl) ?_
      refine m_i2l dX9_worthOf_162 ?_
      refine m_lmul dX9_worthOf_163 ?_
      refine m_ldc2 dX9_worthOf_164 q2199 ?_
      refine m_ldiv dX9_worthOf_167 (by decide) ?_
      refine m_topl (fun w ew => ?_)
      replace h := h w ew
      refine m_goto (tgt := 172) dX9_worthOf_168 (by decide) ?_
      exact AtM.sub (ls := [(0, .ref o), (1, .int x1), (2, .long y2), (4, .long y4), (6, .long y6), (8, .long y8), (10, .long y10), (12, .int x12), (14, .long y14)]) [0, 1, 2, 3, 4, 5, 6, 7, 8] rfl h
  · replace h := h.2 c
    refine m_goto (tgt := 248) dX9_worthOf_143 (by decide) ?_
    obtain ⟨v12, ev12⟩ : ∃ z : Int32, z = x12 + 1 := ⟨_, rfl⟩
    refine m_iinc (v := v12) (ls1 := [(12, .int v12), (0, .ref o), (1, .int x1), (2, .long y2), (4, .long y4), (6, .long y6), (8, .long y8), (10, .long y10), (14, .long y14)]) dX9_worthOf_248 7 rfl (by rw [ev12]; rfl) (by decide) rfl ?_
    replace h := h v12 ev12
    refine m_goto (tgt := 17) dX9_worthOf_251 (by decide) ?_
    exact AtM.sub (ls := [(12, .int v12), (0, .ref o), (1, .int x1), (2, .long y2), (4, .long y4), (6, .long y6), (8, .long y8), (10, .long y10), (14, .long y14)]) [1, 2, 3, 4, 5, 6, 7, 0] rfl h
set_option maxHeartbeats 4000000 in
theorem bX9_worthOf_172 {G : GC} {ad : Nat → Nat} {o : Nat} {σ0 : PS} {Q : MPost} {x1 : Int32} {y2 : Int64} {y4 : Int64} {y6 : Int64} {y8 : Int64} {y10 : Int64} {x12 : Int32} {y14 : Int64} {sy0 : Int64} {F : Nat → Int32} {L : Nat → Int64} {I : Nat → Nat → Int32} {J : Nat → Nat → Int64} (h : ∀ w : Int64, w = (y2 + (((I 11 9)).toInt64 * y14)) → ∀ w_1 : Int64, w_1 = (((I 11 10)).toInt64 * sy0) → ∀ v4 : Int64, v4 = (y4 + w_1) → CallMO G mX9_takeCost 3 ad o [.ref o, .long sy0] F L I J (pJ (fun ry => ∀ v6 : Int64, v6 = (y6 + ry) → ∀ w_2 : Int64, w_2 = (((I 11 10)).toInt64 * (y14 - sy0)) → ∀ v8 : Int64, v8 = (y8 + w_2) → CallMO G mX9_takeCost 3 ad o [.ref o, .long (y14 - sy0)] F L I J (pJ (fun ry_3 => ∀ v10 : Int64, v10 = (y10 + ry_3) → ∀ v12 : Int32, v12 = x12 + 1 → AtM G mX9_worthOf 4 ad o σ0 Q 17 [(0, .ref o), (1, .int x1), (2, .long w), (4, .long v4), (6, .long v6), (8, .long v8), (10, .long v10), (12, .int v12)] [] F L I J))))) : AtM G mX9_worthOf 4 ad o σ0 Q 172 [(0, .ref o), (1, .int x1), (2, .long y2), (4, .long y4), (6, .long y6), (8, .long y8), (10, .long y10), (12, .int x12), (14, .long y14)] [.long sy0] F L I J := by
  refine m_lstore (ls1 := [(16, .long sy0), (0, .ref o), (1, .int x1), (2, .long y2), (4, .long y4), (6, .long y6), (8, .long y8), (10, .long y10), (12, .int x12), (14, .long y14)]) dX9_worthOf_172 (by decide) rfl ?_
  refine m_lload_n dX9_worthOf_174 rfl 3 rfl ?_
  refine m_aload_n dX9_worthOf_175 rfl 1 rfl ?_
  refine m_get (v := .ref (ad 11)) 11 dX9_worthOf_176 (by decide) q1774 rfl ?_
  refine m_bipush (v := 9) dX9_worthOf_179 (by decide) ?_
  refine m_iald0 (j := 9) 11 dX9_worthOf_181 (by decide) rfl (by decide) rfl (Nat.le_of_ble_eq_true rfl) ?_
  refine m_i2l dX9_worthOf_182 ?_
  refine m_lload dX9_worthOf_183 9 rfl ?_
  refine m_lmul dX9_worthOf_185 ?_
  refine m_ladd dX9_worthOf_186 ?_
  refine m_topl (fun w ew => ?_)
  replace h := h w ew
  refine m_lstore_n (ls1 := [(2, .long w), (16, .long sy0), (0, .ref o), (1, .int x1), (4, .long y4), (6, .long y6), (8, .long y8), (10, .long y10), (12, .int x12), (14, .long y14)]) dX9_worthOf_187 rfl (by decide) rfl ?_
  refine m_lload dX9_worthOf_188 4 rfl ?_
  refine m_aload_n dX9_worthOf_190 rfl 2 rfl ?_
  refine m_get (v := .ref (ad 11)) 11 dX9_worthOf_191 (by decide) q1774 rfl ?_
  refine m_bipush (v := 10) dX9_worthOf_194 (by decide) ?_
  refine m_iald0 (j := 10) 11 dX9_worthOf_196 (by decide) rfl (by decide) rfl (Nat.le_of_ble_eq_true rfl) ?_
  refine m_i2l dX9_worthOf_197 ?_
  refine m_lload dX9_worthOf_198 1 rfl ?_
  refine m_lmul dX9_worthOf_200 ?_
  refine m_topl (fun w_1 ew_1 => ?_)
  replace h := h w_1 ew_1
  refine m_ladd dX9_worthOf_201 ?_
  refine m_topl (fun v4 ev4 => ?_)
  replace h := h v4 ev4
  refine m_lstore (ls1 := [(4, .long v4), (2, .long w), (16, .long sy0), (0, .ref o), (1, .int x1), (6, .long y6), (8, .long y8), (10, .long y10), (12, .int x12), (14, .long y14)]) dX9_worthOf_202 (by decide) rfl ?_
  refine m_lload dX9_worthOf_204 5 rfl ?_
  refine m_aload_n dX9_worthOf_206 rfl 3 rfl ?_
  refine m_lload dX9_worthOf_207 2 rfl ?_
  refine m_callV (N := mX9_takeCost) (st := [.long y6]) (As := [.long sy0]) dX9_worthOf_209 wsX9_takeCost (lw_V q2347 q2349 qs97 q116 q2350) rfl mokX9_takeCost rfl (by decide) (by decide) (by simp [Value.category]) h (fun _ F9 L9 I9 J9 hq => ?_)
  obtain ⟨e1, e2, e3, e4, hq⟩ := hq
  refine AtM.re e1 e2 e3 e4 ?_
  obtain ⟨ry, rfl, h⟩ := hq
  refine AtM.stk (st' := [.long ry, .long y6]) rfl ?_
  refine m_ladd dX9_worthOf_212 ?_
  refine m_topl (fun v6 ev6 => ?_)
  replace h := h v6 ev6
  refine m_lstore (ls1 := [(6, .long v6), (4, .long v4), (2, .long w), (16, .long sy0), (0, .ref o), (1, .int x1), (8, .long y8), (10, .long y10), (12, .int x12), (14, .long y14)]) dX9_worthOf_213 (by decide) rfl ?_
  refine m_lload dX9_worthOf_215 6 rfl ?_
  refine m_aload_n dX9_worthOf_217 rfl 4 rfl ?_
  refine m_get (v := .ref (ad 11)) 11 dX9_worthOf_218 (by decide) q1774 rfl ?_
  refine m_bipush (v := 10) dX9_worthOf_221 (by decide) ?_
  refine m_iald0 (j := 10) 11 dX9_worthOf_223 (by decide) rfl (by decide) rfl (Nat.le_of_ble_eq_true rfl) ?_
  refine m_i2l dX9_worthOf_224 ?_
  refine m_lload dX9_worthOf_225 9 rfl ?_
  refine m_lload dX9_worthOf_227 3 rfl ?_
  refine m_lsub dX9_worthOf_229 ?_
  refine m_lmul dX9_worthOf_230 ?_
  refine m_topl (fun w_2 ew_2 => ?_)
  replace h := h w_2 ew_2
  refine m_ladd dX9_worthOf_231 ?_
  refine m_topl (fun v8 ev8 => ?_)
  replace h := h v8 ev8
  refine m_lstore (ls1 := [(8, .long v8), (6, .long v6), (4, .long v4), (2, .long w), (16, .long sy0), (0, .ref o), (1, .int x1), (10, .long y10), (12, .int x12), (14, .long y14)]) dX9_worthOf_232 (by decide) rfl ?_
  refine m_lload dX9_worthOf_234 7 rfl ?_
  refine m_aload_n dX9_worthOf_236 rfl 5 rfl ?_
  refine m_lload dX9_worthOf_237 9 rfl ?_
  refine m_lload dX9_worthOf_239 4 rfl ?_
  refine m_lsub dX9_worthOf_241 ?_
  refine m_callV (N := mX9_takeCost) (st := [.long y10]) (As := [.long (y14 - sy0)]) dX9_worthOf_242 wsX9_takeCost (lw_V q2347 q2349 qs97 q116 q2350) rfl mokX9_takeCost rfl (by decide) (by decide) (by simp [Value.category]) h (fun _ F9 L9 I9 J9 hq => ?_)
  obtain ⟨e1, e2, e3, e4, hq⟩ := hq
  refine AtM.re e1 e2 e3 e4 ?_
  obtain ⟨ry_3, rfl, h⟩ := hq
  refine AtM.stk (st' := [.long ry_3, .long y10]) rfl ?_
  refine m_ladd dX9_worthOf_245 ?_
  refine m_topl (fun v10 ev10 => ?_)
  replace h := h v10 ev10
  refine m_lstore (ls1 := [(10, .long v10), (8, .long v8), (6, .long v6), (4, .long v4), (2, .long w), (16, .long sy0), (0, .ref o), (1, .int x1), (12, .int x12), (14, .long y14)]) dX9_worthOf_246 (by decide) rfl ?_
  obtain ⟨v12, ev12⟩ : ∃ z : Int32, z = x12 + 1 := ⟨_, rfl⟩
  refine m_iinc (v := v12) (ls1 := [(12, .int v12), (10, .long v10), (8, .long v8), (6, .long v6), (4, .long v4), (2, .long w), (16, .long sy0), (0, .ref o), (1, .int x1), (14, .long y14)]) dX9_worthOf_248 8 rfl (by rw [ev12]; rfl) (by decide) rfl ?_
  replace h := h v12 ev12
  refine m_goto (tgt := 17) dX9_worthOf_251 (by decide) ?_
  exact AtM.sub (ls := [(12, .int v12), (10, .long v10), (8, .long v8), (6, .long v6), (4, .long v4), (2, .long w), (16, .long sy0), (0, .ref o), (1, .int x1), (14, .long y14)]) [7, 8, 5, 4, 3, 2, 1, 0] rfl h
theorem eX9_worthOf {G : GC} {ad : Nat → Nat} {o : Nat} {Q : MPost} {p1 : Int32} {F : Nat → Int32} {L : Nat → Int64} {I : Nat → Nat → Int32} {J : Nat → Nat → Int64} (h : ∀ σ0, AtM G mX9_worthOf 4 ad o σ0 Q 0 [(0, .ref o), (1, .int p1)] [] F L I J) : CallM G mX9_worthOf 4 ad o [.ref o, .int p1] F L I J Q :=
  CallM.of (by decide +kernel) wsX9_worthOf rfl (Nat.le_of_ble_eq_true rfl) (fun σ0 => AtM.sub (ls := [(0, .ref o), (1, .int p1)]) [0, 1] rfl (h σ0))
set_option maxHeartbeats 4000000 in
theorem bX9_takeCost_0 {G : GC} {ad : Nat → Nat} {o : Nat} {σ0 : PS} {Q : MPost} {y1 : Int64} {F : Nat → Int32} {L : Nat → Int64} {I : Nat → Nat → Int32} {J : Nat → Nat → Int64} (h : ((¬ ((F 51) + (F 52)) = 0) → ∀ w : Int64, w = (((F 51) + (F 52))).toInt64 → ¬ w = 0 ∧ (∀ w_1 : Int64, w_1 = ((y1 * (F 52).toInt64) / w) → Q (some (.long (((I 11 7)).toInt64 * w_1))) F L I J)) ∧ ((((F 51) + (F 52)) = 0) → Q (some (.long (((I 11 10)).toInt64 * y1))) F L I J)) : AtM G mX9_takeCost 3 ad o σ0 Q 0 [(0, .ref o), (1, .long y1)] [] F L I J := by
  refine m_aload_n dX9_takeCost_0 rfl 0 rfl ?_
  refine m_get (v := .int (F 51)) 51 dX9_takeCost_1 (by decide) q1814 rfl ?_
  refine m_aload_n dX9_takeCost_4 rfl 0 rfl ?_
  refine m_get (v := .int (F 52)) 52 dX9_takeCost_5 (by decide) q1815 rfl ?_
  refine m_iadd dX9_takeCost_8 ?_
  refine m_if_ne (tgt := 25) dX9_takeCost_9 (by decide) (fun c => ?_) (fun c => ?_)
  · replace h := h.1 c
    refine m_aload_n dX9_takeCost_25 rfl 0 rfl ?_
    refine m_get (v := .ref (ad 11)) 11 dX9_takeCost_26 (by decide) q1774 rfl ?_
    refine m_bipush (v := 7) dX9_takeCost_29 (by decide) ?_
    refine m_iald0 (j := 7) 11 dX9_takeCost_31 (by decide) rfl (by decide) rfl (Nat.le_of_ble_eq_true rfl) ?_
    refine m_i2l dX9_takeCost_32 ?_
    refine m_lload_n dX9_takeCost_33 rfl 1 rfl ?_
    refine m_aload_n dX9_takeCost_34 rfl 0 rfl ?_
    refine m_get (v := .int (F 52)) 52 dX9_takeCost_35 (by decide) q1815 rfl ?_
    refine m_i2l dX9_takeCost_38 ?_
    refine m_lmul dX9_takeCost_39 ?_
    refine m_aload_n dX9_takeCost_40 rfl 0 rfl ?_
    refine m_get (v := .int (F 51)) 51 dX9_takeCost_41 (by decide) q1814 rfl ?_
    refine m_aload_n dX9_takeCost_44 rfl 0 rfl ?_
    refine m_get (v := .int (F 52)) 52 dX9_takeCost_45 (by decide) q1815 rfl ?_
    refine m_iadd dX9_takeCost_48 ?_
    refine m_i2l dX9_takeCost_49 ?_
    refine m_topl (fun w ew => ?_)
    replace h := h w ew
    obtain ⟨hnz, h⟩ := h
    refine m_ldiv dX9_takeCost_50 hnz ?_
    refine m_topl (fun w_1 ew_1 => ?_)
    replace h := h w_1 ew_1
    refine m_lmul dX9_takeCost_51 ?_
    exact m_lret rfl dX9_takeCost_52 h
  · replace h := h.2 c
    refine m_aload_n dX9_takeCost_12 rfl 0 rfl ?_
    refine m_get (v := .ref (ad 11)) 11 dX9_takeCost_13 (by decide) q1774 rfl ?_
    refine m_bipush (v := 10) dX9_takeCost_16 (by decide) ?_
    refine m_iald0 (j := 10) 11 dX9_takeCost_18 (by decide) rfl (by decide) rfl (Nat.le_of_ble_eq_true rfl) ?_
    refine m_i2l dX9_takeCost_19 ?_
    refine m_lload_n dX9_takeCost_20 rfl 1 rfl ?_
    refine m_lmul dX9_takeCost_21 ?_
    refine m_goto (tgt := 52) dX9_takeCost_22 (by decide) ?_
    exact m_lret rfl dX9_takeCost_52 h
theorem eX9_takeCost {G : GC} {ad : Nat → Nat} {o : Nat} {Q : MPost} {p1 : Int64} {F : Nat → Int32} {L : Nat → Int64} {I : Nat → Nat → Int32} {J : Nat → Nat → Int64} (h : ∀ σ0, AtM G mX9_takeCost 3 ad o σ0 Q 0 [(0, .ref o), (1, .long p1)] [] F L I J) : CallM G mX9_takeCost 3 ad o [.ref o, .long p1] F L I J Q :=
  CallM.of (by decide +kernel) wsX9_takeCost rfl (Nat.le_of_ble_eq_true rfl) (fun σ0 => AtM.sub (ls := [(0, .ref o), (1, .long p1)]) [0, 1] rfl (h σ0))
set_option maxHeartbeats 4000000 in
theorem bX9_worth_0 {G : GC} {ad : Nat → Nat} {o : Nat} {σ0 : PS} {Q : MPost} {x1 : Int32} {x2 : Int32} {x3 : Int32} {F : Nat → Int32} {L : Nat → Int64} {I : Nat → Nat → Int32} {J : Nat → Nat → Int64} (h : (∀ F1 : Nat → Int32, F1 = fU F 0 0 → CallM G mX9_isVisit 4 ad o [.ref o, .int x1, .int 1] F1 L I J (mqI (fun rx F1_1 L1 I1 J1 => ((rx = 0) → Q (some (.long 0)) F1_1 L1 I1 J1) ∧ ((¬ rx = 0) → CallP G mX9_within 3 [.int x2, .int 0, .int 3] (pI (fun rx_2 => ((rx_2 = 0) → AtM G mX9_worth 9 ad o σ0 Q 38 [(0, .ref o), (1, .int x1), (2, .int x2), (3, .int x3)] [.int 0, .ref o] F1_1 L1 I1 J1) ∧ ((¬ rx_2 = 0) → CallP G mX9_within 3 [.int x3, .int 0, .int 1] (pI (fun rx_3 => ((rx_3 = 0) → AtM G mX9_worth 9 ad o σ0 Q 38 [(0, .ref o), (1, .int x1), (2, .int x2), (3, .int x3)] [.int 0, .ref o] F1_1 L1 I1 J1) ∧ ((¬ rx_3 = 0) → AtM G mX9_worth 9 ad o σ0 Q 38 [(0, .ref o), (1, .int x1), (2, .int x2), (3, .int x3)] [.int 1, .ref o] F1_1 L1 I1 J1))))))))))) : AtM G mX9_worth 9 ad o σ0 Q 0 [(0, .ref o), (1, .int x1), (2, .int x2), (3, .int x3)] [] F L I J := by
  refine m_aload_n dX9_worth_0 rfl 0 rfl ?_
  refine m_iconst (v := 0) dX9_worth_1 (by decide) ?_
  refine m_putI 0 dX9_worth_2 (by decide) q1763 rfl rfl rfl rfl ?_
  refine m_topF (fun F1 eF1 => ?_)
  replace h := h F1 eF1
  refine m_aload_n dX9_worth_5 rfl 0 rfl ?_
  refine m_iload_n dX9_worth_6 rfl 1 rfl ?_
  refine m_iconst (v := 1) dX9_worth_7 (by decide) ?_
  refine m_callV (N := mX9_isVisit) (st := []) (As := [.int x1, .int 1]) dX9_worth_8 wsX9_isVisit (lw_V q2147 q2149 qs65 q116 q2150) rfl mokX9_isVisit rfl (by decide) (by decide) (Nat.zero_le _) h (fun _ F1_1 L1 I1 J1 hq => ?_)
  obtain ⟨rx, rfl, h⟩ := hq
  refine AtM.stk (st' := [.int rx]) rfl ?_
  refine m_if_eq (tgt := 46) dX9_worth_11 (by decide) (fun c => ?_) (fun c => ?_)
  · replace h := h.1 c
    refine m_lconst (v := 0) dX9_worth_46 (by decide) ?_
    exact m_lret rfl dX9_worth_47 h
  · replace h := h.2 c
    refine m_aload_n dX9_worth_14 rfl 0 rfl ?_
    refine m_iload_n dX9_worth_15 rfl 2 rfl ?_
    refine m_iconst (v := 0) dX9_worth_16 (by decide) ?_
    refine m_iconst (v := 3) dX9_worth_17 (by decide) ?_
    refine m_callP (N := mX9_within) (st := [.ref o]) (As := [.int x2, .int 0, .int 3]) dX9_worth_18 wsX9_within (lw_S q2059 q2060 q116 q2061) mokX9_within rfl (by decide) (by decide) (by simp [Value.category]) h (fun _ hq => ?_)
    obtain ⟨rx_2, rfl, h⟩ := hq
    refine AtM.stk (st' := [.int rx_2, .ref o]) rfl ?_
    refine m_if_eq (tgt := 37) dX9_worth_21 (by decide) (fun c => ?_) (fun c => ?_)
    · replace h := h.1 c
      refine m_iconst (v := 0) dX9_worth_37 (by decide) ?_
      exact AtM.sub (ls := [(0, .ref o), (1, .int x1), (2, .int x2), (3, .int x3)]) [0, 1, 2, 3] rfl h
    · replace h := h.2 c
      refine m_iload_n dX9_worth_24 rfl 3 rfl ?_
      refine m_iconst (v := 0) dX9_worth_25 (by decide) ?_
      refine m_iconst (v := 1) dX9_worth_26 (by decide) ?_
      refine m_callP (N := mX9_within) (st := [.ref o]) (As := [.int x3, .int 0, .int 1]) dX9_worth_27 wsX9_within (lw_S q2059 q2060 q116 q2061) mokX9_within rfl (by decide) (by decide) (by simp [Value.category]) h (fun _ hq => ?_)
      obtain ⟨rx_3, rfl, h⟩ := hq
      refine AtM.stk (st' := [.int rx_3, .ref o]) rfl ?_
      refine m_if_eq (tgt := 37) dX9_worth_30 (by decide) (fun c => ?_) (fun c => ?_)
      · replace h := h.1 c
        refine m_iconst (v := 0) dX9_worth_37 (by decide) ?_
        exact AtM.sub (ls := [(0, .ref o), (1, .int x1), (2, .int x2), (3, .int x3)]) [0, 1, 2, 3] rfl h
      · replace h := h.2 c
        refine m_iconst (v := 1) dX9_worth_33 (by decide) ?_
        refine m_goto (tgt := 38) dX9_worth_34 (by decide) ?_
        exact AtM.sub (ls := [(0, .ref o), (1, .int x1), (2, .int x2), (3, .int x3)]) [0, 1, 2, 3] rfl h
set_option maxHeartbeats 4000000 in
theorem bX9_worth_38 {G : GC} {ad : Nat → Nat} {o : Nat} {σ0 : PS} {Q : MPost} {x1 : Int32} {x2 : Int32} {x3 : Int32} {sx1 : Int32} {F : Nat → Int32} {L : Nat → Int64} {I : Nat → Nat → Int32} {J : Nat → Nat → Int64} (h : CallM G mX9_may 3 ad o [.ref o, .int sx1, .int 2, .int 1] F L I J (mqI (fun rx F1 L1 I1 J1 => ((¬ rx = 0) → CallM G mX9_goesGiven 8 ad o [.ref o, .int x1] F1 L1 I1 J1 (mqV (fun F1_1 L1_2 I1_3 J1_4 => CallM G mX9_worthOf 4 ad o [.ref o, .int x2] F1_1 L1_2 I1_3 J1_4 (mqJ (fun ry F1_5 L1_6 I1_7 J1_8 => CallMO G mX9_share 4 ad o [.ref o, .long ry, .int x3] F1_5 L1_6 I1_7 J1_8 (pJ (fun ry_9 => Q (some (.long ry_9)) F1_5 L1_6 I1_7 J1_8))))))) ∧ ((rx = 0) → Q (some (.long 0)) F1 L1 I1 J1)))) : AtM G mX9_worth 9 ad o σ0 Q 38 [(0, .ref o), (1, .int x1), (2, .int x2), (3, .int x3)] [.int sx1, .ref o] F L I J := by
  refine m_iconst (v := 2) dX9_worth_38 (by decide) ?_
  refine m_iconst (v := 1) dX9_worth_39 (by decide) ?_
  refine m_callV (N := mX9_may) (st := []) (As := [.int sx1, .int 2, .int 1]) dX9_worth_40 wsX9_may (lw_V q1971 q1973 qs38 q116 q1974) rfl mokX9_may rfl (by decide) (by decide) (Nat.zero_le _) h (fun _ F1 L1 I1 J1 hq => ?_)
  obtain ⟨rx, rfl, h⟩ := hq
  refine AtM.stk (st' := [.int rx]) rfl ?_
  refine m_if_ne (tgt := 48) dX9_worth_43 (by decide) (fun c => ?_) (fun c => ?_)
  · replace h := h.1 c
    refine m_aload_n dX9_worth_48 rfl 0 rfl ?_
    refine m_iload_n dX9_worth_49 rfl 1 rfl ?_
    refine m_callV (N := mX9_goesGiven) (st := []) (As := [.int x1]) dX9_worth_50 wsX9_goesGiven (lw_V q2331 q2333 qs94 q116 q2334) rfl mokX9_goesGiven rfl (by decide) (by decide) (Nat.zero_le _) h (fun _ F1_1 L1_2 I1_3 J1_4 hq => ?_)
    obtain ⟨rfl, h⟩ := hq
    refine AtM.stk (st' := []) rfl ?_
    refine m_aload_n dX9_worth_53 rfl 0 rfl ?_
    refine m_aload_n dX9_worth_54 rfl 0 rfl ?_
    refine m_iload_n dX9_worth_55 rfl 2 rfl ?_
    refine m_callV (N := mX9_worthOf) (st := [.ref o]) (As := [.int x2]) dX9_worth_56 wsX9_worthOf (lw_V q2343 q2345 qs96 q116 q2346) rfl mokX9_worthOf rfl (by decide) (by decide) (by simp [Value.category]) h (fun _ F1_5 L1_6 I1_7 J1_8 hq => ?_)
    obtain ⟨ry, rfl, h⟩ := hq
    refine AtM.stk (st' := [.long ry, .ref o]) rfl ?_
    refine m_iload_n dX9_worth_59 rfl 3 rfl ?_
    refine m_callV (N := mX9_share) (st := []) (As := [.long ry, .int x3]) dX9_worth_60 wsX9_share (lw_V q2335 q2337 qs95 q116 q2338) rfl mokX9_share rfl (by decide) (by decide) (Nat.zero_le _) h (fun _ F9 L9 I9 J9 hq => ?_)
    obtain ⟨e1, e2, e3, e4, hq⟩ := hq
    refine AtM.re e1 e2 e3 e4 ?_
    obtain ⟨ry_9, rfl, h⟩ := hq
    refine AtM.stk (st' := [.long ry_9]) rfl ?_
    exact m_lret rfl dX9_worth_63 h
  · replace h := h.2 c
    refine m_lconst (v := 0) dX9_worth_46 (by decide) ?_
    exact m_lret rfl dX9_worth_47 h
theorem eX9_worth {G : GC} {ad : Nat → Nat} {o : Nat} {Q : MPost} {p1 : Int32} {p2 : Int32} {p3 : Int32} {F : Nat → Int32} {L : Nat → Int64} {I : Nat → Nat → Int32} {J : Nat → Nat → Int64} (h : ∀ σ0, AtM G mX9_worth 9 ad o σ0 Q 0 [(0, .ref o), (1, .int p1), (2, .int p2), (3, .int p3)] [] F L I J) : CallM G mX9_worth 9 ad o [.ref o, .int p1, .int p2, .int p3] F L I J Q :=
  CallM.of (by decide +kernel) wsX9_worth rfl (Nat.le_of_ble_eq_true rfl) (fun σ0 => AtM.sub (ls := [(0, .ref o), (1, .int p1), (2, .int p2), (3, .int p3)]) [0, 1, 2, 3] rfl (h σ0))
set_option maxHeartbeats 4000000 in
theorem bX9_gain_0 {G : GC} {ad : Nat → Nat} {o : Nat} {σ0 : PS} {Q : MPost} {x1 : Int32} {x2 : Int32} {F : Nat → Int32} {L : Nat → Int64} {I : Nat → Nat → Int32} {J : Nat → Nat → Int64} (h : (∀ F1 : Nat → Int32, F1 = fU F 0 0 → CallM G mX9_isVisit 4 ad o [.ref o, .int x1, .int 1] F1 L I J (mqI (fun rx F1_1 L1 I1 J1 => ((rx = 0) → Q (some (.long 0)) F1_1 L1 I1 J1) ∧ ((¬ rx = 0) → CallP G mX9_within 3 [.int x2, .int 0, .int 1] (pI (fun rx_2 => CallM G mX9_may 3 ad o [.ref o, .int rx_2, .int 2, .int 1] F1_1 L1 I1 J1 (mqI (fun rx_3 F1_4 L1_5 I1_6 J1_7 => ((¬ rx_3 = 0) → CallM G mX9_goesGiven 8 ad o [.ref o, .int x1] F1_4 L1_5 I1_6 J1_7 (mqV (fun F1_8 L1_9 I1_10 J1_11 => CallM G mX9_worthOf 4 ad o [.ref o, .int 0] F1_8 L1_9 I1_10 J1_11 (mqJ (fun ry F1_12 L1_13 I1_14 J1_15 => CallM G mX9_worthOf 4 ad o [.ref o, .int 1] F1_12 L1_13 I1_14 J1_15 (mqJ (fun ry_16 F1_17 L1_18 I1_19 J1_20 => ((ry_16 ≤ ry) → AtM G mX9_gain 9 ad o σ0 Q 62 [(0, .ref o), (2, .int x2)] [.long ry_16] F1_17 L1_18 I1_19 J1_20) ∧ ((¬ ry_16 ≤ ry) → AtM G mX9_gain 9 ad o σ0 Q 62 [(0, .ref o), (2, .int x2)] [.long ry] F1_17 L1_18 I1_19 J1_20)))))))) ∧ ((rx_3 = 0) → Q (some (.long 0)) F1_4 L1_5 I1_6 J1_7)))))))))) : AtM G mX9_gain 9 ad o σ0 Q 0 [(0, .ref o), (1, .int x1), (2, .int x2)] [] F L I J := by
  refine m_aload_n dX9_gain_0 rfl 0 rfl ?_
  refine m_iconst (v := 0) dX9_gain_1 (by decide) ?_
  refine m_putI 0 dX9_gain_2 (by decide) q1763 rfl rfl rfl rfl ?_
  refine m_topF (fun F1 eF1 => ?_)
  replace h := h F1 eF1
  refine m_aload_n dX9_gain_5 rfl 0 rfl ?_
  refine m_iload_n dX9_gain_6 rfl 1 rfl ?_
  refine m_iconst (v := 1) dX9_gain_7 (by decide) ?_
  refine m_callV (N := mX9_isVisit) (st := []) (As := [.int x1, .int 1]) dX9_gain_8 wsX9_isVisit (lw_V q2147 q2149 qs65 q116 q2150) rfl mokX9_isVisit rfl (by decide) (by decide) (Nat.zero_le _) h (fun _ F1_1 L1 I1 J1 hq => ?_)
  obtain ⟨rx, rfl, h⟩ := hq
  refine AtM.stk (st' := [.int rx]) rfl ?_
  refine m_if_eq (tgt := 29) dX9_gain_11 (by decide) (fun c => ?_) (fun c => ?_)
  · replace h := h.1 c
    refine m_lconst (v := 0) dX9_gain_29 (by decide) ?_
    exact m_lret rfl dX9_gain_30 h
  · replace h := h.2 c
    refine m_aload_n dX9_gain_14 rfl 0 rfl ?_
    refine m_iload_n dX9_gain_15 rfl 2 rfl ?_
    refine m_iconst (v := 0) dX9_gain_16 (by decide) ?_
    refine m_iconst (v := 1) dX9_gain_17 (by decide) ?_
    refine m_callP (N := mX9_within) (st := [.ref o]) (As := [.int x2, .int 0, .int 1]) dX9_gain_18 wsX9_within (lw_S q2059 q2060 q116 q2061) mokX9_within rfl (by decide) (by decide) (by simp [Value.category]) h (fun _ hq => ?_)
    obtain ⟨rx_2, rfl, h⟩ := hq
    refine AtM.stk (st' := [.int rx_2, .ref o]) rfl ?_
    refine m_iconst (v := 2) dX9_gain_21 (by decide) ?_
    refine m_iconst (v := 1) dX9_gain_22 (by decide) ?_
    refine m_callV (N := mX9_may) (st := []) (As := [.int rx_2, .int 2, .int 1]) dX9_gain_23 wsX9_may (lw_V q1971 q1973 qs38 q116 q1974) rfl mokX9_may rfl (by decide) (by decide) (Nat.zero_le _) h (fun _ F1_4 L1_5 I1_6 J1_7 hq => ?_)
    obtain ⟨rx_3, rfl, h⟩ := hq
    refine AtM.stk (st' := [.int rx_3]) rfl ?_
    refine m_if_ne (tgt := 31) dX9_gain_26 (by decide) (fun c => ?_) (fun c => ?_)
    · replace h := h.1 c
      refine m_aload_n dX9_gain_31 rfl 0 rfl ?_
      refine m_iload_n dX9_gain_32 rfl 1 rfl ?_
      refine m_callV (N := mX9_goesGiven) (st := []) (As := [.int x1]) dX9_gain_33 wsX9_goesGiven (lw_V q2331 q2333 qs94 q116 q2334) rfl mokX9_goesGiven rfl (by decide) (by decide) (Nat.zero_le _) h (fun _ F1_8 L1_9 I1_10 J1_11 hq => ?_)
      obtain ⟨rfl, h⟩ := hq
      refine AtM.stk (st' := []) rfl ?_
      refine m_aload_n dX9_gain_36 rfl 0 rfl ?_
      refine m_iconst (v := 0) dX9_gain_37 (by decide) ?_
      refine m_callV (N := mX9_worthOf) (st := []) (As := [.int 0]) dX9_gain_38 wsX9_worthOf (lw_V q2343 q2345 qs96 q116 q2346) rfl mokX9_worthOf rfl (by decide) (by decide) (Nat.zero_le _) h (fun _ F1_12 L1_13 I1_14 J1_15 hq => ?_)
      obtain ⟨ry, rfl, h⟩ := hq
      refine AtM.stk (st' := [.long ry]) rfl ?_
      refine m_lstore_n (ls1 := [(3, .long ry), (0, .ref o), (1, .int x1), (2, .int x2)]) dX9_gain_41 rfl (by decide) rfl ?_
      refine m_aload_n dX9_gain_42 rfl 1 rfl ?_
      refine m_iconst (v := 1) dX9_gain_43 (by decide) ?_
      refine m_callV (N := mX9_worthOf) (st := []) (As := [.int 1]) dX9_gain_44 wsX9_worthOf (lw_V q2343 q2345 qs96 q116 q2346) rfl mokX9_worthOf rfl (by decide) (by decide) (Nat.zero_le _) h (fun _ F1_17 L1_18 I1_19 J1_20 hq => ?_)
      obtain ⟨ry_16, rfl, h⟩ := hq
      refine AtM.stk (st' := [.long ry_16]) rfl ?_
      refine m_lstore (ls1 := [(5, .long ry_16), (3, .long ry), (0, .ref o), (1, .int x1), (2, .int x2)]) dX9_gain_47 (by decide) rfl ?_
      refine m_lload_n dX9_gain_49 rfl 1 rfl ?_
      refine m_lload dX9_gain_50 0 rfl ?_
      refine m_lcmp_ge (tgt := 60) dX9_gain_52 dX9_gain_53 (by decide) (fun c => ?_) (fun c => ?_)
      · replace h := h.1 c
        refine m_lload dX9_gain_60 0 rfl ?_
        exact AtM.sub (ls := [(5, .long ry_16), (3, .long ry), (0, .ref o), (1, .int x1), (2, .int x2)]) [2, 4] rfl h
      · replace h := h.2 c
        refine m_lload_n dX9_gain_56 rfl 1 rfl ?_
        refine m_goto (tgt := 62) dX9_gain_57 (by decide) ?_
        exact AtM.sub (ls := [(5, .long ry_16), (3, .long ry), (0, .ref o), (1, .int x1), (2, .int x2)]) [2, 4] rfl h
    · replace h := h.2 c
      refine m_lconst (v := 0) dX9_gain_29 (by decide) ?_
      exact m_lret rfl dX9_gain_30 h
set_option maxHeartbeats 4000000 in
theorem bX9_gain_62 {G : GC} {ad : Nat → Nat} {o : Nat} {σ0 : PS} {Q : MPost} {x2 : Int32} {sy0 : Int64} {F : Nat → Int32} {L : Nat → Int64} {I : Nat → Nat → Int32} {J : Nat → Nat → Int64} (h : CallM G mX9_worthOf 4 ad o [.ref o, .int 2] F L I J (mqJ (fun ry F1 L1 I1 J1 => ∀ v7 : Int64, v7 = (sy0 - ry) → ((v7 ≤ 0) → CallMO G mX9_share 4 ad o [.ref o, .long 0, .int x2] F1 L1 I1 J1 (pJ (fun ry_1 => Q (some (.long ry_1)) F1 L1 I1 J1))) ∧ ((¬ v7 ≤ 0) → CallMO G mX9_share 4 ad o [.ref o, .long v7, .int x2] F1 L1 I1 J1 (pJ (fun ry_2 => Q (some (.long ry_2)) F1 L1 I1 J1)))))) : AtM G mX9_gain 9 ad o σ0 Q 62 [(0, .ref o), (2, .int x2)] [.long sy0] F L I J := by
  refine m_aload_n dX9_gain_62 rfl 0 rfl ?_
  refine m_iconst (v := 2) dX9_gain_63 (by decide) ?_
  refine m_callV (N := mX9_worthOf) (st := [.long sy0]) (As := [.int 2]) dX9_gain_64 wsX9_worthOf (lw_V q2343 q2345 qs96 q116 q2346) rfl mokX9_worthOf rfl (by decide) (by decide) (by simp [Value.category]) h (fun _ F1 L1 I1 J1 hq => ?_)
  obtain ⟨ry, rfl, h⟩ := hq
  refine AtM.stk (st' := [.long ry, .long sy0]) rfl ?_
  refine m_lsub dX9_gain_67 ?_
  refine m_topl (fun v7 ev7 => ?_)
  replace h := h v7 ev7
  refine m_lstore (ls1 := [(7, .long v7), (0, .ref o), (2, .int x2)]) dX9_gain_68 (by decide) rfl ?_
  refine m_aload_n dX9_gain_70 rfl 1 rfl ?_
  refine m_lload dX9_gain_71 0 rfl ?_
  refine m_lconst (v := 0) dX9_gain_73 (by decide) ?_
  refine m_lcmp_le (tgt := 83) dX9_gain_74 dX9_gain_75 (by decide) (fun c => ?_) (fun c => ?_)
  · replace h := h.1 c
    refine m_lconst (v := 0) dX9_gain_83 (by decide) ?_
    refine m_iload_n dX9_gain_84 rfl 2 rfl ?_
    refine m_callV (N := mX9_share) (st := []) (As := [.long 0, .int x2]) dX9_gain_85 wsX9_share (lw_V q2335 q2337 qs95 q116 q2338) rfl mokX9_share rfl (by decide) (by decide) (Nat.zero_le _) h (fun _ F9 L9 I9 J9 hq => ?_)
    obtain ⟨e1, e2, e3, e4, hq⟩ := hq
    refine AtM.re e1 e2 e3 e4 ?_
    obtain ⟨ry_1, rfl, h⟩ := hq
    refine AtM.stk (st' := [.long ry_1]) rfl ?_
    exact m_lret rfl dX9_gain_88 h
  · replace h := h.2 c
    refine m_lload dX9_gain_78 0 rfl ?_
    refine m_goto (tgt := 84) dX9_gain_80 (by decide) ?_
    refine m_iload_n dX9_gain_84 rfl 2 rfl ?_
    refine m_callV (N := mX9_share) (st := []) (As := [.long v7, .int x2]) dX9_gain_85 wsX9_share (lw_V q2335 q2337 qs95 q116 q2338) rfl mokX9_share rfl (by decide) (by decide) (Nat.zero_le _) h (fun _ F9 L9 I9 J9 hq => ?_)
    obtain ⟨e1, e2, e3, e4, hq⟩ := hq
    refine AtM.re e1 e2 e3 e4 ?_
    obtain ⟨ry_2, rfl, h⟩ := hq
    refine AtM.stk (st' := [.long ry_2]) rfl ?_
    exact m_lret rfl dX9_gain_88 h
theorem eX9_gain {G : GC} {ad : Nat → Nat} {o : Nat} {Q : MPost} {p1 : Int32} {p2 : Int32} {F : Nat → Int32} {L : Nat → Int64} {I : Nat → Nat → Int32} {J : Nat → Nat → Int64} (h : ∀ σ0, AtM G mX9_gain 9 ad o σ0 Q 0 [(0, .ref o), (1, .int p1), (2, .int p2)] [] F L I J) : CallM G mX9_gain 9 ad o [.ref o, .int p1, .int p2] F L I J Q :=
  CallM.of (by decide +kernel) wsX9_gain rfl (Nat.le_of_ble_eq_true rfl) (fun σ0 => AtM.sub (ls := [(0, .ref o), (1, .int p1), (2, .int p2)]) [0, 1, 2] rfl (h σ0))
set_option maxHeartbeats 4000000 in
theorem bX9_without_0 {G : GC} {ad : Nat → Nat} {o : Nat} {σ0 : PS} {Q : MPost} {x1 : Int32} {x2 : Int32} {F : Nat → Int32} {L : Nat → Int64} {I : Nat → Nat → Int32} {J : Nat → Nat → Int64} (h : (∀ F1 : Nat → Int32, F1 = fU F 0 0 → CallM G mX9_isPerson 4 ad o [.ref o, .int x1, .int 1] F1 L I J (mqI (fun rx F1_1 L1 I1 J1 => ((rx = 0) → Q (some (.long 0)) F1_1 L1 I1 J1) ∧ ((¬ rx = 0) → CallP G mX9_within 3 [.int x2, .int 0, .int 1] (pI (fun rx_2 => CallM G mX9_may 3 ad o [.ref o, .int rx_2, .int 2, .int 1] F1_1 L1 I1 J1 (mqI (fun rx_3 F1_4 L1_5 I1_6 J1_7 => ((¬ rx_3 = 0) → CallM G mX9_plain 3 ad o [.ref o] F1_4 L1_5 I1_6 J1_7 (mqV (fun F1_8 L1_9 I1_10 J1_11 => (∀ F1_12 : Nat → Int32, F1_12 = fU F1_8 46 x1 → ((¬ x2 = 0) → CallM G mX9_costNow 9 ad o [.ref o] F1_12 L1_9 I1_10 J1_11 (mqJ (fun ry F1_13 L1_14 I1_15 J1_16 => Q (some (.long (ry / 1099511627776))) F1_13 L1_14 I1_15 J1_16))) ∧ ((x2 = 0) → CallM G mX9_trueNow 9 ad o [.ref o] F1_12 L1_9 I1_10 J1_11 (mqJ (fun ry F1_17 L1_18 I1_19 J1_20 => Q (some (.long ry)) F1_17 L1_18 I1_19 J1_20))))))) ∧ ((rx_3 = 0) → Q (some (.long 0)) F1_4 L1_5 I1_6 J1_7)))))))))) : AtM G mX9_without 10 ad o σ0 Q 0 [(0, .ref o), (1, .int x1), (2, .int x2)] [] F L I J := by
  refine m_aload_n dX9_without_0 rfl 0 rfl ?_
  refine m_iconst (v := 0) dX9_without_1 (by decide) ?_
  refine m_putI 0 dX9_without_2 (by decide) q1763 rfl rfl rfl rfl ?_
  refine m_topF (fun F1 eF1 => ?_)
  replace h := h F1 eF1
  refine m_aload_n dX9_without_5 rfl 0 rfl ?_
  refine m_iload_n dX9_without_6 rfl 1 rfl ?_
  refine m_iconst (v := 1) dX9_without_7 (by decide) ?_
  refine m_callV (N := mX9_isPerson) (st := []) (As := [.int x1, .int 1]) dX9_without_8 wsX9_isPerson (lw_V q2055 q2057 qs53 q116 q2058) rfl mokX9_isPerson rfl (by decide) (by decide) (Nat.zero_le _) h (fun _ F1_1 L1 I1 J1 hq => ?_)
  obtain ⟨rx, rfl, h⟩ := hq
  refine AtM.stk (st' := [.int rx]) rfl ?_
  refine m_if_eq (tgt := 29) dX9_without_11 (by decide) (fun c => ?_) (fun c => ?_)
  · replace h := h.1 c
    refine m_lconst (v := 0) dX9_without_29 (by decide) ?_
    exact m_lret rfl dX9_without_30 h
  · replace h := h.2 c
    refine m_aload_n dX9_without_14 rfl 0 rfl ?_
    refine m_iload_n dX9_without_15 rfl 2 rfl ?_
    refine m_iconst (v := 0) dX9_without_16 (by decide) ?_
    refine m_iconst (v := 1) dX9_without_17 (by decide) ?_
    refine m_callP (N := mX9_within) (st := [.ref o]) (As := [.int x2, .int 0, .int 1]) dX9_without_18 wsX9_within (lw_S q2059 q2060 q116 q2061) mokX9_within rfl (by decide) (by decide) (by simp [Value.category]) h (fun _ hq => ?_)
    obtain ⟨rx_2, rfl, h⟩ := hq
    refine AtM.stk (st' := [.int rx_2, .ref o]) rfl ?_
    refine m_iconst (v := 2) dX9_without_21 (by decide) ?_
    refine m_iconst (v := 1) dX9_without_22 (by decide) ?_
    refine m_callV (N := mX9_may) (st := []) (As := [.int rx_2, .int 2, .int 1]) dX9_without_23 wsX9_may (lw_V q1971 q1973 qs38 q116 q1974) rfl mokX9_may rfl (by decide) (by decide) (Nat.zero_le _) h (fun _ F1_4 L1_5 I1_6 J1_7 hq => ?_)
    obtain ⟨rx_3, rfl, h⟩ := hq
    refine AtM.stk (st' := [.int rx_3]) rfl ?_
    refine m_if_ne (tgt := 31) dX9_without_26 (by decide) (fun c => ?_) (fun c => ?_)
    · replace h := h.1 c
      refine m_aload_n dX9_without_31 rfl 0 rfl ?_
      refine m_callV (N := mX9_plain) (st := []) (As := []) dX9_without_32 wsX9_plain (lw_V q2171 q2173 qs68 q116 q2174) rfl mokX9_plain rfl (by decide) (by decide) (Nat.zero_le _) h (fun _ F1_8 L1_9 I1_10 J1_11 hq => ?_)
      obtain ⟨rfl, h⟩ := hq
      refine AtM.stk (st' := []) rfl ?_
      refine m_aload_n dX9_without_35 rfl 0 rfl ?_
      refine m_iload_n dX9_without_36 rfl 1 rfl ?_
      refine m_putI 46 dX9_without_37 (by decide) q1809 rfl rfl rfl rfl ?_
      refine m_topF (fun F1_12 eF1_12 => ?_)
      replace h := h F1_12 eF1_12
      refine m_iload_n dX9_without_40 rfl 2 rfl ?_
      refine m_if_ne (tgt := 51) dX9_without_41 (by decide) (fun c => ?_) (fun c => ?_)
      · replace h := h.1 c
        refine m_aload_n dX9_without_51 rfl 0 rfl ?_
        refine m_callV (N := mX9_costNow) (st := []) (As := []) dX9_without_52 wsX9_costNow (lw_V q2315 q2317 qs92 q116 q2318) rfl mokX9_costNow rfl (by decide) (by decide) (Nat.zero_le _) h (fun _ F1_13 L1_14 I1_15 J1_16 hq => ?_)
        obtain ⟨ry, rfl, h⟩ := hq
        refine AtM.stk (st' := [.long ry]) rfl ?_
        refine m_ldc2 dX9_without_55 q2186 ?_
        refine m_ldiv dX9_without_58 (by decide) ?_
        exact m_lret rfl dX9_without_59 h
      · replace h := h.2 c
        refine m_aload_n dX9_without_44 rfl 0 rfl ?_
        refine m_callV (N := mX9_trueNow) (st := []) (As := []) dX9_without_45 wsX9_trueNow (lw_V q2363 q2365 qs98 q116 q2366) rfl mokX9_trueNow rfl (by decide) (by decide) (Nat.zero_le _) h (fun _ F1_17 L1_18 I1_19 J1_20 hq => ?_)
        obtain ⟨ry, rfl, h⟩ := hq
        refine AtM.stk (st' := [.long ry]) rfl ?_
        refine m_goto (tgt := 59) dX9_without_48 (by decide) ?_
        exact m_lret rfl dX9_without_59 h
    · replace h := h.2 c
      refine m_lconst (v := 0) dX9_without_29 (by decide) ?_
      exact m_lret rfl dX9_without_30 h
theorem eX9_without {G : GC} {ad : Nat → Nat} {o : Nat} {Q : MPost} {p1 : Int32} {p2 : Int32} {F : Nat → Int32} {L : Nat → Int64} {I : Nat → Nat → Int32} {J : Nat → Nat → Int64} (h : ∀ σ0, AtM G mX9_without 10 ad o σ0 Q 0 [(0, .ref o), (1, .int p1), (2, .int p2)] [] F L I J) : CallM G mX9_without 10 ad o [.ref o, .int p1, .int p2] F L I J Q :=
  CallM.of (by decide +kernel) wsX9_without rfl (Nat.le_of_ble_eq_true rfl) (fun σ0 => AtM.sub (ls := [(0, .ref o), (1, .int p1), (2, .int p2)]) [0, 1, 2] rfl (h σ0))
set_option maxHeartbeats 4000000 in
theorem bX9_trueNow_0 {G : GC} {ad : Nat → Nat} {o : Nat} {σ0 : PS} {Q : MPost} {F : Nat → Int32} {L : Nat → Int64} {I : Nat → Nat → Int32} {J : Nat → Nat → Int64} (h : CallM G mX9_goesAll 8 ad o [.ref o] F L I J (mqV (fun F1 L1 I1 J1 => CallM G mX9_likelyOf 5 ad o [.ref o, .int 1, .int 0] F1 L1 I1 J1 (mqJ (fun ry F1_1 L1_2 I1_3 J1_4 => Q (some (.long ry)) F1_1 L1_2 I1_3 J1_4))))) : AtM G mX9_trueNow 9 ad o σ0 Q 0 [(0, .ref o)] [] F L I J := by
  refine m_aload_n dX9_trueNow_0 rfl 0 rfl ?_
  refine m_callV (N := mX9_goesAll) (st := []) (As := []) dX9_trueNow_1 wsX9_goesAll (lw_V q2294 q2296 qs91 q116 q2297) rfl mokX9_goesAll rfl (by decide) (by decide) (Nat.zero_le _) h (fun _ F1 L1 I1 J1 hq => ?_)
  obtain ⟨rfl, h⟩ := hq
  refine AtM.stk (st' := []) rfl ?_
  refine m_aload_n dX9_trueNow_4 rfl 0 rfl ?_
  refine m_iconst (v := 1) dX9_trueNow_5 (by decide) ?_
  refine m_iconst (v := 0) dX9_trueNow_6 (by decide) ?_
  refine m_callV (N := mX9_likelyOf) (st := []) (As := [.int 1, .int 0]) dX9_trueNow_7 wsX9_likelyOf (lw_V q2255 q2257 qs87 q116 q2258) rfl mokX9_likelyOf rfl (by decide) (by decide) (Nat.zero_le _) h (fun _ F1_1 L1_2 I1_3 J1_4 hq => ?_)
  obtain ⟨ry, rfl, h⟩ := hq
  refine AtM.stk (st' := [.long ry]) rfl ?_
  exact m_lret rfl dX9_trueNow_10 h
theorem eX9_trueNow {G : GC} {ad : Nat → Nat} {o : Nat} {Q : MPost} {F : Nat → Int32} {L : Nat → Int64} {I : Nat → Nat → Int32} {J : Nat → Nat → Int64} (h : ∀ σ0, AtM G mX9_trueNow 9 ad o σ0 Q 0 [(0, .ref o)] [] F L I J) : CallM G mX9_trueNow 9 ad o [.ref o] F L I J Q :=
  CallM.of (by decide +kernel) wsX9_trueNow rfl (Nat.le_of_ble_eq_true rfl) (fun σ0 => AtM.sub (ls := [(0, .ref o)]) [0] rfl (h σ0))
set_option maxHeartbeats 4000000 in
theorem bX9_keeper_0 {G : GC} {ad : Nat → Nat} {o : Nat} {σ0 : PS} {Q : MPost} {F : Nat → Int32} {L : Nat → Int64} {I : Nat → Nat → Int32} {J : Nat → Nat → Int64} (h : (∀ F1 : Nat → Int32, F1 = fU F 0 0 → CallM G mX9_leastWithout 10 ad o [.ref o, .int 1] F1 L I J (mqI (fun rx F1_1 L1 I1 J1 => Q (some (.int rx)) F1_1 L1 I1 J1)))) : AtM G mX9_keeper 11 ad o σ0 Q 0 [(0, .ref o)] [] F L I J := by
  refine m_aload_n dX9_keeper_0 rfl 0 rfl ?_
  refine m_iconst (v := 0) dX9_keeper_1 (by decide) ?_
  refine m_putI 0 dX9_keeper_2 (by decide) q1763 rfl rfl rfl rfl ?_
  refine m_topF (fun F1 eF1 => ?_)
  replace h := h F1 eF1
  refine m_aload_n dX9_keeper_5 rfl 0 rfl ?_
  refine m_iconst (v := 1) dX9_keeper_6 (by decide) ?_
  refine m_callV (N := mX9_leastWithout) (st := []) (As := [.int 1]) dX9_keeper_7 wsX9_leastWithout (lw_V q2371 q2373 qs99 q116 q2374) rfl mokX9_leastWithout rfl (by decide) (by decide) (Nat.zero_le _) h (fun _ F1_1 L1 I1 J1 hq => ?_)
  obtain ⟨rx, rfl, h⟩ := hq
  refine AtM.stk (st' := [.int rx]) rfl ?_
  exact m_iret rfl dX9_keeper_10 h
theorem eX9_keeper {G : GC} {ad : Nat → Nat} {o : Nat} {Q : MPost} {F : Nat → Int32} {L : Nat → Int64} {I : Nat → Nat → Int32} {J : Nat → Nat → Int64} (h : ∀ σ0, AtM G mX9_keeper 11 ad o σ0 Q 0 [(0, .ref o)] [] F L I J) : CallM G mX9_keeper 11 ad o [.ref o] F L I J Q :=
  CallM.of (by decide +kernel) wsX9_keeper rfl (Nat.le_of_ble_eq_true rfl) (fun σ0 => AtM.sub (ls := [(0, .ref o)]) [0] rfl (h σ0))
set_option maxHeartbeats 4000000 in
theorem bX9_leastWithout_0 {G : GC} {ad : Nat → Nat} {o : Nat} {σ0 : PS} {Q : MPost} {x1 : Int32} {F : Nat → Int32} {L : Nat → Int64} {I : Nat → Nat → Int32} {J : Nat → Nat → Int64} (h : CallM G mX9_plain 3 ad o [.ref o] F L I J (mqV (fun F1 L1 I1 J1 => AtM G mX9_leastWithout 10 ad o σ0 Q 11 [(0, .ref o), (1, .int x1), (2, .int (-1)), (3, .long 0), (5, .int 0)] [] F1 L1 I1 J1))) : AtM G mX9_leastWithout 10 ad o σ0 Q 0 [(0, .ref o), (1, .int x1)] [] F L I J := by
  refine m_aload_n dX9_leastWithout_0 rfl 0 rfl ?_
  refine m_callV (N := mX9_plain) (st := []) (As := []) dX9_leastWithout_1 wsX9_plain (lw_V q2171 q2173 qs68 q116 q2174) rfl mokX9_plain rfl (by decide) (by decide) (Nat.zero_le _) h (fun _ F1 L1 I1 J1 hq => ?_)
  obtain ⟨rfl, h⟩ := hq
  refine AtM.stk (st' := []) rfl ?_
  refine m_iconst (v := (-1)) dX9_leastWithout_4 (by decide) ?_
  refine m_istore_n (ls1 := [(2, .int (-1)), (0, .ref o), (1, .int x1)]) dX9_leastWithout_5 rfl (by decide) rfl ?_
  refine m_lconst (v := 0) dX9_leastWithout_6 (by decide) ?_
  refine m_lstore_n (ls1 := [(3, .long 0), (2, .int (-1)), (0, .ref o), (1, .int x1)]) dX9_leastWithout_7 rfl (by decide) rfl ?_
  refine m_iconst (v := 0) dX9_leastWithout_8 (by decide) ?_
  refine m_istore (ls1 := [(5, .int 0), (3, .long 0), (2, .int (-1)), (0, .ref o), (1, .int x1)]) dX9_leastWithout_9 (by decide) rfl ?_
  exact AtM.sub (ls := [(5, .int 0), (3, .long 0), (2, .int (-1)), (0, .ref o), (1, .int x1)]) [3, 4, 2, 1, 0] rfl h
set_option maxHeartbeats 4000000 in
theorem bX9_leastWithout_11 {G : GC} {ad : Nat → Nat} {o : Nat} {σ0 : PS} {Q : MPost} {x1 : Int32} {x2 : Int32} {y3 : Int64} {x5 : Int32} {F : Nat → Int32} {L : Nat → Int64} {I : Nat → Nat → Int32} {J : Nat → Nat → Int64} (h : (((F 18) ≤ x5) → Q (some (.int x2)) F L I J) ∧ ((¬ (F 18) ≤ x5) → (∀ F1 : Nat → Int32, F1 = fU F 46 x5 → ((x1 = 0) → CallM G mX9_costNow 9 ad o [.ref o] F1 L I J (mqJ (fun ry F1_1 L1 I1 J1 => AtM G mX9_leastWithout 10 ad o σ0 Q 41 [(0, .ref o), (1, .int x1), (2, .int x2), (3, .long y3), (5, .int x5)] [.long ry] F1_1 L1 I1 J1))) ∧ ((¬ x1 = 0) → CallM G mX9_trueNow 9 ad o [.ref o] F1 L I J (mqJ (fun ry F1_2 L1 I1 J1 => AtM G mX9_leastWithout 10 ad o σ0 Q 41 [(0, .ref o), (1, .int x1), (2, .int x2), (3, .long y3), (5, .int x5)] [.long ry] F1_2 L1 I1 J1)))))) : AtM G mX9_leastWithout 10 ad o σ0 Q 11 [(0, .ref o), (1, .int x1), (2, .int x2), (3, .long y3), (5, .int x5)] [] F L I J := by
  refine m_iload dX9_leastWithout_11 4 rfl ?_
  refine m_aload_n dX9_leastWithout_13 rfl 0 rfl ?_
  refine m_get (v := .int (F 18)) 18 dX9_leastWithout_14 (by decide) q1781 rfl ?_
  refine m_icmp_ge (tgt := 70) dX9_leastWithout_17 (by decide) (fun c => ?_) (fun c => ?_)
  · replace h := h.1 c
    refine m_iload_n dX9_leastWithout_70 rfl 2 rfl ?_
    exact m_iret rfl dX9_leastWithout_71 h
  · replace h := h.2 c
    refine m_aload_n dX9_leastWithout_20 rfl 0 rfl ?_
    refine m_iload dX9_leastWithout_21 4 rfl ?_
    refine m_putI 46 dX9_leastWithout_23 (by decide) q1809 rfl rfl rfl rfl ?_
    refine m_topF (fun F1 eF1 => ?_)
    replace h := h F1 eF1
    refine m_iload_n dX9_leastWithout_26 rfl 1 rfl ?_
    refine m_if_eq (tgt := 37) dX9_leastWithout_27 (by decide) (fun c => ?_) (fun c => ?_)
    · replace h := h.1 c
      refine m_aload_n dX9_leastWithout_37 rfl 0 rfl ?_
      refine m_callV (N := mX9_costNow) (st := []) (As := []) dX9_leastWithout_38 wsX9_costNow (lw_V q2315 q2317 qs92 q116 q2318) rfl mokX9_costNow rfl (by decide) (by decide) (Nat.zero_le _) h (fun _ F1_1 L1 I1 J1 hq => ?_)
      obtain ⟨ry, rfl, h⟩ := hq
      refine AtM.stk (st' := [.long ry]) rfl ?_
      exact AtM.sub (ls := [(0, .ref o), (1, .int x1), (2, .int x2), (3, .long y3), (5, .int x5)]) [0, 1, 2, 3, 4] rfl h
    · replace h := h.2 c
      refine m_aload_n dX9_leastWithout_30 rfl 0 rfl ?_
      refine m_callV (N := mX9_trueNow) (st := []) (As := []) dX9_leastWithout_31 wsX9_trueNow (lw_V q2363 q2365 qs98 q116 q2366) rfl mokX9_trueNow rfl (by decide) (by decide) (Nat.zero_le _) h (fun _ F1_2 L1 I1 J1 hq => ?_)
      obtain ⟨ry, rfl, h⟩ := hq
      refine AtM.stk (st' := [.long ry]) rfl ?_
      refine m_goto (tgt := 41) dX9_leastWithout_34 (by decide) ?_
      exact AtM.sub (ls := [(0, .ref o), (1, .int x1), (2, .int x2), (3, .long y3), (5, .int x5)]) [0, 1, 2, 3, 4] rfl h
set_option maxHeartbeats 4000000 in
theorem bX9_leastWithout_41 {G : GC} {ad : Nat → Nat} {o : Nat} {σ0 : PS} {Q : MPost} {x1 : Int32} {x2 : Int32} {y3 : Int64} {x5 : Int32} {sy0 : Int64} {F : Nat → Int32} {L : Nat → Int64} {I : Nat → Nat → Int32} {J : Nat → Nat → Int64} (h : ((x2 = (-1)) → ∀ v5 : Int32, v5 = x5 + 1 → AtM G mX9_leastWithout 10 ad o σ0 Q 11 [(0, .ref o), (1, .int x1), (2, .int x5), (3, .long sy0), (5, .int v5)] [] F L I J) ∧ ((¬ x2 = (-1)) → ((sy0 < y3) → ∀ v5 : Int32, v5 = x5 + 1 → AtM G mX9_leastWithout 10 ad o σ0 Q 11 [(0, .ref o), (1, .int x1), (2, .int x5), (3, .long sy0), (5, .int v5)] [] F L I J) ∧ ((¬ sy0 < y3) → ∀ v5 : Int32, v5 = x5 + 1 → AtM G mX9_leastWithout 10 ad o σ0 Q 11 [(0, .ref o), (1, .int x1), (2, .int x2), (3, .long y3), (5, .int v5)] [] F L I J))) : AtM G mX9_leastWithout 10 ad o σ0 Q 41 [(0, .ref o), (1, .int x1), (2, .int x2), (3, .long y3), (5, .int x5)] [.long sy0] F L I J := by
  refine m_lstore (ls1 := [(6, .long sy0), (0, .ref o), (1, .int x1), (2, .int x2), (3, .long y3), (5, .int x5)]) dX9_leastWithout_41 (by decide) rfl ?_
  refine m_iload_n dX9_leastWithout_43 rfl 3 rfl ?_
  refine m_iconst (v := (-1)) dX9_leastWithout_44 (by decide) ?_
  refine m_icmp_eq (tgt := 58) dX9_leastWithout_45 (by decide) (fun c => ?_) (fun c => ?_)
  · replace h := h.1 c
    refine m_iload dX9_leastWithout_58 5 rfl ?_
    refine m_istore_n (ls1 := [(2, .int x5), (6, .long sy0), (0, .ref o), (1, .int x1), (3, .long y3), (5, .int x5)]) dX9_leastWithout_60 rfl (by decide) rfl ?_
    refine m_lload dX9_leastWithout_61 1 rfl ?_
    refine m_lstore_n (ls1 := [(3, .long sy0), (2, .int x5), (6, .long sy0), (0, .ref o), (1, .int x1), (5, .int x5)]) dX9_leastWithout_63 rfl (by decide) rfl ?_
    obtain ⟨v5, ev5⟩ : ∃ z : Int32, z = x5 + 1 := ⟨_, rfl⟩
    refine m_iinc (v := v5) (ls1 := [(5, .int v5), (3, .long sy0), (2, .int x5), (6, .long sy0), (0, .ref o), (1, .int x1)]) dX9_leastWithout_64 5 rfl (by rw [ev5]; rfl) (by decide) rfl ?_
    replace h := h v5 ev5
    refine m_goto (tgt := 11) dX9_leastWithout_67 (by decide) ?_
    exact AtM.sub (ls := [(5, .int v5), (3, .long sy0), (2, .int x5), (6, .long sy0), (0, .ref o), (1, .int x1)]) [4, 5, 2, 1, 0] rfl h
  · replace h := h.2 c
    refine m_lload dX9_leastWithout_48 0 rfl ?_
    refine m_lload_n dX9_leastWithout_50 rfl 4 rfl ?_
    refine m_lcmp_lt (tgt := 58) dX9_leastWithout_51 dX9_leastWithout_52 (by decide) (fun c => ?_) (fun c => ?_)
    · replace h := h.1 c
      refine m_iload dX9_leastWithout_58 5 rfl ?_
      refine m_istore_n (ls1 := [(2, .int x5), (6, .long sy0), (0, .ref o), (1, .int x1), (3, .long y3), (5, .int x5)]) dX9_leastWithout_60 rfl (by decide) rfl ?_
      refine m_lload dX9_leastWithout_61 1 rfl ?_
      refine m_lstore_n (ls1 := [(3, .long sy0), (2, .int x5), (6, .long sy0), (0, .ref o), (1, .int x1), (5, .int x5)]) dX9_leastWithout_63 rfl (by decide) rfl ?_
      obtain ⟨v5, ev5⟩ : ∃ z : Int32, z = x5 + 1 := ⟨_, rfl⟩
      refine m_iinc (v := v5) (ls1 := [(5, .int v5), (3, .long sy0), (2, .int x5), (6, .long sy0), (0, .ref o), (1, .int x1)]) dX9_leastWithout_64 5 rfl (by rw [ev5]; rfl) (by decide) rfl ?_
      replace h := h v5 ev5
      refine m_goto (tgt := 11) dX9_leastWithout_67 (by decide) ?_
      exact AtM.sub (ls := [(5, .int v5), (3, .long sy0), (2, .int x5), (6, .long sy0), (0, .ref o), (1, .int x1)]) [4, 5, 2, 1, 0] rfl h
    · replace h := h.2 c
      refine m_goto (tgt := 64) dX9_leastWithout_55 (by decide) ?_
      obtain ⟨v5, ev5⟩ : ∃ z : Int32, z = x5 + 1 := ⟨_, rfl⟩
      refine m_iinc (v := v5) (ls1 := [(5, .int v5), (6, .long sy0), (0, .ref o), (1, .int x1), (2, .int x2), (3, .long y3)]) dX9_leastWithout_64 5 rfl (by rw [ev5]; rfl) (by decide) rfl ?_
      replace h := h v5 ev5
      refine m_goto (tgt := 11) dX9_leastWithout_67 (by decide) ?_
      exact AtM.sub (ls := [(5, .int v5), (6, .long sy0), (0, .ref o), (1, .int x1), (2, .int x2), (3, .long y3)]) [2, 3, 4, 5, 0] rfl h
theorem eX9_leastWithout {G : GC} {ad : Nat → Nat} {o : Nat} {Q : MPost} {p1 : Int32} {F : Nat → Int32} {L : Nat → Int64} {I : Nat → Nat → Int32} {J : Nat → Nat → Int64} (h : ∀ σ0, AtM G mX9_leastWithout 10 ad o σ0 Q 0 [(0, .ref o), (1, .int p1)] [] F L I J) : CallM G mX9_leastWithout 10 ad o [.ref o, .int p1] F L I J Q :=
  CallM.of (by decide +kernel) wsX9_leastWithout rfl (Nat.le_of_ble_eq_true rfl) (fun σ0 => AtM.sub (ls := [(0, .ref o), (1, .int p1)]) [0, 1] rfl (h σ0))
set_option maxHeartbeats 4000000 in
theorem bX9_spoiler_0 {G : GC} {ad : Nat → Nat} {o : Nat} {σ0 : PS} {Q : MPost} {F : Nat → Int32} {L : Nat → Int64} {I : Nat → Nat → Int32} {J : Nat → Nat → Int64} (h : (∀ F1 : Nat → Int32, F1 = fU F 0 0 → CallM G mX9_leastWithout 10 ad o [.ref o, .int 0] F1 L I J (mqI (fun rx F1_1 L1 I1 J1 => Q (some (.int rx)) F1_1 L1 I1 J1)))) : AtM G mX9_spoiler 11 ad o σ0 Q 0 [(0, .ref o)] [] F L I J := by
  refine m_aload_n dX9_spoiler_0 rfl 0 rfl ?_
  refine m_iconst (v := 0) dX9_spoiler_1 (by decide) ?_
  refine m_putI 0 dX9_spoiler_2 (by decide) q1763 rfl rfl rfl rfl ?_
  refine m_topF (fun F1 eF1 => ?_)
  replace h := h F1 eF1
  refine m_aload_n dX9_spoiler_5 rfl 0 rfl ?_
  refine m_iconst (v := 0) dX9_spoiler_6 (by decide) ?_
  refine m_callV (N := mX9_leastWithout) (st := []) (As := [.int 0]) dX9_spoiler_7 wsX9_leastWithout (lw_V q2371 q2373 qs99 q116 q2374) rfl mokX9_leastWithout rfl (by decide) (by decide) (Nat.zero_le _) h (fun _ F1_1 L1 I1 J1 hq => ?_)
  obtain ⟨rx, rfl, h⟩ := hq
  refine AtM.stk (st' := [.int rx]) rfl ?_
  exact m_iret rfl dX9_spoiler_10 h
theorem eX9_spoiler {G : GC} {ad : Nat → Nat} {o : Nat} {Q : MPost} {F : Nat → Int32} {L : Nat → Int64} {I : Nat → Nat → Int32} {J : Nat → Nat → Int64} (h : ∀ σ0, AtM G mX9_spoiler 11 ad o σ0 Q 0 [(0, .ref o)] [] F L I J) : CallM G mX9_spoiler 11 ad o [.ref o] F L I J Q :=
  CallM.of (by decide +kernel) wsX9_spoiler rfl (Nat.le_of_ble_eq_true rfl) (fun σ0 => AtM.sub (ls := [(0, .ref o)]) [0] rfl (h σ0))
set_option maxHeartbeats 4000000 in
theorem bX9_falling_0 {G : GC} {ad : Nat → Nat} {o : Nat} {σ0 : PS} {Q : MPost} {x1 : Int32} {F : Nat → Int32} {L : Nat → Int64} {I : Nat → Nat → Int32} {J : Nat → Nat → Int64} (h : (∀ F1 : Nat → Int32, F1 = fU F 0 0 → CallP G mX9_within 3 [.int x1, .int 0, .int 16] (pI (fun rx => CallM G mX9_may 3 ad o [.ref o, .int rx, .int 1, .int 1] F1 L I J (mqI (fun rx_1 F1_2 L1 I1 J1 => ((¬ rx_1 = 0) → CallM G mX9_plain 3 ad o [.ref o] F1_2 L1 I1 J1 (mqV (fun F1_3 L1_4 I1_5 J1_6 => (∀ F1_7 : Nat → Int32, F1_7 = fU F1_3 43 x1 → CallM G mX9_trueNow 9 ad o [.ref o] F1_7 L1_4 I1_5 J1_6 (mqJ (fun ry F1_8 L1_9 I1_10 J1_11 => Q (some (.long ry)) F1_8 L1_9 I1_10 J1_11)))))) ∧ ((rx_1 = 0) → Q (some (.long 0)) F1_2 L1 I1 J1))))))) : AtM G mX9_falling 10 ad o σ0 Q 0 [(0, .ref o), (1, .int x1)] [] F L I J := by
  refine m_aload_n dX9_falling_0 rfl 0 rfl ?_
  refine m_iconst (v := 0) dX9_falling_1 (by decide) ?_
  refine m_putI 0 dX9_falling_2 (by decide) q1763 rfl rfl rfl rfl ?_
  refine m_topF (fun F1 eF1 => ?_)
  replace h := h F1 eF1
  refine m_aload_n dX9_falling_5 rfl 0 rfl ?_
  refine m_iload_n dX9_falling_6 rfl 1 rfl ?_
  refine m_iconst (v := 0) dX9_falling_7 (by decide) ?_
  refine m_bipush (v := 16) dX9_falling_8 (by decide) ?_
  refine m_callP (N := mX9_within) (st := [.ref o]) (As := [.int x1, .int 0, .int 16]) dX9_falling_10 wsX9_within (lw_S q2059 q2060 q116 q2061) mokX9_within rfl (by decide) (by decide) (by simp [Value.category]) h (fun _ hq => ?_)
  obtain ⟨rx, rfl, h⟩ := hq
  refine AtM.stk (st' := [.int rx, .ref o]) rfl ?_
  refine m_iconst (v := 1) dX9_falling_13 (by decide) ?_
  refine m_iconst (v := 1) dX9_falling_14 (by decide) ?_
  refine m_callV (N := mX9_may) (st := []) (As := [.int rx, .int 1, .int 1]) dX9_falling_15 wsX9_may (lw_V q1971 q1973 qs38 q116 q1974) rfl mokX9_may rfl (by decide) (by decide) (Nat.zero_le _) h (fun _ F1_2 L1 I1 J1 hq => ?_)
  obtain ⟨rx_1, rfl, h⟩ := hq
  refine AtM.stk (st' := [.int rx_1]) rfl ?_
  refine m_if_ne (tgt := 23) dX9_falling_18 (by decide) (fun c => ?_) (fun c => ?_)
  · replace h := h.1 c
    refine m_aload_n dX9_falling_23 rfl 0 rfl ?_
    refine m_callV (N := mX9_plain) (st := []) (As := []) dX9_falling_24 wsX9_plain (lw_V q2171 q2173 qs68 q116 q2174) rfl mokX9_plain rfl (by decide) (by decide) (Nat.zero_le _) h (fun _ F1_3 L1_4 I1_5 J1_6 hq => ?_)
    obtain ⟨rfl, h⟩ := hq
    refine AtM.stk (st' := []) rfl ?_
    refine m_aload_n dX9_falling_27 rfl 0 rfl ?_
    refine m_iload_n dX9_falling_28 rfl 1 rfl ?_
    refine m_putI 43 dX9_falling_29 (by decide) q1806 rfl rfl rfl rfl ?_
    refine m_topF (fun F1_7 eF1_7 => ?_)
    replace h := h F1_7 eF1_7
    refine m_aload_n dX9_falling_32 rfl 0 rfl ?_
    refine m_callV (N := mX9_trueNow) (st := []) (As := []) dX9_falling_33 wsX9_trueNow (lw_V q2363 q2365 qs98 q116 q2366) rfl mokX9_trueNow rfl (by decide) (by decide) (Nat.zero_le _) h (fun _ F1_8 L1_9 I1_10 J1_11 hq => ?_)
    obtain ⟨ry, rfl, h⟩ := hq
    refine AtM.stk (st' := [.long ry]) rfl ?_
    exact m_lret rfl dX9_falling_36 h
  · replace h := h.2 c
    refine m_lconst (v := 0) dX9_falling_21 (by decide) ?_
    exact m_lret rfl dX9_falling_22 h
theorem eX9_falling {G : GC} {ad : Nat → Nat} {o : Nat} {Q : MPost} {p1 : Int32} {F : Nat → Int32} {L : Nat → Int64} {I : Nat → Nat → Int32} {J : Nat → Nat → Int64} (h : ∀ σ0, AtM G mX9_falling 10 ad o σ0 Q 0 [(0, .ref o), (1, .int p1)] [] F L I J) : CallM G mX9_falling 10 ad o [.ref o, .int p1] F L I J Q :=
  CallM.of (by decide +kernel) wsX9_falling rfl (Nat.le_of_ble_eq_true rfl) (fun σ0 => AtM.sub (ls := [(0, .ref o), (1, .int p1)]) [0, 1] rfl (h σ0))
set_option maxHeartbeats 4000000 in
theorem bX9_seeing_0 {G : GC} {ad : Nat → Nat} {o : Nat} {σ0 : PS} {Q : MPost} {x1 : Int32} {x2 : Int32} {F : Nat → Int32} {L : Nat → Int64} {I : Nat → Nat → Int32} {J : Nat → Nat → Int64} (h : (∀ F1 : Nat → Int32, F1 = fU F 0 0 → CallP G mX9_within 3 [.int x1, .int 0, .int 16] (pI (fun rx => ((rx = 0) → AtM G mX9_seeing 10 ad o σ0 Q 30 [(0, .ref o), (1, .int x1), (2, .int x2)] [.int 0, .ref o] F1 L I J) ∧ ((¬ rx = 0) → CallP G mX9_within 3 [.int x2, .int 0, .int 1] (pI (fun rx_1 => ((rx_1 = 0) → AtM G mX9_seeing 10 ad o σ0 Q 30 [(0, .ref o), (1, .int x1), (2, .int x2)] [.int 0, .ref o] F1 L I J) ∧ ((¬ rx_1 = 0) → AtM G mX9_seeing 10 ad o σ0 Q 30 [(0, .ref o), (1, .int x1), (2, .int x2)] [.int 1, .ref o] F1 L I J)))))))) : AtM G mX9_seeing 10 ad o σ0 Q 0 [(0, .ref o), (1, .int x1), (2, .int x2)] [] F L I J := by
  refine m_aload_n dX9_seeing_0 rfl 0 rfl ?_
  refine m_iconst (v := 0) dX9_seeing_1 (by decide) ?_
  refine m_putI 0 dX9_seeing_2 (by decide) q1763 rfl rfl rfl rfl ?_
  refine m_topF (fun F1 eF1 => ?_)
  replace h := h F1 eF1
  refine m_aload_n dX9_seeing_5 rfl 0 rfl ?_
  refine m_iload_n dX9_seeing_6 rfl 1 rfl ?_
  refine m_iconst (v := 0) dX9_seeing_7 (by decide) ?_
  refine m_bipush (v := 16) dX9_seeing_8 (by decide) ?_
  refine m_callP (N := mX9_within) (st := [.ref o]) (As := [.int x1, .int 0, .int 16]) dX9_seeing_10 wsX9_within (lw_S q2059 q2060 q116 q2061) mokX9_within rfl (by decide) (by decide) (by simp [Value.category]) h (fun _ hq => ?_)
  obtain ⟨rx, rfl, h⟩ := hq
  refine AtM.stk (st' := [.int rx, .ref o]) rfl ?_
  refine m_if_eq (tgt := 29) dX9_seeing_13 (by decide) (fun c => ?_) (fun c => ?_)
  · replace h := h.1 c
    refine m_iconst (v := 0) dX9_seeing_29 (by decide) ?_
    exact AtM.sub (ls := [(0, .ref o), (1, .int x1), (2, .int x2)]) [0, 1, 2] rfl h
  · replace h := h.2 c
    refine m_iload_n dX9_seeing_16 rfl 2 rfl ?_
    refine m_iconst (v := 0) dX9_seeing_17 (by decide) ?_
    refine m_iconst (v := 1) dX9_seeing_18 (by decide) ?_
    refine m_callP (N := mX9_within) (st := [.ref o]) (As := [.int x2, .int 0, .int 1]) dX9_seeing_19 wsX9_within (lw_S q2059 q2060 q116 q2061) mokX9_within rfl (by decide) (by decide) (by simp [Value.category]) h (fun _ hq => ?_)
    obtain ⟨rx_1, rfl, h⟩ := hq
    refine AtM.stk (st' := [.int rx_1, .ref o]) rfl ?_
    refine m_if_eq (tgt := 29) dX9_seeing_22 (by decide) (fun c => ?_) (fun c => ?_)
    · replace h := h.1 c
      refine m_iconst (v := 0) dX9_seeing_29 (by decide) ?_
      exact AtM.sub (ls := [(0, .ref o), (1, .int x1), (2, .int x2)]) [0, 1, 2] rfl h
    · replace h := h.2 c
      refine m_iconst (v := 1) dX9_seeing_25 (by decide) ?_
      refine m_goto (tgt := 30) dX9_seeing_26 (by decide) ?_
      exact AtM.sub (ls := [(0, .ref o), (1, .int x1), (2, .int x2)]) [0, 1, 2] rfl h
set_option maxHeartbeats 4000000 in
theorem bX9_seeing_30 {G : GC} {ad : Nat → Nat} {o : Nat} {σ0 : PS} {Q : MPost} {x1 : Int32} {x2 : Int32} {sx1 : Int32} {F : Nat → Int32} {L : Nat → Int64} {I : Nat → Nat → Int32} {J : Nat → Nat → Int64} (h : CallM G mX9_may 3 ad o [.ref o, .int sx1, .int 1, .int 1] F L I J (mqI (fun rx F1 L1 I1 J1 => ((¬ rx = 0) → CallM G mX9_plain 3 ad o [.ref o] F1 L1 I1 J1 (mqV (fun F1_1 L1_2 I1_3 J1_4 => (∀ F1_5 : Nat → Int32, F1_5 = fU F1_1 44 x1 → CallM G mX9_costNow 9 ad o [.ref o] F1_5 L1_2 I1_3 J1_4 (mqJ (fun ry F1_6 L1_7 I1_8 J1_9 => CallP G mX9_least 3 [.long ry, .long 1099511627776, .int x2] (pJ (fun ry_10 => Q (some (.long ry_10)) F1_6 L1_7 I1_8 J1_9)))))))) ∧ ((rx = 0) → Q (some (.long 0)) F1 L1 I1 J1)))) : AtM G mX9_seeing 10 ad o σ0 Q 30 [(0, .ref o), (1, .int x1), (2, .int x2)] [.int sx1, .ref o] F L I J := by
  refine m_iconst (v := 1) dX9_seeing_30 (by decide) ?_
  refine m_iconst (v := 1) dX9_seeing_31 (by decide) ?_
  refine m_callV (N := mX9_may) (st := []) (As := [.int sx1, .int 1, .int 1]) dX9_seeing_32 wsX9_may (lw_V q1971 q1973 qs38 q116 q1974) rfl mokX9_may rfl (by decide) (by decide) (Nat.zero_le _) h (fun _ F1 L1 I1 J1 hq => ?_)
  obtain ⟨rx, rfl, h⟩ := hq
  refine AtM.stk (st' := [.int rx]) rfl ?_
  refine m_if_ne (tgt := 40) dX9_seeing_35 (by decide) (fun c => ?_) (fun c => ?_)
  · replace h := h.1 c
    refine m_aload_n dX9_seeing_40 rfl 0 rfl ?_
    refine m_callV (N := mX9_plain) (st := []) (As := []) dX9_seeing_41 wsX9_plain (lw_V q2171 q2173 qs68 q116 q2174) rfl mokX9_plain rfl (by decide) (by decide) (Nat.zero_le _) h (fun _ F1_1 L1_2 I1_3 J1_4 hq => ?_)
    obtain ⟨rfl, h⟩ := hq
    refine AtM.stk (st' := []) rfl ?_
    refine m_aload_n dX9_seeing_44 rfl 0 rfl ?_
    refine m_iload_n dX9_seeing_45 rfl 1 rfl ?_
    refine m_putI 44 dX9_seeing_46 (by decide) q1807 rfl rfl rfl rfl ?_
    refine m_topF (fun F1_5 eF1_5 => ?_)
    replace h := h F1_5 eF1_5
    refine m_aload_n dX9_seeing_49 rfl 0 rfl ?_
    refine m_callV (N := mX9_costNow) (st := []) (As := []) dX9_seeing_50 wsX9_costNow (lw_V q2315 q2317 qs92 q116 q2318) rfl mokX9_costNow rfl (by decide) (by decide) (Nat.zero_le _) h (fun _ F1_6 L1_7 I1_8 J1_9 hq => ?_)
    obtain ⟨ry, rfl, h⟩ := hq
    refine AtM.stk (st' := [.long ry]) rfl ?_
    refine m_ldc2 dX9_seeing_53 q2186 ?_
    refine m_iload_n dX9_seeing_56 rfl 2 rfl ?_
    refine m_callP (N := mX9_least) (st := []) (As := [.long ry, .long 1099511627776, .int x2]) dX9_seeing_57 wsX9_least (lw_S q2283 q2284 q116 q2285) mokX9_least rfl (by decide) (by decide) (Nat.zero_le _) h (fun _ hq => ?_)
    obtain ⟨ry_10, rfl, h⟩ := hq
    refine AtM.stk (st' := [.long ry_10]) rfl ?_
    exact m_lret rfl dX9_seeing_60 h
  · replace h := h.2 c
    refine m_lconst (v := 0) dX9_seeing_38 (by decide) ?_
    exact m_lret rfl dX9_seeing_39 h
theorem eX9_seeing {G : GC} {ad : Nat → Nat} {o : Nat} {Q : MPost} {p1 : Int32} {p2 : Int32} {F : Nat → Int32} {L : Nat → Int64} {I : Nat → Nat → Int32} {J : Nat → Nat → Int64} (h : ∀ σ0, AtM G mX9_seeing 10 ad o σ0 Q 0 [(0, .ref o), (1, .int p1), (2, .int p2)] [] F L I J) : CallM G mX9_seeing 10 ad o [.ref o, .int p1, .int p2] F L I J Q :=
  CallM.of (by decide +kernel) wsX9_seeing rfl (Nat.le_of_ble_eq_true rfl) (fun σ0 => AtM.sub (ls := [(0, .ref o), (1, .int p1), (2, .int p2)]) [0, 1, 2] rfl (h σ0))
set_option maxHeartbeats 4000000 in
theorem bX9_filled_0 {G : GC} {ad : Nat → Nat} {o : Nat} {σ0 : PS} {Q : MPost} {x1 : Int32} {x2 : Int32} {F : Nat → Int32} {L : Nat → Int64} {I : Nat → Nat → Int32} {J : Nat → Nat → Int64} (h : (∀ F1 : Nat → Int32, F1 = fU F 0 0 → CallP G mX9_within 3 [.int x1, .int 1, .int 12] (pI (fun rx => ((rx = 0) → AtM G mX9_filled 10 ad o σ0 Q 30 [(0, .ref o), (1, .int x1), (2, .int x2)] [.int 0, .ref o] F1 L I J) ∧ ((¬ rx = 0) → CallP G mX9_within 3 [.int x2, .int 0, .int 1] (pI (fun rx_1 => ((rx_1 = 0) → AtM G mX9_filled 10 ad o σ0 Q 30 [(0, .ref o), (1, .int x1), (2, .int x2)] [.int 0, .ref o] F1 L I J) ∧ ((¬ rx_1 = 0) → AtM G mX9_filled 10 ad o σ0 Q 30 [(0, .ref o), (1, .int x1), (2, .int x2)] [.int 1, .ref o] F1 L I J)))))))) : AtM G mX9_filled 10 ad o σ0 Q 0 [(0, .ref o), (1, .int x1), (2, .int x2)] [] F L I J := by
  refine m_aload_n dX9_filled_0 rfl 0 rfl ?_
  refine m_iconst (v := 0) dX9_filled_1 (by decide) ?_
  refine m_putI 0 dX9_filled_2 (by decide) q1763 rfl rfl rfl rfl ?_
  refine m_topF (fun F1 eF1 => ?_)
  replace h := h F1 eF1
  refine m_aload_n dX9_filled_5 rfl 0 rfl ?_
  refine m_iload_n dX9_filled_6 rfl 1 rfl ?_
  refine m_iconst (v := 1) dX9_filled_7 (by decide) ?_
  refine m_bipush (v := 12) dX9_filled_8 (by decide) ?_
  refine m_callP (N := mX9_within) (st := [.ref o]) (As := [.int x1, .int 1, .int 12]) dX9_filled_10 wsX9_within (lw_S q2059 q2060 q116 q2061) mokX9_within rfl (by decide) (by decide) (by simp [Value.category]) h (fun _ hq => ?_)
  obtain ⟨rx, rfl, h⟩ := hq
  refine AtM.stk (st' := [.int rx, .ref o]) rfl ?_
  refine m_if_eq (tgt := 29) dX9_filled_13 (by decide) (fun c => ?_) (fun c => ?_)
  · replace h := h.1 c
    refine m_iconst (v := 0) dX9_filled_29 (by decide) ?_
    exact AtM.sub (ls := [(0, .ref o), (1, .int x1), (2, .int x2)]) [0, 1, 2] rfl h
  · replace h := h.2 c
    refine m_iload_n dX9_filled_16 rfl 2 rfl ?_
    refine m_iconst (v := 0) dX9_filled_17 (by decide) ?_
    refine m_iconst (v := 1) dX9_filled_18 (by decide) ?_
    refine m_callP (N := mX9_within) (st := [.ref o]) (As := [.int x2, .int 0, .int 1]) dX9_filled_19 wsX9_within (lw_S q2059 q2060 q116 q2061) mokX9_within rfl (by decide) (by decide) (by simp [Value.category]) h (fun _ hq => ?_)
    obtain ⟨rx_1, rfl, h⟩ := hq
    refine AtM.stk (st' := [.int rx_1, .ref o]) rfl ?_
    refine m_if_eq (tgt := 29) dX9_filled_22 (by decide) (fun c => ?_) (fun c => ?_)
    · replace h := h.1 c
      refine m_iconst (v := 0) dX9_filled_29 (by decide) ?_
      exact AtM.sub (ls := [(0, .ref o), (1, .int x1), (2, .int x2)]) [0, 1, 2] rfl h
    · replace h := h.2 c
      refine m_iconst (v := 1) dX9_filled_25 (by decide) ?_
      refine m_goto (tgt := 30) dX9_filled_26 (by decide) ?_
      exact AtM.sub (ls := [(0, .ref o), (1, .int x1), (2, .int x2)]) [0, 1, 2] rfl h
set_option maxHeartbeats 4000000 in
theorem bX9_filled_30 {G : GC} {ad : Nat → Nat} {o : Nat} {σ0 : PS} {Q : MPost} {x1 : Int32} {x2 : Int32} {sx1 : Int32} {F : Nat → Int32} {L : Nat → Int64} {I : Nat → Nat → Int32} {J : Nat → Nat → Int64} (h : CallM G mX9_may 3 ad o [.ref o, .int sx1, .int 1, .int 1] F L I J (mqI (fun rx F1 L1 I1 J1 => ((¬ rx = 0) → CallM G mX9_plain 3 ad o [.ref o] F1 L1 I1 J1 (mqV (fun F1_1 L1_2 I1_3 J1_4 => (∀ F1_5 : Nat → Int32, F1_5 = fU F1_1 45 x1 → CallM G mX9_costNow 9 ad o [.ref o] F1_5 L1_2 I1_3 J1_4 (mqJ (fun ry F1_6 L1_7 I1_8 J1_9 => CallP G mX9_least 3 [.long ry, .long 1099511627776, .int x2] (pJ (fun ry_10 => Q (some (.long ry_10)) F1_6 L1_7 I1_8 J1_9)))))))) ∧ ((rx = 0) → Q (some (.long 0)) F1 L1 I1 J1)))) : AtM G mX9_filled 10 ad o σ0 Q 30 [(0, .ref o), (1, .int x1), (2, .int x2)] [.int sx1, .ref o] F L I J := by
  refine m_iconst (v := 1) dX9_filled_30 (by decide) ?_
  refine m_iconst (v := 1) dX9_filled_31 (by decide) ?_
  refine m_callV (N := mX9_may) (st := []) (As := [.int sx1, .int 1, .int 1]) dX9_filled_32 wsX9_may (lw_V q1971 q1973 qs38 q116 q1974) rfl mokX9_may rfl (by decide) (by decide) (Nat.zero_le _) h (fun _ F1 L1 I1 J1 hq => ?_)
  obtain ⟨rx, rfl, h⟩ := hq
  refine AtM.stk (st' := [.int rx]) rfl ?_
  refine m_if_ne (tgt := 40) dX9_filled_35 (by decide) (fun c => ?_) (fun c => ?_)
  · replace h := h.1 c
    refine m_aload_n dX9_filled_40 rfl 0 rfl ?_
    refine m_callV (N := mX9_plain) (st := []) (As := []) dX9_filled_41 wsX9_plain (lw_V q2171 q2173 qs68 q116 q2174) rfl mokX9_plain rfl (by decide) (by decide) (Nat.zero_le _) h (fun _ F1_1 L1_2 I1_3 J1_4 hq => ?_)
    obtain ⟨rfl, h⟩ := hq
    refine AtM.stk (st' := []) rfl ?_
    refine m_aload_n dX9_filled_44 rfl 0 rfl ?_
    refine m_iload_n dX9_filled_45 rfl 1 rfl ?_
    refine m_putI 45 dX9_filled_46 (by decide) q1808 rfl rfl rfl rfl ?_
    refine m_topF (fun F1_5 eF1_5 => ?_)
    replace h := h F1_5 eF1_5
    refine m_aload_n dX9_filled_49 rfl 0 rfl ?_
    refine m_callV (N := mX9_costNow) (st := []) (As := []) dX9_filled_50 wsX9_costNow (lw_V q2315 q2317 qs92 q116 q2318) rfl mokX9_costNow rfl (by decide) (by decide) (Nat.zero_le _) h (fun _ F1_6 L1_7 I1_8 J1_9 hq => ?_)
    obtain ⟨ry, rfl, h⟩ := hq
    refine AtM.stk (st' := [.long ry]) rfl ?_
    refine m_ldc2 dX9_filled_53 q2186 ?_
    refine m_iload_n dX9_filled_56 rfl 2 rfl ?_
    refine m_callP (N := mX9_least) (st := []) (As := [.long ry, .long 1099511627776, .int x2]) dX9_filled_57 wsX9_least (lw_S q2283 q2284 q116 q2285) mokX9_least rfl (by decide) (by decide) (Nat.zero_le _) h (fun _ hq => ?_)
    obtain ⟨ry_10, rfl, h⟩ := hq
    refine AtM.stk (st' := [.long ry_10]) rfl ?_
    exact m_lret rfl dX9_filled_60 h
  · replace h := h.2 c
    refine m_lconst (v := 0) dX9_filled_38 (by decide) ?_
    exact m_lret rfl dX9_filled_39 h
theorem eX9_filled {G : GC} {ad : Nat → Nat} {o : Nat} {Q : MPost} {p1 : Int32} {p2 : Int32} {F : Nat → Int32} {L : Nat → Int64} {I : Nat → Nat → Int32} {J : Nat → Nat → Int64} (h : ∀ σ0, AtM G mX9_filled 10 ad o σ0 Q 0 [(0, .ref o), (1, .int p1), (2, .int p2)] [] F L I J) : CallM G mX9_filled 10 ad o [.ref o, .int p1, .int p2] F L I J Q :=
  CallM.of (by decide +kernel) wsX9_filled rfl (Nat.le_of_ble_eq_true rfl) (fun σ0 => AtM.sub (ls := [(0, .ref o), (1, .int p1), (2, .int p2)]) [0, 1, 2] rfl (h σ0))
set_option maxHeartbeats 4000000 in
theorem bX9_fill_0 {G : GC} {ad : Nat → Nat} {o : Nat} {σ0 : PS} {Q : MPost} {F : Nat → Int32} {L : Nat → Int64} {I : Nat → Nat → Int32} {J : Nat → Nat → Int64} (h : (∀ F1 : Nat → Int32, F1 = fU F 0 0 → CallM G mX9_plain 3 ad o [.ref o] F1 L I J (mqV (fun F1_1 L1 I1 J1 => AtM G mX9_fill 10 ad o σ0 Q 16 [(0, .ref o), (1, .int (-1)), (2, .long 0), (4, .int 1)] [] F1_1 L1 I1 J1)))) : AtM G mX9_fill 10 ad o σ0 Q 0 [(0, .ref o)] [] F L I J := by
  refine m_aload_n dX9_fill_0 rfl 0 rfl ?_
  refine m_iconst (v := 0) dX9_fill_1 (by decide) ?_
  refine m_putI 0 dX9_fill_2 (by decide) q1763 rfl rfl rfl rfl ?_
  refine m_topF (fun F1 eF1 => ?_)
  replace h := h F1 eF1
  refine m_aload_n dX9_fill_5 rfl 0 rfl ?_
  refine m_callV (N := mX9_plain) (st := []) (As := []) dX9_fill_6 wsX9_plain (lw_V q2171 q2173 qs68 q116 q2174) rfl mokX9_plain rfl (by decide) (by decide) (Nat.zero_le _) h (fun _ F1_1 L1 I1 J1 hq => ?_)
  obtain ⟨rfl, h⟩ := hq
  refine AtM.stk (st' := []) rfl ?_
  refine m_iconst (v := (-1)) dX9_fill_9 (by decide) ?_
  refine m_istore_n (ls1 := [(1, .int (-1)), (0, .ref o)]) dX9_fill_10 rfl (by decide) rfl ?_
  refine m_lconst (v := 0) dX9_fill_11 (by decide) ?_
  refine m_lstore_n (ls1 := [(2, .long 0), (1, .int (-1)), (0, .ref o)]) dX9_fill_12 rfl (by decide) rfl ?_
  refine m_iconst (v := 1) dX9_fill_13 (by decide) ?_
  refine m_istore (ls1 := [(4, .int 1), (2, .long 0), (1, .int (-1)), (0, .ref o)]) dX9_fill_14 (by decide) rfl ?_
  exact AtM.sub (ls := [(4, .int 1), (2, .long 0), (1, .int (-1)), (0, .ref o)]) [3, 2, 1, 0] rfl h
set_option maxHeartbeats 4000000 in
theorem bX9_fill_16 {G : GC} {ad : Nat → Nat} {o : Nat} {σ0 : PS} {Q : MPost} {x1 : Int32} {y2 : Int64} {x4 : Int32} {F : Nat → Int32} {L : Nat → Int64} {I : Nat → Nat → Int32} {J : Nat → Nat → Int64} (h : (((I 11 0) < x4) → Q (some (.int x1)) F L I J) ∧ ((¬ (I 11 0) < x4) → (∀ F1 : Nat → Int32, F1 = fU F 45 x4 → CallM G mX9_costNow 9 ad o [.ref o] F1 L I J (mqJ (fun ry F1_1 L1 I1 J1 => ((x1 = (-1)) → ∀ v4 : Int32, v4 = x4 + 1 → AtM G mX9_fill 10 ad o σ0 Q 16 [(0, .ref o), (1, .int x4), (2, .long ry), (4, .int v4)] [] F1_1 L1 I1 J1) ∧ ((¬ x1 = (-1)) → ((ry < y2) → ∀ v4 : Int32, v4 = x4 + 1 → AtM G mX9_fill 10 ad o σ0 Q 16 [(0, .ref o), (1, .int x4), (2, .long ry), (4, .int v4)] [] F1_1 L1 I1 J1) ∧ ((¬ ry < y2) → ∀ v4 : Int32, v4 = x4 + 1 → AtM G mX9_fill 10 ad o σ0 Q 16 [(0, .ref o), (1, .int x1), (2, .long y2), (4, .int v4)] [] F1_1 L1 I1 J1))))))) : AtM G mX9_fill 10 ad o σ0 Q 16 [(0, .ref o), (1, .int x1), (2, .long y2), (4, .int x4)] [] F L I J := by
  refine m_iload dX9_fill_16 3 rfl ?_
  refine m_aload_n dX9_fill_18 rfl 0 rfl ?_
  refine m_get (v := .ref (ad 11)) 11 dX9_fill_19 (by decide) q1774 rfl ?_
  refine m_iconst (v := 0) dX9_fill_22 (by decide) ?_
  refine m_iald0 (j := 0) 11 dX9_fill_23 (by decide) rfl (by decide) rfl (Nat.le_of_ble_eq_true rfl) ?_
  refine m_icmp_gt (tgt := 66) dX9_fill_24 (by decide) (fun c => ?_) (fun c => ?_)
  · replace h := h.1 c
    refine m_iload_n dX9_fill_66 rfl 1 rfl ?_
    exact m_iret rfl dX9_fill_67 h
  · replace h := h.2 c
    refine m_aload_n dX9_fill_27 rfl 0 rfl ?_
    refine m_iload dX9_fill_28 3 rfl ?_
    refine m_putI 45 dX9_fill_30 (by decide) q1808 rfl rfl rfl rfl ?_
    refine m_topF (fun F1 eF1 => ?_)
    replace h := h F1 eF1
    refine m_aload_n dX9_fill_33 rfl 0 rfl ?_
    refine m_callV (N := mX9_costNow) (st := []) (As := []) dX9_fill_34 wsX9_costNow (lw_V q2315 q2317 qs92 q116 q2318) rfl mokX9_costNow rfl (by decide) (by decide) (Nat.zero_le _) h (fun _ F1_1 L1 I1 J1 hq => ?_)
    obtain ⟨ry, rfl, h⟩ := hq
    refine AtM.stk (st' := [.long ry]) rfl ?_
    refine m_lstore (ls1 := [(5, .long ry), (0, .ref o), (1, .int x1), (2, .long y2), (4, .int x4)]) dX9_fill_37 (by decide) rfl ?_
    refine m_iload_n dX9_fill_39 rfl 2 rfl ?_
    refine m_iconst (v := (-1)) dX9_fill_40 (by decide) ?_
    refine m_icmp_eq (tgt := 54) dX9_fill_41 (by decide) (fun c => ?_) (fun c => ?_)
    · replace h := h.1 c
      refine m_iload dX9_fill_54 4 rfl ?_
      refine m_istore_n (ls1 := [(1, .int x4), (5, .long ry), (0, .ref o), (2, .long y2), (4, .int x4)]) dX9_fill_56 rfl (by decide) rfl ?_
      refine m_lload dX9_fill_57 1 rfl ?_
      refine m_lstore_n (ls1 := [(2, .long ry), (1, .int x4), (5, .long ry), (0, .ref o), (4, .int x4)]) dX9_fill_59 rfl (by decide) rfl ?_
      obtain ⟨v4, ev4⟩ : ∃ z : Int32, z = x4 + 1 := ⟨_, rfl⟩
      refine m_iinc (v := v4) (ls1 := [(4, .int v4), (2, .long ry), (1, .int x4), (5, .long ry), (0, .ref o)]) dX9_fill_60 4 rfl (by rw [ev4]; rfl) (by decide) rfl ?_
      replace h := h v4 ev4
      refine m_goto (tgt := 16) dX9_fill_63 (by decide) ?_
      exact AtM.sub (ls := [(4, .int v4), (2, .long ry), (1, .int x4), (5, .long ry), (0, .ref o)]) [4, 2, 1, 0] rfl h
    · replace h := h.2 c
      refine m_lload dX9_fill_44 0 rfl ?_
      refine m_lload_n dX9_fill_46 rfl 3 rfl ?_
      refine m_lcmp_lt (tgt := 54) dX9_fill_47 dX9_fill_48 (by decide) (fun c => ?_) (fun c => ?_)
      · replace h := h.1 c
        refine m_iload dX9_fill_54 4 rfl ?_
        refine m_istore_n (ls1 := [(1, .int x4), (5, .long ry), (0, .ref o), (2, .long y2), (4, .int x4)]) dX9_fill_56 rfl (by decide) rfl ?_
        refine m_lload dX9_fill_57 1 rfl ?_
        refine m_lstore_n (ls1 := [(2, .long ry), (1, .int x4), (5, .long ry), (0, .ref o), (4, .int x4)]) dX9_fill_59 rfl (by decide) rfl ?_
        obtain ⟨v4, ev4⟩ : ∃ z : Int32, z = x4 + 1 := ⟨_, rfl⟩
        refine m_iinc (v := v4) (ls1 := [(4, .int v4), (2, .long ry), (1, .int x4), (5, .long ry), (0, .ref o)]) dX9_fill_60 4 rfl (by rw [ev4]; rfl) (by decide) rfl ?_
        replace h := h v4 ev4
        refine m_goto (tgt := 16) dX9_fill_63 (by decide) ?_
        exact AtM.sub (ls := [(4, .int v4), (2, .long ry), (1, .int x4), (5, .long ry), (0, .ref o)]) [4, 2, 1, 0] rfl h
      · replace h := h.2 c
        refine m_goto (tgt := 60) dX9_fill_51 (by decide) ?_
        obtain ⟨v4, ev4⟩ : ∃ z : Int32, z = x4 + 1 := ⟨_, rfl⟩
        refine m_iinc (v := v4) (ls1 := [(4, .int v4), (5, .long ry), (0, .ref o), (1, .int x1), (2, .long y2)]) dX9_fill_60 4 rfl (by rw [ev4]; rfl) (by decide) rfl ?_
        replace h := h v4 ev4
        refine m_goto (tgt := 16) dX9_fill_63 (by decide) ?_
        exact AtM.sub (ls := [(4, .int v4), (5, .long ry), (0, .ref o), (1, .int x1), (2, .long y2)]) [2, 3, 4, 0] rfl h
theorem eX9_fill {G : GC} {ad : Nat → Nat} {o : Nat} {Q : MPost} {F : Nat → Int32} {L : Nat → Int64} {I : Nat → Nat → Int32} {J : Nat → Nat → Int64} (h : ∀ σ0, AtM G mX9_fill 10 ad o σ0 Q 0 [(0, .ref o)] [] F L I J) : CallM G mX9_fill 10 ad o [.ref o] F L I J Q :=
  CallM.of (by decide +kernel) wsX9_fill rfl (Nat.le_of_ble_eq_true rfl) (fun σ0 => AtM.sub (ls := [(0, .ref o)]) [0] rfl (h σ0))
set_option maxHeartbeats 4000000 in
theorem bX9_ruled_0 {G : GC} {ad : Nat → Nat} {o : Nat} {σ0 : PS} {Q : MPost} {x1 : Int32} {F : Nat → Int32} {L : Nat → Int64} {I : Nat → Nat → Int32} {J : Nat → Nat → Int64} (h : (∀ F1 : Nat → Int32, F1 = fU F 0 0 → CallP G mX9_within 3 [.int x1, .int 0, .int 1] (pI (fun rx => CallM G mX9_may 3 ad o [.ref o, .int rx, .int 1, .int 1] F1 L I J (mqI (fun rx_1 F1_2 L1 I1 J1 => ((¬ rx_1 = 0) → CallM G mX9_plain 3 ad o [.ref o] F1_2 L1 I1 J1 (mqV (fun F1_3 L1_4 I1_5 J1_6 => (∀ F1_7 : Nat → Int32, F1_7 = fU F1_3 49 1 → ((¬ x1 = 0) → CallM G mX9_costNow 9 ad o [.ref o] F1_7 L1_4 I1_5 J1_6 (mqJ (fun ry F1_8 L1_9 I1_10 J1_11 => Q (some (.long (ry / 1099511627776))) F1_8 L1_9 I1_10 J1_11))) ∧ ((x1 = 0) → CallM G mX9_trueNow 9 ad o [.ref o] F1_7 L1_4 I1_5 J1_6 (mqJ (fun ry F1_12 L1_13 I1_14 J1_15 => Q (some (.long ry)) F1_12 L1_13 I1_14 J1_15))))))) ∧ ((rx_1 = 0) → Q (some (.long 0)) F1_2 L1 I1 J1))))))) : AtM G mX9_ruled 10 ad o σ0 Q 0 [(0, .ref o), (1, .int x1)] [] F L I J := by
  refine m_aload_n dX9_ruled_0 rfl 0 rfl ?_
  refine m_iconst (v := 0) dX9_ruled_1 (by decide) ?_
  refine m_putI 0 dX9_ruled_2 (by decide) q1763 rfl rfl rfl rfl ?_
  refine m_topF (fun F1 eF1 => ?_)
  replace h := h F1 eF1
  refine m_aload_n dX9_ruled_5 rfl 0 rfl ?_
  refine m_iload_n dX9_ruled_6 rfl 1 rfl ?_
  refine m_iconst (v := 0) dX9_ruled_7 (by decide) ?_
  refine m_iconst (v := 1) dX9_ruled_8 (by decide) ?_
  refine m_callP (N := mX9_within) (st := [.ref o]) (As := [.int x1, .int 0, .int 1]) dX9_ruled_9 wsX9_within (lw_S q2059 q2060 q116 q2061) mokX9_within rfl (by decide) (by decide) (by simp [Value.category]) h (fun _ hq => ?_)
  obtain ⟨rx, rfl, h⟩ := hq
  refine AtM.stk (st' := [.int rx, .ref o]) rfl ?_
  refine m_iconst (v := 1) dX9_ruled_12 (by decide) ?_
  refine m_iconst (v := 1) dX9_ruled_13 (by decide) ?_
  refine m_callV (N := mX9_may) (st := []) (As := [.int rx, .int 1, .int 1]) dX9_ruled_14 wsX9_may (lw_V q1971 q1973 qs38 q116 q1974) rfl mokX9_may rfl (by decide) (by decide) (Nat.zero_le _) h (fun _ F1_2 L1 I1 J1 hq => ?_)
  obtain ⟨rx_1, rfl, h⟩ := hq
  refine AtM.stk (st' := [.int rx_1]) rfl ?_
  refine m_if_ne (tgt := 22) dX9_ruled_17 (by decide) (fun c => ?_) (fun c => ?_)
  · replace h := h.1 c
    refine m_aload_n dX9_ruled_22 rfl 0 rfl ?_
    refine m_callV (N := mX9_plain) (st := []) (As := []) dX9_ruled_23 wsX9_plain (lw_V q2171 q2173 qs68 q116 q2174) rfl mokX9_plain rfl (by decide) (by decide) (Nat.zero_le _) h (fun _ F1_3 L1_4 I1_5 J1_6 hq => ?_)
    obtain ⟨rfl, h⟩ := hq
    refine AtM.stk (st' := []) rfl ?_
    refine m_aload_n dX9_ruled_26 rfl 0 rfl ?_
    refine m_iconst (v := 1) dX9_ruled_27 (by decide) ?_
    refine m_putI 49 dX9_ruled_28 (by decide) q1812 rfl rfl rfl rfl ?_
    refine m_topF (fun F1_7 eF1_7 => ?_)
    replace h := h F1_7 eF1_7
    refine m_iload_n dX9_ruled_31 rfl 1 rfl ?_
    refine m_if_ne (tgt := 42) dX9_ruled_32 (by decide) (fun c => ?_) (fun c => ?_)
    · replace h := h.1 c
      refine m_aload_n dX9_ruled_42 rfl 0 rfl ?_
      refine m_callV (N := mX9_costNow) (st := []) (As := []) dX9_ruled_43 wsX9_costNow (lw_V q2315 q2317 qs92 q116 q2318) rfl mokX9_costNow rfl (by decide) (by decide) (Nat.zero_le _) h (fun _ F1_8 L1_9 I1_10 J1_11 hq => ?_)
      obtain ⟨ry, rfl, h⟩ := hq
      refine AtM.stk (st' := [.long ry]) rfl ?_
      refine m_ldc2 dX9_ruled_46 q2186 ?_
      refine m_ldiv dX9_ruled_49 (by decide) ?_
      exact m_lret rfl dX9_ruled_50 h
    · replace h := h.2 c
      refine m_aload_n dX9_ruled_35 rfl 0 rfl ?_
      refine m_callV (N := mX9_trueNow) (st := []) (As := []) dX9_ruled_36 wsX9_trueNow (lw_V q2363 q2365 qs98 q116 q2366) rfl mokX9_trueNow rfl (by decide) (by decide) (Nat.zero_le _) h (fun _ F1_12 L1_13 I1_14 J1_15 hq => ?_)
      obtain ⟨ry, rfl, h⟩ := hq
      refine AtM.stk (st' := [.long ry]) rfl ?_
      refine m_goto (tgt := 50) dX9_ruled_39 (by decide) ?_
      exact m_lret rfl dX9_ruled_50 h
  · replace h := h.2 c
    refine m_lconst (v := 0) dX9_ruled_20 (by decide) ?_
    exact m_lret rfl dX9_ruled_21 h
theorem eX9_ruled {G : GC} {ad : Nat → Nat} {o : Nat} {Q : MPost} {p1 : Int32} {F : Nat → Int32} {L : Nat → Int64} {I : Nat → Nat → Int32} {J : Nat → Nat → Int64} (h : ∀ σ0, AtM G mX9_ruled 10 ad o σ0 Q 0 [(0, .ref o), (1, .int p1)] [] F L I J) : CallM G mX9_ruled 10 ad o [.ref o, .int p1] F L I J Q :=
  CallM.of (by decide +kernel) wsX9_ruled rfl (Nat.le_of_ble_eq_true rfl) (fun σ0 => AtM.sub (ls := [(0, .ref o), (1, .int p1)]) [0, 1] rfl (h σ0))
set_option maxHeartbeats 4000000 in
theorem bX9_swapped_0 {G : GC} {ad : Nat → Nat} {o : Nat} {σ0 : PS} {Q : MPost} {x1 : Int32} {x2 : Int32} {x3 : Int32} {F : Nat → Int32} {L : Nat → Int64} {I : Nat → Nat → Int32} {J : Nat → Nat → Int64} (h : (∀ F1 : Nat → Int32, F1 = fU F 0 0 → CallM G mX9_isPerson 4 ad o [.ref o, .int x1, .int 1] F1 L I J (mqI (fun rx F1_1 L1 I1 J1 => ((rx = 0) → Q (some (.long 0)) F1_1 L1 I1 J1) ∧ ((¬ rx = 0) → CallM G mX9_isPerson 4 ad o [.ref o, .int x2, .int 1] F1_1 L1 I1 J1 (mqI (fun rx_2 F1_3 L1_4 I1_5 J1_6 => ((rx_2 = 0) → Q (some (.long 0)) F1_3 L1_4 I1_5 J1_6) ∧ ((¬ rx_2 = 0) → ((x1 = x2) → AtM G mX9_swapped 10 ad o σ0 Q 43 [(0, .ref o), (1, .int x1), (2, .int x2), (3, .int x3)] [.int 0, .ref o] F1_3 L1_4 I1_5 J1_6) ∧ ((¬ x1 = x2) → CallP G mX9_within 3 [.int x3, .int 0, .int 1] (pI (fun rx_7 => ((rx_7 = 0) → AtM G mX9_swapped 10 ad o σ0 Q 43 [(0, .ref o), (1, .int x1), (2, .int x2), (3, .int x3)] [.int 0, .ref o] F1_3 L1_4 I1_5 J1_6) ∧ ((¬ rx_7 = 0) → AtM G mX9_swapped 10 ad o σ0 Q 43 [(0, .ref o), (1, .int x1), (2, .int x2), (3, .int x3)] [.int 1, .ref o] F1_3 L1_4 I1_5 J1_6)))))))))))) : AtM G mX9_swapped 10 ad o σ0 Q 0 [(0, .ref o), (1, .int x1), (2, .int x2), (3, .int x3)] [] F L I J := by
  refine m_aload_n dX9_swapped_0 rfl 0 rfl ?_
  refine m_iconst (v := 0) dX9_swapped_1 (by decide) ?_
  refine m_putI 0 dX9_swapped_2 (by decide) q1763 rfl rfl rfl rfl ?_
  refine m_topF (fun F1 eF1 => ?_)
  replace h := h F1 eF1
  refine m_aload_n dX9_swapped_5 rfl 0 rfl ?_
  refine m_iload_n dX9_swapped_6 rfl 1 rfl ?_
  refine m_iconst (v := 1) dX9_swapped_7 (by decide) ?_
  refine m_callV (N := mX9_isPerson) (st := []) (As := [.int x1, .int 1]) dX9_swapped_8 wsX9_isPerson (lw_V q2055 q2057 qs53 q116 q2058) rfl mokX9_isPerson rfl (by decide) (by decide) (Nat.zero_le _) h (fun _ F1_1 L1 I1 J1 hq => ?_)
  obtain ⟨rx, rfl, h⟩ := hq
  refine AtM.stk (st' := [.int rx]) rfl ?_
  refine m_if_eq (tgt := 51) dX9_swapped_11 (by decide) (fun c => ?_) (fun c => ?_)
  · replace h := h.1 c
    refine m_lconst (v := 0) dX9_swapped_51 (by decide) ?_
    exact m_lret rfl dX9_swapped_52 h
  · replace h := h.2 c
    refine m_aload_n dX9_swapped_14 rfl 0 rfl ?_
    refine m_iload_n dX9_swapped_15 rfl 2 rfl ?_
    refine m_iconst (v := 1) dX9_swapped_16 (by decide) ?_
    refine m_callV (N := mX9_isPerson) (st := []) (As := [.int x2, .int 1]) dX9_swapped_17 wsX9_isPerson (lw_V q2055 q2057 qs53 q116 q2058) rfl mokX9_isPerson rfl (by decide) (by decide) (Nat.zero_le _) h (fun _ F1_3 L1_4 I1_5 J1_6 hq => ?_)
    obtain ⟨rx_2, rfl, h⟩ := hq
    refine AtM.stk (st' := [.int rx_2]) rfl ?_
    refine m_if_eq (tgt := 51) dX9_swapped_20 (by decide) (fun c => ?_) (fun c => ?_)
    · replace h := h.1 c
      refine m_lconst (v := 0) dX9_swapped_51 (by decide) ?_
      exact m_lret rfl dX9_swapped_52 h
    · replace h := h.2 c
      refine m_aload_n dX9_swapped_23 rfl 0 rfl ?_
      refine m_iload_n dX9_swapped_24 rfl 1 rfl ?_
      refine m_iload_n dX9_swapped_25 rfl 2 rfl ?_
      refine m_icmp_eq (tgt := 42) dX9_swapped_26 (by decide) (fun c => ?_) (fun c => ?_)
      · replace h := h.1 c
        refine m_iconst (v := 0) dX9_swapped_42 (by decide) ?_
        exact AtM.sub (ls := [(0, .ref o), (1, .int x1), (2, .int x2), (3, .int x3)]) [0, 1, 2, 3] rfl h
      · replace h := h.2 c
        refine m_iload_n dX9_swapped_29 rfl 3 rfl ?_
        refine m_iconst (v := 0) dX9_swapped_30 (by decide) ?_
        refine m_iconst (v := 1) dX9_swapped_31 (by decide) ?_
        refine m_callP (N := mX9_within) (st := [.ref o]) (As := [.int x3, .int 0, .int 1]) dX9_swapped_32 wsX9_within (lw_S q2059 q2060 q116 q2061) mokX9_within rfl (by decide) (by decide) (by simp [Value.category]) h (fun _ hq => ?_)
        obtain ⟨rx_7, rfl, h⟩ := hq
        refine AtM.stk (st' := [.int rx_7, .ref o]) rfl ?_
        refine m_if_eq (tgt := 42) dX9_swapped_35 (by decide) (fun c => ?_) (fun c => ?_)
        · replace h := h.1 c
          refine m_iconst (v := 0) dX9_swapped_42 (by decide) ?_
          exact AtM.sub (ls := [(0, .ref o), (1, .int x1), (2, .int x2), (3, .int x3)]) [0, 1, 2, 3] rfl h
        · replace h := h.2 c
          refine m_iconst (v := 1) dX9_swapped_38 (by decide) ?_
          refine m_goto (tgt := 43) dX9_swapped_39 (by decide) ?_
          exact AtM.sub (ls := [(0, .ref o), (1, .int x1), (2, .int x2), (3, .int x3)]) [0, 1, 2, 3] rfl h
set_option maxHeartbeats 4000000 in
theorem bX9_swapped_43 {G : GC} {ad : Nat → Nat} {o : Nat} {σ0 : PS} {Q : MPost} {x1 : Int32} {x2 : Int32} {x3 : Int32} {sx1 : Int32} {F : Nat → Int32} {L : Nat → Int64} {I : Nat → Nat → Int32} {J : Nat → Nat → Int64} (h : CallM G mX9_may 3 ad o [.ref o, .int sx1, .int 2, .int 1] F L I J (mqI (fun rx F1 L1 I1 J1 => ((¬ rx = 0) → CallM G mX9_plain 3 ad o [.ref o] F1 L1 I1 J1 (mqV (fun F1_1 L1_2 I1_3 J1_4 => (∀ F1_5 : Nat → Int32, F1_5 = fU F1_1 47 x1 → (∀ F1_6 : Nat → Int32, F1_6 = fU F1_5 48 x2 → CallM G mX9_costNow 9 ad o [.ref o] F1_6 L1_2 I1_3 J1_4 (mqJ (fun ry F1_7 L1_8 I1_9 J1_10 => CallP G mX9_least 3 [.long ry, .long 1099511627776, .int x3] (pJ (fun ry_11 => Q (some (.long ry_11)) F1_7 L1_8 I1_9 J1_10))))))))) ∧ ((rx = 0) → Q (some (.long 0)) F1 L1 I1 J1)))) : AtM G mX9_swapped 10 ad o σ0 Q 43 [(0, .ref o), (1, .int x1), (2, .int x2), (3, .int x3)] [.int sx1, .ref o] F L I J := by
  refine m_iconst (v := 2) dX9_swapped_43 (by decide) ?_
  refine m_iconst (v := 1) dX9_swapped_44 (by decide) ?_
  refine m_callV (N := mX9_may) (st := []) (As := [.int sx1, .int 2, .int 1]) dX9_swapped_45 wsX9_may (lw_V q1971 q1973 qs38 q116 q1974) rfl mokX9_may rfl (by decide) (by decide) (Nat.zero_le _) h (fun _ F1 L1 I1 J1 hq => ?_)
  obtain ⟨rx, rfl, h⟩ := hq
  refine AtM.stk (st' := [.int rx]) rfl ?_
  refine m_if_ne (tgt := 53) dX9_swapped_48 (by decide) (fun c => ?_) (fun c => ?_)
  · replace h := h.1 c
    refine m_aload_n dX9_swapped_53 rfl 0 rfl ?_
    refine m_callV (N := mX9_plain) (st := []) (As := []) dX9_swapped_54 wsX9_plain (lw_V q2171 q2173 qs68 q116 q2174) rfl mokX9_plain rfl (by decide) (by decide) (Nat.zero_le _) h (fun _ F1_1 L1_2 I1_3 J1_4 hq => ?_)
    obtain ⟨rfl, h⟩ := hq
    refine AtM.stk (st' := []) rfl ?_
    refine m_aload_n dX9_swapped_57 rfl 0 rfl ?_
    refine m_iload_n dX9_swapped_58 rfl 1 rfl ?_
    refine m_putI 47 dX9_swapped_59 (by decide) q1810 rfl rfl rfl rfl ?_
    refine m_topF (fun F1_5 eF1_5 => ?_)
    replace h := h F1_5 eF1_5
    refine m_aload_n dX9_swapped_62 rfl 0 rfl ?_
    refine m_iload_n dX9_swapped_63 rfl 2 rfl ?_
    refine m_putI 48 dX9_swapped_64 (by decide) q1811 rfl rfl rfl rfl ?_
    refine m_topF (fun F1_6 eF1_6 => ?_)
    replace h := h F1_6 eF1_6
    refine m_aload_n dX9_swapped_67 rfl 0 rfl ?_
    refine m_callV (N := mX9_costNow) (st := []) (As := []) dX9_swapped_68 wsX9_costNow (lw_V q2315 q2317 qs92 q116 q2318) rfl mokX9_costNow rfl (by decide) (by decide) (Nat.zero_le _) h (fun _ F1_7 L1_8 I1_9 J1_10 hq => ?_)
    obtain ⟨ry, rfl, h⟩ := hq
    refine AtM.stk (st' := [.long ry]) rfl ?_
    refine m_ldc2 dX9_swapped_71 q2186 ?_
    refine m_iload_n dX9_swapped_74 rfl 3 rfl ?_
    refine m_callP (N := mX9_least) (st := []) (As := [.long ry, .long 1099511627776, .int x3]) dX9_swapped_75 wsX9_least (lw_S q2283 q2284 q116 q2285) mokX9_least rfl (by decide) (by decide) (Nat.zero_le _) h (fun _ hq => ?_)
    obtain ⟨ry_11, rfl, h⟩ := hq
    refine AtM.stk (st' := [.long ry_11]) rfl ?_
    exact m_lret rfl dX9_swapped_78 h
  · replace h := h.2 c
    refine m_lconst (v := 0) dX9_swapped_51 (by decide) ?_
    exact m_lret rfl dX9_swapped_52 h
theorem eX9_swapped {G : GC} {ad : Nat → Nat} {o : Nat} {Q : MPost} {p1 : Int32} {p2 : Int32} {p3 : Int32} {F : Nat → Int32} {L : Nat → Int64} {I : Nat → Nat → Int32} {J : Nat → Nat → Int64} (h : ∀ σ0, AtM G mX9_swapped 10 ad o σ0 Q 0 [(0, .ref o), (1, .int p1), (2, .int p2), (3, .int p3)] [] F L I J) : CallM G mX9_swapped 10 ad o [.ref o, .int p1, .int p2, .int p3] F L I J Q :=
  CallM.of (by decide +kernel) wsX9_swapped rfl (Nat.le_of_ble_eq_true rfl) (fun σ0 => AtM.sub (ls := [(0, .ref o), (1, .int p1), (2, .int p2), (3, .int p3)]) [0, 1, 2, 3] rfl (h σ0))
set_option maxHeartbeats 4000000 in
theorem bX9_swap_0 {G : GC} {ad : Nat → Nat} {o : Nat} {σ0 : PS} {Q : MPost} {F : Nat → Int32} {L : Nat → Int64} {I : Nat → Nat → Int32} {J : Nat → Nat → Int64} (h : (∀ F1 : Nat → Int32, F1 = fU F 0 0 → CallM G mX9_plain 3 ad o [.ref o] F1 L I J (mqV (fun F1_1 L1 I1 J1 => CallM G mX9_costNow 9 ad o [.ref o] F1_1 L1 I1 J1 (mqJ (fun ry F1_2 L1_3 I1_4 J1_5 => AtM G mX9_swap 10 ad o σ0 Q 19 [(0, .ref o), (1, .int (-1)), (2, .long ry), (4, .int 0)] [] F1_2 L1_3 I1_4 J1_5)))))) : AtM G mX9_swap 10 ad o σ0 Q 0 [(0, .ref o)] [] F L I J := by
  refine m_aload_n dX9_swap_0 rfl 0 rfl ?_
  refine m_iconst (v := 0) dX9_swap_1 (by decide) ?_
  refine m_putI 0 dX9_swap_2 (by decide) q1763 rfl rfl rfl rfl ?_
  refine m_topF (fun F1 eF1 => ?_)
  replace h := h F1 eF1
  refine m_aload_n dX9_swap_5 rfl 0 rfl ?_
  refine m_callV (N := mX9_plain) (st := []) (As := []) dX9_swap_6 wsX9_plain (lw_V q2171 q2173 qs68 q116 q2174) rfl mokX9_plain rfl (by decide) (by decide) (Nat.zero_le _) h (fun _ F1_1 L1 I1 J1 hq => ?_)
  obtain ⟨rfl, h⟩ := hq
  refine AtM.stk (st' := []) rfl ?_
  refine m_iconst (v := (-1)) dX9_swap_9 (by decide) ?_
  refine m_istore_n (ls1 := [(1, .int (-1)), (0, .ref o)]) dX9_swap_10 rfl (by decide) rfl ?_
  refine m_aload_n dX9_swap_11 rfl 1 rfl ?_
  refine m_callV (N := mX9_costNow) (st := []) (As := []) dX9_swap_12 wsX9_costNow (lw_V q2315 q2317 qs92 q116 q2318) rfl mokX9_costNow rfl (by decide) (by decide) (Nat.zero_le _) h (fun _ F1_2 L1_3 I1_4 J1_5 hq => ?_)
  obtain ⟨ry, rfl, h⟩ := hq
  refine AtM.stk (st' := [.long ry]) rfl ?_
  refine m_lstore_n (ls1 := [(2, .long ry), (1, .int (-1)), (0, .ref o)]) dX9_swap_15 rfl (by decide) rfl ?_
  refine m_iconst (v := 0) dX9_swap_16 (by decide) ?_
  refine m_istore (ls1 := [(4, .int 0), (2, .long ry), (1, .int (-1)), (0, .ref o)]) dX9_swap_17 (by decide) rfl ?_
  exact AtM.sub (ls := [(4, .int 0), (2, .long ry), (1, .int (-1)), (0, .ref o)]) [3, 2, 1, 0] rfl h
set_option maxHeartbeats 4000000 in
theorem bX9_swap_19 {G : GC} {ad : Nat → Nat} {o : Nat} {σ0 : PS} {Q : MPost} {x1 : Int32} {y2 : Int64} {x4 : Int32} {F : Nat → Int32} {L : Nat → Int64} {I : Nat → Nat → Int32} {J : Nat → Nat → Int64} (h : (((F 18) ≤ x4) → Q (some (.int x1)) F L I J) ∧ ((¬ (F 18) ≤ x4) → ∀ v5 : Int32, v5 = (x4 + 1) → AtM G mX9_swap 10 ad o σ0 Q 34 [(0, .ref o), (1, .int x1), (2, .long y2), (4, .int x4), (5, .int v5)] [] F L I J)) : AtM G mX9_swap 10 ad o σ0 Q 19 [(0, .ref o), (1, .int x1), (2, .long y2), (4, .int x4)] [] F L I J := by
  refine m_iload dX9_swap_19 3 rfl ?_
  refine m_aload_n dX9_swap_21 rfl 0 rfl ?_
  refine m_get (v := .int (F 18)) 18 dX9_swap_22 (by decide) q1781 rfl ?_
  refine m_icmp_ge (tgt := 95) dX9_swap_25 (by decide) (fun c => ?_) (fun c => ?_)
  · replace h := h.1 c
    refine m_iload_n dX9_swap_95 rfl 1 rfl ?_
    exact m_iret rfl dX9_swap_96 h
  · replace h := h.2 c
    refine m_iload dX9_swap_28 3 rfl ?_
    refine m_iconst (v := 1) dX9_swap_30 (by decide) ?_
    refine m_iadd dX9_swap_31 ?_
    refine m_topi (fun v5 ev5 => ?_)
    replace h := h v5 ev5
    refine m_istore (ls1 := [(5, .int v5), (0, .ref o), (1, .int x1), (2, .long y2), (4, .int x4)]) dX9_swap_32 (by decide) rfl ?_
    exact AtM.sub (ls := [(5, .int v5), (0, .ref o), (1, .int x1), (2, .long y2), (4, .int x4)]) [1, 2, 3, 4, 0] rfl h
set_option maxHeartbeats 4000000 in
theorem bX9_swap_34 {G : GC} {ad : Nat → Nat} {o : Nat} {σ0 : PS} {Q : MPost} {x1 : Int32} {y2 : Int64} {x4 : Int32} {x5 : Int32} {F : Nat → Int32} {L : Nat → Int64} {I : Nat → Nat → Int32} {J : Nat → Nat → Int64} (h : (((F 18) ≤ x5) → ∀ v4 : Int32, v4 = x4 + 1 → AtM G mX9_swap 10 ad o σ0 Q 19 [(0, .ref o), (1, .int x1), (2, .long y2), (4, .int v4)] [] F L I J) ∧ ((¬ (F 18) ≤ x5) → (∀ F1 : Nat → Int32, F1 = fU F 47 x4 → (∀ F1_1 : Nat → Int32, F1_1 = fU F1 48 x5 → CallM G mX9_costNow 9 ad o [.ref o] F1_1 L I J (mqJ (fun ry F1_2 L1 I1 J1 => ((ry < y2) → ∀ v1 : Int32, v1 = ((10 * x4) + x5) → ∀ v5 : Int32, v5 = x5 + 1 → AtM G mX9_swap 10 ad o σ0 Q 34 [(0, .ref o), (1, .int v1), (2, .long ry), (4, .int x4), (5, .int v5)] [] F1_2 L1 I1 J1) ∧ ((¬ ry < y2) → ∀ v5 : Int32, v5 = x5 + 1 → AtM G mX9_swap 10 ad o σ0 Q 34 [(0, .ref o), (1, .int x1), (2, .long y2), (4, .int x4), (5, .int v5)] [] F1_2 L1 I1 J1))))))) : AtM G mX9_swap 10 ad o σ0 Q 34 [(0, .ref o), (1, .int x1), (2, .long y2), (4, .int x4), (5, .int x5)] [] F L I J := by
  refine m_iload dX9_swap_34 4 rfl ?_
  refine m_aload_n dX9_swap_36 rfl 0 rfl ?_
  refine m_get (v := .int (F 18)) 18 dX9_swap_37 (by decide) q1781 rfl ?_
  refine m_icmp_ge (tgt := 89) dX9_swap_40 (by decide) (fun c => ?_) (fun c => ?_)
  · replace h := h.1 c
    obtain ⟨v4, ev4⟩ : ∃ z : Int32, z = x4 + 1 := ⟨_, rfl⟩
    refine m_iinc (v := v4) (ls1 := [(4, .int v4), (0, .ref o), (1, .int x1), (2, .long y2), (5, .int x5)]) dX9_swap_89 3 rfl (by rw [ev4]; rfl) (by decide) rfl ?_
    replace h := h v4 ev4
    refine m_goto (tgt := 19) dX9_swap_92 (by decide) ?_
    exact AtM.sub (ls := [(4, .int v4), (0, .ref o), (1, .int x1), (2, .long y2), (5, .int x5)]) [1, 2, 3, 0] rfl h
  · replace h := h.2 c
    refine m_aload_n dX9_swap_43 rfl 0 rfl ?_
    refine m_iload dX9_swap_44 3 rfl ?_
    refine m_putI 47 dX9_swap_46 (by decide) q1810 rfl rfl rfl rfl ?_
    refine m_topF (fun F1 eF1 => ?_)
    replace h := h F1 eF1
    refine m_aload_n dX9_swap_49 rfl 0 rfl ?_
    refine m_iload dX9_swap_50 4 rfl ?_
    refine m_putI 48 dX9_swap_52 (by decide) q1811 rfl rfl rfl rfl ?_
    refine m_topF (fun F1_1 eF1_1 => ?_)
    replace h := h F1_1 eF1_1
    refine m_aload_n dX9_swap_55 rfl 0 rfl ?_
    refine m_callV (N := mX9_costNow) (st := []) (As := []) dX9_swap_56 wsX9_costNow (lw_V q2315 q2317 qs92 q116 q2318) rfl mokX9_costNow rfl (by decide) (by decide) (Nat.zero_le _) h (fun _ F1_2 L1 I1 J1 hq => ?_)
    obtain ⟨ry, rfl, h⟩ := hq
    refine AtM.stk (st' := [.long ry]) rfl ?_
    refine m_lstore (ls1 := [(6, .long ry), (0, .ref o), (1, .int x1), (2, .long y2), (4, .int x4), (5, .int x5)]) dX9_swap_59 (by decide) rfl ?_
    refine m_lload dX9_swap_61 0 rfl ?_
    refine m_lload_n dX9_swap_63 rfl 3 rfl ?_
    refine m_lcmp_lt (tgt := 71) dX9_swap_64 dX9_swap_65 (by decide) (fun c => ?_) (fun c => ?_)
    · replace h := h.1 c
      refine m_bipush (v := 10) dX9_swap_71 (by decide) ?_
      refine m_iload dX9_swap_73 4 rfl ?_
      refine m_imul dX9_swap_75 ?_
      refine m_iload dX9_swap_76 5 rfl ?_
      refine m_iadd dX9_swap_78 ?_
      refine m_topi (fun v1 ev1 => ?_)
      replace h := h v1 ev1
      refine m_istore_n (ls1 := [(1, .int v1), (6, .long ry), (0, .ref o), (2, .long y2), (4, .int x4), (5, .int x5)]) dX9_swap_79 rfl (by decide) rfl ?_
      refine m_lload dX9_swap_80 1 rfl ?_
      refine m_lstore_n (ls1 := [(2, .long ry), (1, .int v1), (6, .long ry), (0, .ref o), (4, .int x4), (5, .int x5)]) dX9_swap_82 rfl (by decide) rfl ?_
      obtain ⟨v5, ev5⟩ : ∃ z : Int32, z = x5 + 1 := ⟨_, rfl⟩
      refine m_iinc (v := v5) (ls1 := [(5, .int v5), (2, .long ry), (1, .int v1), (6, .long ry), (0, .ref o), (4, .int x4)]) dX9_swap_83 5 rfl (by rw [ev5]; rfl) (by decide) rfl ?_
      replace h := h v5 ev5
      refine m_goto (tgt := 34) dX9_swap_86 (by decide) ?_
      exact AtM.sub (ls := [(5, .int v5), (2, .long ry), (1, .int v1), (6, .long ry), (0, .ref o), (4, .int x4)]) [4, 2, 1, 5, 0] rfl h
    · replace h := h.2 c
      refine m_goto (tgt := 83) dX9_swap_68 (by decide) ?_
      obtain ⟨v5, ev5⟩ : ∃ z : Int32, z = x5 + 1 := ⟨_, rfl⟩
      refine m_iinc (v := v5) (ls1 := [(5, .int v5), (6, .long ry), (0, .ref o), (1, .int x1), (2, .long y2), (4, .int x4)]) dX9_swap_83 5 rfl (by rw [ev5]; rfl) (by decide) rfl ?_
      replace h := h v5 ev5
      refine m_goto (tgt := 34) dX9_swap_86 (by decide) ?_
      exact AtM.sub (ls := [(5, .int v5), (6, .long ry), (0, .ref o), (1, .int x1), (2, .long y2), (4, .int x4)]) [2, 3, 4, 5, 0] rfl h
theorem eX9_swap {G : GC} {ad : Nat → Nat} {o : Nat} {Q : MPost} {F : Nat → Int32} {L : Nat → Int64} {I : Nat → Nat → Int32} {J : Nat → Nat → Int64} (h : ∀ σ0, AtM G mX9_swap 10 ad o σ0 Q 0 [(0, .ref o)] [] F L I J) : CallM G mX9_swap 10 ad o [.ref o] F L I J Q :=
  CallM.of (by decide +kernel) wsX9_swap rfl (Nat.le_of_ble_eq_true rfl) (fun σ0 => AtM.sub (ls := [(0, .ref o)]) [0] rfl (h σ0))
set_option maxHeartbeats 4000000 in
theorem bX9_day_0 {G : GC} {ad : Nat → Nat} {o : Nat} {σ0 : PS} {Q : MPost} {x1 : Int32} {x2 : Int32} {x3 : Int32} {F : Nat → Int32} {L : Nat → Int64} {I : Nat → Nat → Int32} {J : Nat → Nat → Int64} (h : (∀ F1 : Nat → Int32, F1 = fU F 0 0 → CallM G mX9_isVisit 4 ad o [.ref o, .int x2, .int 1] F1 L I J (mqI (fun rx F1_1 L1 I1 J1 => ((rx = 0) → Q (some (.int 0)) F1_1 L1 I1 J1) ∧ ((¬ rx = 0) → CallP G mX9_within 3 [.int x3, .int 0, .int 6] (pI (fun rx_2 => CallM G mX9_may 3 ad o [.ref o, .int rx_2, .int 2, .int 1] F1_1 L1 I1 J1 (mqI (fun rx_3 F1_4 L1_5 I1_6 J1_7 => ((¬ rx_3 = 0) → CallM G mX9_dayGoes 5 ad o [.ref o, .int x1, .int x2] F1_4 L1_5 I1_6 J1_7 (mqV (fun F1_8 L1_9 I1_10 J1_11 => ((3 ≤ x3) → ((¬ x3 = 3) → ((¬ x3 = 4) → ((¬ x3 = 5) → Q (some (.int ((F1_8 54) - 1))) F1_8 L1_9 I1_10 J1_11) ∧ ((x3 = 5) → Q (some (.int (F1_8 60))) F1_8 L1_9 I1_10 J1_11)) ∧ ((x3 = 4) → Q (some (.int (F1_8 59))) F1_8 L1_9 I1_10 J1_11)) ∧ ((x3 = 3) → Q (some (.int (F1_8 58))) F1_8 L1_9 I1_10 J1_11)) ∧ ((¬ 3 ≤ x3) → ((¬ x3 = 0) → ((¬ x3 = 1) → Q (some (.int (F1_8 53))) F1_8 L1_9 I1_10 J1_11) ∧ ((x3 = 1) → Q (some (.int (F1_8 52))) F1_8 L1_9 I1_10 J1_11)) ∧ ((x3 = 0) → Q (some (.int (F1_8 51))) F1_8 L1_9 I1_10 J1_11))))) ∧ ((rx_3 = 0) → Q (some (.int 0)) F1_4 L1_5 I1_6 J1_7)))))))))) : AtM G mX9_day 6 ad o σ0 Q 0 [(0, .ref o), (1, .int x1), (2, .int x2), (3, .int x3)] [] F L I J := by
  refine m_aload_n dX9_day_0 rfl 0 rfl ?_
  refine m_iconst (v := 0) dX9_day_1 (by decide) ?_
  refine m_putI 0 dX9_day_2 (by decide) q1763 rfl rfl rfl rfl ?_
  refine m_topF (fun F1 eF1 => ?_)
  replace h := h F1 eF1
  refine m_aload_n dX9_day_5 rfl 0 rfl ?_
  refine m_iload_n dX9_day_6 rfl 2 rfl ?_
  refine m_iconst (v := 1) dX9_day_7 (by decide) ?_
  refine m_callV (N := mX9_isVisit) (st := []) (As := [.int x2, .int 1]) dX9_day_8 wsX9_isVisit (lw_V q2147 q2149 qs65 q116 q2150) rfl mokX9_isVisit rfl (by decide) (by decide) (Nat.zero_le _) h (fun _ F1_1 L1 I1 J1 hq => ?_)
  obtain ⟨rx, rfl, h⟩ := hq
  refine AtM.stk (st' := [.int rx]) rfl ?_
  refine m_if_eq (tgt := 30) dX9_day_11 (by decide) (fun c => ?_) (fun c => ?_)
  · replace h := h.1 c
    refine m_iconst (v := 0) dX9_day_30 (by decide) ?_
    exact m_iret rfl dX9_day_31 h
  · replace h := h.2 c
    refine m_aload_n dX9_day_14 rfl 0 rfl ?_
    refine m_iload_n dX9_day_15 rfl 3 rfl ?_
    refine m_iconst (v := 0) dX9_day_16 (by decide) ?_
    refine m_bipush (v := 6) dX9_day_17 (by decide) ?_
    refine m_callP (N := mX9_within) (st := [.ref o]) (As := [.int x3, .int 0, .int 6]) dX9_day_19 wsX9_within (lw_S q2059 q2060 q116 q2061) mokX9_within rfl (by decide) (by decide) (by simp [Value.category]) h (fun _ hq => ?_)
    obtain ⟨rx_2, rfl, h⟩ := hq
    refine AtM.stk (st' := [.int rx_2, .ref o]) rfl ?_
    refine m_iconst (v := 2) dX9_day_22 (by decide) ?_
    refine m_iconst (v := 1) dX9_day_23 (by decide) ?_
    refine m_callV (N := mX9_may) (st := []) (As := [.int rx_2, .int 2, .int 1]) dX9_day_24 wsX9_may (lw_V q1971 q1973 qs38 q116 q1974) rfl mokX9_may rfl (by decide) (by decide) (Nat.zero_le _) h (fun _ F1_4 L1_5 I1_6 J1_7 hq => ?_)
    obtain ⟨rx_3, rfl, h⟩ := hq
    refine AtM.stk (st' := [.int rx_3]) rfl ?_
    refine m_if_ne (tgt := 32) dX9_day_27 (by decide) (fun c => ?_) (fun c => ?_)
    · replace h := h.1 c
      refine m_aload_n dX9_day_32 rfl 0 rfl ?_
      refine m_iload_n dX9_day_33 rfl 1 rfl ?_
      refine m_iload_n dX9_day_34 rfl 2 rfl ?_
      refine m_callV (N := mX9_dayGoes) (st := []) (As := [.int x1, .int x2]) dX9_day_35 wsX9_dayGoes (lw_V q2411 q2413 qs100 q116 q2414) rfl mokX9_dayGoes rfl (by decide) (by decide) (Nat.zero_le _) h (fun _ F1_8 L1_9 I1_10 J1_11 hq => ?_)
      obtain ⟨rfl, h⟩ := hq
      refine AtM.stk (st' := []) rfl ?_
      refine m_iload_n dX9_day_38 rfl 3 rfl ?_
      refine m_iconst (v := 3) dX9_day_39 (by decide) ?_
      refine m_icmp_ge (tgt := 71) dX9_day_40 (by decide) (fun c => ?_) (fun c => ?_)
      · replace h := h.1 c
        refine m_iload_n dX9_day_71 rfl 3 rfl ?_
        refine m_iconst (v := 3) dX9_day_72 (by decide) ?_
        refine m_icmp_ne (tgt := 83) dX9_day_73 (by decide) (fun c => ?_) (fun c => ?_)
        · replace h := h.1 c
          refine m_iload_n dX9_day_83 rfl 3 rfl ?_
          refine m_iconst (v := 4) dX9_day_84 (by decide) ?_
          refine m_icmp_ne (tgt := 95) dX9_day_85 (by decide) (fun c => ?_) (fun c => ?_)
          · replace h := h.1 c
            refine m_iload_n dX9_day_95 rfl 3 rfl ?_
            refine m_iconst (v := 5) dX9_day_96 (by decide) ?_
            refine m_icmp_ne (tgt := 107) dX9_day_97 (by decide) (fun c => ?_) (fun c => ?_)
            · replace h := h.1 c
              refine m_aload_n dX9_day_107 rfl 0 rfl ?_
              refine m_get (v := .int (F1_8 54)) 54 dX9_day_108 (by decide) q1817 rfl ?_
              refine m_iconst (v := 1) dX9_day_111 (by decide) ?_
              refine m_isub dX9_day_112 ?_
              exact m_iret rfl dX9_day_113 h
            · replace h := h.2 c
              refine m_aload_n dX9_day_100 rfl 0 rfl ?_
              refine m_get (v := .int (F1_8 60)) 60 dX9_day_101 (by decide) q1823 rfl ?_
              refine m_goto (tgt := 113) dX9_day_104 (by decide) ?_
              exact m_iret rfl dX9_day_113 h
          · replace h := h.2 c
            refine m_aload_n dX9_day_88 rfl 0 rfl ?_
            refine m_get (v := .int (F1_8 59)) 59 dX9_day_89 (by decide) q1822 rfl ?_
            refine m_goto (tgt := 113) dX9_day_92 (by decide) ?_
            exact m_iret rfl dX9_day_113 h
        · replace h := h.2 c
          refine m_aload_n dX9_day_76 rfl 0 rfl ?_
          refine m_get (v := .int (F1_8 58)) 58 dX9_day_77 (by decide) q1821 rfl ?_
          refine m_goto (tgt := 113) dX9_day_80 (by decide) ?_
          exact m_iret rfl dX9_day_113 h
      · replace h := h.2 c
        refine m_iload_n dX9_day_43 rfl 3 rfl ?_
        refine m_if_ne (tgt := 54) dX9_day_44 (by decide) (fun c => ?_) (fun c => ?_)
        · replace h := h.1 c
          refine m_iload_n dX9_day_54 rfl 3 rfl ?_
          refine m_iconst (v := 1) dX9_day_55 (by decide) ?_
          refine m_icmp_ne (tgt := 66) dX9_day_56 (by decide) (fun c => ?_) (fun c => ?_)
          · replace h := h.1 c
            refine m_aload_n dX9_day_66 rfl 0 rfl ?_
            refine m_get (v := .int (F1_8 53)) 53 dX9_day_67 (by decide) q1816 rfl ?_
            exact m_iret rfl dX9_day_70 h
          · replace h := h.2 c
            refine m_aload_n dX9_day_59 rfl 0 rfl ?_
            refine m_get (v := .int (F1_8 52)) 52 dX9_day_60 (by decide) q1815 rfl ?_
            refine m_goto (tgt := 70) dX9_day_63 (by decide) ?_
            exact m_iret rfl dX9_day_70 h
        · replace h := h.2 c
          refine m_aload_n dX9_day_47 rfl 0 rfl ?_
          refine m_get (v := .int (F1_8 51)) 51 dX9_day_48 (by decide) q1814 rfl ?_
          refine m_goto (tgt := 70) dX9_day_51 (by decide) ?_
          exact m_iret rfl dX9_day_70 h
    · replace h := h.2 c
      refine m_iconst (v := 0) dX9_day_30 (by decide) ?_
      exact m_iret rfl dX9_day_31 h
theorem eX9_day {G : GC} {ad : Nat → Nat} {o : Nat} {Q : MPost} {p1 : Int32} {p2 : Int32} {p3 : Int32} {F : Nat → Int32} {L : Nat → Int64} {I : Nat → Nat → Int32} {J : Nat → Nat → Int64} (h : ∀ σ0, AtM G mX9_day 6 ad o σ0 Q 0 [(0, .ref o), (1, .int p1), (2, .int p2), (3, .int p3)] [] F L I J) : CallM G mX9_day 6 ad o [.ref o, .int p1, .int p2, .int p3] F L I J Q :=
  CallM.of (by decide +kernel) wsX9_day rfl (Nat.le_of_ble_eq_true rfl) (fun σ0 => AtM.sub (ls := [(0, .ref o), (1, .int p1), (2, .int p2), (3, .int p3)]) [0, 1, 2, 3] rfl (h σ0))
set_option maxHeartbeats 4000000 in
theorem bX9_dayGoes_0 {G : GC} {ad : Nat → Nat} {o : Nat} {σ0 : PS} {Q : MPost} {x1 : Int32} {x2 : Int32} {F : Nat → Int32} {L : Nat → Int64} {I : Nat → Nat → Int32} {J : Nat → Nat → Int64} (h : (∀ F1 : Nat → Int32, F1 = fU F 57 x1 → (∀ F1_1 : Nat → Int32, F1_1 = fU F1 58 0 → (∀ F1_2 : Nat → Int32, F1_2 = fU F1_1 59 0 → (∀ F1_3 : Nat → Int32, F1_3 = fU F1_2 60 0 → (∀ F1_4 : Nat → Int32, F1_4 = fU F1_3 51 ((I 11 1)) → (∀ F1_5 : Nat → Int32, F1_5 = fU F1_4 52 ((I 11 2)) → (∀ F1_6 : Nat → Int32, F1_6 = fU F1_5 53 ((I 11 3)) → (∀ F1_7 : Nat → Int32, F1_7 = fU F1_6 54 0 → AtM G mX9_dayGoes 5 ad o σ0 Q 57 [(0, .ref o), (2, .int x2), (3, .int 0)] [] F1_7 L I J))))))))) : AtM G mX9_dayGoes 5 ad o σ0 Q 0 [(0, .ref o), (1, .int x1), (2, .int x2)] [] F L I J := by
  refine m_aload_n dX9_dayGoes_0 rfl 0 rfl ?_
  refine m_iload_n dX9_dayGoes_1 rfl 1 rfl ?_
  refine m_putI 57 dX9_dayGoes_2 (by decide) q1820 rfl rfl rfl rfl ?_
  refine m_topF (fun F1 eF1 => ?_)
  replace h := h F1 eF1
  refine m_aload_n dX9_dayGoes_5 rfl 0 rfl ?_
  refine m_iconst (v := 0) dX9_dayGoes_6 (by decide) ?_
  refine m_putI 58 dX9_dayGoes_7 (by decide) q1821 rfl rfl rfl rfl ?_
  refine m_topF (fun F1_1 eF1_1 => ?_)
  replace h := h F1_1 eF1_1
  refine m_aload_n dX9_dayGoes_10 rfl 0 rfl ?_
  refine m_iconst (v := 0) dX9_dayGoes_11 (by decide) ?_
  refine m_putI 59 dX9_dayGoes_12 (by decide) q1822 rfl rfl rfl rfl ?_
  refine m_topF (fun F1_2 eF1_2 => ?_)
  replace h := h F1_2 eF1_2
  refine m_aload_n dX9_dayGoes_15 rfl 0 rfl ?_
  refine m_iconst (v := 0) dX9_dayGoes_16 (by decide) ?_
  refine m_putI 60 dX9_dayGoes_17 (by decide) q1823 rfl rfl rfl rfl ?_
  refine m_topF (fun F1_3 eF1_3 => ?_)
  replace h := h F1_3 eF1_3
  refine m_aload_n dX9_dayGoes_20 rfl 0 rfl ?_
  refine m_aload_n dX9_dayGoes_21 rfl 0 rfl ?_
  refine m_get (v := .ref (ad 11)) 11 dX9_dayGoes_22 (by decide) q1774 rfl ?_
  refine m_iconst (v := 1) dX9_dayGoes_25 (by decide) ?_
  refine m_iald0 (j := 1) 11 dX9_dayGoes_26 (by decide) rfl (by decide) rfl (Nat.le_of_ble_eq_true rfl) ?_
  refine m_putI 51 dX9_dayGoes_27 (by decide) q1814 rfl rfl rfl rfl ?_
  refine m_topF (fun F1_4 eF1_4 => ?_)
  replace h := h F1_4 eF1_4
  refine m_aload_n dX9_dayGoes_30 rfl 0 rfl ?_
  refine m_aload_n dX9_dayGoes_31 rfl 0 rfl ?_
  refine m_get (v := .ref (ad 11)) 11 dX9_dayGoes_32 (by decide) q1774 rfl ?_
  refine m_iconst (v := 2) dX9_dayGoes_35 (by decide) ?_
  refine m_iald0 (j := 2) 11 dX9_dayGoes_36 (by decide) rfl (by decide) rfl (Nat.le_of_ble_eq_true rfl) ?_
  refine m_putI 52 dX9_dayGoes_37 (by decide) q1815 rfl rfl rfl rfl ?_
  refine m_topF (fun F1_5 eF1_5 => ?_)
  replace h := h F1_5 eF1_5
  refine m_aload_n dX9_dayGoes_40 rfl 0 rfl ?_
  refine m_aload_n dX9_dayGoes_41 rfl 0 rfl ?_
  refine m_get (v := .ref (ad 11)) 11 dX9_dayGoes_42 (by decide) q1774 rfl ?_
  refine m_iconst (v := 3) dX9_dayGoes_45 (by decide) ?_
  refine m_iald0 (j := 3) 11 dX9_dayGoes_46 (by decide) rfl (by decide) rfl (Nat.le_of_ble_eq_true rfl) ?_
  refine m_putI 53 dX9_dayGoes_47 (by decide) q1816 rfl rfl rfl rfl ?_
  refine m_topF (fun F1_6 eF1_6 => ?_)
  replace h := h F1_6 eF1_6
  refine m_aload_n dX9_dayGoes_50 rfl 0 rfl ?_
  refine m_iconst (v := 0) dX9_dayGoes_51 (by decide) ?_
  refine m_putI 54 dX9_dayGoes_52 (by decide) q1817 rfl rfl rfl rfl ?_
  refine m_topF (fun F1_7 eF1_7 => ?_)
  replace h := h F1_7 eF1_7
  refine m_iconst (v := 0) dX9_dayGoes_55 (by decide) ?_
  refine m_istore_n (ls1 := [(3, .int 0), (0, .ref o), (1, .int x1), (2, .int x2)]) dX9_dayGoes_56 rfl (by decide) rfl ?_
  exact AtM.sub (ls := [(3, .int 0), (0, .ref o), (1, .int x1), (2, .int x2)]) [1, 3, 0] rfl h
set_option maxHeartbeats 4000000 in
theorem bX9_dayGoes_57 {G : GC} {ad : Nat → Nat} {o : Nat} {σ0 : PS} {Q : MPost} {x2 : Int32} {x3 : Int32} {F : Nat → Int32} {L : Nat → Int64} {I : Nat → Nat → Int32} {J : Nat → Nat → Int64} (h : ((x2 < x3) → Q none F L I J) ∧ ((¬ x2 < x3) → (∀ F1 : Nat → Int32, F1 = fU F 55 0 → CallM G mX9_draws 3 ad o [.ref o, .int 16] F1 L I J (mqI (fun rx F1_1 L1 I1 J1 => (((I1 11 4) ≤ rx) → AtM G mX9_dayGoes 5 ad o σ0 Q 92 [(0, .ref o), (2, .int x2), (3, .int x3)] [] F1_1 L1 I1 J1) ∧ ((¬ (I1 11 4) ≤ rx) → (∀ F1_2 : Nat → Int32, F1_2 = fU F1_1 53 ((1 - (F1_1 53))) → AtM G mX9_dayGoes 5 ad o σ0 Q 92 [(0, .ref o), (2, .int x2), (3, .int x3)] [] F1_2 L1 I1 J1))))))) : AtM G mX9_dayGoes 5 ad o σ0 Q 57 [(0, .ref o), (2, .int x2), (3, .int x3)] [] F L I J := by
  refine m_iload_n dX9_dayGoes_57 rfl 2 rfl ?_
  refine m_iload_n dX9_dayGoes_58 rfl 1 rfl ?_
  refine m_icmp_gt (tgt := 245) dX9_dayGoes_59 (by decide) (fun c => ?_) (fun c => ?_)
  · replace h := h.1 c
    exact m_vret rfl dX9_dayGoes_245 h
  · replace h := h.2 c
    refine m_aload_n dX9_dayGoes_62 rfl 0 rfl ?_
    refine m_iconst (v := 0) dX9_dayGoes_63 (by decide) ?_
    refine m_putI 55 dX9_dayGoes_64 (by decide) q1818 rfl rfl rfl rfl ?_
    refine m_topF (fun F1 eF1 => ?_)
    replace h := h F1 eF1
    refine m_aload_n dX9_dayGoes_67 rfl 0 rfl ?_
    refine m_bipush (v := 16) dX9_dayGoes_68 (by decide) ?_
    refine m_callV (N := mX9_draws) (st := []) (As := [.int 16]) dX9_dayGoes_70 wsX9_draws (lw_V q2415 q2417 qs101 q116 q2418) rfl mokX9_draws rfl (by decide) (by decide) (Nat.zero_le _) h (fun _ F1_1 L1 I1 J1 hq => ?_)
    obtain ⟨rx, rfl, h⟩ := hq
    refine AtM.stk (st' := [.int rx]) rfl ?_
    refine m_aload_n dX9_dayGoes_73 rfl 0 rfl ?_
    refine m_get (v := .ref (ad 11)) 11 dX9_dayGoes_74 (by decide) q1774 rfl ?_
    refine m_iconst (v := 4) dX9_dayGoes_77 (by decide) ?_
    refine m_iald0 (j := 4) 11 dX9_dayGoes_78 (by decide) rfl (by decide) rfl (Nat.le_of_ble_eq_true rfl) ?_
    refine m_icmp_ge (tgt := 92) dX9_dayGoes_79 (by decide) (fun c => ?_) (fun c => ?_)
    · replace h := h.1 c
      exact AtM.sub (ls := [(0, .ref o), (2, .int x2), (3, .int x3)]) [0, 1, 2] rfl h
    · replace h := h.2 c
      refine m_aload_n dX9_dayGoes_82 rfl 0 rfl ?_
      refine m_iconst (v := 1) dX9_dayGoes_83 (by decide) ?_
      refine m_aload_n dX9_dayGoes_84 rfl 0 rfl ?_
      refine m_get (v := .int (F1_1 53)) 53 dX9_dayGoes_85 (by decide) q1816 rfl ?_
      refine m_isub dX9_dayGoes_88 ?_
      refine m_putI 53 dX9_dayGoes_89 (by decide) q1816 rfl rfl rfl rfl ?_
      refine m_topF (fun F1_2 eF1_2 => ?_)
      replace h := h F1_2 eF1_2
      exact AtM.sub (ls := [(0, .ref o), (2, .int x2), (3, .int x3)]) [0, 1, 2] rfl h
set_option maxHeartbeats 4000000 in
theorem bX9_dayGoes_92 {G : GC} {ad : Nat → Nat} {o : Nat} {σ0 : PS} {Q : MPost} {x2 : Int32} {x3 : Int32} {F : Nat → Int32} {L : Nat → Int64} {I : Nat → Nat → Int32} {J : Nat → Nat → Int64} (h : vp_in x3 24 ∧ ((∀ I1 : Nat → Nat → Int32, I1 = aU I 56 4 ((I 15 x3.toNatClampNeg)) → CallMO G mX9_sinceOf 3 ad o [.ref o, .int x3] F L I1 J (pI (fun rx => (∀ I1_1 : Nat → Nat → Int32, I1_1 = aU I1 56 6 rx → CallMO G mX9_whichOf 3 ad o [.ref o, .int x3] F L I1_1 J (pI (fun rx_2 => (∀ I1_3 : Nat → Nat → Int32, I1_3 = aU I1_1 56 7 rx_2 → AtM G mX9_dayGoes 5 ad o σ0 Q 131 [(0, .ref o), (2, .int x2), (3, .int x3), (4, .int 0)] [] F L I1_3 J))))))))) : AtM G mX9_dayGoes 5 ad o σ0 Q 92 [(0, .ref o), (2, .int x2), (3, .int x3)] [] F L I J := by
  refine m_aload_n dX9_dayGoes_92 rfl 0 rfl ?_
  refine m_get (v := .ref (ad 56)) 56 dX9_dayGoes_93 (by decide) q1819 rfl ?_
  refine m_iconst (v := 4) dX9_dayGoes_96 (by decide) ?_
  refine m_aload_n dX9_dayGoes_97 rfl 0 rfl ?_
  refine m_get (v := .ref (ad 15)) 15 dX9_dayGoes_98 (by decide) q1778 rfl ?_
  refine m_iload_n dX9_dayGoes_101 rfl 2 rfl ?_
  obtain ⟨h1, h⟩ := h
  refine m_iald 15 dX9_dayGoes_102 (by decide) rfl h1 ?_
  refine m_iast0 (j := 4) 56 dX9_dayGoes_103 (by decide) rfl (by decide) rfl (Nat.le_of_ble_eq_true rfl) ?_
  refine m_topI (fun I1 eI1 => ?_)
  replace h := h I1 eI1
  refine m_aload_n dX9_dayGoes_104 rfl 0 rfl ?_
  refine m_get (v := .ref (ad 56)) 56 dX9_dayGoes_105 (by decide) q1819 rfl ?_
  refine m_bipush (v := 6) dX9_dayGoes_108 (by decide) ?_
  refine m_aload_n dX9_dayGoes_110 rfl 0 rfl ?_
  refine m_iload_n dX9_dayGoes_111 rfl 2 rfl ?_
  refine m_callV (N := mX9_sinceOf) (st := [.int 6, .ref (ad 56)]) (As := [.int x3]) dX9_dayGoes_112 wsX9_sinceOf (lw_V q2155 q2157 qs67 q116 q2158) rfl mokX9_sinceOf rfl (by decide) (by decide) (by simp [Value.category]) h (fun _ F9 L9 I9 J9 hq => ?_)
  obtain ⟨e1, e2, e3, e4, hq⟩ := hq
  refine AtM.re e1 e2 e3 e4 ?_
  obtain ⟨rx, rfl, h⟩ := hq
  refine AtM.stk (st' := [.int rx, .int 6, .ref (ad 56)]) rfl ?_
  refine m_iast0 (j := 6) 56 dX9_dayGoes_115 (by decide) rfl (by decide) rfl (Nat.le_of_ble_eq_true rfl) ?_
  refine m_topI (fun I1_1 eI1_1 => ?_)
  replace h := h I1_1 eI1_1
  refine m_aload_n dX9_dayGoes_116 rfl 0 rfl ?_
  refine m_get (v := .ref (ad 56)) 56 dX9_dayGoes_117 (by decide) q1819 rfl ?_
  refine m_bipush (v := 7) dX9_dayGoes_120 (by decide) ?_
  refine m_aload_n dX9_dayGoes_122 rfl 0 rfl ?_
  refine m_iload_n dX9_dayGoes_123 rfl 2 rfl ?_
  refine m_callV (N := mX9_whichOf) (st := [.int 7, .ref (ad 56)]) (As := [.int x3]) dX9_dayGoes_124 wsX9_whichOf (lw_V q2151 q2153 qs66 q116 q2154) rfl mokX9_whichOf rfl (by decide) (by decide) (by simp [Value.category]) h (fun _ F9 L9 I9 J9 hq => ?_)
  obtain ⟨e1, e2, e3, e4, hq⟩ := hq
  refine AtM.re e1 e2 e3 e4 ?_
  obtain ⟨rx_2, rfl, h⟩ := hq
  refine AtM.stk (st' := [.int rx_2, .int 7, .ref (ad 56)]) rfl ?_
  refine m_iast0 (j := 7) 56 dX9_dayGoes_127 (by decide) rfl (by decide) rfl (Nat.le_of_ble_eq_true rfl) ?_
  refine m_topI (fun I1_3 eI1_3 => ?_)
  replace h := h I1_3 eI1_3
  refine m_iconst (v := 0) dX9_dayGoes_128 (by decide) ?_
  refine m_istore (ls1 := [(4, .int 0), (0, .ref o), (2, .int x2), (3, .int x3)]) dX9_dayGoes_129 (by decide) rfl ?_
  exact AtM.sub (ls := [(4, .int 0), (0, .ref o), (2, .int x2), (3, .int x3)]) [1, 2, 3, 0] rfl h
set_option maxHeartbeats 4000000 in
theorem bX9_dayGoes_131 {G : GC} {ad : Nat → Nat} {o : Nat} {σ0 : PS} {Q : MPost} {x2 : Int32} {x3 : Int32} {x4 : Int32} {F : Nat → Int32} {L : Nat → Int64} {I : Nat → Nat → Int32} {J : Nat → Nat → Int64} (h : vp_in x3 24 ∧ (vp_in ((I 14 x3.toNatClampNeg)) 7 ∧ ((((I 27 ((I 14 x3.toNatClampNeg)).toNatClampNeg) ≤ x4) → ∀ v3 : Int32, v3 = x3 + 1 → AtM G mX9_dayGoes 5 ad o σ0 Q 57 [(0, .ref o), (2, .int x2), (3, .int v3)] [] F L I J) ∧ ((¬ (I 27 ((I 14 x3.toNatClampNeg)).toNatClampNeg) ≤ x4) → CallM G mX9_findFacts 4 ad o [.ref o, .int x3] F L I J (mqV (fun F1 L1 I1 J1 => vp_in x3 24 ∧ (CallM G mX9_isSo 4 ad o [.ref o, .int (I1 14 x3.toNatClampNeg), .int x4] F1 L1 I1 J1 (mqI (fun rx F1_1 L1_2 I1_3 J1_4 => ((¬ rx = 0) → vp_in x3 24 ∧ (∀ w : Int32, w = (32 * (I1_3 14 x3.toNatClampNeg)) → vp_in (((w + (4 * x4)) + 1)) 224 ∧ (∀ v5 : Int32, v5 = (I1_3 26 (((w + (4 * x4)) + 1)).toNatClampNeg) → ((v5 = 0) → AtM G mX9_dayGoes 5 ad o σ0 Q 209 [(0, .ref o), (2, .int x2), (3, .int x3), (4, .int x4)] [] F1_1 L1_2 I1_3 J1_4) ∧ ((¬ v5 = 0) → CallM G mX9_draws 3 ad o [.ref o, .int 16] F1_1 L1_2 I1_3 J1_4 (mqI (fun rx_5 F1_6 L1_7 I1_8 J1_9 => ((v5 ≤ rx_5) → ∀ v4 : Int32, v4 = x4 + 1 → AtM G mX9_dayGoes 5 ad o σ0 Q 131 [(0, .ref o), (2, .int x2), (3, .int x3), (4, .int v4)] [] F1_6 L1_7 I1_8 J1_9) ∧ ((¬ v5 ≤ rx_5) → AtM G mX9_dayGoes 5 ad o σ0 Q 209 [(0, .ref o), (2, .int x2), (3, .int x3), (4, .int x4)] [] F1_6 L1_7 I1_8 J1_9))))))) ∧ ((rx = 0) → ∀ v4 : Int32, v4 = x4 + 1 → AtM G mX9_dayGoes 5 ad o σ0 Q 131 [(0, .ref o), (2, .int x2), (3, .int x3), (4, .int v4)] [] F1_1 L1_2 I1_3 J1_4)))))))))) : AtM G mX9_dayGoes 5 ad o σ0 Q 131 [(0, .ref o), (2, .int x2), (3, .int x3), (4, .int x4)] [] F L I J := by
  refine m_iload dX9_dayGoes_131 3 rfl ?_
  refine m_aload_n dX9_dayGoes_133 rfl 0 rfl ?_
  refine m_get (v := .ref (ad 27)) 27 dX9_dayGoes_134 (by decide) q1790 rfl ?_
  refine m_aload_n dX9_dayGoes_137 rfl 0 rfl ?_
  refine m_get (v := .ref (ad 14)) 14 dX9_dayGoes_138 (by decide) q1777 rfl ?_
  refine m_iload_n dX9_dayGoes_141 rfl 2 rfl ?_
  obtain ⟨h1, h⟩ := h
  refine m_iald 14 dX9_dayGoes_142 (by decide) rfl h1 ?_
  obtain ⟨h1, h⟩ := h
  refine m_iald 27 dX9_dayGoes_143 (by decide) rfl h1 ?_
  refine m_icmp_ge (tgt := 239) dX9_dayGoes_144 (by decide) (fun c => ?_) (fun c => ?_)
  · replace h := h.1 c
    obtain ⟨v3, ev3⟩ : ∃ z : Int32, z = x3 + 1 := ⟨_, rfl⟩
    refine m_iinc (v := v3) (ls1 := [(3, .int v3), (0, .ref o), (2, .int x2), (4, .int x4)]) dX9_dayGoes_239 2 rfl (by rw [ev3]; rfl) (by decide) rfl ?_
    replace h := h v3 ev3
    refine m_goto (tgt := 57) dX9_dayGoes_242 (by decide) ?_
    exact AtM.sub (ls := [(3, .int v3), (0, .ref o), (2, .int x2), (4, .int x4)]) [1, 2, 0] rfl h
  · replace h := h.2 c
    refine m_aload_n dX9_dayGoes_147 rfl 0 rfl ?_
    refine m_iload_n dX9_dayGoes_148 rfl 2 rfl ?_
    refine m_callV (N := mX9_findFacts) (st := []) (As := [.int x3]) dX9_dayGoes_149 wsX9_findFacts (lw_V q2228 q2230 qs81 q116 q2231) rfl mokX9_findFacts rfl (by decide) (by decide) (Nat.zero_le _) h (fun _ F1 L1 I1 J1 hq => ?_)
    obtain ⟨rfl, h⟩ := hq
    refine AtM.stk (st' := []) rfl ?_
    refine m_aload_n dX9_dayGoes_152 rfl 0 rfl ?_
    refine m_aload_n dX9_dayGoes_153 rfl 0 rfl ?_
    refine m_get (v := .ref (ad 14)) 14 dX9_dayGoes_154 (by decide) q1777 rfl ?_
    refine m_iload_n dX9_dayGoes_157 rfl 2 rfl ?_
    obtain ⟨h1, h⟩ := h
    refine m_iald 14 dX9_dayGoes_158 (by decide) rfl h1 ?_
    refine m_iload dX9_dayGoes_159 3 rfl ?_
    refine m_callV (N := mX9_isSo) (st := []) (As := [.int (I1 14 x3.toNatClampNeg), .int x4]) dX9_dayGoes_161 wsX9_isSo (lw_V q2232 q2234 qs82 q116 q2235) rfl mokX9_isSo rfl (by decide) (by decide) (Nat.zero_le _) h (fun _ F1_1 L1_2 I1_3 J1_4 hq => ?_)
    obtain ⟨rx, rfl, h⟩ := hq
    refine AtM.stk (st' := [.int rx]) rfl ?_
    refine m_if_ne (tgt := 170) dX9_dayGoes_164 (by decide) (fun c => ?_) (fun c => ?_)
    · replace h := h.1 c
      refine m_aload_n dX9_dayGoes_170 rfl 0 rfl ?_
      refine m_get (v := .ref (ad 26)) 26 dX9_dayGoes_171 (by decide) q1789 rfl ?_
      refine m_bipush (v := 32) dX9_dayGoes_174 (by decide) ?_
      refine m_aload_n dX9_dayGoes_176 rfl 0 rfl ?_
      refine m_get (v := .ref (ad 14)) 14 dX9_dayGoes_177 (by decide) q1777 rfl ?_
      refine m_iload_n dX9_dayGoes_180 rfl 2 rfl ?_
      obtain ⟨h1, h⟩ := h
      refine m_iald 14 dX9_dayGoes_181 (by decide) rfl h1 ?_
      refine m_imul dX9_dayGoes_182 ?_
      refine m_topi (fun w ew => ?_)
      replace h := h w ew
      refine m_iconst (v := 4) dX9_dayGoes_183 (by decide) ?_
      refine m_iload dX9_dayGoes_184 3 rfl ?_
      refine m_imul dX9_dayGoes_186 ?_
      refine m_iadd dX9_dayGoes_187 ?_
      refine m_iconst (v := 1) dX9_dayGoes_188 (by decide) ?_
      refine m_iadd dX9_dayGoes_189 ?_
      obtain ⟨h1, h⟩ := h
      refine m_iald 26 dX9_dayGoes_190 (by decide) rfl h1 ?_
      refine m_topi (fun v5 ev5 => ?_)
      replace h := h v5 ev5
      refine m_istore (ls1 := [(5, .int v5), (0, .ref o), (2, .int x2), (3, .int x3), (4, .int x4)]) dX9_dayGoes_191 (by decide) rfl ?_
      refine m_iload dX9_dayGoes_193 0 rfl ?_
      refine m_if_eq (tgt := 209) dX9_dayGoes_195 (by decide) (fun c => ?_) (fun c => ?_)
      · replace h := h.1 c
        exact AtM.sub (ls := [(5, .int v5), (0, .ref o), (2, .int x2), (3, .int x3), (4, .int x4)]) [1, 2, 3, 4] rfl h
      · replace h := h.2 c
        refine m_aload_n dX9_dayGoes_198 rfl 1 rfl ?_
        refine m_bipush (v := 16) dX9_dayGoes_199 (by decide) ?_
        refine m_callV (N := mX9_draws) (st := []) (As := [.int 16]) dX9_dayGoes_201 wsX9_draws (lw_V q2415 q2417 qs101 q116 q2418) rfl mokX9_draws rfl (by decide) (by decide) (Nat.zero_le _) h (fun _ F1_6 L1_7 I1_8 J1_9 hq => ?_)
        obtain ⟨rx_5, rfl, h⟩ := hq
        refine AtM.stk (st' := [.int rx_5]) rfl ?_
        refine m_iload dX9_dayGoes_204 0 rfl ?_
        refine m_icmp_ge (tgt := 233) dX9_dayGoes_206 (by decide) (fun c => ?_) (fun c => ?_)
        · replace h := h.1 c
          obtain ⟨v4, ev4⟩ : ∃ z : Int32, z = x4 + 1 := ⟨_, rfl⟩
          refine m_iinc (v := v4) (ls1 := [(4, .int v4), (5, .int v5), (0, .ref o), (2, .int x2), (3, .int x3)]) dX9_dayGoes_233 4 rfl (by rw [ev4]; rfl) (by decide) rfl ?_
          replace h := h v4 ev4
          refine m_goto (tgt := 131) dX9_dayGoes_236 (by decide) ?_
          exact AtM.sub (ls := [(4, .int v4), (5, .int v5), (0, .ref o), (2, .int x2), (3, .int x3)]) [2, 3, 4, 0] rfl h
        · replace h := h.2 c
          exact AtM.sub (ls := [(5, .int v5), (0, .ref o), (2, .int x2), (3, .int x3), (4, .int x4)]) [1, 2, 3, 4] rfl h
    · replace h := h.2 c
      refine m_goto (tgt := 233) dX9_dayGoes_167 (by decide) ?_
      obtain ⟨v4, ev4⟩ : ∃ z : Int32, z = x4 + 1 := ⟨_, rfl⟩
      refine m_iinc (v := v4) (ls1 := [(4, .int v4), (0, .ref o), (2, .int x2), (3, .int x3)]) dX9_dayGoes_233 3 rfl (by rw [ev4]; rfl) (by decide) rfl ?_
      replace h := h v4 ev4
      refine m_goto (tgt := 131) dX9_dayGoes_236 (by decide) ?_
      exact AtM.sub (ls := [(4, .int v4), (0, .ref o), (2, .int x2), (3, .int x3)]) [1, 2, 3, 0] rfl h
set_option maxHeartbeats 4000000 in
theorem bX9_dayGoes_209 {G : GC} {ad : Nat → Nat} {o : Nat} {σ0 : PS} {Q : MPost} {x2 : Int32} {x3 : Int32} {x4 : Int32} {F : Nat → Int32} {L : Nat → Int64} {I : Nat → Nat → Int32} {J : Nat → Nat → Int64} (h : vp_in x3 24 ∧ (∀ w : Int32, w = (32 * (I 14 x3.toNatClampNeg)) → vp_in ((w + (4 * x4))) 224 ∧ (CallM G mX9_dayDoes 4 ad o [.ref o, .int (I 26 ((w + (4 * x4))).toNatClampNeg), .int x3] F L I J (mqV (fun F1 L1 I1 J1 => ∀ v4 : Int32, v4 = x4 + 1 → AtM G mX9_dayGoes 5 ad o σ0 Q 131 [(0, .ref o), (2, .int x2), (3, .int x3), (4, .int v4)] [] F1 L1 I1 J1))))) : AtM G mX9_dayGoes 5 ad o σ0 Q 209 [(0, .ref o), (2, .int x2), (3, .int x3), (4, .int x4)] [] F L I J := by
  refine m_aload_n dX9_dayGoes_209 rfl 0 rfl ?_
  refine m_aload_n dX9_dayGoes_210 rfl 0 rfl ?_
  refine m_get (v := .ref (ad 26)) 26 dX9_dayGoes_211 (by decide) q1789 rfl ?_
  refine m_bipush (v := 32) dX9_dayGoes_214 (by decide) ?_
  refine m_aload_n dX9_dayGoes_216 rfl 0 rfl ?_
  refine m_get (v := .ref (ad 14)) 14 dX9_dayGoes_217 (by decide) q1777 rfl ?_
  refine m_iload_n dX9_dayGoes_220 rfl 2 rfl ?_
  obtain ⟨h1, h⟩ := h
  refine m_iald 14 dX9_dayGoes_221 (by decide) rfl h1 ?_
  refine m_imul dX9_dayGoes_222 ?_
  refine m_topi (fun w ew => ?_)
  replace h := h w ew
  refine m_iconst (v := 4) dX9_dayGoes_223 (by decide) ?_
  refine m_iload dX9_dayGoes_224 3 rfl ?_
  refine m_imul dX9_dayGoes_226 ?_
  refine m_iadd dX9_dayGoes_227 ?_
  obtain ⟨h1, h⟩ := h
  refine m_iald 26 dX9_dayGoes_228 (by decide) rfl h1 ?_
  refine m_iload_n dX9_dayGoes_229 rfl 2 rfl ?_
  refine m_callV (N := mX9_dayDoes) (st := []) (As := [.int (I 26 ((w + (4 * x4))).toNatClampNeg), .int x3]) dX9_dayGoes_230 wsX9_dayDoes (lw_V q2420 q2422 qs102 q116 q2423) rfl mokX9_dayDoes rfl (by decide) (by decide) (Nat.zero_le _) h (fun _ F1 L1 I1 J1 hq => ?_)
  obtain ⟨rfl, h⟩ := hq
  refine AtM.stk (st' := []) rfl ?_
  obtain ⟨v4, ev4⟩ : ∃ z : Int32, z = x4 + 1 := ⟨_, rfl⟩
  refine m_iinc (v := v4) (ls1 := [(4, .int v4), (0, .ref o), (2, .int x2), (3, .int x3)]) dX9_dayGoes_233 3 rfl (by rw [ev4]; rfl) (by decide) rfl ?_
  replace h := h v4 ev4
  refine m_goto (tgt := 131) dX9_dayGoes_236 (by decide) ?_
  exact AtM.sub (ls := [(4, .int v4), (0, .ref o), (2, .int x2), (3, .int x3)]) [1, 2, 3, 0] rfl h
theorem eX9_dayGoes {G : GC} {ad : Nat → Nat} {o : Nat} {Q : MPost} {p1 : Int32} {p2 : Int32} {F : Nat → Int32} {L : Nat → Int64} {I : Nat → Nat → Int32} {J : Nat → Nat → Int64} (h : ∀ σ0, AtM G mX9_dayGoes 5 ad o σ0 Q 0 [(0, .ref o), (1, .int p1), (2, .int p2)] [] F L I J) : CallM G mX9_dayGoes 5 ad o [.ref o, .int p1, .int p2] F L I J Q :=
  CallM.of (by decide +kernel) wsX9_dayGoes rfl (Nat.le_of_ble_eq_true rfl) (fun σ0 => AtM.sub (ls := [(0, .ref o), (1, .int p1), (2, .int p2)]) [0, 1, 2] rfl (h σ0))
set_option maxHeartbeats 4000000 in
theorem bX9_draws_0 {G : GC} {ad : Nat → Nat} {o : Nat} {σ0 : PS} {Q : MPost} {x1 : Int32} {F : Nat → Int32} {L : Nat → Int64} {I : Nat → Nat → Int32} {J : Nat → Nat → Int64} (h : ∀ w : Int32, w = (((F 57) * 1103515245) + 12345) → (∀ F1 : Nat → Int32, F1 = fU F 57 w → ∀ w_1 : Int32, w_1 = (((F1 57) >>> (16 &&& 31)) &&& 32767) → ¬ x1 = 0 ∧ (Q (some (.int (w_1 - w_1 / x1 * x1))) F1 L I J))) : AtM G mX9_draws 3 ad o σ0 Q 0 [(0, .ref o), (1, .int x1)] [] F L I J := by
  refine m_aload_n dX9_draws_0 rfl 0 rfl ?_
  refine m_aload_n dX9_draws_1 rfl 0 rfl ?_
  refine m_get (v := .int (F 57)) 57 dX9_draws_2 (by decide) q1820 rfl ?_
  refine m_ldcw dX9_draws_5 q2419 ?_
  refine m_imul dX9_draws_8 ?_
  refine m_sipush (v := 12345) dX9_draws_9 (by decide) ?_
  refine m_iadd dX9_draws_12 ?_
  refine m_topi (fun w ew => ?_)
  replace h := h w ew
  refine m_putI 57 dX9_draws_13 (by decide) q1820 rfl rfl rfl rfl ?_
  refine m_topF (fun F1 eF1 => ?_)
  replace h := h F1 eF1
  refine m_aload_n dX9_draws_16 rfl 0 rfl ?_
  refine m_get (v := .int (F1 57)) 57 dX9_draws_17 (by decide) q1820 rfl ?_
  refine m_bipush (v := 16) dX9_draws_20 (by decide) ?_
  refine m_ishr dX9_draws_22 ?_
  refine m_sipush (v := 32767) dX9_draws_23 (by decide) ?_
  refine m_iand dX9_draws_26 ?_
  refine m_topi (fun w_1 ew_1 => ?_)
  replace h := h w_1 ew_1
  refine m_iload_n dX9_draws_27 rfl 1 rfl ?_
  obtain ⟨hnz, h⟩ := h
  refine m_irem dX9_draws_28 hnz ?_
  exact m_iret rfl dX9_draws_29 h
theorem eX9_draws {G : GC} {ad : Nat → Nat} {o : Nat} {Q : MPost} {p1 : Int32} {F : Nat → Int32} {L : Nat → Int64} {I : Nat → Nat → Int32} {J : Nat → Nat → Int64} (h : ∀ σ0, AtM G mX9_draws 3 ad o σ0 Q 0 [(0, .ref o), (1, .int p1)] [] F L I J) : CallM G mX9_draws 3 ad o [.ref o, .int p1] F L I J Q :=
  CallM.of (by decide +kernel) wsX9_draws rfl (Nat.le_of_ble_eq_true rfl) (fun σ0 => AtM.sub (ls := [(0, .ref o), (1, .int p1)]) [0, 1] rfl (h σ0))
set_option maxHeartbeats 4000000 in
theorem bX9_dayDoes_0 {G : GC} {ad : Nat → Nat} {o : Nat} {σ0 : PS} {Q : MPost} {x1 : Int32} {x2 : Int32} {F : Nat → Int32} {L : Nat → Int64} {I : Nat → Nat → Int32} {J : Nat → Nat → Int64} (h : ∀ v3 : Int32, v3 = ((F 51) + (F 52)) → ((¬ x1 = 0) → ((¬ x1 = 1) → ((¬ x1 = 2) → ((¬ x1 = 3) → ((¬ x1 = 4) → ((¬ x1 = 5) → ((¬ x1 = 6) → (∀ F1 : Nat → Int32, F1 = fU F 53 ((1 - (F 53))) → Q none F1 L I J)) ∧ ((x1 = 6) → (∀ F1 : Nat → Int32, F1 = fU F 53 0 → Q none F1 L I J))) ∧ ((x1 = 5) → (∀ F1 : Nat → Int32, F1 = fU F 53 1 → Q none F1 L I J))) ∧ ((x1 = 4) → (∀ F1 : Nat → Int32, F1 = fU F 51 0 → (∀ F1_1 : Nat → Int32, F1_1 = fU F1 52 0 → Q none F1_1 L I J)))) ∧ ((x1 = 3) → ((¬ v3 = 0) → (∀ F1 : Nat → Int32, F1 = fU F 59 (((F 59) + (F 51))) → (∀ F1_2 : Nat → Int32, F1_2 = fU F1 51 v3 → (∀ F1_3 : Nat → Int32, F1_3 = fU F1_2 52 0 → (∀ F1_4 : Nat → Int32, F1_4 = fU F1_3 54 ((x2 + 1)) → Q none F1_4 L I J))))) ∧ ((v3 = 0) → Q none F L I J))) ∧ ((x1 = 2) → (∀ F1 : Nat → Int32, F1 = fU F 60 (((F 60) + 1)) → (((F1 52) ≤ 0) → Q none F1 L I J) ∧ ((¬ (F1 52) ≤ 0) → CallM G mX9_draws 3 ad o [.ref o, .int 16] F1 L I J (mqI (fun rx F1_5 L1 I1 J1 => (((I1 11 6) ≤ rx) → Q none F1_5 L1 I1 J1) ∧ ((¬ (I1 11 6) ≤ rx) → (∀ F1_6 : Nat → Int32, F1_6 = fU F1_5 55 1 → Q none F1_6 L1 I1 J1)))))))) ∧ ((x1 = 1) → ((¬ v3 = 0) → CallM G mX9_draws 3 ad o [.ref o, .int v3] F L I J (mqI (fun rx F1 L1 I1 J1 => (((F1 52) ≤ rx) → AtM G mX9_dayDoes 4 ad o σ0 Q 68 [(0, .ref o)] [.int 0] F1 L1 I1 J1) ∧ ((¬ (F1 52) ≤ rx) → AtM G mX9_dayDoes 4 ad o σ0 Q 68 [(0, .ref o)] [.int 1] F1 L1 I1 J1)))) ∧ ((v3 = 0) → Q none F L I J))) ∧ ((x1 = 0) → (((I 11 0) ≤ v3) → (∀ F1 : Nat → Int32, F1 = fU F 52 (((F 52) + 0)) → Q none F1 L I J)) ∧ ((¬ (I 11 0) ≤ v3) → (∀ F1 : Nat → Int32, F1 = fU F 52 (((F 52) + 1)) → Q none F1 L I J)))) : AtM G mX9_dayDoes 4 ad o σ0 Q 0 [(0, .ref o), (1, .int x1), (2, .int x2)] [] F L I J := by
  refine m_aload_n dX9_dayDoes_0 rfl 0 rfl ?_
  refine m_get (v := .int (F 51)) 51 dX9_dayDoes_1 (by decide) q1814 rfl ?_
  refine m_aload_n dX9_dayDoes_4 rfl 0 rfl ?_
  refine m_get (v := .int (F 52)) 52 dX9_dayDoes_5 (by decide) q1815 rfl ?_
  refine m_iadd dX9_dayDoes_8 ?_
  refine m_topi (fun v3 ev3 => ?_)
  replace h := h v3 ev3
  refine m_istore_n (ls1 := [(3, .int v3), (0, .ref o), (1, .int x1), (2, .int x2)]) dX9_dayDoes_9 rfl (by decide) rfl ?_
  refine m_iload_n dX9_dayDoes_10 rfl 2 rfl ?_
  refine m_if_ne (tgt := 41) dX9_dayDoes_11 (by decide) (fun c => ?_) (fun c => ?_)
  · replace h := h.1 c
    refine m_iload_n dX9_dayDoes_41 rfl 2 rfl ?_
    refine m_iconst (v := 1) dX9_dayDoes_42 (by decide) ?_
    refine m_icmp_ne (tgt := 130) dX9_dayDoes_43 (by decide) (fun c => ?_) (fun c => ?_)
    · replace h := h.1 c
      refine m_iload_n dX9_dayDoes_130 rfl 2 rfl ?_
      refine m_iconst (v := 2) dX9_dayDoes_131 (by decide) ?_
      refine m_icmp_ne (tgt := 176) dX9_dayDoes_132 (by decide) (fun c => ?_) (fun c => ?_)
      · replace h := h.1 c
        refine m_iload_n dX9_dayDoes_176 rfl 2 rfl ?_
        refine m_iconst (v := 3) dX9_dayDoes_177 (by decide) ?_
        refine m_icmp_ne (tgt := 219) dX9_dayDoes_178 (by decide) (fun c => ?_) (fun c => ?_)
        · replace h := h.1 c
          refine m_iload_n dX9_dayDoes_219 rfl 2 rfl ?_
          refine m_iconst (v := 4) dX9_dayDoes_220 (by decide) ?_
          refine m_icmp_ne (tgt := 237) dX9_dayDoes_221 (by decide) (fun c => ?_) (fun c => ?_)
          · replace h := h.1 c
            refine m_aload_n dX9_dayDoes_237 rfl 1 rfl ?_
            refine m_iload_n dX9_dayDoes_238 rfl 2 rfl ?_
            refine m_iconst (v := 5) dX9_dayDoes_239 (by decide) ?_
            refine m_icmp_ne (tgt := 247) dX9_dayDoes_240 (by decide) (fun c => ?_) (fun c => ?_)
            · replace h := h.1 c
              refine m_iload_n dX9_dayDoes_247 rfl 2 rfl ?_
              refine m_bipush (v := 6) dX9_dayDoes_248 (by decide) ?_
              refine m_icmp_ne (tgt := 257) dX9_dayDoes_250 (by decide) (fun c => ?_) (fun c => ?_)
              · replace h := h.1 c
                refine m_iconst (v := 1) dX9_dayDoes_257 (by decide) ?_
                refine m_aload_n dX9_dayDoes_258 rfl 1 rfl ?_
                refine m_get (v := .int (F 53)) 53 dX9_dayDoes_259 (by decide) q1816 rfl ?_
                refine m_isub dX9_dayDoes_262 ?_
                refine m_putI 53 dX9_dayDoes_263 (by decide) q1816 rfl rfl rfl rfl ?_
                refine m_topF (fun F1 eF1 => ?_)
                replace h := h F1 eF1
                exact m_vret rfl dX9_dayDoes_266 h
              · replace h := h.2 c
                refine m_iconst (v := 0) dX9_dayDoes_253 (by decide) ?_
                refine m_goto (tgt := 263) dX9_dayDoes_254 (by decide) ?_
                refine m_putI 53 dX9_dayDoes_263 (by decide) q1816 rfl rfl rfl rfl ?_
                refine m_topF (fun F1 eF1 => ?_)
                replace h := h F1 eF1
                exact m_vret rfl dX9_dayDoes_266 h
            · replace h := h.2 c
              refine m_iconst (v := 1) dX9_dayDoes_243 (by decide) ?_
              refine m_goto (tgt := 263) dX9_dayDoes_244 (by decide) ?_
              refine m_putI 53 dX9_dayDoes_263 (by decide) q1816 rfl rfl rfl rfl ?_
              refine m_topF (fun F1 eF1 => ?_)
              replace h := h F1 eF1
              exact m_vret rfl dX9_dayDoes_266 h
          · replace h := h.2 c
            refine m_aload_n dX9_dayDoes_224 rfl 1 rfl ?_
            refine m_iconst (v := 0) dX9_dayDoes_225 (by decide) ?_
            refine m_putI 51 dX9_dayDoes_226 (by decide) q1814 rfl rfl rfl rfl ?_
            refine m_topF (fun F1 eF1 => ?_)
            replace h := h F1 eF1
            refine m_aload_n dX9_dayDoes_229 rfl 1 rfl ?_
            refine m_iconst (v := 0) dX9_dayDoes_230 (by decide) ?_
            refine m_putI 52 dX9_dayDoes_231 (by decide) q1815 rfl rfl rfl rfl ?_
            refine m_topF (fun F1_1 eF1_1 => ?_)
            replace h := h F1_1 eF1_1
            refine m_goto (tgt := 266) dX9_dayDoes_234 (by decide) ?_
            exact m_vret rfl dX9_dayDoes_266 h
        · replace h := h.2 c
          refine m_iload_n dX9_dayDoes_181 rfl 0 rfl ?_
          refine m_if_ne (tgt := 186) dX9_dayDoes_182 (by decide) (fun c => ?_) (fun c => ?_)
          · replace h := h.1 c
            refine m_aload_n dX9_dayDoes_186 rfl 1 rfl ?_
            refine m_dup dX9_dayDoes_187 rfl ?_
            refine m_get (v := .int (F 59)) 59 dX9_dayDoes_188 (by decide) q1822 rfl ?_
            refine m_aload_n dX9_dayDoes_191 rfl 1 rfl ?_
            refine m_get (v := .int (F 51)) 51 dX9_dayDoes_192 (by decide) q1814 rfl ?_
            refine m_iadd dX9_dayDoes_195 ?_
            refine m_putI 59 dX9_dayDoes_196 (by decide) q1822 rfl rfl rfl rfl ?_
            refine m_topF (fun F1 eF1 => ?_)
            replace h := h F1 eF1
            refine m_aload_n dX9_dayDoes_199 rfl 1 rfl ?_
            refine m_iload_n dX9_dayDoes_200 rfl 0 rfl ?_
            refine m_putI 51 dX9_dayDoes_201 (by decide) q1814 rfl rfl rfl rfl ?_
            refine m_topF (fun F1_2 eF1_2 => ?_)
            replace h := h F1_2 eF1_2
            refine m_aload_n dX9_dayDoes_204 rfl 1 rfl ?_
            refine m_iconst (v := 0) dX9_dayDoes_205 (by decide) ?_
            refine m_putI 52 dX9_dayDoes_206 (by decide) q1815 rfl rfl rfl rfl ?_
            refine m_topF (fun F1_3 eF1_3 => ?_)
            replace h := h F1_3 eF1_3
            refine m_aload_n dX9_dayDoes_209 rfl 1 rfl ?_
            refine m_iload_n dX9_dayDoes_210 rfl 3 rfl ?_
            refine m_iconst (v := 1) dX9_dayDoes_211 (by decide) ?_
            refine m_iadd dX9_dayDoes_212 ?_
            refine m_putI 54 dX9_dayDoes_213 (by decide) q1817 rfl rfl rfl rfl ?_
            refine m_topF (fun F1_4 eF1_4 => ?_)
            replace h := h F1_4 eF1_4
            refine m_goto (tgt := 266) dX9_dayDoes_216 (by decide) ?_
            exact m_vret rfl dX9_dayDoes_266 h
          · replace h := h.2 c
            exact m_vret rfl dX9_dayDoes_185 h
      · replace h := h.2 c
        refine m_aload_n dX9_dayDoes_135 rfl 1 rfl ?_
        refine m_dup dX9_dayDoes_136 rfl ?_
        refine m_get (v := .int (F 60)) 60 dX9_dayDoes_137 (by decide) q1823 rfl ?_
        refine m_iconst (v := 1) dX9_dayDoes_140 (by decide) ?_
        refine m_iadd dX9_dayDoes_141 ?_
        refine m_putI 60 dX9_dayDoes_142 (by decide) q1823 rfl rfl rfl rfl ?_
        refine m_topF (fun F1 eF1 => ?_)
        replace h := h F1 eF1
        refine m_aload_n dX9_dayDoes_145 rfl 1 rfl ?_
        refine m_get (v := .int (F1 52)) 52 dX9_dayDoes_146 (by decide) q1815 rfl ?_
        refine m_if_le (tgt := 266) dX9_dayDoes_149 (by decide) (fun c => ?_) (fun c => ?_)
        · replace h := h.1 c
          exact m_vret rfl dX9_dayDoes_266 h
        · replace h := h.2 c
          refine m_aload_n dX9_dayDoes_152 rfl 1 rfl ?_
          refine m_bipush (v := 16) dX9_dayDoes_153 (by decide) ?_
          refine m_callV (N := mX9_draws) (st := []) (As := [.int 16]) dX9_dayDoes_155 wsX9_draws (lw_V q2415 q2417 qs101 q116 q2418) rfl mokX9_draws rfl (by decide) (by decide) (Nat.zero_le _) h (fun _ F1_5 L1 I1 J1 hq => ?_)
          obtain ⟨rx, rfl, h⟩ := hq
          refine AtM.stk (st' := [.int rx]) rfl ?_
          refine m_aload_n dX9_dayDoes_158 rfl 1 rfl ?_
          refine m_get (v := .ref (ad 11)) 11 dX9_dayDoes_159 (by decide) q1774 rfl ?_
          refine m_bipush (v := 6) dX9_dayDoes_162 (by decide) ?_
          refine m_iald0 (j := 6) 11 dX9_dayDoes_164 (by decide) rfl (by decide) rfl (Nat.le_of_ble_eq_true rfl) ?_
          refine m_icmp_ge (tgt := 266) dX9_dayDoes_165 (by decide) (fun c => ?_) (fun c => ?_)
          · replace h := h.1 c
            exact m_vret rfl dX9_dayDoes_266 h
          · replace h := h.2 c
            refine m_aload_n dX9_dayDoes_168 rfl 1 rfl ?_
            refine m_iconst (v := 1) dX9_dayDoes_169 (by decide) ?_
            refine m_putI 55 dX9_dayDoes_170 (by decide) q1818 rfl rfl rfl rfl ?_
            refine m_topF (fun F1_6 eF1_6 => ?_)
            replace h := h F1_6 eF1_6
            refine m_goto (tgt := 266) dX9_dayDoes_173 (by decide) ?_
            exact m_vret rfl dX9_dayDoes_266 h
    · replace h := h.2 c
      refine m_iload_n dX9_dayDoes_46 rfl 0 rfl ?_
      refine m_if_ne (tgt := 51) dX9_dayDoes_47 (by decide) (fun c => ?_) (fun c => ?_)
      · replace h := h.1 c
        refine m_aload_n dX9_dayDoes_51 rfl 1 rfl ?_
        refine m_iload_n dX9_dayDoes_52 rfl 0 rfl ?_
        refine m_callV (N := mX9_draws) (st := []) (As := [.int v3]) dX9_dayDoes_53 wsX9_draws (lw_V q2415 q2417 qs101 q116 q2418) rfl mokX9_draws rfl (by decide) (by decide) (Nat.zero_le _) h (fun _ F1 L1 I1 J1 hq => ?_)
        obtain ⟨rx, rfl, h⟩ := hq
        refine AtM.stk (st' := [.int rx]) rfl ?_
        refine m_aload_n dX9_dayDoes_56 rfl 1 rfl ?_
        refine m_get (v := .int (F1 52)) 52 dX9_dayDoes_57 (by decide) q1815 rfl ?_
        refine m_icmp_ge (tgt := 67) dX9_dayDoes_60 (by decide) (fun c => ?_) (fun c => ?_)
        · replace h := h.1 c
          refine m_iconst (v := 0) dX9_dayDoes_67 (by decide) ?_
          exact AtM.sub (ls := [(3, .int v3), (0, .ref o), (1, .int x1), (2, .int x2)]) [1] rfl h
        · replace h := h.2 c
          refine m_iconst (v := 1) dX9_dayDoes_63 (by decide) ?_
          refine m_goto (tgt := 68) dX9_dayDoes_64 (by decide) ?_
          exact AtM.sub (ls := [(3, .int v3), (0, .ref o), (1, .int x1), (2, .int x2)]) [1] rfl h
      · replace h := h.2 c
        exact m_vret rfl dX9_dayDoes_50 h
  · replace h := h.2 c
    refine m_aload_n dX9_dayDoes_14 rfl 1 rfl ?_
    refine m_dup dX9_dayDoes_15 rfl ?_
    refine m_get (v := .int (F 52)) 52 dX9_dayDoes_16 (by decide) q1815 rfl ?_
    refine m_iload_n dX9_dayDoes_19 rfl 0 rfl ?_
    refine m_aload_n dX9_dayDoes_20 rfl 1 rfl ?_
    refine m_get (v := .ref (ad 11)) 11 dX9_dayDoes_21 (by decide) q1774 rfl ?_
    refine m_iconst (v := 0) dX9_dayDoes_24 (by decide) ?_
    refine m_iald0 (j := 0) 11 dX9_dayDoes_25 (by decide) rfl (by decide) rfl (Nat.le_of_ble_eq_true rfl) ?_
    refine m_icmp_ge (tgt := 33) dX9_dayDoes_26 (by decide) (fun c => ?_) (fun c => ?_)
    · replace h := h.1 c
      refine m_iconst (v := 0) dX9_dayDoes_33 (by decide) ?_
      refine m_iadd dX9_dayDoes_34 ?_
      refine m_putI 52 dX9_dayDoes_35 (by decide) q1815 rfl rfl rfl rfl ?_
      refine m_topF (fun F1 eF1 => ?_)
      replace h := h F1 eF1
      refine m_goto (tgt := 266) dX9_dayDoes_38 (by decide) ?_
      exact m_vret rfl dX9_dayDoes_266 h
    · replace h := h.2 c
      refine m_iconst (v := 1) dX9_dayDoes_29 (by decide) ?_
      refine m_goto (tgt := 34) dX9_dayDoes_30 (by decide) ?_
      refine m_iadd dX9_dayDoes_34 ?_
      refine m_putI 52 dX9_dayDoes_35 (by decide) q1815 rfl rfl rfl rfl ?_
      refine m_topF (fun F1 eF1 => ?_)
      replace h := h F1 eF1
      refine m_goto (tgt := 266) dX9_dayDoes_38 (by decide) ?_
      exact m_vret rfl dX9_dayDoes_266 h
set_option maxHeartbeats 4000000 in
theorem bX9_dayDoes_68 {G : GC} {ad : Nat → Nat} {o : Nat} {σ0 : PS} {Q : MPost} {sx0 : Int32} {F : Nat → Int32} {L : Nat → Int64} {I : Nat → Nat → Int32} {J : Nat → Nat → Int64} (h : ((sx0 = 0) → (∀ F1 : Nat → Int32, F1 = fU F 58 (((F 58) + 0)) → ((sx0 = 0) → AtM G mX9_dayDoes 4 ad o σ0 Q 104 [(0, .ref o), (4, .int sx0)] [.int 0, .int (F1 52), .ref o] F1 L I J) ∧ ((¬ sx0 = 0) → AtM G mX9_dayDoes 4 ad o σ0 Q 104 [(0, .ref o), (4, .int sx0)] [.int 1, .int (F1 52), .ref o] F1 L I J))) ∧ ((¬ sx0 = 0) → (∀ F1 : Nat → Int32, F1 = fU F 58 (((F 58) + 1)) → ((sx0 = 0) → AtM G mX9_dayDoes 4 ad o σ0 Q 104 [(0, .ref o), (4, .int sx0)] [.int 0, .int (F1 52), .ref o] F1 L I J) ∧ ((¬ sx0 = 0) → AtM G mX9_dayDoes 4 ad o σ0 Q 104 [(0, .ref o), (4, .int sx0)] [.int 1, .int (F1 52), .ref o] F1 L I J)))) : AtM G mX9_dayDoes 4 ad o σ0 Q 68 [(0, .ref o)] [.int sx0] F L I J := by
  refine m_istore (ls1 := [(4, .int sx0), (0, .ref o)]) dX9_dayDoes_68 (by decide) rfl ?_
  refine m_aload_n dX9_dayDoes_70 rfl 1 rfl ?_
  refine m_dup dX9_dayDoes_71 rfl ?_
  refine m_get (v := .int (F 58)) 58 dX9_dayDoes_72 (by decide) q1821 rfl ?_
  refine m_iload dX9_dayDoes_75 0 rfl ?_
  refine m_if_eq (tgt := 84) dX9_dayDoes_77 (by decide) (fun c => ?_) (fun c => ?_)
  · replace h := h.1 c
    refine m_iconst (v := 0) dX9_dayDoes_84 (by decide) ?_
    refine m_iadd dX9_dayDoes_85 ?_
    refine m_putI 58 dX9_dayDoes_86 (by decide) q1821 rfl rfl rfl rfl ?_
    refine m_topF (fun F1 eF1 => ?_)
    replace h := h F1 eF1
    refine m_aload_n dX9_dayDoes_89 rfl 1 rfl ?_
    refine m_dup dX9_dayDoes_90 rfl ?_
    refine m_get (v := .int (F1 52)) 52 dX9_dayDoes_91 (by decide) q1815 rfl ?_
    refine m_iload dX9_dayDoes_94 0 rfl ?_
    refine m_if_eq (tgt := 103) dX9_dayDoes_96 (by decide) (fun c => ?_) (fun c => ?_)
    · replace h := h.1 c
      refine m_iconst (v := 0) dX9_dayDoes_103 (by decide) ?_
      exact AtM.sub (ls := [(4, .int sx0), (0, .ref o)]) [1, 0] rfl h
    · replace h := h.2 c
      refine m_iconst (v := 1) dX9_dayDoes_99 (by decide) ?_
      refine m_goto (tgt := 104) dX9_dayDoes_100 (by decide) ?_
      exact AtM.sub (ls := [(4, .int sx0), (0, .ref o)]) [1, 0] rfl h
  · replace h := h.2 c
    refine m_iconst (v := 1) dX9_dayDoes_80 (by decide) ?_
    refine m_goto (tgt := 85) dX9_dayDoes_81 (by decide) ?_
    refine m_iadd dX9_dayDoes_85 ?_
    refine m_putI 58 dX9_dayDoes_86 (by decide) q1821 rfl rfl rfl rfl ?_
    refine m_topF (fun F1 eF1 => ?_)
    replace h := h F1 eF1
    refine m_aload_n dX9_dayDoes_89 rfl 1 rfl ?_
    refine m_dup dX9_dayDoes_90 rfl ?_
    refine m_get (v := .int (F1 52)) 52 dX9_dayDoes_91 (by decide) q1815 rfl ?_
    refine m_iload dX9_dayDoes_94 0 rfl ?_
    refine m_if_eq (tgt := 103) dX9_dayDoes_96 (by decide) (fun c => ?_) (fun c => ?_)
    · replace h := h.1 c
      refine m_iconst (v := 0) dX9_dayDoes_103 (by decide) ?_
      exact AtM.sub (ls := [(4, .int sx0), (0, .ref o)]) [1, 0] rfl h
    · replace h := h.2 c
      refine m_iconst (v := 1) dX9_dayDoes_99 (by decide) ?_
      refine m_goto (tgt := 104) dX9_dayDoes_100 (by decide) ?_
      exact AtM.sub (ls := [(4, .int sx0), (0, .ref o)]) [1, 0] rfl h
set_option maxHeartbeats 4000000 in
theorem bX9_dayDoes_104 {G : GC} {ad : Nat → Nat} {o : Nat} {σ0 : PS} {Q : MPost} {x4 : Int32} {sx1 : Int32} {sx2 : Int32} {F : Nat → Int32} {L : Nat → Int64} {I : Nat → Nat → Int32} {J : Nat → Nat → Int64} (h : (∀ F1 : Nat → Int32, F1 = fU F 52 ((sx1 - sx2)) → ((x4 = 0) → (∀ F1_1 : Nat → Int32, F1_1 = fU F1 51 (((F1 51) - 1)) → Q none F1_1 L I J)) ∧ ((¬ x4 = 0) → (∀ F1_2 : Nat → Int32, F1_2 = fU F1 51 (((F1 51) - 0)) → Q none F1_2 L I J)))) : AtM G mX9_dayDoes 4 ad o σ0 Q 104 [(0, .ref o), (4, .int x4)] [.int sx2, .int sx1, .ref o] F L I J := by
  refine m_isub dX9_dayDoes_104 ?_
  refine m_putI 52 dX9_dayDoes_105 (by decide) q1815 rfl rfl rfl rfl ?_
  refine m_topF (fun F1 eF1 => ?_)
  replace h := h F1 eF1
  refine m_aload_n dX9_dayDoes_108 rfl 0 rfl ?_
  refine m_dup dX9_dayDoes_109 rfl ?_
  refine m_get (v := .int (F1 51)) 51 dX9_dayDoes_110 (by decide) q1814 rfl ?_
  refine m_iload dX9_dayDoes_113 1 rfl ?_
  refine m_if_eq (tgt := 122) dX9_dayDoes_115 (by decide) (fun c => ?_) (fun c => ?_)
  · replace h := h.1 c
    refine m_iconst (v := 1) dX9_dayDoes_122 (by decide) ?_
    refine m_isub dX9_dayDoes_123 ?_
    refine m_putI 51 dX9_dayDoes_124 (by decide) q1814 rfl rfl rfl rfl ?_
    refine m_topF (fun F1_1 eF1_1 => ?_)
    replace h := h F1_1 eF1_1
    refine m_goto (tgt := 266) dX9_dayDoes_127 (by decide) ?_
    exact m_vret rfl dX9_dayDoes_266 h
  · replace h := h.2 c
    refine m_iconst (v := 0) dX9_dayDoes_118 (by decide) ?_
    refine m_goto (tgt := 123) dX9_dayDoes_119 (by decide) ?_
    refine m_isub dX9_dayDoes_123 ?_
    refine m_putI 51 dX9_dayDoes_124 (by decide) q1814 rfl rfl rfl rfl ?_
    refine m_topF (fun F1_2 eF1_2 => ?_)
    replace h := h F1_2 eF1_2
    refine m_goto (tgt := 266) dX9_dayDoes_127 (by decide) ?_
    exact m_vret rfl dX9_dayDoes_266 h
theorem eX9_dayDoes {G : GC} {ad : Nat → Nat} {o : Nat} {Q : MPost} {p1 : Int32} {p2 : Int32} {F : Nat → Int32} {L : Nat → Int64} {I : Nat → Nat → Int32} {J : Nat → Nat → Int64} (h : ∀ σ0, AtM G mX9_dayDoes 4 ad o σ0 Q 0 [(0, .ref o), (1, .int p1), (2, .int p2)] [] F L I J) : CallM G mX9_dayDoes 4 ad o [.ref o, .int p1, .int p2] F L I J Q :=
  CallM.of (by decide +kernel) wsX9_dayDoes rfl (Nat.le_of_ble_eq_true rfl) (fun σ0 => AtM.sub (ls := [(0, .ref o), (1, .int p1), (2, .int p2)]) [0, 1, 2] rfl (h σ0))
set_option maxHeartbeats 4000000 in
theorem bX9_span_0 {G : GC} {ad : Nat → Nat} {o : Nat} {σ0 : PS} {Q : MPost} {x1 : Int32} {x2 : Int32} {x3 : Int32} {F : Nat → Int32} {L : Nat → Int64} {I : Nat → Nat → Int32} {J : Nat → Nat → Int64} (h : (∀ F1 : Nat → Int32, F1 = fU F 0 0 → CallP G mX9_within 3 [.int x2, .int 1, .int 40] (pI (fun rx => ((rx = 0) → AtM G mX9_span 6 ad o σ0 Q 30 [(0, .ref o), (1, .int x1), (2, .int x2), (3, .int x3)] [.int 0, .ref o] F1 L I J) ∧ ((¬ rx = 0) → CallP G mX9_within 3 [.int x3, .int 0, .int 2] (pI (fun rx_1 => ((rx_1 = 0) → AtM G mX9_span 6 ad o σ0 Q 30 [(0, .ref o), (1, .int x1), (2, .int x2), (3, .int x3)] [.int 0, .ref o] F1 L I J) ∧ ((¬ rx_1 = 0) → AtM G mX9_span 6 ad o σ0 Q 30 [(0, .ref o), (1, .int x1), (2, .int x2), (3, .int x3)] [.int 1, .ref o] F1 L I J)))))))) : AtM G mX9_span 6 ad o σ0 Q 0 [(0, .ref o), (1, .int x1), (2, .int x2), (3, .int x3)] [] F L I J := by
  refine m_aload_n dX9_span_0 rfl 0 rfl ?_
  refine m_iconst (v := 0) dX9_span_1 (by decide) ?_
  refine m_putI 0 dX9_span_2 (by decide) q1763 rfl rfl rfl rfl ?_
  refine m_topF (fun F1 eF1 => ?_)
  replace h := h F1 eF1
  refine m_aload_n dX9_span_5 rfl 0 rfl ?_
  refine m_iload_n dX9_span_6 rfl 2 rfl ?_
  refine m_iconst (v := 1) dX9_span_7 (by decide) ?_
  refine m_bipush (v := 40) dX9_span_8 (by decide) ?_
  refine m_callP (N := mX9_within) (st := [.ref o]) (As := [.int x2, .int 1, .int 40]) dX9_span_10 wsX9_within (lw_S q2059 q2060 q116 q2061) mokX9_within rfl (by decide) (by decide) (by simp [Value.category]) h (fun _ hq => ?_)
  obtain ⟨rx, rfl, h⟩ := hq
  refine AtM.stk (st' := [.int rx, .ref o]) rfl ?_
  refine m_if_eq (tgt := 29) dX9_span_13 (by decide) (fun c => ?_) (fun c => ?_)
  · replace h := h.1 c
    refine m_iconst (v := 0) dX9_span_29 (by decide) ?_
    exact AtM.sub (ls := [(0, .ref o), (1, .int x1), (2, .int x2), (3, .int x3)]) [0, 1, 2, 3] rfl h
  · replace h := h.2 c
    refine m_iload_n dX9_span_16 rfl 3 rfl ?_
    refine m_iconst (v := 0) dX9_span_17 (by decide) ?_
    refine m_iconst (v := 2) dX9_span_18 (by decide) ?_
    refine m_callP (N := mX9_within) (st := [.ref o]) (As := [.int x3, .int 0, .int 2]) dX9_span_19 wsX9_within (lw_S q2059 q2060 q116 q2061) mokX9_within rfl (by decide) (by decide) (by simp [Value.category]) h (fun _ hq => ?_)
    obtain ⟨rx_1, rfl, h⟩ := hq
    refine AtM.stk (st' := [.int rx_1, .ref o]) rfl ?_
    refine m_if_eq (tgt := 29) dX9_span_22 (by decide) (fun c => ?_) (fun c => ?_)
    · replace h := h.1 c
      refine m_iconst (v := 0) dX9_span_29 (by decide) ?_
      exact AtM.sub (ls := [(0, .ref o), (1, .int x1), (2, .int x2), (3, .int x3)]) [0, 1, 2, 3] rfl h
    · replace h := h.2 c
      refine m_iconst (v := 1) dX9_span_25 (by decide) ?_
      refine m_goto (tgt := 30) dX9_span_26 (by decide) ?_
      exact AtM.sub (ls := [(0, .ref o), (1, .int x1), (2, .int x2), (3, .int x3)]) [0, 1, 2, 3] rfl h
set_option maxHeartbeats 4000000 in
theorem bX9_span_30 {G : GC} {ad : Nat → Nat} {o : Nat} {σ0 : PS} {Q : MPost} {x1 : Int32} {x2 : Int32} {x3 : Int32} {sx1 : Int32} {F : Nat → Int32} {L : Nat → Int64} {I : Nat → Nat → Int32} {J : Nat → Nat → Int64} (h : CallM G mX9_may 3 ad o [.ref o, .int sx1, .int 1, .int 1] F L I J (mqI (fun rx F1 L1 I1 J1 => ((¬ rx = 0) → AtM G mX9_span 6 ad o σ0 Q 52 [(0, .ref o), (1, .int x1), (2, .int x2), (3, .int x3), (4, .int 0), (5, .int 0), (6, .int 0), (7, .int 0)] [] F1 L1 I1 J1) ∧ ((rx = 0) → Q (some (.int 0)) F1 L1 I1 J1)))) : AtM G mX9_span 6 ad o σ0 Q 30 [(0, .ref o), (1, .int x1), (2, .int x2), (3, .int x3)] [.int sx1, .ref o] F L I J := by
  refine m_iconst (v := 1) dX9_span_30 (by decide) ?_
  refine m_iconst (v := 1) dX9_span_31 (by decide) ?_
  refine m_callV (N := mX9_may) (st := []) (As := [.int sx1, .int 1, .int 1]) dX9_span_32 wsX9_may (lw_V q1971 q1973 qs38 q116 q1974) rfl mokX9_may rfl (by decide) (by decide) (Nat.zero_le _) h (fun _ F1 L1 I1 J1 hq => ?_)
  obtain ⟨rx, rfl, h⟩ := hq
  refine AtM.stk (st' := [.int rx]) rfl ?_
  refine m_if_ne (tgt := 40) dX9_span_35 (by decide) (fun c => ?_) (fun c => ?_)
  · replace h := h.1 c
    refine m_iconst (v := 0) dX9_span_40 (by decide) ?_
    refine m_istore (ls1 := [(4, .int 0), (0, .ref o), (1, .int x1), (2, .int x2), (3, .int x3)]) dX9_span_41 (by decide) rfl ?_
    refine m_iconst (v := 0) dX9_span_43 (by decide) ?_
    refine m_istore (ls1 := [(5, .int 0), (4, .int 0), (0, .ref o), (1, .int x1), (2, .int x2), (3, .int x3)]) dX9_span_44 (by decide) rfl ?_
    refine m_iconst (v := 0) dX9_span_46 (by decide) ?_
    refine m_istore (ls1 := [(6, .int 0), (5, .int 0), (4, .int 0), (0, .ref o), (1, .int x1), (2, .int x2), (3, .int x3)]) dX9_span_47 (by decide) rfl ?_
    refine m_iconst (v := 0) dX9_span_49 (by decide) ?_
    refine m_istore (ls1 := [(7, .int 0), (6, .int 0), (5, .int 0), (4, .int 0), (0, .ref o), (1, .int x1), (2, .int x2), (3, .int x3)]) dX9_span_50 (by decide) rfl ?_
    exact AtM.sub (ls := [(7, .int 0), (6, .int 0), (5, .int 0), (4, .int 0), (0, .ref o), (1, .int x1), (2, .int x2), (3, .int x3)]) [4, 5, 6, 7, 3, 2, 1, 0] rfl h
  · replace h := h.2 c
    refine m_iconst (v := 0) dX9_span_38 (by decide) ?_
    exact m_iret rfl dX9_span_39 h
set_option maxHeartbeats 4000000 in
theorem bX9_span_52 {G : GC} {ad : Nat → Nat} {o : Nat} {σ0 : PS} {Q : MPost} {x1 : Int32} {x2 : Int32} {x3 : Int32} {x4 : Int32} {x5 : Int32} {x6 : Int32} {x7 : Int32} {F : Nat → Int32} {L : Nat → Int64} {I : Nat → Nat → Int32} {J : Nat → Nat → Int64} (h : ((x2 ≤ x7) → ((¬ x3 = 0) → ((¬ x3 = 1) → Q (some (.int x6)) F L I J) ∧ ((x3 = 1) → Q (some (.int x5)) F L I J)) ∧ ((x3 = 0) → Q (some (.int x4)) F L I J)) ∧ ((¬ x2 ≤ x7) → CallM G mX9_dayGoes 5 ad o [.ref o, .int (x1 + x7), .int ((F 19) - 1)] F L I J (mqV (fun F1 L1 I1 J1 => CallMO G mX9_isOf 4 ad o [.ref o, .int 1, .int 0] F1 L1 I1 J1 (pI (fun rx => ((rx = 0) → AtM G mX9_span 6 ad o σ0 Q 88 [(0, .ref o), (1, .int x1), (2, .int x2), (3, .int x3), (5, .int x5), (6, .int x6), (7, .int x7)] [.int 0, .int x4] F1 L1 I1 J1) ∧ ((¬ rx = 0) → AtM G mX9_span 6 ad o σ0 Q 88 [(0, .ref o), (1, .int x1), (2, .int x2), (3, .int x3), (5, .int x5), (6, .int x6), (7, .int x7)] [.int 1, .int x4] F1 L1 I1 J1))))))) : AtM G mX9_span 6 ad o σ0 Q 52 [(0, .ref o), (1, .int x1), (2, .int x2), (3, .int x3), (4, .int x4), (5, .int x5), (6, .int x6), (7, .int x7)] [] F L I J := by
  refine m_iload dX9_span_52 7 rfl ?_
  refine m_iload_n dX9_span_54 rfl 2 rfl ?_
  refine m_icmp_ge (tgt := 126) dX9_span_55 (by decide) (fun c => ?_) (fun c => ?_)
  · replace h := h.1 c
    refine m_iload_n dX9_span_126 rfl 3 rfl ?_
    refine m_if_ne (tgt := 135) dX9_span_127 (by decide) (fun c => ?_) (fun c => ?_)
    · replace h := h.1 c
      refine m_iload_n dX9_span_135 rfl 3 rfl ?_
      refine m_iconst (v := 1) dX9_span_136 (by decide) ?_
      refine m_icmp_ne (tgt := 145) dX9_span_137 (by decide) (fun c => ?_) (fun c => ?_)
      · replace h := h.1 c
        refine m_iload dX9_span_145 6 rfl ?_
        exact m_iret rfl dX9_span_147 h
      · replace h := h.2 c
        refine m_iload dX9_span_140 5 rfl ?_
        refine m_goto (tgt := 147) dX9_span_142 (by decide) ?_
        exact m_iret rfl dX9_span_147 h
    · replace h := h.2 c
      refine m_iload dX9_span_130 4 rfl ?_
      refine m_goto (tgt := 147) dX9_span_132 (by decide) ?_
      exact m_iret rfl dX9_span_147 h
  · replace h := h.2 c
    refine m_aload_n dX9_span_58 rfl 0 rfl ?_
    refine m_iload_n dX9_span_59 rfl 1 rfl ?_
    refine m_iload dX9_span_60 7 rfl ?_
    refine m_iadd dX9_span_62 ?_
    refine m_aload_n dX9_span_63 rfl 0 rfl ?_
    refine m_get (v := .int (F 19)) 19 dX9_span_64 (by decide) q1782 rfl ?_
    refine m_iconst (v := 1) dX9_span_67 (by decide) ?_
    refine m_isub dX9_span_68 ?_
    refine m_callV (N := mX9_dayGoes) (st := []) (As := [.int (x1 + x7), .int ((F 19) - 1)]) dX9_span_69 wsX9_dayGoes (lw_V q2411 q2413 qs100 q116 q2414) rfl mokX9_dayGoes rfl (by decide) (by decide) (Nat.zero_le _) h (fun _ F1 L1 I1 J1 hq => ?_)
    obtain ⟨rfl, h⟩ := hq
    refine AtM.stk (st' := []) rfl ?_
    refine m_iload dX9_span_72 4 rfl ?_
    refine m_aload_n dX9_span_74 rfl 0 rfl ?_
    refine m_iconst (v := 1) dX9_span_75 (by decide) ?_
    refine m_iconst (v := 0) dX9_span_76 (by decide) ?_
    refine m_callV (N := mX9_isOf) (st := [.int x4]) (As := [.int 1, .int 0]) dX9_span_77 wsX9_isOf (lw_V q2259 q2261 qs88 q116 q2262) rfl mokX9_isOf rfl (by decide) (by decide) (by simp [Value.category]) h (fun _ F9 L9 I9 J9 hq => ?_)
    obtain ⟨e1, e2, e3, e4, hq⟩ := hq
    refine AtM.re e1 e2 e3 e4 ?_
    obtain ⟨rx, rfl, h⟩ := hq
    refine AtM.stk (st' := [.int rx, .int x4]) rfl ?_
    refine m_if_eq (tgt := 87) dX9_span_80 (by decide) (fun c => ?_) (fun c => ?_)
    · replace h := h.1 c
      refine m_iconst (v := 0) dX9_span_87 (by decide) ?_
      exact AtM.sub (ls := [(0, .ref o), (1, .int x1), (2, .int x2), (3, .int x3), (4, .int x4), (5, .int x5), (6, .int x6), (7, .int x7)]) [0, 1, 2, 3, 5, 6, 7] rfl h
    · replace h := h.2 c
      refine m_iconst (v := 1) dX9_span_83 (by decide) ?_
      refine m_goto (tgt := 88) dX9_span_84 (by decide) ?_
      exact AtM.sub (ls := [(0, .ref o), (1, .int x1), (2, .int x2), (3, .int x3), (4, .int x4), (5, .int x5), (6, .int x6), (7, .int x7)]) [0, 1, 2, 3, 5, 6, 7] rfl h
set_option maxHeartbeats 4000000 in
theorem bX9_span_88 {G : GC} {ad : Nat → Nat} {o : Nat} {σ0 : PS} {Q : MPost} {x1 : Int32} {x2 : Int32} {x3 : Int32} {x5 : Int32} {x6 : Int32} {x7 : Int32} {sx0 : Int32} {sx1 : Int32} {F : Nat → Int32} {L : Nat → Int64} {I : Nat → Nat → Int32} {J : Nat → Nat → Int64} (h : ∀ v4 : Int32, v4 = (sx0 + sx1) → ∀ v5 : Int32, v5 = (x5 + (F 58)) → (((F 58) ≤ x6) → ∀ v7 : Int32, v7 = x7 + 1 → AtM G mX9_span 6 ad o σ0 Q 52 [(0, .ref o), (1, .int x1), (2, .int x2), (3, .int x3), (4, .int v4), (5, .int v5), (6, .int x6), (7, .int v7)] [] F L I J) ∧ ((¬ (F 58) ≤ x6) → ∀ v7 : Int32, v7 = x7 + 1 → AtM G mX9_span 6 ad o σ0 Q 52 [(0, .ref o), (1, .int x1), (2, .int x2), (3, .int x3), (4, .int v4), (5, .int v5), (6, .int (F 58)), (7, .int v7)] [] F L I J)) : AtM G mX9_span 6 ad o σ0 Q 88 [(0, .ref o), (1, .int x1), (2, .int x2), (3, .int x3), (5, .int x5), (6, .int x6), (7, .int x7)] [.int sx1, .int sx0] F L I J := by
  refine m_iadd dX9_span_88 ?_
  refine m_topi (fun v4 ev4 => ?_)
  replace h := h v4 ev4
  refine m_istore (ls1 := [(4, .int v4), (0, .ref o), (1, .int x1), (2, .int x2), (3, .int x3), (5, .int x5), (6, .int x6), (7, .int x7)]) dX9_span_89 (by decide) rfl ?_
  refine m_iload dX9_span_91 5 rfl ?_
  refine m_aload_n dX9_span_93 rfl 1 rfl ?_
  refine m_get (v := .int (F 58)) 58 dX9_span_94 (by decide) q1821 rfl ?_
  refine m_iadd dX9_span_97 ?_
  refine m_topi (fun v5 ev5 => ?_)
  replace h := h v5 ev5
  refine m_istore (ls1 := [(5, .int v5), (4, .int v4), (0, .ref o), (1, .int x1), (2, .int x2), (3, .int x3), (6, .int x6), (7, .int x7)]) dX9_span_98 (by decide) rfl ?_
  refine m_aload_n dX9_span_100 rfl 2 rfl ?_
  refine m_get (v := .int (F 58)) 58 dX9_span_101 (by decide) q1821 rfl ?_
  refine m_iload dX9_span_104 6 rfl ?_
  refine m_icmp_le (tgt := 116) dX9_span_106 (by decide) (fun c => ?_) (fun c => ?_)
  · replace h := h.1 c
    refine m_iload dX9_span_116 6 rfl ?_
    refine m_istore (ls1 := [(6, .int x6), (5, .int v5), (4, .int v4), (0, .ref o), (1, .int x1), (2, .int x2), (3, .int x3), (7, .int x7)]) dX9_span_118 (by decide) rfl ?_
    obtain ⟨v7, ev7⟩ : ∃ z : Int32, z = x7 + 1 := ⟨_, rfl⟩
    refine m_iinc (v := v7) (ls1 := [(7, .int v7), (6, .int x6), (5, .int v5), (4, .int v4), (0, .ref o), (1, .int x1), (2, .int x2), (3, .int x3)]) dX9_span_120 7 rfl (by rw [ev7]; rfl) (by decide) rfl ?_
    replace h := h v7 ev7
    refine m_goto (tgt := 52) dX9_span_123 (by decide) ?_
    exact AtM.sub (ls := [(7, .int v7), (6, .int x6), (5, .int v5), (4, .int v4), (0, .ref o), (1, .int x1), (2, .int x2), (3, .int x3)]) [4, 5, 6, 7, 3, 2, 1, 0] rfl h
  · replace h := h.2 c
    refine m_aload_n dX9_span_109 rfl 2 rfl ?_
    refine m_get (v := .int (F 58)) 58 dX9_span_110 (by decide) q1821 rfl ?_
    refine m_goto (tgt := 118) dX9_span_113 (by decide) ?_
    refine m_istore (ls1 := [(6, .int (F 58)), (5, .int v5), (4, .int v4), (0, .ref o), (1, .int x1), (2, .int x2), (3, .int x3), (7, .int x7)]) dX9_span_118 (by decide) rfl ?_
    obtain ⟨v7, ev7⟩ : ∃ z : Int32, z = x7 + 1 := ⟨_, rfl⟩
    refine m_iinc (v := v7) (ls1 := [(7, .int v7), (6, .int (F 58)), (5, .int v5), (4, .int v4), (0, .ref o), (1, .int x1), (2, .int x2), (3, .int x3)]) dX9_span_120 7 rfl (by rw [ev7]; rfl) (by decide) rfl ?_
    replace h := h v7 ev7
    refine m_goto (tgt := 52) dX9_span_123 (by decide) ?_
    exact AtM.sub (ls := [(7, .int v7), (6, .int (F 58)), (5, .int v5), (4, .int v4), (0, .ref o), (1, .int x1), (2, .int x2), (3, .int x3)]) [4, 5, 6, 7, 3, 2, 1, 0] rfl h
theorem eX9_span {G : GC} {ad : Nat → Nat} {o : Nat} {Q : MPost} {p1 : Int32} {p2 : Int32} {p3 : Int32} {F : Nat → Int32} {L : Nat → Int64} {I : Nat → Nat → Int32} {J : Nat → Nat → Int64} (h : ∀ σ0, AtM G mX9_span 6 ad o σ0 Q 0 [(0, .ref o), (1, .int p1), (2, .int p2), (3, .int p3)] [] F L I J) : CallM G mX9_span 6 ad o [.ref o, .int p1, .int p2, .int p3] F L I J Q :=
  CallM.of (by decide +kernel) wsX9_span rfl (Nat.le_of_ble_eq_true rfl) (fun σ0 => AtM.sub (ls := [(0, .ref o), (1, .int p1), (2, .int p2), (3, .int p3)]) [0, 1, 2, 3] rfl (h σ0))
set_option maxHeartbeats 4000000 in
theorem bX9_come_0 {G : GC} {ad : Nat → Nat} {o : Nat} {σ0 : PS} {Q : MPost} {x1 : Int32} {x2 : Int32} {F : Nat → Int32} {L : Nat → Int64} {I : Nat → Nat → Int32} {J : Nat → Nat → Int64} (h : (∀ F1 : Nat → Int32, F1 = fU F 0 0 → CallM G mX9_isPerson 4 ad o [.ref o, .int x1, .int 1] F1 L I J (mqI (fun rx F1_1 L1 I1 J1 => ((rx = 0) → Q (some (.int 0)) F1_1 L1 I1 J1) ∧ ((¬ rx = 0) → CallP G mX9_within 3 [.int x2, .int 0, .int 480] (pI (fun rx_2 => CallM G mX9_may 3 ad o [.ref o, .int rx_2, .int 2, .int 1] F1_1 L1 I1 J1 (mqI (fun rx_3 F1_4 L1_5 I1_6 J1_7 => ((¬ rx_3 = 0) → (((F1_4 19) = 24) → Q (some (.int (-1))) F1_4 L1_5 I1_6 J1_7) ∧ ((¬ (F1_4 19) = 24) → ((¬ (F1_4 62) = 20) → CallM G mX9_keepsVisits 3 ad o [.ref o] F1_4 L1_5 I1_6 J1_7 (mqV (fun F1_8 L1_9 I1_10 J1_11 => CallM G mX9_puts 3 ad o [.ref o, .ref (ad 14), .ref (ad 15), .int (F1_8 19), .int x1, .int x2] F1_8 L1_9 I1_10 J1_11 (mqI (fun rx_12 F1_13 L1_14 I1_15 J1_16 => (∀ F1_17 : Nat → Int32, F1_17 = fU F1_13 19 (((F1_13 19) + 1)) → Q (some (.int rx_12)) F1_17 L1_14 I1_15 J1_16)))))) ∧ (((F1_4 62) = 20) → Q (some (.int (-1))) F1_4 L1_5 I1_6 J1_7))) ∧ ((rx_3 = 0) → Q (some (.int 0)) F1_4 L1_5 I1_6 J1_7)))))))))) : AtM G mX9_come 5 ad o σ0 Q 0 [(0, .ref o), (1, .int x1), (2, .int x2)] [] F L I J := by
  refine m_aload_n dX9_come_0 rfl 0 rfl ?_
  refine m_iconst (v := 0) dX9_come_1 (by decide) ?_
  refine m_putI 0 dX9_come_2 (by decide) q1763 rfl rfl rfl rfl ?_
  refine m_topF (fun F1 eF1 => ?_)
  replace h := h F1 eF1
  refine m_aload_n dX9_come_5 rfl 0 rfl ?_
  refine m_iload_n dX9_come_6 rfl 1 rfl ?_
  refine m_iconst (v := 1) dX9_come_7 (by decide) ?_
  refine m_callV (N := mX9_isPerson) (st := []) (As := [.int x1, .int 1]) dX9_come_8 wsX9_isPerson (lw_V q2055 q2057 qs53 q116 q2058) rfl mokX9_isPerson rfl (by decide) (by decide) (Nat.zero_le _) h (fun _ F1_1 L1 I1 J1 hq => ?_)
  obtain ⟨rx, rfl, h⟩ := hq
  refine AtM.stk (st' := [.int rx]) rfl ?_
  refine m_if_eq (tgt := 31) dX9_come_11 (by decide) (fun c => ?_) (fun c => ?_)
  · replace h := h.1 c
    refine m_iconst (v := 0) dX9_come_31 (by decide) ?_
    exact m_iret rfl dX9_come_32 h
  · replace h := h.2 c
    refine m_aload_n dX9_come_14 rfl 0 rfl ?_
    refine m_iload_n dX9_come_15 rfl 2 rfl ?_
    refine m_iconst (v := 0) dX9_come_16 (by decide) ?_
    refine m_sipush (v := 480) dX9_come_17 (by decide) ?_
    refine m_callP (N := mX9_within) (st := [.ref o]) (As := [.int x2, .int 0, .int 480]) dX9_come_20 wsX9_within (lw_S q2059 q2060 q116 q2061) mokX9_within rfl (by decide) (by decide) (by simp [Value.category]) h (fun _ hq => ?_)
    obtain ⟨rx_2, rfl, h⟩ := hq
    refine AtM.stk (st' := [.int rx_2, .ref o]) rfl ?_
    refine m_iconst (v := 2) dX9_come_23 (by decide) ?_
    refine m_iconst (v := 1) dX9_come_24 (by decide) ?_
    refine m_callV (N := mX9_may) (st := []) (As := [.int rx_2, .int 2, .int 1]) dX9_come_25 wsX9_may (lw_V q1971 q1973 qs38 q116 q1974) rfl mokX9_may rfl (by decide) (by decide) (Nat.zero_le _) h (fun _ F1_4 L1_5 I1_6 J1_7 hq => ?_)
    obtain ⟨rx_3, rfl, h⟩ := hq
    refine AtM.stk (st' := [.int rx_3]) rfl ?_
    refine m_if_ne (tgt := 33) dX9_come_28 (by decide) (fun c => ?_) (fun c => ?_)
    · replace h := h.1 c
      refine m_aload_n dX9_come_33 rfl 0 rfl ?_
      refine m_get (v := .int (F1_4 19)) 19 dX9_come_34 (by decide) q1782 rfl ?_
      refine m_bipush (v := 24) dX9_come_37 (by decide) ?_
      refine m_icmp_eq (tgt := 51) dX9_come_39 (by decide) (fun c => ?_) (fun c => ?_)
      · replace h := h.1 c
        refine m_iconst (v := (-1)) dX9_come_51 (by decide) ?_
        exact m_iret rfl dX9_come_52 h
      · replace h := h.2 c
        refine m_aload_n dX9_come_42 rfl 0 rfl ?_
        refine m_get (v := .int (F1_4 62)) 62 dX9_come_43 (by decide) q1825 rfl ?_
        refine m_bipush (v := 20) dX9_come_46 (by decide) ?_
        refine m_icmp_ne (tgt := 53) dX9_come_48 (by decide) (fun c => ?_) (fun c => ?_)
        · replace h := h.1 c
          refine m_aload_n dX9_come_53 rfl 0 rfl ?_
          refine m_callV (N := mX9_keepsVisits) (st := []) (As := []) dX9_come_54 wsX9_keepsVisits (lw_V q2432 q2434 qs103 q116 q2435) rfl mokX9_keepsVisits rfl (by decide) (by decide) (Nat.zero_le _) h (fun _ F1_8 L1_9 I1_10 J1_11 hq => ?_)
          obtain ⟨rfl, h⟩ := hq
          refine AtM.stk (st' := []) rfl ?_
          refine m_aload_n dX9_come_57 rfl 0 rfl ?_
          refine m_aload_n dX9_come_58 rfl 0 rfl ?_
          refine m_get (v := .ref (ad 14)) 14 dX9_come_59 (by decide) q1777 rfl ?_
          refine m_aload_n dX9_come_62 rfl 0 rfl ?_
          refine m_get (v := .ref (ad 15)) 15 dX9_come_63 (by decide) q1778 rfl ?_
          refine m_aload_n dX9_come_66 rfl 0 rfl ?_
          refine m_get (v := .int (F1_8 19)) 19 dX9_come_67 (by decide) q1782 rfl ?_
          refine m_iload_n dX9_come_70 rfl 1 rfl ?_
          refine m_iload_n dX9_come_71 rfl 2 rfl ?_
          refine m_callV (N := mX9_puts) (st := []) (As := [.ref (ad 14), .ref (ad 15), .int (F1_8 19), .int x1, .int x2]) dX9_come_72 wsX9_puts (lw_V q2039 q2041 qs50 q116 q2042) rfl mokX9_puts rfl (by decide) (by decide) (Nat.zero_le _) h (fun _ F1_13 L1_14 I1_15 J1_16 hq => ?_)
          obtain ⟨rx_12, rfl, h⟩ := hq
          refine AtM.stk (st' := [.int rx_12]) rfl ?_
          refine m_istore_n (ls1 := [(3, .int rx_12), (0, .ref o), (1, .int x1), (2, .int x2)]) dX9_come_75 rfl (by decide) rfl ?_
          refine m_aload_n dX9_come_76 rfl 1 rfl ?_
          refine m_dup dX9_come_77 rfl ?_
          refine m_get (v := .int (F1_13 19)) 19 dX9_come_78 (by decide) q1782 rfl ?_
          refine m_iconst (v := 1) dX9_come_81 (by decide) ?_
          refine m_iadd dX9_come_82 ?_
          refine m_putI 19 dX9_come_83 (by decide) q1782 rfl rfl rfl rfl ?_
          refine m_topF (fun F1_17 eF1_17 => ?_)
          replace h := h F1_17 eF1_17
          refine m_iload_n dX9_come_86 rfl 0 rfl ?_
          exact m_iret rfl dX9_come_87 h
        · replace h := h.2 c
          refine m_iconst (v := (-1)) dX9_come_51 (by decide) ?_
          exact m_iret rfl dX9_come_52 h
    · replace h := h.2 c
      refine m_iconst (v := 0) dX9_come_31 (by decide) ?_
      exact m_iret rfl dX9_come_32 h
theorem eX9_come {G : GC} {ad : Nat → Nat} {o : Nat} {Q : MPost} {p1 : Int32} {p2 : Int32} {F : Nat → Int32} {L : Nat → Int64} {I : Nat → Nat → Int32} {J : Nat → Nat → Int64} (h : ∀ σ0, AtM G mX9_come 5 ad o σ0 Q 0 [(0, .ref o), (1, .int p1), (2, .int p2)] [] F L I J) : CallM G mX9_come 5 ad o [.ref o, .int p1, .int p2] F L I J Q :=
  CallM.of (by decide +kernel) wsX9_come rfl (Nat.le_of_ble_eq_true rfl) (fun σ0 => AtM.sub (ls := [(0, .ref o), (1, .int p1), (2, .int p2)]) [0, 1, 2] rfl (h σ0))
set_option maxHeartbeats 4000000 in
theorem bX9_keepsVisits_0 {G : GC} {ad : Nat → Nat} {o : Nat} {σ0 : PS} {Q : MPost} {F : Nat → Int32} {L : Nat → Int64} {I : Nat → Nat → Int32} {J : Nat → Nat → Int64} (h : AtM G mX9_keepsVisits 3 ad o σ0 Q 2 [(0, .ref o), (1, .int 0)] [] F L I J) : AtM G mX9_keepsVisits 3 ad o σ0 Q 0 [(0, .ref o)] [] F L I J := by
  refine m_iconst (v := 0) dX9_keepsVisits_0 (by decide) ?_
  refine m_istore_n (ls1 := [(1, .int 0), (0, .ref o)]) dX9_keepsVisits_1 rfl (by decide) rfl ?_
  exact AtM.sub (ls := [(1, .int 0), (0, .ref o)]) [1, 0] rfl h
set_option maxHeartbeats 4000000 in
theorem bX9_keepsVisits_2 {G : GC} {ad : Nat → Nat} {o : Nat} {σ0 : PS} {Q : MPost} {x1 : Int32} {F : Nat → Int32} {L : Nat → Int64} {I : Nat → Nat → Int32} {J : Nat → Nat → Int64} (h : ((24 ≤ x1) → vp_in (((49 * (F 62)) + 48)) 980 ∧ (∀ I1 : Nat → Nat → Int32, I1 = aU I 61 (((49 * (F 62)) + 48)).toNatClampNeg (F 19) → (∀ F1 : Nat → Int32, F1 = fU F 62 (((F 62) + 1)) → Q none F1 L I1 J))) ∧ ((¬ 24 ≤ x1) → vp_in x1 24 ∧ (vp_in (((49 * (F 62)) + x1)) 980 ∧ (∀ I1 : Nat → Nat → Int32, I1 = aU I 61 (((49 * (F 62)) + x1)).toNatClampNeg ((I 14 x1.toNatClampNeg)) → ∀ w : Int32, w = (((49 * (F 62)) + 24) + x1) → vp_in x1 24 ∧ (vp_in w 980 ∧ (∀ I1_1 : Nat → Nat → Int32, I1_1 = aU I1 61 w.toNatClampNeg ((I1 15 x1.toNatClampNeg)) → ∀ v1 : Int32, v1 = x1 + 1 → AtM G mX9_keepsVisits 3 ad o σ0 Q 2 [(0, .ref o), (1, .int v1)] [] F L I1_1 J)))))) : AtM G mX9_keepsVisits 3 ad o σ0 Q 2 [(0, .ref o), (1, .int x1)] [] F L I J := by
  refine m_iload_n dX9_keepsVisits_2 rfl 1 rfl ?_
  refine m_bipush (v := 24) dX9_keepsVisits_3 (by decide) ?_
  refine m_icmp_ge (tgt := 57) dX9_keepsVisits_5 (by decide) (fun c => ?_) (fun c => ?_)
  · replace h := h.1 c
    refine m_aload_n dX9_keepsVisits_57 rfl 0 rfl ?_
    refine m_get (v := .ref (ad 61)) 61 dX9_keepsVisits_58 (by decide) q1824 rfl ?_
    refine m_bipush (v := 49) dX9_keepsVisits_61 (by decide) ?_
    refine m_aload_n dX9_keepsVisits_63 rfl 0 rfl ?_
    refine m_get (v := .int (F 62)) 62 dX9_keepsVisits_64 (by decide) q1825 rfl ?_
    refine m_imul dX9_keepsVisits_67 ?_
    refine m_bipush (v := 48) dX9_keepsVisits_68 (by decide) ?_
    refine m_iadd dX9_keepsVisits_70 ?_
    refine m_aload_n dX9_keepsVisits_71 rfl 0 rfl ?_
    refine m_get (v := .int (F 19)) 19 dX9_keepsVisits_72 (by decide) q1782 rfl ?_
    obtain ⟨h1, h⟩ := h
    refine m_iast 61 dX9_keepsVisits_75 (by decide) rfl h1 ?_
    refine m_topI (fun I1 eI1 => ?_)
    replace h := h I1 eI1
    refine m_aload_n dX9_keepsVisits_76 rfl 0 rfl ?_
    refine m_dup dX9_keepsVisits_77 rfl ?_
    refine m_get (v := .int (F 62)) 62 dX9_keepsVisits_78 (by decide) q1825 rfl ?_
    refine m_iconst (v := 1) dX9_keepsVisits_81 (by decide) ?_
    refine m_iadd dX9_keepsVisits_82 ?_
    refine m_putI 62 dX9_keepsVisits_83 (by decide) q1825 rfl rfl rfl rfl ?_
    refine m_topF (fun F1 eF1 => ?_)
    replace h := h F1 eF1
    exact m_vret rfl dX9_keepsVisits_86 h
  · replace h := h.2 c
    refine m_aload_n dX9_keepsVisits_8 rfl 0 rfl ?_
    refine m_get (v := .ref (ad 61)) 61 dX9_keepsVisits_9 (by decide) q1824 rfl ?_
    refine m_bipush (v := 49) dX9_keepsVisits_12 (by decide) ?_
    refine m_aload_n dX9_keepsVisits_14 rfl 0 rfl ?_
    refine m_get (v := .int (F 62)) 62 dX9_keepsVisits_15 (by decide) q1825 rfl ?_
    refine m_imul dX9_keepsVisits_18 ?_
    refine m_iload_n dX9_keepsVisits_19 rfl 1 rfl ?_
    refine m_iadd dX9_keepsVisits_20 ?_
    refine m_aload_n dX9_keepsVisits_21 rfl 0 rfl ?_
    refine m_get (v := .ref (ad 14)) 14 dX9_keepsVisits_22 (by decide) q1777 rfl ?_
    refine m_iload_n dX9_keepsVisits_25 rfl 1 rfl ?_
    obtain ⟨h1, h⟩ := h
    refine m_iald 14 dX9_keepsVisits_26 (by decide) rfl h1 ?_
    obtain ⟨h1, h⟩ := h
    refine m_iast 61 dX9_keepsVisits_27 (by decide) rfl h1 ?_
    refine m_topI (fun I1 eI1 => ?_)
    replace h := h I1 eI1
    refine m_aload_n dX9_keepsVisits_28 rfl 0 rfl ?_
    refine m_get (v := .ref (ad 61)) 61 dX9_keepsVisits_29 (by decide) q1824 rfl ?_
    refine m_bipush (v := 49) dX9_keepsVisits_32 (by decide) ?_
    refine m_aload_n dX9_keepsVisits_34 rfl 0 rfl ?_
    refine m_get (v := .int (F 62)) 62 dX9_keepsVisits_35 (by decide) q1825 rfl ?_
    refine m_imul dX9_keepsVisits_38 ?_
    refine m_bipush (v := 24) dX9_keepsVisits_39 (by decide) ?_
    refine m_iadd dX9_keepsVisits_41 ?_
    refine m_iload_n dX9_keepsVisits_42 rfl 1 rfl ?_
    refine m_iadd dX9_keepsVisits_43 ?_
    refine m_topi (fun w ew => ?_)
    replace h := h w ew
    refine m_aload_n dX9_keepsVisits_44 rfl 0 rfl ?_
    refine m_get (v := .ref (ad 15)) 15 dX9_keepsVisits_45 (by decide) q1778 rfl ?_
    refine m_iload_n dX9_keepsVisits_48 rfl 1 rfl ?_
    obtain ⟨h1, h⟩ := h
    refine m_iald 15 dX9_keepsVisits_49 (by decide) rfl h1 ?_
    obtain ⟨h1, h⟩ := h
    refine m_iast 61 dX9_keepsVisits_50 (by decide) rfl h1 ?_
    refine m_topI (fun I1_1 eI1_1 => ?_)
    replace h := h I1_1 eI1_1
    obtain ⟨v1, ev1⟩ : ∃ z : Int32, z = x1 + 1 := ⟨_, rfl⟩
    refine m_iinc (v := v1) (ls1 := [(1, .int v1), (0, .ref o)]) dX9_keepsVisits_51 1 rfl (by rw [ev1]; rfl) (by decide) rfl ?_
    replace h := h v1 ev1
    refine m_goto (tgt := 2) dX9_keepsVisits_54 (by decide) ?_
    exact AtM.sub (ls := [(1, .int v1), (0, .ref o)]) [1, 0] rfl h
theorem eX9_keepsVisits {G : GC} {ad : Nat → Nat} {o : Nat} {Q : MPost} {F : Nat → Int32} {L : Nat → Int64} {I : Nat → Nat → Int32} {J : Nat → Nat → Int64} (h : ∀ σ0, AtM G mX9_keepsVisits 3 ad o σ0 Q 0 [(0, .ref o)] [] F L I J) : CallM G mX9_keepsVisits 3 ad o [.ref o] F L I J Q :=
  CallM.of (by decide +kernel) wsX9_keepsVisits rfl (Nat.le_of_ble_eq_true rfl) (fun σ0 => AtM.sub (ls := [(0, .ref o)]) [0] rfl (h σ0))
set_option maxHeartbeats 4000000 in
theorem bX9_skip_0 {G : GC} {ad : Nat → Nat} {o : Nat} {σ0 : PS} {Q : MPost} {x1 : Int32} {F : Nat → Int32} {L : Nat → Int64} {I : Nat → Nat → Int32} {J : Nat → Nat → Int64} (h : (∀ F1 : Nat → Int32, F1 = fU F 0 0 → CallM G mX9_isVisit 4 ad o [.ref o, .int x1, .int 1] F1 L I J (mqI (fun rx F1_1 L1 I1 J1 => ((¬ rx = 0) → ((¬ (F1_1 62) = 20) → CallM G mX9_keepsVisits 3 ad o [.ref o] F1_1 L1 I1 J1 (mqV (fun F1_2 L1_3 I1_4 J1_5 => CallM G mX9_leaves 3 ad o [.ref o, .int x1] F1_2 L1_3 I1_4 J1_5 (mqV (fun F1_6 L1_7 I1_8 J1_9 => Q (some (.int (F1_6 19))) F1_6 L1_7 I1_8 J1_9))))) ∧ (((F1_1 62) = 20) → Q (some (.int (-1))) F1_1 L1 I1 J1)) ∧ ((rx = 0) → Q (some (.int 0)) F1_1 L1 I1 J1))))) : AtM G mX9_skip 5 ad o σ0 Q 0 [(0, .ref o), (1, .int x1)] [] F L I J := by
  refine m_aload_n dX9_skip_0 rfl 0 rfl ?_
  refine m_iconst (v := 0) dX9_skip_1 (by decide) ?_
  refine m_putI 0 dX9_skip_2 (by decide) q1763 rfl rfl rfl rfl ?_
  refine m_topF (fun F1 eF1 => ?_)
  replace h := h F1 eF1
  refine m_aload_n dX9_skip_5 rfl 0 rfl ?_
  refine m_iload_n dX9_skip_6 rfl 1 rfl ?_
  refine m_iconst (v := 1) dX9_skip_7 (by decide) ?_
  refine m_callV (N := mX9_isVisit) (st := []) (As := [.int x1, .int 1]) dX9_skip_8 wsX9_isVisit (lw_V q2147 q2149 qs65 q116 q2150) rfl mokX9_isVisit rfl (by decide) (by decide) (Nat.zero_le _) h (fun _ F1_1 L1 I1 J1 hq => ?_)
  obtain ⟨rx, rfl, h⟩ := hq
  refine AtM.stk (st' := [.int rx]) rfl ?_
  refine m_if_ne (tgt := 16) dX9_skip_11 (by decide) (fun c => ?_) (fun c => ?_)
  · replace h := h.1 c
    refine m_aload_n dX9_skip_16 rfl 0 rfl ?_
    refine m_get (v := .int (F1_1 62)) 62 dX9_skip_17 (by decide) q1825 rfl ?_
    refine m_bipush (v := 20) dX9_skip_20 (by decide) ?_
    refine m_icmp_ne (tgt := 27) dX9_skip_22 (by decide) (fun c => ?_) (fun c => ?_)
    · replace h := h.1 c
      refine m_aload_n dX9_skip_27 rfl 0 rfl ?_
      refine m_callV (N := mX9_keepsVisits) (st := []) (As := []) dX9_skip_28 wsX9_keepsVisits (lw_V q2432 q2434 qs103 q116 q2435) rfl mokX9_keepsVisits rfl (by decide) (by decide) (Nat.zero_le _) h (fun _ F1_2 L1_3 I1_4 J1_5 hq => ?_)
      obtain ⟨rfl, h⟩ := hq
      refine AtM.stk (st' := []) rfl ?_
      refine m_aload_n dX9_skip_31 rfl 0 rfl ?_
      refine m_iload_n dX9_skip_32 rfl 1 rfl ?_
      refine m_callV (N := mX9_leaves) (st := []) (As := [.int x1]) dX9_skip_33 wsX9_leaves (lw_V q2440 q2442 qs104 q116 q2443) rfl mokX9_leaves rfl (by decide) (by decide) (Nat.zero_le _) h (fun _ F1_6 L1_7 I1_8 J1_9 hq => ?_)
      obtain ⟨rfl, h⟩ := hq
      refine AtM.stk (st' := []) rfl ?_
      refine m_aload_n dX9_skip_36 rfl 0 rfl ?_
      refine m_get (v := .int (F1_6 19)) 19 dX9_skip_37 (by decide) q1782 rfl ?_
      exact m_iret rfl dX9_skip_40 h
    · replace h := h.2 c
      refine m_iconst (v := (-1)) dX9_skip_25 (by decide) ?_
      exact m_iret rfl dX9_skip_26 h
  · replace h := h.2 c
    refine m_iconst (v := 0) dX9_skip_14 (by decide) ?_
    exact m_iret rfl dX9_skip_15 h
theorem eX9_skip {G : GC} {ad : Nat → Nat} {o : Nat} {Q : MPost} {p1 : Int32} {F : Nat → Int32} {L : Nat → Int64} {I : Nat → Nat → Int32} {J : Nat → Nat → Int64} (h : ∀ σ0, AtM G mX9_skip 5 ad o σ0 Q 0 [(0, .ref o), (1, .int p1)] [] F L I J) : CallM G mX9_skip 5 ad o [.ref o, .int p1] F L I J Q :=
  CallM.of (by decide +kernel) wsX9_skip rfl (Nat.le_of_ble_eq_true rfl) (fun σ0 => AtM.sub (ls := [(0, .ref o), (1, .int p1)]) [0, 1] rfl (h σ0))
set_option maxHeartbeats 4000000 in
theorem bX9_leaves_0 {G : GC} {ad : Nat → Nat} {o : Nat} {σ0 : PS} {Q : MPost} {x1 : Int32} {F : Nat → Int32} {L : Nat → Int64} {I : Nat → Nat → Int32} {J : Nat → Nat → Int64} (h : (∀ F1 : Nat → Int32, F1 = fU F 19 (((F 19) - 1)) → AtM G mX9_leaves 3 ad o σ0 Q 12 [(0, .ref o), (2, .int x1)] [] F1 L I J)) : AtM G mX9_leaves 3 ad o σ0 Q 0 [(0, .ref o), (1, .int x1)] [] F L I J := by
  refine m_aload_n dX9_leaves_0 rfl 0 rfl ?_
  refine m_dup dX9_leaves_1 rfl ?_
  refine m_get (v := .int (F 19)) 19 dX9_leaves_2 (by decide) q1782 rfl ?_
  refine m_iconst (v := 1) dX9_leaves_5 (by decide) ?_
  refine m_isub dX9_leaves_6 ?_
  refine m_putI 19 dX9_leaves_7 (by decide) q1782 rfl rfl rfl rfl ?_
  refine m_topF (fun F1 eF1 => ?_)
  replace h := h F1 eF1
  refine m_iload_n dX9_leaves_10 rfl 1 rfl ?_
  refine m_istore_n (ls1 := [(2, .int x1), (0, .ref o), (1, .int x1)]) dX9_leaves_11 rfl (by decide) rfl ?_
  exact AtM.sub (ls := [(2, .int x1), (0, .ref o), (1, .int x1)]) [1, 0] rfl h
set_option maxHeartbeats 4000000 in
theorem bX9_leaves_12 {G : GC} {ad : Nat → Nat} {o : Nat} {σ0 : PS} {Q : MPost} {x2 : Int32} {F : Nat → Int32} {L : Nat → Int64} {I : Nat → Nat → Int32} {J : Nat → Nat → Int64} (h : (((F 19) ≤ x2) → Q none F L I J) ∧ ((¬ (F 19) ≤ x2) → vp_in ((x2 + 1)) 24 ∧ (vp_in x2 24 ∧ (∀ I1 : Nat → Nat → Int32, I1 = aU I 14 x2.toNatClampNeg ((I 14 ((x2 + 1)).toNatClampNeg)) → vp_in ((x2 + 1)) 24 ∧ (vp_in x2 24 ∧ (∀ I1_1 : Nat → Nat → Int32, I1_1 = aU I1 15 x2.toNatClampNeg ((I1 15 ((x2 + 1)).toNatClampNeg)) → ∀ v2 : Int32, v2 = x2 + 1 → AtM G mX9_leaves 3 ad o σ0 Q 12 [(0, .ref o), (2, .int v2)] [] F L I1_1 J)))))) : AtM G mX9_leaves 3 ad o σ0 Q 12 [(0, .ref o), (2, .int x2)] [] F L I J := by
  refine m_iload_n dX9_leaves_12 rfl 1 rfl ?_
  refine m_aload_n dX9_leaves_13 rfl 0 rfl ?_
  refine m_get (v := .int (F 19)) 19 dX9_leaves_14 (by decide) q1782 rfl ?_
  refine m_icmp_ge (tgt := 54) dX9_leaves_17 (by decide) (fun c => ?_) (fun c => ?_)
  · replace h := h.1 c
    exact m_vret rfl dX9_leaves_54 h
  · replace h := h.2 c
    refine m_aload_n dX9_leaves_20 rfl 0 rfl ?_
    refine m_get (v := .ref (ad 14)) 14 dX9_leaves_21 (by decide) q1777 rfl ?_
    refine m_iload_n dX9_leaves_24 rfl 1 rfl ?_
    refine m_aload_n dX9_leaves_25 rfl 0 rfl ?_
    refine m_get (v := .ref (ad 14)) 14 dX9_leaves_26 (by decide) q1777 rfl ?_
    refine m_iload_n dX9_leaves_29 rfl 1 rfl ?_
    refine m_iconst (v := 1) dX9_leaves_30 (by decide) ?_
    refine m_iadd dX9_leaves_31 ?_
    obtain ⟨h1, h⟩ := h
    refine m_iald 14 dX9_leaves_32 (by decide) rfl h1 ?_
    obtain ⟨h1, h⟩ := h
    refine m_iast 14 dX9_leaves_33 (by decide) rfl h1 ?_
    refine m_topI (fun I1 eI1 => ?_)
    replace h := h I1 eI1
    refine m_aload_n dX9_leaves_34 rfl 0 rfl ?_
    refine m_get (v := .ref (ad 15)) 15 dX9_leaves_35 (by decide) q1778 rfl ?_
    refine m_iload_n dX9_leaves_38 rfl 1 rfl ?_
    refine m_aload_n dX9_leaves_39 rfl 0 rfl ?_
    refine m_get (v := .ref (ad 15)) 15 dX9_leaves_40 (by decide) q1778 rfl ?_
    refine m_iload_n dX9_leaves_43 rfl 1 rfl ?_
    refine m_iconst (v := 1) dX9_leaves_44 (by decide) ?_
    refine m_iadd dX9_leaves_45 ?_
    obtain ⟨h1, h⟩ := h
    refine m_iald 15 dX9_leaves_46 (by decide) rfl h1 ?_
    obtain ⟨h1, h⟩ := h
    refine m_iast 15 dX9_leaves_47 (by decide) rfl h1 ?_
    refine m_topI (fun I1_1 eI1_1 => ?_)
    replace h := h I1_1 eI1_1
    obtain ⟨v2, ev2⟩ : ∃ z : Int32, z = x2 + 1 := ⟨_, rfl⟩
    refine m_iinc (v := v2) (ls1 := [(2, .int v2), (0, .ref o)]) dX9_leaves_48 1 rfl (by rw [ev2]; rfl) (by decide) rfl ?_
    replace h := h v2 ev2
    refine m_goto (tgt := 12) dX9_leaves_51 (by decide) ?_
    exact AtM.sub (ls := [(2, .int v2), (0, .ref o)]) [1, 0] rfl h
theorem eX9_leaves {G : GC} {ad : Nat → Nat} {o : Nat} {Q : MPost} {p1 : Int32} {F : Nat → Int32} {L : Nat → Int64} {I : Nat → Nat → Int32} {J : Nat → Nat → Int64} (h : ∀ σ0, AtM G mX9_leaves 3 ad o σ0 Q 0 [(0, .ref o), (1, .int p1)] [] F L I J) : CallM G mX9_leaves 3 ad o [.ref o, .int p1] F L I J Q :=
  CallM.of (by decide +kernel) wsX9_leaves rfl (Nat.le_of_ble_eq_true rfl) (fun σ0 => AtM.sub (ls := [(0, .ref o), (1, .int p1)]) [0, 1] rfl (h σ0))
set_option maxHeartbeats 4000000 in
theorem bX9_shift_0 {G : GC} {ad : Nat → Nat} {o : Nat} {σ0 : PS} {Q : MPost} {x1 : Int32} {x2 : Int32} {F : Nat → Int32} {L : Nat → Int64} {I : Nat → Nat → Int32} {J : Nat → Nat → Int64} (h : (∀ F1 : Nat → Int32, F1 = fU F 0 0 → CallM G mX9_isVisit 4 ad o [.ref o, .int x1, .int 1] F1 L I J (mqI (fun rx F1_1 L1 I1 J1 => ((rx = 0) → Q (some (.int 0)) F1_1 L1 I1 J1) ∧ ((¬ rx = 0) → CallP G mX9_within 3 [.int x2, .int 0, .int 480] (pI (fun rx_2 => CallM G mX9_may 3 ad o [.ref o, .int rx_2, .int 2, .int 1] F1_1 L1 I1 J1 (mqI (fun rx_3 F1_4 L1_5 I1_6 J1_7 => ((¬ rx_3 = 0) → ((¬ (F1_4 62) = 20) → CallM G mX9_keepsVisits 3 ad o [.ref o] F1_4 L1_5 I1_6 J1_7 (mqV (fun F1_8 L1_9 I1_10 J1_11 => vp_in x1 24 ∧ (∀ v3 : Int32, v3 = (I1_10 14 x1.toNatClampNeg) → CallM G mX9_leaves 3 ad o [.ref o, .int x1] F1_8 L1_9 I1_10 J1_11 (mqV (fun F1_12 L1_13 I1_14 J1_15 => CallM G mX9_puts 3 ad o [.ref o, .ref (ad 14), .ref (ad 15), .int (F1_12 19), .int v3, .int x2] F1_12 L1_13 I1_14 J1_15 (mqI (fun rx_16 F1_17 L1_18 I1_19 J1_20 => (∀ F1_21 : Nat → Int32, F1_21 = fU F1_17 19 (((F1_17 19) + 1)) → Q (some (.int rx_16)) F1_21 L1_18 I1_19 J1_20))))))))) ∧ (((F1_4 62) = 20) → Q (some (.int (-1))) F1_4 L1_5 I1_6 J1_7)) ∧ ((rx_3 = 0) → Q (some (.int 0)) F1_4 L1_5 I1_6 J1_7)))))))))) : AtM G mX9_shift 5 ad o σ0 Q 0 [(0, .ref o), (1, .int x1), (2, .int x2)] [] F L I J := by
  refine m_aload_n dX9_shift_0 rfl 0 rfl ?_
  refine m_iconst (v := 0) dX9_shift_1 (by decide) ?_
  refine m_putI 0 dX9_shift_2 (by decide) q1763 rfl rfl rfl rfl ?_
  refine m_topF (fun F1 eF1 => ?_)
  replace h := h F1 eF1
  refine m_aload_n dX9_shift_5 rfl 0 rfl ?_
  refine m_iload_n dX9_shift_6 rfl 1 rfl ?_
  refine m_iconst (v := 1) dX9_shift_7 (by decide) ?_
  refine m_callV (N := mX9_isVisit) (st := []) (As := [.int x1, .int 1]) dX9_shift_8 wsX9_isVisit (lw_V q2147 q2149 qs65 q116 q2150) rfl mokX9_isVisit rfl (by decide) (by decide) (Nat.zero_le _) h (fun _ F1_1 L1 I1 J1 hq => ?_)
  obtain ⟨rx, rfl, h⟩ := hq
  refine AtM.stk (st' := [.int rx]) rfl ?_
  refine m_if_eq (tgt := 31) dX9_shift_11 (by decide) (fun c => ?_) (fun c => ?_)
  · replace h := h.1 c
    refine m_iconst (v := 0) dX9_shift_31 (by decide) ?_
    exact m_iret rfl dX9_shift_32 h
  · replace h := h.2 c
    refine m_aload_n dX9_shift_14 rfl 0 rfl ?_
    refine m_iload_n dX9_shift_15 rfl 2 rfl ?_
    refine m_iconst (v := 0) dX9_shift_16 (by decide) ?_
    refine m_sipush (v := 480) dX9_shift_17 (by decide) ?_
    refine m_callP (N := mX9_within) (st := [.ref o]) (As := [.int x2, .int 0, .int 480]) dX9_shift_20 wsX9_within (lw_S q2059 q2060 q116 q2061) mokX9_within rfl (by decide) (by decide) (by simp [Value.category]) h (fun _ hq => ?_)
    obtain ⟨rx_2, rfl, h⟩ := hq
    refine AtM.stk (st' := [.int rx_2, .ref o]) rfl ?_
    refine m_iconst (v := 2) dX9_shift_23 (by decide) ?_
    refine m_iconst (v := 1) dX9_shift_24 (by decide) ?_
    refine m_callV (N := mX9_may) (st := []) (As := [.int rx_2, .int 2, .int 1]) dX9_shift_25 wsX9_may (lw_V q1971 q1973 qs38 q116 q1974) rfl mokX9_may rfl (by decide) (by decide) (Nat.zero_le _) h (fun _ F1_4 L1_5 I1_6 J1_7 hq => ?_)
    obtain ⟨rx_3, rfl, h⟩ := hq
    refine AtM.stk (st' := [.int rx_3]) rfl ?_
    refine m_if_ne (tgt := 33) dX9_shift_28 (by decide) (fun c => ?_) (fun c => ?_)
    · replace h := h.1 c
      refine m_aload_n dX9_shift_33 rfl 0 rfl ?_
      refine m_get (v := .int (F1_4 62)) 62 dX9_shift_34 (by decide) q1825 rfl ?_
      refine m_bipush (v := 20) dX9_shift_37 (by decide) ?_
      refine m_icmp_ne (tgt := 44) dX9_shift_39 (by decide) (fun c => ?_) (fun c => ?_)
      · replace h := h.1 c
        refine m_aload_n dX9_shift_44 rfl 0 rfl ?_
        refine m_callV (N := mX9_keepsVisits) (st := []) (As := []) dX9_shift_45 wsX9_keepsVisits (lw_V q2432 q2434 qs103 q116 q2435) rfl mokX9_keepsVisits rfl (by decide) (by decide) (Nat.zero_le _) h (fun _ F1_8 L1_9 I1_10 J1_11 hq => ?_)
        obtain ⟨rfl, h⟩ := hq
        refine AtM.stk (st' := []) rfl ?_
        refine m_aload_n dX9_shift_48 rfl 0 rfl ?_
        refine m_get (v := .ref (ad 14)) 14 dX9_shift_49 (by decide) q1777 rfl ?_
        refine m_iload_n dX9_shift_52 rfl 1 rfl ?_
        obtain ⟨h1, h⟩ := h
        refine m_iald 14 dX9_shift_53 (by decide) rfl h1 ?_
        refine m_topi (fun v3 ev3 => ?_)
        replace h := h v3 ev3
        refine m_istore_n (ls1 := [(3, .int v3), (0, .ref o), (1, .int x1), (2, .int x2)]) dX9_shift_54 rfl (by decide) rfl ?_
        refine m_aload_n dX9_shift_55 rfl 1 rfl ?_
        refine m_iload_n dX9_shift_56 rfl 2 rfl ?_
        refine m_callV (N := mX9_leaves) (st := []) (As := [.int x1]) dX9_shift_57 wsX9_leaves (lw_V q2440 q2442 qs104 q116 q2443) rfl mokX9_leaves rfl (by decide) (by decide) (Nat.zero_le _) h (fun _ F1_12 L1_13 I1_14 J1_15 hq => ?_)
        obtain ⟨rfl, h⟩ := hq
        refine AtM.stk (st' := []) rfl ?_
        refine m_aload_n dX9_shift_60 rfl 1 rfl ?_
        refine m_aload_n dX9_shift_61 rfl 1 rfl ?_
        refine m_get (v := .ref (ad 14)) 14 dX9_shift_62 (by decide) q1777 rfl ?_
        refine m_aload_n dX9_shift_65 rfl 1 rfl ?_
        refine m_get (v := .ref (ad 15)) 15 dX9_shift_66 (by decide) q1778 rfl ?_
        refine m_aload_n dX9_shift_69 rfl 1 rfl ?_
        refine m_get (v := .int (F1_12 19)) 19 dX9_shift_70 (by decide) q1782 rfl ?_
        refine m_iload_n dX9_shift_73 rfl 0 rfl ?_
        refine m_iload_n dX9_shift_74 rfl 3 rfl ?_
        refine m_callV (N := mX9_puts) (st := []) (As := [.ref (ad 14), .ref (ad 15), .int (F1_12 19), .int v3, .int x2]) dX9_shift_75 wsX9_puts (lw_V q2039 q2041 qs50 q116 q2042) rfl mokX9_puts rfl (by decide) (by decide) (Nat.zero_le _) h (fun _ F1_17 L1_18 I1_19 J1_20 hq => ?_)
        obtain ⟨rx_16, rfl, h⟩ := hq
        refine AtM.stk (st' := [.int rx_16]) rfl ?_
        refine m_istore (ls1 := [(4, .int rx_16), (3, .int v3), (0, .ref o), (1, .int x1), (2, .int x2)]) dX9_shift_78 (by decide) rfl ?_
        refine m_aload_n dX9_shift_80 rfl 2 rfl ?_
        refine m_dup dX9_shift_81 rfl ?_
        refine m_get (v := .int (F1_17 19)) 19 dX9_shift_82 (by decide) q1782 rfl ?_
        refine m_iconst (v := 1) dX9_shift_85 (by decide) ?_
        refine m_iadd dX9_shift_86 ?_
        refine m_putI 19 dX9_shift_87 (by decide) q1782 rfl rfl rfl rfl ?_
        refine m_topF (fun F1_21 eF1_21 => ?_)
        replace h := h F1_21 eF1_21
        refine m_iload dX9_shift_90 0 rfl ?_
        exact m_iret rfl dX9_shift_92 h
      · replace h := h.2 c
        refine m_iconst (v := (-1)) dX9_shift_42 (by decide) ?_
        exact m_iret rfl dX9_shift_43 h
    · replace h := h.2 c
      refine m_iconst (v := 0) dX9_shift_31 (by decide) ?_
      exact m_iret rfl dX9_shift_32 h
theorem eX9_shift {G : GC} {ad : Nat → Nat} {o : Nat} {Q : MPost} {p1 : Int32} {p2 : Int32} {F : Nat → Int32} {L : Nat → Int64} {I : Nat → Nat → Int32} {J : Nat → Nat → Int64} (h : ∀ σ0, AtM G mX9_shift 5 ad o σ0 Q 0 [(0, .ref o), (1, .int p1), (2, .int p2)] [] F L I J) : CallM G mX9_shift 5 ad o [.ref o, .int p1, .int p2] F L I J Q :=
  CallM.of (by decide +kernel) wsX9_shift rfl (Nat.le_of_ble_eq_true rfl) (fun σ0 => AtM.sub (ls := [(0, .ref o), (1, .int p1), (2, .int p2)]) [0, 1, 2] rfl (h σ0))
set_option maxHeartbeats 4000000 in
theorem bX9_teach_0 {G : GC} {ad : Nat → Nat} {o : Nat} {σ0 : PS} {Q : MPost} {x1 : Int32} {x2 : Int32} {F : Nat → Int32} {L : Nat → Int64} {I : Nat → Nat → Int32} {J : Nat → Nat → Int64} (h : (∀ F1 : Nat → Int32, F1 = fU F 0 0 → CallM G mX9_isPerson 4 ad o [.ref o, .int x1, .int 1] F1 L I J (mqI (fun rx F1_1 L1 I1 J1 => ((rx = 0) → Q (some (.int 0)) F1_1 L1 I1 J1) ∧ ((¬ rx = 0) → CallM G mX9_isPerson 4 ad o [.ref o, .int x2, .int 1] F1_1 L1 I1 J1 (mqI (fun rx_2 F1_3 L1_4 I1_5 J1_6 => ((¬ rx_2 = 0) → vp_in x2 7 ∧ (vp_in x1 7 ∧ (∀ I1_7 : Nat → Nat → Int32, I1_7 = aU I1_5 27 x1.toNatClampNeg ((I1_5 27 x2.toNatClampNeg)) → AtM G mX9_teach 5 ad o σ0 Q 39 [(0, .ref o), (1, .int x1), (2, .int x2), (3, .int 0)] [] F1_3 L1_4 I1_7 J1_6))) ∧ ((rx_2 = 0) → Q (some (.int 0)) F1_3 L1_4 I1_5 J1_6)))))))) : AtM G mX9_teach 5 ad o σ0 Q 0 [(0, .ref o), (1, .int x1), (2, .int x2)] [] F L I J := by
  refine m_aload_n dX9_teach_0 rfl 0 rfl ?_
  refine m_iconst (v := 0) dX9_teach_1 (by decide) ?_
  refine m_putI 0 dX9_teach_2 (by decide) q1763 rfl rfl rfl rfl ?_
  refine m_topF (fun F1 eF1 => ?_)
  replace h := h F1 eF1
  refine m_aload_n dX9_teach_5 rfl 0 rfl ?_
  refine m_iload_n dX9_teach_6 rfl 1 rfl ?_
  refine m_iconst (v := 1) dX9_teach_7 (by decide) ?_
  refine m_callV (N := mX9_isPerson) (st := []) (As := [.int x1, .int 1]) dX9_teach_8 wsX9_isPerson (lw_V q2055 q2057 qs53 q116 q2058) rfl mokX9_isPerson rfl (by decide) (by decide) (Nat.zero_le _) h (fun _ F1_1 L1 I1 J1 hq => ?_)
  obtain ⟨rx, rfl, h⟩ := hq
  refine AtM.stk (st' := [.int rx]) rfl ?_
  refine m_if_eq (tgt := 23) dX9_teach_11 (by decide) (fun c => ?_) (fun c => ?_)
  · replace h := h.1 c
    refine m_iconst (v := 0) dX9_teach_23 (by decide) ?_
    exact m_iret rfl dX9_teach_24 h
  · replace h := h.2 c
    refine m_aload_n dX9_teach_14 rfl 0 rfl ?_
    refine m_iload_n dX9_teach_15 rfl 2 rfl ?_
    refine m_iconst (v := 1) dX9_teach_16 (by decide) ?_
    refine m_callV (N := mX9_isPerson) (st := []) (As := [.int x2, .int 1]) dX9_teach_17 wsX9_isPerson (lw_V q2055 q2057 qs53 q116 q2058) rfl mokX9_isPerson rfl (by decide) (by decide) (Nat.zero_le _) h (fun _ F1_3 L1_4 I1_5 J1_6 hq => ?_)
    obtain ⟨rx_2, rfl, h⟩ := hq
    refine AtM.stk (st' := [.int rx_2]) rfl ?_
    refine m_if_ne (tgt := 25) dX9_teach_20 (by decide) (fun c => ?_) (fun c => ?_)
    · replace h := h.1 c
      refine m_aload_n dX9_teach_25 rfl 0 rfl ?_
      refine m_get (v := .ref (ad 27)) 27 dX9_teach_26 (by decide) q1790 rfl ?_
      refine m_iload_n dX9_teach_29 rfl 1 rfl ?_
      refine m_aload_n dX9_teach_30 rfl 0 rfl ?_
      refine m_get (v := .ref (ad 27)) 27 dX9_teach_31 (by decide) q1790 rfl ?_
      refine m_iload_n dX9_teach_34 rfl 2 rfl ?_
      obtain ⟨h1, h⟩ := h
      refine m_iald 27 dX9_teach_35 (by decide) rfl h1 ?_
      obtain ⟨h1, h⟩ := h
      refine m_iast 27 dX9_teach_36 (by decide) rfl h1 ?_
      refine m_topI (fun I1_7 eI1_7 => ?_)
      replace h := h I1_7 eI1_7
      refine m_iconst (v := 0) dX9_teach_37 (by decide) ?_
      refine m_istore_n (ls1 := [(3, .int 0), (0, .ref o), (1, .int x1), (2, .int x2)]) dX9_teach_38 rfl (by decide) rfl ?_
      exact AtM.sub (ls := [(3, .int 0), (0, .ref o), (1, .int x1), (2, .int x2)]) [1, 2, 3, 0] rfl h
    · replace h := h.2 c
      refine m_iconst (v := 0) dX9_teach_23 (by decide) ?_
      exact m_iret rfl dX9_teach_24 h
set_option maxHeartbeats 4000000 in
theorem bX9_teach_39 {G : GC} {ad : Nat → Nat} {o : Nat} {σ0 : PS} {Q : MPost} {x1 : Int32} {x2 : Int32} {x3 : Int32} {F : Nat → Int32} {L : Nat → Int64} {I : Nat → Nat → Int32} {J : Nat → Nat → Int64} (h : ((32 ≤ x3) → AtM G mX9_teach 5 ad o σ0 Q 75 [(0, .ref o), (1, .int x1), (2, .int x2), (3, .int 0)] [] F L I J) ∧ ((¬ 32 ≤ x3) → vp_in (((32 * x2) + x3)) 224 ∧ (vp_in (((32 * x1) + x3)) 224 ∧ (∀ I1 : Nat → Nat → Int32, I1 = aU I 26 (((32 * x1) + x3)).toNatClampNeg ((I 26 (((32 * x2) + x3)).toNatClampNeg)) → ∀ v3 : Int32, v3 = x3 + 1 → AtM G mX9_teach 5 ad o σ0 Q 39 [(0, .ref o), (1, .int x1), (2, .int x2), (3, .int v3)] [] F L I1 J)))) : AtM G mX9_teach 5 ad o σ0 Q 39 [(0, .ref o), (1, .int x1), (2, .int x2), (3, .int x3)] [] F L I J := by
  refine m_iload_n dX9_teach_39 rfl 3 rfl ?_
  refine m_bipush (v := 32) dX9_teach_40 (by decide) ?_
  refine m_icmp_ge (tgt := 73) dX9_teach_42 (by decide) (fun c => ?_) (fun c => ?_)
  · replace h := h.1 c
    refine m_iconst (v := 0) dX9_teach_73 (by decide) ?_
    refine m_istore_n (ls1 := [(3, .int 0), (0, .ref o), (1, .int x1), (2, .int x2)]) dX9_teach_74 rfl (by decide) rfl ?_
    exact AtM.sub (ls := [(3, .int 0), (0, .ref o), (1, .int x1), (2, .int x2)]) [1, 2, 3, 0] rfl h
  · replace h := h.2 c
    refine m_aload_n dX9_teach_45 rfl 0 rfl ?_
    refine m_get (v := .ref (ad 26)) 26 dX9_teach_46 (by decide) q1789 rfl ?_
    refine m_bipush (v := 32) dX9_teach_49 (by decide) ?_
    refine m_iload_n dX9_teach_51 rfl 1 rfl ?_
    refine m_imul dX9_teach_52 ?_
    refine m_iload_n dX9_teach_53 rfl 3 rfl ?_
    refine m_iadd dX9_teach_54 ?_
    refine m_aload_n dX9_teach_55 rfl 0 rfl ?_
    refine m_get (v := .ref (ad 26)) 26 dX9_teach_56 (by decide) q1789 rfl ?_
    refine m_bipush (v := 32) dX9_teach_59 (by decide) ?_
    refine m_iload_n dX9_teach_61 rfl 2 rfl ?_
    refine m_imul dX9_teach_62 ?_
    refine m_iload_n dX9_teach_63 rfl 3 rfl ?_
    refine m_iadd dX9_teach_64 ?_
    obtain ⟨h1, h⟩ := h
    refine m_iald 26 dX9_teach_65 (by decide) rfl h1 ?_
    obtain ⟨h1, h⟩ := h
    refine m_iast 26 dX9_teach_66 (by decide) rfl h1 ?_
    refine m_topI (fun I1 eI1 => ?_)
    replace h := h I1 eI1
    obtain ⟨v3, ev3⟩ : ∃ z : Int32, z = x3 + 1 := ⟨_, rfl⟩
    refine m_iinc (v := v3) (ls1 := [(3, .int v3), (0, .ref o), (1, .int x1), (2, .int x2)]) dX9_teach_67 3 rfl (by rw [ev3]; rfl) (by decide) rfl ?_
    replace h := h v3 ev3
    refine m_goto (tgt := 39) dX9_teach_70 (by decide) ?_
    exact AtM.sub (ls := [(3, .int v3), (0, .ref o), (1, .int x1), (2, .int x2)]) [1, 2, 3, 0] rfl h
set_option maxHeartbeats 4000000 in
theorem bX9_teach_75 {G : GC} {ad : Nat → Nat} {o : Nat} {σ0 : PS} {Q : MPost} {x1 : Int32} {x2 : Int32} {x3 : Int32} {F : Nat → Int32} {L : Nat → Int64} {I : Nat → Nat → Int32} {J : Nat → Nat → Int64} (h : ((150 ≤ x3) → vp_in x1 7 ∧ (Q (some (.int (I 27 x1.toNatClampNeg))) F L I J)) ∧ ((¬ 150 ≤ x3) → vp_in (((150 * x2) + x3)) 1050 ∧ (vp_in (((150 * x1) + x3)) 1050 ∧ (∀ I1 : Nat → Nat → Int32, I1 = aU I 24 (((150 * x1) + x3)).toNatClampNeg ((I 24 (((150 * x2) + x3)).toNatClampNeg)) → vp_in (((150 * x2) + x3)) 1050 ∧ (vp_in (((150 * x1) + x3)) 1050 ∧ (∀ I1_1 : Nat → Nat → Int32, I1_1 = aU I1 25 (((150 * x1) + x3)).toNatClampNeg ((I1 25 (((150 * x2) + x3)).toNatClampNeg)) → ∀ v3 : Int32, v3 = x3 + 1 → AtM G mX9_teach 5 ad o σ0 Q 75 [(0, .ref o), (1, .int x1), (2, .int x2), (3, .int v3)] [] F L I1_1 J)))))) : AtM G mX9_teach 5 ad o σ0 Q 75 [(0, .ref o), (1, .int x1), (2, .int x2), (3, .int x3)] [] F L I J := by
  refine m_iload_n dX9_teach_75 rfl 3 rfl ?_
  refine m_sipush (v := 150) dX9_teach_76 (by decide) ?_
  refine m_icmp_ge (tgt := 136) dX9_teach_79 (by decide) (fun c => ?_) (fun c => ?_)
  · replace h := h.1 c
    refine m_aload_n dX9_teach_136 rfl 0 rfl ?_
    refine m_get (v := .ref (ad 27)) 27 dX9_teach_137 (by decide) q1790 rfl ?_
    refine m_iload_n dX9_teach_140 rfl 1 rfl ?_
    obtain ⟨h1, h⟩ := h
    refine m_iald 27 dX9_teach_141 (by decide) rfl h1 ?_
    exact m_iret rfl dX9_teach_142 h
  · replace h := h.2 c
    refine m_aload_n dX9_teach_82 rfl 0 rfl ?_
    refine m_get (v := .ref (ad 24)) 24 dX9_teach_83 (by decide) q1787 rfl ?_
    refine m_sipush (v := 150) dX9_teach_86 (by decide) ?_
    refine m_iload_n dX9_teach_89 rfl 1 rfl ?_
    refine m_imul dX9_teach_90 ?_
    refine m_iload_n dX9_teach_91 rfl 3 rfl ?_
    refine m_iadd dX9_teach_92 ?_
    refine m_aload_n dX9_teach_93 rfl 0 rfl ?_
    refine m_get (v := .ref (ad 24)) 24 dX9_teach_94 (by decide) q1787 rfl ?_
    refine m_sipush (v := 150) dX9_teach_97 (by decide) ?_
    refine m_iload_n dX9_teach_100 rfl 2 rfl ?_
    refine m_imul dX9_teach_101 ?_
    refine m_iload_n dX9_teach_102 rfl 3 rfl ?_
    refine m_iadd dX9_teach_103 ?_
    obtain ⟨h1, h⟩ := h
    refine m_iald 24 dX9_teach_104 (by decide) rfl h1 ?_
    obtain ⟨h1, h⟩ := h
    refine m_iast 24 dX9_teach_105 (by decide) rfl h1 ?_
    refine m_topI (fun I1 eI1 => ?_)
    replace h := h I1 eI1
    refine m_aload_n dX9_teach_106 rfl 0 rfl ?_
    refine m_get (v := .ref (ad 25)) 25 dX9_teach_107 (by decide) q1788 rfl ?_
    refine m_sipush (v := 150) dX9_teach_110 (by decide) ?_
    refine m_iload_n dX9_teach_113 rfl 1 rfl ?_
    refine m_imul dX9_teach_114 ?_
    refine m_iload_n dX9_teach_115 rfl 3 rfl ?_
    refine m_iadd dX9_teach_116 ?_
    refine m_aload_n dX9_teach_117 rfl 0 rfl ?_
    refine m_get (v := .ref (ad 25)) 25 dX9_teach_118 (by decide) q1788 rfl ?_
    refine m_sipush (v := 150) dX9_teach_121 (by decide) ?_
    refine m_iload_n dX9_teach_124 rfl 2 rfl ?_
    refine m_imul dX9_teach_125 ?_
    refine m_iload_n dX9_teach_126 rfl 3 rfl ?_
    refine m_iadd dX9_teach_127 ?_
    obtain ⟨h1, h⟩ := h
    refine m_iald 25 dX9_teach_128 (by decide) rfl h1 ?_
    obtain ⟨h1, h⟩ := h
    refine m_iast 25 dX9_teach_129 (by decide) rfl h1 ?_
    refine m_topI (fun I1_1 eI1_1 => ?_)
    replace h := h I1_1 eI1_1
    obtain ⟨v3, ev3⟩ : ∃ z : Int32, z = x3 + 1 := ⟨_, rfl⟩
    refine m_iinc (v := v3) (ls1 := [(3, .int v3), (0, .ref o), (1, .int x1), (2, .int x2)]) dX9_teach_130 3 rfl (by rw [ev3]; rfl) (by decide) rfl ?_
    replace h := h v3 ev3
    refine m_goto (tgt := 75) dX9_teach_133 (by decide) ?_
    exact AtM.sub (ls := [(3, .int v3), (0, .ref o), (1, .int x1), (2, .int x2)]) [1, 2, 3, 0] rfl h
theorem eX9_teach {G : GC} {ad : Nat → Nat} {o : Nat} {Q : MPost} {p1 : Int32} {p2 : Int32} {F : Nat → Int32} {L : Nat → Int64} {I : Nat → Nat → Int32} {J : Nat → Nat → Int64} (h : ∀ σ0, AtM G mX9_teach 5 ad o σ0 Q 0 [(0, .ref o), (1, .int p1), (2, .int p2)] [] F L I J) : CallM G mX9_teach 5 ad o [.ref o, .int p1, .int p2] F L I J Q :=
  CallM.of (by decide +kernel) wsX9_teach rfl (Nat.le_of_ble_eq_true rfl) (fun σ0 => AtM.sub (ls := [(0, .ref o), (1, .int p1), (2, .int p2)]) [0, 1, 2] rfl (h σ0))
set_option maxHeartbeats 4000000 in
theorem bX9_undo_0 {G : GC} {ad : Nat → Nat} {o : Nat} {σ0 : PS} {Q : MPost} {F : Nat → Int32} {L : Nat → Int64} {I : Nat → Nat → Int32} {J : Nat → Nat → Int64} (h : (∀ F1 : Nat → Int32, F1 = fU F 0 0 → ((¬ (F1 62) = 0) → (∀ F1_1 : Nat → Int32, F1_1 = fU F1 62 (((F1 62) - 1)) → AtM G mX9_undo 3 ad o σ0 Q 26 [(0, .ref o), (1, .int 0)] [] F1_1 L I J)) ∧ (((F1 62) = 0) → Q (some (.int (-1))) F1 L I J))) : AtM G mX9_undo 3 ad o σ0 Q 0 [(0, .ref o)] [] F L I J := by
  refine m_aload_n dX9_undo_0 rfl 0 rfl ?_
  refine m_iconst (v := 0) dX9_undo_1 (by decide) ?_
  refine m_putI 0 dX9_undo_2 (by decide) q1763 rfl rfl rfl rfl ?_
  refine m_topF (fun F1 eF1 => ?_)
  replace h := h F1 eF1
  refine m_aload_n dX9_undo_5 rfl 0 rfl ?_
  refine m_get (v := .int (F1 62)) 62 dX9_undo_6 (by decide) q1825 rfl ?_
  refine m_if_ne (tgt := 14) dX9_undo_9 (by decide) (fun c => ?_) (fun c => ?_)
  · replace h := h.1 c
    refine m_aload_n dX9_undo_14 rfl 0 rfl ?_
    refine m_dup dX9_undo_15 rfl ?_
    refine m_get (v := .int (F1 62)) 62 dX9_undo_16 (by decide) q1825 rfl ?_
    refine m_iconst (v := 1) dX9_undo_19 (by decide) ?_
    refine m_isub dX9_undo_20 ?_
    refine m_putI 62 dX9_undo_21 (by decide) q1825 rfl rfl rfl rfl ?_
    refine m_topF (fun F1_1 eF1_1 => ?_)
    replace h := h F1_1 eF1_1
    refine m_iconst (v := 0) dX9_undo_24 (by decide) ?_
    refine m_istore_n (ls1 := [(1, .int 0), (0, .ref o)]) dX9_undo_25 rfl (by decide) rfl ?_
    exact AtM.sub (ls := [(1, .int 0), (0, .ref o)]) [1, 0] rfl h
  · replace h := h.2 c
    refine m_iconst (v := (-1)) dX9_undo_12 (by decide) ?_
    exact m_iret rfl dX9_undo_13 h
set_option maxHeartbeats 4000000 in
theorem bX9_undo_26 {G : GC} {ad : Nat → Nat} {o : Nat} {σ0 : PS} {Q : MPost} {x1 : Int32} {F : Nat → Int32} {L : Nat → Int64} {I : Nat → Nat → Int32} {J : Nat → Nat → Int64} (h : ((24 ≤ x1) → vp_in (((49 * (F 62)) + 48)) 980 ∧ ((∀ F1 : Nat → Int32, F1 = fU F 19 ((I 61 (((49 * (F 62)) + 48)).toNatClampNeg)) → Q (some (.int (F1 62))) F1 L I J))) ∧ ((¬ 24 ≤ x1) → vp_in (((49 * (F 62)) + x1)) 980 ∧ (vp_in x1 24 ∧ (∀ I1 : Nat → Nat → Int32, I1 = aU I 14 x1.toNatClampNeg ((I 61 (((49 * (F 62)) + x1)).toNatClampNeg)) → ∀ w : Int32, w = (((49 * (F 62)) + 24) + x1) → vp_in w 980 ∧ (vp_in x1 24 ∧ (∀ I1_1 : Nat → Nat → Int32, I1_1 = aU I1 15 x1.toNatClampNeg ((I1 61 w.toNatClampNeg)) → ∀ v1 : Int32, v1 = x1 + 1 → AtM G mX9_undo 3 ad o σ0 Q 26 [(0, .ref o), (1, .int v1)] [] F L I1_1 J)))))) : AtM G mX9_undo 3 ad o σ0 Q 26 [(0, .ref o), (1, .int x1)] [] F L I J := by
  refine m_iload_n dX9_undo_26 rfl 1 rfl ?_
  refine m_bipush (v := 24) dX9_undo_27 (by decide) ?_
  refine m_icmp_ge (tgt := 81) dX9_undo_29 (by decide) (fun c => ?_) (fun c => ?_)
  · replace h := h.1 c
    refine m_aload_n dX9_undo_81 rfl 0 rfl ?_
    refine m_aload_n dX9_undo_82 rfl 0 rfl ?_
    refine m_get (v := .ref (ad 61)) 61 dX9_undo_83 (by decide) q1824 rfl ?_
    refine m_bipush (v := 49) dX9_undo_86 (by decide) ?_
    refine m_aload_n dX9_undo_88 rfl 0 rfl ?_
    refine m_get (v := .int (F 62)) 62 dX9_undo_89 (by decide) q1825 rfl ?_
    refine m_imul dX9_undo_92 ?_
    refine m_bipush (v := 48) dX9_undo_93 (by decide) ?_
    refine m_iadd dX9_undo_95 ?_
    obtain ⟨h1, h⟩ := h
    refine m_iald 61 dX9_undo_96 (by decide) rfl h1 ?_
    refine m_putI 19 dX9_undo_97 (by decide) q1782 rfl rfl rfl rfl ?_
    refine m_topF (fun F1 eF1 => ?_)
    replace h := h F1 eF1
    refine m_aload_n dX9_undo_100 rfl 0 rfl ?_
    refine m_get (v := .int (F1 62)) 62 dX9_undo_101 (by decide) q1825 rfl ?_
    exact m_iret rfl dX9_undo_104 h
  · replace h := h.2 c
    refine m_aload_n dX9_undo_32 rfl 0 rfl ?_
    refine m_get (v := .ref (ad 14)) 14 dX9_undo_33 (by decide) q1777 rfl ?_
    refine m_iload_n dX9_undo_36 rfl 1 rfl ?_
    refine m_aload_n dX9_undo_37 rfl 0 rfl ?_
    refine m_get (v := .ref (ad 61)) 61 dX9_undo_38 (by decide) q1824 rfl ?_
    refine m_bipush (v := 49) dX9_undo_41 (by decide) ?_
    refine m_aload_n dX9_undo_43 rfl 0 rfl ?_
    refine m_get (v := .int (F 62)) 62 dX9_undo_44 (by decide) q1825 rfl ?_
    refine m_imul dX9_undo_47 ?_
    refine m_iload_n dX9_undo_48 rfl 1 rfl ?_
    refine m_iadd dX9_undo_49 ?_
    obtain ⟨h1, h⟩ := h
    refine m_iald 61 dX9_undo_50 (by decide) rfl h1 ?_
    obtain ⟨h1, h⟩ := h
    refine m_iast 14 dX9_undo_51 (by decide) rfl h1 ?_
    refine m_topI (fun I1 eI1 => ?_)
    replace h := h I1 eI1
    refine m_aload_n dX9_undo_52 rfl 0 rfl ?_
    refine m_get (v := .ref (ad 15)) 15 dX9_undo_53 (by decide) q1778 rfl ?_
    refine m_iload_n dX9_undo_56 rfl 1 rfl ?_
    refine m_aload_n dX9_undo_57 rfl 0 rfl ?_
    refine m_get (v := .ref (ad 61)) 61 dX9_undo_58 (by decide) q1824 rfl ?_
    refine m_bipush (v := 49) dX9_undo_61 (by decide) ?_
    refine m_aload_n dX9_undo_63 rfl 0 rfl ?_
    refine m_get (v := .int (F 62)) 62 dX9_undo_64 (by decide) q1825 rfl ?_
    refine m_imul dX9_undo_67 ?_
    refine m_bipush (v := 24) dX9_undo_68 (by decide) ?_
    refine m_iadd dX9_undo_70 ?_
    refine m_iload_n dX9_undo_71 rfl 1 rfl ?_
    refine m_iadd dX9_undo_72 ?_
    refine m_topi (fun w ew => ?_)
    replace h := h w ew
    obtain ⟨h1, h⟩ := h
    refine m_iald 61 dX9_undo_73 (by decide) rfl h1 ?_
    obtain ⟨h1, h⟩ := h
    refine m_iast 15 dX9_undo_74 (by decide) rfl h1 ?_
    refine m_topI (fun I1_1 eI1_1 => ?_)
    replace h := h I1_1 eI1_1
    obtain ⟨v1, ev1⟩ : ∃ z : Int32, z = x1 + 1 := ⟨_, rfl⟩
    refine m_iinc (v := v1) (ls1 := [(1, .int v1), (0, .ref o)]) dX9_undo_75 1 rfl (by rw [ev1]; rfl) (by decide) rfl ?_
    replace h := h v1 ev1
    refine m_goto (tgt := 26) dX9_undo_78 (by decide) ?_
    exact AtM.sub (ls := [(1, .int v1), (0, .ref o)]) [1, 0] rfl h
theorem eX9_undo {G : GC} {ad : Nat → Nat} {o : Nat} {Q : MPost} {F : Nat → Int32} {L : Nat → Int64} {I : Nat → Nat → Int32} {J : Nat → Nat → Int64} (h : ∀ σ0, AtM G mX9_undo 3 ad o σ0 Q 0 [(0, .ref o)] [] F L I J) : CallM G mX9_undo 3 ad o [.ref o] F L I J Q :=
  CallM.of (by decide +kernel) wsX9_undo rfl (Nat.le_of_ble_eq_true rfl) (fun σ0 => AtM.sub (ls := [(0, .ref o)]) [0] rfl (h σ0))
set_option maxHeartbeats 4000000 in
theorem bX9_image_0 {G : GC} {ad : Nat → Nat} {o : Nat} {σ0 : PS} {Q : MPost} {F : Nat → Int32} {L : Nat → Int64} {I : Nat → Nat → Int32} {J : Nat → Nat → Int64} (h : (∀ F1 : Nat → Int32, F1 = fU F 0 0 → ((¬ (F1 64) = 3) → CallM G mX9_keepsAll 4 ad o [.ref o, .int (F1 64), .int 1] F1 L I J (mqV (fun F1_1 L1 I1 J1 => (∀ F1_2 : Nat → Int32, F1_2 = fU F1_1 64 (((F1_1 64) + 1)) → Q (some (.int (F1_2 64))) F1_2 L1 I1 J1)))) ∧ (((F1 64) = 3) → Q (some (.int (-1))) F1 L I J))) : AtM G mX9_image 5 ad o σ0 Q 0 [(0, .ref o)] [] F L I J := by
  refine m_aload_n dX9_image_0 rfl 0 rfl ?_
  refine m_iconst (v := 0) dX9_image_1 (by decide) ?_
  refine m_putI 0 dX9_image_2 (by decide) q1763 rfl rfl rfl rfl ?_
  refine m_topF (fun F1 eF1 => ?_)
  replace h := h F1 eF1
  refine m_aload_n dX9_image_5 rfl 0 rfl ?_
  refine m_get (v := .int (F1 64)) 64 dX9_image_6 (by decide) q1827 rfl ?_
  refine m_iconst (v := 3) dX9_image_9 (by decide) ?_
  refine m_icmp_ne (tgt := 15) dX9_image_10 (by decide) (fun c => ?_) (fun c => ?_)
  · replace h := h.1 c
    refine m_aload_n dX9_image_15 rfl 0 rfl ?_
    refine m_aload_n dX9_image_16 rfl 0 rfl ?_
    refine m_get (v := .int (F1 64)) 64 dX9_image_17 (by decide) q1827 rfl ?_
    refine m_iconst (v := 1) dX9_image_20 (by decide) ?_
    refine m_callV (N := mX9_keepsAll) (st := []) (As := [.int (F1 64), .int 1]) dX9_image_21 wsX9_keepsAll (lw_V q2460 q2462 qs105 q116 q2463) rfl mokX9_keepsAll rfl (by decide) (by decide) (Nat.zero_le _) h (fun _ F1_1 L1 I1 J1 hq => ?_)
    obtain ⟨rfl, h⟩ := hq
    refine AtM.stk (st' := []) rfl ?_
    refine m_aload_n dX9_image_24 rfl 0 rfl ?_
    refine m_dup dX9_image_25 rfl ?_
    refine m_get (v := .int (F1_1 64)) 64 dX9_image_26 (by decide) q1827 rfl ?_
    refine m_iconst (v := 1) dX9_image_29 (by decide) ?_
    refine m_iadd dX9_image_30 ?_
    refine m_putI 64 dX9_image_31 (by decide) q1827 rfl rfl rfl rfl ?_
    refine m_topF (fun F1_2 eF1_2 => ?_)
    replace h := h F1_2 eF1_2
    refine m_aload_n dX9_image_34 rfl 0 rfl ?_
    refine m_get (v := .int (F1_2 64)) 64 dX9_image_35 (by decide) q1827 rfl ?_
    exact m_iret rfl dX9_image_38 h
  · replace h := h.2 c
    refine m_iconst (v := (-1)) dX9_image_13 (by decide) ?_
    exact m_iret rfl dX9_image_14 h
theorem eX9_image {G : GC} {ad : Nat → Nat} {o : Nat} {Q : MPost} {F : Nat → Int32} {L : Nat → Int64} {I : Nat → Nat → Int32} {J : Nat → Nat → Int64} (h : ∀ σ0, AtM G mX9_image 5 ad o σ0 Q 0 [(0, .ref o)] [] F L I J) : CallM G mX9_image 5 ad o [.ref o] F L I J Q :=
  CallM.of (by decide +kernel) wsX9_image rfl (Nat.le_of_ble_eq_true rfl) (fun σ0 => AtM.sub (ls := [(0, .ref o)]) [0] rfl (h σ0))
set_option maxHeartbeats 4000000 in
theorem bX9_keepsAll_0 {G : GC} {ad : Nat → Nat} {o : Nat} {σ0 : PS} {Q : MPost} {x1 : Int32} {x2 : Int32} {F : Nat → Int32} {L : Nat → Int64} {I : Nat → Nat → Int32} {J : Nat → Nat → Int64} (h : CallM G mX9_keepsRow 3 ad o [.ref o, .int (1030 * x1), .ref (ad 14), .int 24, .int x2] F L I J (mqI (fun rx F1 L1 I1 J1 => CallM G mX9_keepsRow 3 ad o [.ref o, .int rx, .ref (ad 15), .int 24, .int x2] F1 L1 I1 J1 (mqI (fun rx_1 F1_2 L1_3 I1_4 J1_5 => CallM G mX9_keepsRow 3 ad o [.ref o, .int rx_1, .ref (ad 61), .int 980, .int x2] F1_2 L1_3 I1_4 J1_5 (mqI (fun rx_6 F1_7 L1_8 I1_9 J1_10 => ((x2 = 0) → vp_in rx_6 3090 ∧ ((∀ F1_11 : Nat → Int32, F1_11 = fU F1_7 19 ((I1_9 63 rx_6.toNatClampNeg)) → vp_in ((rx_6 + 1)) 3090 ∧ ((∀ F1_12 : Nat → Int32, F1_12 = fU F1_11 62 ((I1_9 63 ((rx_6 + 1)).toNatClampNeg)) → Q none F1_12 L1_8 I1_9 J1_10))))) ∧ ((¬ x2 = 0) → vp_in rx_6 3090 ∧ (∀ I1_13 : Nat → Nat → Int32, I1_13 = aU I1_9 63 rx_6.toNatClampNeg (F1_7 19) → vp_in ((rx_6 + 1)) 3090 ∧ (∀ I1_14 : Nat → Nat → Int32, I1_14 = aU I1_13 63 ((rx_6 + 1)).toNatClampNeg (F1_7 62) → Q none F1_7 L1_8 I1_14 J1_10)))))))))) : AtM G mX9_keepsAll 4 ad o σ0 Q 0 [(0, .ref o), (1, .int x1), (2, .int x2)] [] F L I J := by
  refine m_aload_n dX9_keepsAll_0 rfl 0 rfl ?_
  refine m_sipush (v := 1030) dX9_keepsAll_1 (by decide) ?_
  refine m_iload_n dX9_keepsAll_4 rfl 1 rfl ?_
  refine m_imul dX9_keepsAll_5 ?_
  refine m_aload_n dX9_keepsAll_6 rfl 0 rfl ?_
  refine m_get (v := .ref (ad 14)) 14 dX9_keepsAll_7 (by decide) q1777 rfl ?_
  refine m_bipush (v := 24) dX9_keepsAll_10 (by decide) ?_
  refine m_iload_n dX9_keepsAll_12 rfl 2 rfl ?_
  refine m_callV (N := mX9_keepsRow) (st := []) (As := [.int (1030 * x1), .ref (ad 14), .int 24, .int x2]) dX9_keepsAll_13 wsX9_keepsRow (lw_V q2464 q2466 qs106 q116 q2467) rfl mokX9_keepsRow rfl (by decide) (by decide) (Nat.zero_le _) h (fun _ F1 L1 I1 J1 hq => ?_)
  obtain ⟨rx, rfl, h⟩ := hq
  refine AtM.stk (st' := [.int rx]) rfl ?_
  refine m_istore_n (ls1 := [(3, .int rx), (0, .ref o), (1, .int x1), (2, .int x2)]) dX9_keepsAll_16 rfl (by decide) rfl ?_
  refine m_aload_n dX9_keepsAll_17 rfl 1 rfl ?_
  refine m_iload_n dX9_keepsAll_18 rfl 0 rfl ?_
  refine m_aload_n dX9_keepsAll_19 rfl 1 rfl ?_
  refine m_get (v := .ref (ad 15)) 15 dX9_keepsAll_20 (by decide) q1778 rfl ?_
  refine m_bipush (v := 24) dX9_keepsAll_23 (by decide) ?_
  refine m_iload_n dX9_keepsAll_25 rfl 3 rfl ?_
  refine m_callV (N := mX9_keepsRow) (st := []) (As := [.int rx, .ref (ad 15), .int 24, .int x2]) dX9_keepsAll_26 wsX9_keepsRow (lw_V q2464 q2466 qs106 q116 q2467) rfl mokX9_keepsRow rfl (by decide) (by decide) (Nat.zero_le _) h (fun _ F1_2 L1_3 I1_4 J1_5 hq => ?_)
  obtain ⟨rx_1, rfl, h⟩ := hq
  refine AtM.stk (st' := [.int rx_1]) rfl ?_
  refine m_istore_n (ls1 := [(3, .int rx_1), (0, .ref o), (1, .int x1), (2, .int x2)]) dX9_keepsAll_29 rfl (by decide) rfl ?_
  refine m_aload_n dX9_keepsAll_30 rfl 1 rfl ?_
  refine m_iload_n dX9_keepsAll_31 rfl 0 rfl ?_
  refine m_aload_n dX9_keepsAll_32 rfl 1 rfl ?_
  refine m_get (v := .ref (ad 61)) 61 dX9_keepsAll_33 (by decide) q1824 rfl ?_
  refine m_sipush (v := 980) dX9_keepsAll_36 (by decide) ?_
  refine m_iload_n dX9_keepsAll_39 rfl 3 rfl ?_
  refine m_callV (N := mX9_keepsRow) (st := []) (As := [.int rx_1, .ref (ad 61), .int 980, .int x2]) dX9_keepsAll_40 wsX9_keepsRow (lw_V q2464 q2466 qs106 q116 q2467) rfl mokX9_keepsRow rfl (by decide) (by decide) (Nat.zero_le _) h (fun _ F1_7 L1_8 I1_9 J1_10 hq => ?_)
  obtain ⟨rx_6, rfl, h⟩ := hq
  refine AtM.stk (st' := [.int rx_6]) rfl ?_
  refine m_istore_n (ls1 := [(3, .int rx_6), (0, .ref o), (1, .int x1), (2, .int x2)]) dX9_keepsAll_43 rfl (by decide) rfl ?_
  refine m_iload_n dX9_keepsAll_44 rfl 3 rfl ?_
  refine m_if_eq (tgt := 73) dX9_keepsAll_45 (by decide) (fun c => ?_) (fun c => ?_)
  · replace h := h.1 c
    refine m_aload_n dX9_keepsAll_73 rfl 1 rfl ?_
    refine m_aload_n dX9_keepsAll_74 rfl 1 rfl ?_
    refine m_get (v := .ref (ad 63)) 63 dX9_keepsAll_75 (by decide) q1826 rfl ?_
    refine m_iload_n dX9_keepsAll_78 rfl 0 rfl ?_
    obtain ⟨h1, h⟩ := h
    refine m_iald 63 dX9_keepsAll_79 (by decide) rfl h1 ?_
    refine m_putI 19 dX9_keepsAll_80 (by decide) q1782 rfl rfl rfl rfl ?_
    refine m_topF (fun F1_11 eF1_11 => ?_)
    replace h := h F1_11 eF1_11
    refine m_aload_n dX9_keepsAll_83 rfl 1 rfl ?_
    refine m_aload_n dX9_keepsAll_84 rfl 1 rfl ?_
    refine m_get (v := .ref (ad 63)) 63 dX9_keepsAll_85 (by decide) q1826 rfl ?_
    refine m_iload_n dX9_keepsAll_88 rfl 0 rfl ?_
    refine m_iconst (v := 1) dX9_keepsAll_89 (by decide) ?_
    refine m_iadd dX9_keepsAll_90 ?_
    obtain ⟨h1, h⟩ := h
    refine m_iald 63 dX9_keepsAll_91 (by decide) rfl h1 ?_
    refine m_putI 62 dX9_keepsAll_92 (by decide) q1825 rfl rfl rfl rfl ?_
    refine m_topF (fun F1_12 eF1_12 => ?_)
    replace h := h F1_12 eF1_12
    exact m_vret rfl dX9_keepsAll_95 h
  · replace h := h.2 c
    refine m_aload_n dX9_keepsAll_48 rfl 1 rfl ?_
    refine m_get (v := .ref (ad 63)) 63 dX9_keepsAll_49 (by decide) q1826 rfl ?_
    refine m_iload_n dX9_keepsAll_52 rfl 0 rfl ?_
    refine m_aload_n dX9_keepsAll_53 rfl 1 rfl ?_
    refine m_get (v := .int (F1_7 19)) 19 dX9_keepsAll_54 (by decide) q1782 rfl ?_
    obtain ⟨h1, h⟩ := h
    refine m_iast 63 dX9_keepsAll_57 (by decide) rfl h1 ?_
    refine m_topI (fun I1_13 eI1_13 => ?_)
    replace h := h I1_13 eI1_13
    refine m_aload_n dX9_keepsAll_58 rfl 1 rfl ?_
    refine m_get (v := .ref (ad 63)) 63 dX9_keepsAll_59 (by decide) q1826 rfl ?_
    refine m_iload_n dX9_keepsAll_62 rfl 0 rfl ?_
    refine m_iconst (v := 1) dX9_keepsAll_63 (by decide) ?_
    refine m_iadd dX9_keepsAll_64 ?_
    refine m_aload_n dX9_keepsAll_65 rfl 1 rfl ?_
    refine m_get (v := .int (F1_7 62)) 62 dX9_keepsAll_66 (by decide) q1825 rfl ?_
    obtain ⟨h1, h⟩ := h
    refine m_iast 63 dX9_keepsAll_69 (by decide) rfl h1 ?_
    refine m_topI (fun I1_14 eI1_14 => ?_)
    replace h := h I1_14 eI1_14
    refine m_goto (tgt := 95) dX9_keepsAll_70 (by decide) ?_
    exact m_vret rfl dX9_keepsAll_95 h
theorem eX9_keepsAll {G : GC} {ad : Nat → Nat} {o : Nat} {Q : MPost} {p1 : Int32} {p2 : Int32} {F : Nat → Int32} {L : Nat → Int64} {I : Nat → Nat → Int32} {J : Nat → Nat → Int64} (h : ∀ σ0, AtM G mX9_keepsAll 4 ad o σ0 Q 0 [(0, .ref o), (1, .int p1), (2, .int p2)] [] F L I J) : CallM G mX9_keepsAll 4 ad o [.ref o, .int p1, .int p2] F L I J Q :=
  CallM.of (by decide +kernel) wsX9_keepsAll rfl (Nat.le_of_ble_eq_true rfl) (fun σ0 => AtM.sub (ls := [(0, .ref o), (1, .int p1), (2, .int p2)]) [0, 1, 2] rfl (h σ0))
set_option maxHeartbeats 4000000 in
theorem bX9_keepsRow_0 {G : GC} {ad : Nat → Nat} {o : Nat} {σ0 : PS} {Q : MPost} {x1 : Int32} {k2 : Nat} {x3 : Int32} {x4 : Int32} {F : Nat → Int32} {L : Nat → Int64} {I : Nat → Nat → Int32} {J : Nat → Nat → Int64} (hk2 : k2 < 65 ∧ mKind k2 = 2) (h : AtM G mX9_keepsRow 3 ad o σ0 Q 3 [(0, .ref o), (1, .int x1), (2, .ref (ad k2)), (3, .int x3), (4, .int x4), (5, .int 0)] [] F L I J) : AtM G mX9_keepsRow 3 ad o σ0 Q 0 [(0, .ref o), (1, .int x1), (2, .ref (ad k2)), (3, .int x3), (4, .int x4)] [] F L I J := by
  refine m_iconst (v := 0) dX9_keepsRow_0 (by decide) ?_
  refine m_istore (ls1 := [(5, .int 0), (0, .ref o), (1, .int x1), (2, .ref (ad k2)), (3, .int x3), (4, .int x4)]) dX9_keepsRow_1 (by decide) rfl ?_
  exact AtM.sub (ls := [(5, .int 0), (0, .ref o), (1, .int x1), (2, .ref (ad k2)), (3, .int x3), (4, .int x4)]) [1, 2, 3, 4, 5, 0] rfl h
set_option maxHeartbeats 4000000 in
theorem bX9_keepsRow_3 {G : GC} {ad : Nat → Nat} {o : Nat} {σ0 : PS} {Q : MPost} {x1 : Int32} {k2 : Nat} {x3 : Int32} {x4 : Int32} {x5 : Int32} {F : Nat → Int32} {L : Nat → Int64} {I : Nat → Nat → Int32} {J : Nat → Nat → Int64} (hk2 : k2 < 65 ∧ mKind k2 = 2) (h : ((x3 ≤ x5) → Q (some (.int (x1 + x3))) F L I J) ∧ ((¬ x3 ≤ x5) → ((x4 = 0) → vp_in ((x1 + x5)) 3090 ∧ (vp_in x5 (mLen k2) ∧ (∀ I1 : Nat → Nat → Int32, I1 = aU I k2 x5.toNatClampNeg ((I 63 ((x1 + x5)).toNatClampNeg)) → ∀ v5 : Int32, v5 = x5 + 1 → AtM G mX9_keepsRow 3 ad o σ0 Q 3 [(0, .ref o), (1, .int x1), (2, .ref (ad k2)), (3, .int x3), (4, .int x4), (5, .int v5)] [] F L I1 J))) ∧ ((¬ x4 = 0) → vp_in x5 (mLen k2) ∧ (vp_in ((x1 + x5)) 3090 ∧ (∀ I1 : Nat → Nat → Int32, I1 = aU I 63 ((x1 + x5)).toNatClampNeg ((I k2 x5.toNatClampNeg)) → ∀ v5 : Int32, v5 = x5 + 1 → AtM G mX9_keepsRow 3 ad o σ0 Q 3 [(0, .ref o), (1, .int x1), (2, .ref (ad k2)), (3, .int x3), (4, .int x4), (5, .int v5)] [] F L I1 J))))) : AtM G mX9_keepsRow 3 ad o σ0 Q 3 [(0, .ref o), (1, .int x1), (2, .ref (ad k2)), (3, .int x3), (4, .int x4), (5, .int x5)] [] F L I J := by
  refine m_iload dX9_keepsRow_3 5 rfl ?_
  refine m_iload_n dX9_keepsRow_5 rfl 3 rfl ?_
  refine m_icmp_ge (tgt := 49) dX9_keepsRow_6 (by decide) (fun c => ?_) (fun c => ?_)
  · replace h := h.1 c
    refine m_iload_n dX9_keepsRow_49 rfl 1 rfl ?_
    refine m_iload_n dX9_keepsRow_50 rfl 3 rfl ?_
    refine m_iadd dX9_keepsRow_51 ?_
    exact m_iret rfl dX9_keepsRow_52 h
  · replace h := h.2 c
    refine m_iload dX9_keepsRow_9 4 rfl ?_
    refine m_if_eq (tgt := 30) dX9_keepsRow_11 (by decide) (fun c => ?_) (fun c => ?_)
    · replace h := h.1 c
      refine m_aload_n dX9_keepsRow_30 rfl 2 rfl ?_
      refine m_iload dX9_keepsRow_31 5 rfl ?_
      refine m_aload_n dX9_keepsRow_33 rfl 0 rfl ?_
      refine m_get (v := .ref (ad 63)) 63 dX9_keepsRow_34 (by decide) q1826 rfl ?_
      refine m_iload_n dX9_keepsRow_37 rfl 1 rfl ?_
      refine m_iload dX9_keepsRow_38 5 rfl ?_
      refine m_iadd dX9_keepsRow_40 ?_
      obtain ⟨h1, h⟩ := h
      refine m_iald 63 dX9_keepsRow_41 (by decide) rfl h1 ?_
      obtain ⟨h1, h⟩ := h
      refine m_iast k2 dX9_keepsRow_42 hk2.1 hk2.2 h1 ?_
      refine m_topI (fun I1 eI1 => ?_)
      replace h := h I1 eI1
      obtain ⟨v5, ev5⟩ : ∃ z : Int32, z = x5 + 1 := ⟨_, rfl⟩
      refine m_iinc (v := v5) (ls1 := [(5, .int v5), (0, .ref o), (1, .int x1), (2, .ref (ad k2)), (3, .int x3), (4, .int x4)]) dX9_keepsRow_43 5 rfl (by rw [ev5]; rfl) (by decide) rfl ?_
      replace h := h v5 ev5
      refine m_goto (tgt := 3) dX9_keepsRow_46 (by decide) ?_
      exact AtM.sub (ls := [(5, .int v5), (0, .ref o), (1, .int x1), (2, .ref (ad k2)), (3, .int x3), (4, .int x4)]) [1, 2, 3, 4, 5, 0] rfl h
    · replace h := h.2 c
      refine m_aload_n dX9_keepsRow_14 rfl 0 rfl ?_
      refine m_get (v := .ref (ad 63)) 63 dX9_keepsRow_15 (by decide) q1826 rfl ?_
      refine m_iload_n dX9_keepsRow_18 rfl 1 rfl ?_
      refine m_iload dX9_keepsRow_19 5 rfl ?_
      refine m_iadd dX9_keepsRow_21 ?_
      refine m_aload_n dX9_keepsRow_22 rfl 2 rfl ?_
      refine m_iload dX9_keepsRow_23 5 rfl ?_
      obtain ⟨h1, h⟩ := h
      refine m_iald k2 dX9_keepsRow_25 hk2.1 hk2.2 h1 ?_
      obtain ⟨h1, h⟩ := h
      refine m_iast 63 dX9_keepsRow_26 (by decide) rfl h1 ?_
      refine m_topI (fun I1 eI1 => ?_)
      replace h := h I1 eI1
      refine m_goto (tgt := 43) dX9_keepsRow_27 (by decide) ?_
      obtain ⟨v5, ev5⟩ : ∃ z : Int32, z = x5 + 1 := ⟨_, rfl⟩
      refine m_iinc (v := v5) (ls1 := [(5, .int v5), (0, .ref o), (1, .int x1), (2, .ref (ad k2)), (3, .int x3), (4, .int x4)]) dX9_keepsRow_43 5 rfl (by rw [ev5]; rfl) (by decide) rfl ?_
      replace h := h v5 ev5
      refine m_goto (tgt := 3) dX9_keepsRow_46 (by decide) ?_
      exact AtM.sub (ls := [(5, .int v5), (0, .ref o), (1, .int x1), (2, .ref (ad k2)), (3, .int x3), (4, .int x4)]) [1, 2, 3, 4, 5, 0] rfl h
theorem eX9_keepsRow {G : GC} {ad : Nat → Nat} {o : Nat} {Q : MPost} {p1 : Int32} {k2 : Nat} {p3 : Int32} {p4 : Int32} {F : Nat → Int32} {L : Nat → Int64} {I : Nat → Nat → Int32} {J : Nat → Nat → Int64} (h : ∀ σ0, AtM G mX9_keepsRow 3 ad o σ0 Q 0 [(0, .ref o), (1, .int p1), (2, .ref (ad k2)), (3, .int p3), (4, .int p4)] [] F L I J) : CallM G mX9_keepsRow 3 ad o [.ref o, .int p1, .ref (ad k2), .int p3, .int p4] F L I J Q :=
  CallM.of (by decide +kernel) wsX9_keepsRow rfl (Nat.le_of_ble_eq_true rfl) (fun σ0 => AtM.sub (ls := [(0, .ref o), (1, .int p1), (2, .ref (ad k2)), (3, .int p3), (4, .int p4)]) [0, 1, 2, 3, 4] rfl (h σ0))
set_option maxHeartbeats 4000000 in
theorem bX9_restore_0 {G : GC} {ad : Nat → Nat} {o : Nat} {σ0 : PS} {Q : MPost} {F : Nat → Int32} {L : Nat → Int64} {I : Nat → Nat → Int32} {J : Nat → Nat → Int64} (h : (∀ F1 : Nat → Int32, F1 = fU F 0 0 → ((¬ (F1 64) = 0) → (∀ F1_1 : Nat → Int32, F1_1 = fU F1 64 (((F1 64) - 1)) → CallM G mX9_keepsAll 4 ad o [.ref o, .int (F1_1 64), .int 0] F1_1 L I J (mqV (fun F1_2 L1 I1 J1 => Q (some (.int (F1_2 64))) F1_2 L1 I1 J1)))) ∧ (((F1 64) = 0) → Q (some (.int (-1))) F1 L I J))) : AtM G mX9_restore 5 ad o σ0 Q 0 [(0, .ref o)] [] F L I J := by
  refine m_aload_n dX9_restore_0 rfl 0 rfl ?_
  refine m_iconst (v := 0) dX9_restore_1 (by decide) ?_
  refine m_putI 0 dX9_restore_2 (by decide) q1763 rfl rfl rfl rfl ?_
  refine m_topF (fun F1 eF1 => ?_)
  replace h := h F1 eF1
  refine m_aload_n dX9_restore_5 rfl 0 rfl ?_
  refine m_get (v := .int (F1 64)) 64 dX9_restore_6 (by decide) q1827 rfl ?_
  refine m_if_ne (tgt := 14) dX9_restore_9 (by decide) (fun c => ?_) (fun c => ?_)
  · replace h := h.1 c
    refine m_aload_n dX9_restore_14 rfl 0 rfl ?_
    refine m_dup dX9_restore_15 rfl ?_
    refine m_get (v := .int (F1 64)) 64 dX9_restore_16 (by decide) q1827 rfl ?_
    refine m_iconst (v := 1) dX9_restore_19 (by decide) ?_
    refine m_isub dX9_restore_20 ?_
    refine m_putI 64 dX9_restore_21 (by decide) q1827 rfl rfl rfl rfl ?_
    refine m_topF (fun F1_1 eF1_1 => ?_)
    replace h := h F1_1 eF1_1
    refine m_aload_n dX9_restore_24 rfl 0 rfl ?_
    refine m_aload_n dX9_restore_25 rfl 0 rfl ?_
    refine m_get (v := .int (F1_1 64)) 64 dX9_restore_26 (by decide) q1827 rfl ?_
    refine m_iconst (v := 0) dX9_restore_29 (by decide) ?_
    refine m_callV (N := mX9_keepsAll) (st := []) (As := [.int (F1_1 64), .int 0]) dX9_restore_30 wsX9_keepsAll (lw_V q2460 q2462 qs105 q116 q2463) rfl mokX9_keepsAll rfl (by decide) (by decide) (Nat.zero_le _) h (fun _ F1_2 L1 I1 J1 hq => ?_)
    obtain ⟨rfl, h⟩ := hq
    refine AtM.stk (st' := []) rfl ?_
    refine m_aload_n dX9_restore_33 rfl 0 rfl ?_
    refine m_get (v := .int (F1_2 64)) 64 dX9_restore_34 (by decide) q1827 rfl ?_
    exact m_iret rfl dX9_restore_37 h
  · replace h := h.2 c
    refine m_iconst (v := (-1)) dX9_restore_12 (by decide) ?_
    exact m_iret rfl dX9_restore_13 h
theorem eX9_restore {G : GC} {ad : Nat → Nat} {o : Nat} {Q : MPost} {F : Nat → Int32} {L : Nat → Int64} {I : Nat → Nat → Int32} {J : Nat → Nat → Int64} (h : ∀ σ0, AtM G mX9_restore 5 ad o σ0 Q 0 [(0, .ref o)] [] F L I J) : CallM G mX9_restore 5 ad o [.ref o] F L I J Q :=
  CallM.of (by decide +kernel) wsX9_restore rfl (Nat.le_of_ble_eq_true rfl) (fun σ0 => AtM.sub (ls := [(0, .ref o)]) [0] rfl (h σ0))
set_option maxHeartbeats 4000000 in
theorem bX9_status_0 {G : GC} {ad : Nat → Nat} {o : Nat} {σ0 : PS} {Q : MPost} {x1 : Int32} {F : Nat → Int32} {L : Nat → Int64} {I : Nat → Nat → Int32} {J : Nat → Nat → Int64} (h : (∀ F1 : Nat → Int32, F1 = fU F 0 0 → CallP G mX9_within 3 [.int x1, .int 0, .int 1] (pI (fun rx => ((rx = 0) → Q (some (.int (-1))) F1 L I J) ∧ ((¬ rx = 0) → vp_in x1 2 ∧ (Q (some (.int (I 1 x1.toNatClampNeg))) F1 L I J)))))) : AtM G mX9_status 4 ad o σ0 Q 0 [(0, .ref o), (1, .int x1)] [] F L I J := by
  refine m_aload_n dX9_status_0 rfl 0 rfl ?_
  refine m_iconst (v := 0) dX9_status_1 (by decide) ?_
  refine m_putI 0 dX9_status_2 (by decide) q1763 rfl rfl rfl rfl ?_
  refine m_topF (fun F1 eF1 => ?_)
  replace h := h F1 eF1
  refine m_iload_n dX9_status_5 rfl 1 rfl ?_
  refine m_iconst (v := 0) dX9_status_6 (by decide) ?_
  refine m_iconst (v := 1) dX9_status_7 (by decide) ?_
  refine m_callP (N := mX9_within) (st := []) (As := [.int x1, .int 0, .int 1]) dX9_status_8 wsX9_within (lw_S q2059 q2060 q116 q2061) mokX9_within rfl (by decide) (by decide) (Nat.zero_le _) h (fun _ hq => ?_)
  obtain ⟨rx, rfl, h⟩ := hq
  refine AtM.stk (st' := [.int rx]) rfl ?_
  refine m_if_eq (tgt := 23) dX9_status_11 (by decide) (fun c => ?_) (fun c => ?_)
  · replace h := h.1 c
    refine m_iconst (v := (-1)) dX9_status_23 (by decide) ?_
    exact m_iret rfl dX9_status_24 h
  · replace h := h.2 c
    refine m_aload_n dX9_status_14 rfl 0 rfl ?_
    refine m_get (v := .ref (ad 1)) 1 dX9_status_15 (by decide) q1764 rfl ?_
    refine m_iload_n dX9_status_18 rfl 1 rfl ?_
    obtain ⟨h1, h⟩ := h
    refine m_iald 1 dX9_status_19 (by decide) rfl h1 ?_
    refine m_goto (tgt := 24) dX9_status_20 (by decide) ?_
    exact m_iret rfl dX9_status_24 h
theorem eX9_status {G : GC} {ad : Nat → Nat} {o : Nat} {Q : MPost} {p1 : Int32} {F : Nat → Int32} {L : Nat → Int64} {I : Nat → Nat → Int32} {J : Nat → Nat → Int64} (h : ∀ σ0, AtM G mX9_status 4 ad o σ0 Q 0 [(0, .ref o), (1, .int p1)] [] F L I J) : CallM G mX9_status 4 ad o [.ref o, .int p1] F L I J Q :=
  CallM.of (by decide +kernel) wsX9_status rfl (Nat.le_of_ble_eq_true rfl) (fun σ0 => AtM.sub (ls := [(0, .ref o), (1, .int p1)]) [0, 1] rfl (h σ0))
set_option maxHeartbeats 4000000 in
theorem bX9_count_0 {G : GC} {ad : Nat → Nat} {o : Nat} {σ0 : PS} {Q : MPost} {x1 : Int32} {F : Nat → Int32} {L : Nat → Int64} {I : Nat → Nat → Int32} {J : Nat → Nat → Int64} (h : (∀ F1 : Nat → Int32, F1 = fU F 0 0 → ((¬ x1 = 0) → ((¬ x1 = 1) → ((¬ x1 = 2) → Q (some (.int (-1))) F1 L I J) ∧ ((x1 = 2) → Q (some (.int (F1 62))) F1 L I J)) ∧ ((x1 = 1) → Q (some (.int (F1 2))) F1 L I J)) ∧ ((x1 = 0) → Q (some (.int (F1 64))) F1 L I J))) : AtM G mX9_count 3 ad o σ0 Q 0 [(0, .ref o), (1, .int x1)] [] F L I J := by
  refine m_aload_n dX9_count_0 rfl 0 rfl ?_
  refine m_iconst (v := 0) dX9_count_1 (by decide) ?_
  refine m_putI 0 dX9_count_2 (by decide) q1763 rfl rfl rfl rfl ?_
  refine m_topF (fun F1 eF1 => ?_)
  replace h := h F1 eF1
  refine m_iload_n dX9_count_5 rfl 1 rfl ?_
  refine m_if_ne (tgt := 16) dX9_count_6 (by decide) (fun c => ?_) (fun c => ?_)
  · replace h := h.1 c
    refine m_iload_n dX9_count_16 rfl 1 rfl ?_
    refine m_iconst (v := 1) dX9_count_17 (by decide) ?_
    refine m_icmp_ne (tgt := 28) dX9_count_18 (by decide) (fun c => ?_) (fun c => ?_)
    · replace h := h.1 c
      refine m_iload_n dX9_count_28 rfl 1 rfl ?_
      refine m_iconst (v := 2) dX9_count_29 (by decide) ?_
      refine m_icmp_ne (tgt := 40) dX9_count_30 (by decide) (fun c => ?_) (fun c => ?_)
      · replace h := h.1 c
        refine m_iconst (v := (-1)) dX9_count_40 (by decide) ?_
        exact m_iret rfl dX9_count_41 h
      · replace h := h.2 c
        refine m_aload_n dX9_count_33 rfl 0 rfl ?_
        refine m_get (v := .int (F1 62)) 62 dX9_count_34 (by decide) q1825 rfl ?_
        refine m_goto (tgt := 41) dX9_count_37 (by decide) ?_
        exact m_iret rfl dX9_count_41 h
    · replace h := h.2 c
      refine m_aload_n dX9_count_21 rfl 0 rfl ?_
      refine m_get (v := .int (F1 2)) 2 dX9_count_22 (by decide) q1765 rfl ?_
      refine m_goto (tgt := 41) dX9_count_25 (by decide) ?_
      exact m_iret rfl dX9_count_41 h
  · replace h := h.2 c
    refine m_aload_n dX9_count_9 rfl 0 rfl ?_
    refine m_get (v := .int (F1 64)) 64 dX9_count_10 (by decide) q1827 rfl ?_
    refine m_goto (tgt := 41) dX9_count_13 (by decide) ?_
    exact m_iret rfl dX9_count_41 h
theorem eX9_count {G : GC} {ad : Nat → Nat} {o : Nat} {Q : MPost} {p1 : Int32} {F : Nat → Int32} {L : Nat → Int64} {I : Nat → Nat → Int32} {J : Nat → Nat → Int64} (h : ∀ σ0, AtM G mX9_count 3 ad o σ0 Q 0 [(0, .ref o), (1, .int p1)] [] F L I J) : CallM G mX9_count 3 ad o [.ref o, .int p1] F L I J Q :=
  CallM.of (by decide +kernel) wsX9_count rfl (Nat.le_of_ble_eq_true rfl) (fun σ0 => AtM.sub (ls := [(0, .ref o), (1, .int p1)]) [0, 1] rfl (h σ0))
