set_option maxRecDepth 100000
set_option maxHeartbeats 4000000 in
theorem bX9_thrown_0 {G : GC} {ad : Nat → Nat} {o : Nat} {σ0 : PS} {Q : MPost} {F : Nat → Int32} {L : Nat → Int64} {I : Nat → Nat → Int32} {J : Nat → Nat → Int64} (h : Q (some (.int (F 0))) F L I J) : AtM G mX9_thrown 3 ad o σ0 Q 0 [(0, .ref o)] [] F L I J := by
  refine m_aload_n dX9_thrown_0 rfl 0 rfl ?_
  refine m_get (v := .int (F 0)) 0 dX9_thrown_1 (by decide) q1763 rfl ?_
  exact m_iret rfl dX9_thrown_4 h
theorem eX9_thrown {G : GC} {ad : Nat → Nat} {o : Nat} {Q : MPost} {F : Nat → Int32} {L : Nat → Int64} {I : Nat → Nat → Int32} {J : Nat → Nat → Int64} (h : ∀ σ0, AtM G mX9_thrown 3 ad o σ0 Q 0 [(0, .ref o)] [] F L I J) : CallM G mX9_thrown 3 ad o [.ref o] F L I J Q :=
  CallM.of (by decide +kernel) wsX9_thrown rfl (Nat.le_of_ble_eq_true rfl) (fun σ0 => AtM.sub (ls := [(0, .ref o)]) [0] rfl (h σ0))
set_option maxHeartbeats 4000000 in
theorem bX9_init_0 {G : GC} {Q : Option Value → PS → Prop} {X : String → Nat → PS → Prop} {b : Nat} {h0 : Nat} {σ : PS} (h : 1 ≤ b ∧ (∀ q : Nat, (∀ κ, σ κ q = none) → (∀ s1 : PS, s1 = up (σ) 100 q (.inr (2, .inl (fun _ => 0))) → ∃ fs : List Value, Ob s1 9 h0 fs ∧ 1 < fs.length ∧ (∀ s1_1 : PS, s1_1 = up s1 9 h0 (.inl (fs.set 1 (.ref q))) → ∃ fs_2 : List Value, Ob s1_1 9 h0 fs_2 ∧ 8 < fs_2.length ∧ (∀ s1_3 : PS, s1_3 = up s1_1 9 h0 (.inl (fs_2.set 8 (.int (-1)))) → 25 ≤ b - 1 ∧ (∀ q_4 : Nat, (∀ κ, s1_3 κ q_4 = none) → (∀ s1_5 : PS, s1_5 = up s1_3 100 q_4 (.inr (600, .inl (fun _ => 0))) → ∃ fs_6 : List Value, Ob s1_5 9 h0 fs_6 ∧ 9 < fs_6.length ∧ (∀ s1_7 : PS, s1_7 = up s1_5 9 h0 (.inl (fs_6.set 9 (.ref q_4))) → 1 ≤ b - 1 - 25 ∧ (∀ q_8 : Nat, (∀ κ, s1_7 κ q_8 = none) → (∀ s1_9 : PS, s1_9 = up s1_7 100 q_8 (.inr (12, .inl (fun _ => 0))) → ∃ fs_10 : List Value, Ob s1_9 9 h0 fs_10 ∧ 10 < fs_10.length ∧ (∀ s1_11 : PS, s1_11 = up s1_9 9 h0 (.inl (fs_10.set 10 (.ref q_8))) → 1 ≤ b - 1 - 25 - 1 ∧ (∀ q_12 : Nat, (∀ κ, s1_11 κ q_12 = none) → (∀ s1_13 : PS, s1_13 = up s1_11 100 q_12 (.inr (12, .inl (fun _ => 0))) → ∃ fs_14 : List Value, Ob s1_13 9 h0 fs_14 ∧ 11 < fs_14.length ∧ (∀ s1_15 : PS, s1_15 = up s1_13 9 h0 (.inl (fs_14.set 11 (.ref q_12))) → 1 ≤ b - 1 - 25 - 1 - 1 ∧ (∀ q_16 : Nat, (∀ κ, s1_15 κ q_16 = none) → (∀ s1_17 : PS, s1_17 = up s1_15 100 q_16 (.inr (24, .inl (fun _ => 0))) → ∃ fs_18 : List Value, Ob s1_17 9 h0 fs_18 ∧ 12 < fs_18.length ∧ (∀ s1_19 : PS, s1_19 = up s1_17 9 h0 (.inl (fs_18.set 12 (.ref q_16))) → 1 ≤ b - 1 - 25 - 1 - 1 - 1 ∧ (∀ q_20 : Nat, (∀ κ, s1_19 κ q_20 = none) → (∀ s1_21 : PS, s1_21 = up s1_19 100 q_20 (.inr (24, .inl (fun _ => 0))) → ∃ fs_22 : List Value, Ob s1_21 9 h0 fs_22 ∧ 13 < fs_22.length ∧ (∀ s1_23 : PS, s1_23 = up s1_21 9 h0 (.inl (fs_22.set 13 (.ref q_20))) → 1 ≤ b - 1 - 25 - 1 - 1 - 1 - 1 ∧ (∀ q_24 : Nat, (∀ κ, s1_23 κ q_24 = none) → (∀ s1_25 : PS, s1_25 = up s1_23 100 q_24 (.inr (24, .inl (fun _ => 0))) → ∃ fs_26 : List Value, Ob s1_25 9 h0 fs_26 ∧ 14 < fs_26.length ∧ (∀ s1_27 : PS, s1_27 = up s1_25 9 h0 (.inl (fs_26.set 14 (.ref q_24))) → 1 ≤ b - 1 - 25 - 1 - 1 - 1 - 1 - 1 ∧ (∀ q_28 : Nat, (∀ κ, s1_27 κ q_28 = none) → (∀ s1_29 : PS, s1_29 = up s1_27 100 q_28 (.inr (24, .inl (fun _ => 0))) → ∃ fs_30 : List Value, Ob s1_29 9 h0 fs_30 ∧ 15 < fs_30.length ∧ (∀ s1_31 : PS, s1_31 = up s1_29 9 h0 (.inl (fs_30.set 15 (.ref q_28))) → 7 ≤ b - 1 - 25 - 1 - 1 - 1 - 1 - 1 - 1 ∧ (∀ q_32 : Nat, (∀ κ, s1_31 κ q_32 = none) → (∀ s1_33 : PS, s1_33 = up s1_31 100 q_32 (.inr (150, .inl (fun _ => 0))) → ∃ fs_34 : List Value, Ob s1_33 9 h0 fs_34 ∧ 20 < fs_34.length ∧ (∀ s1_35 : PS, s1_35 = up s1_33 9 h0 (.inl (fs_34.set 20 (.ref q_32))) → 7 ≤ b - 1 - 25 - 1 - 1 - 1 - 1 - 1 - 1 - 7 ∧ (∀ q_36 : Nat, (∀ κ, s1_35 κ q_36 = none) → (∀ s1_37 : PS, s1_37 = up s1_35 100 q_36 (.inr (150, .inl (fun _ => 0))) → ∃ fs_38 : List Value, Ob s1_37 9 h0 fs_38 ∧ 21 < fs_38.length ∧ (∀ s1_39 : PS, s1_39 = up s1_37 9 h0 (.inl (fs_38.set 21 (.ref q_36))) → 2 ≤ b - 1 - 25 - 1 - 1 - 1 - 1 - 1 - 1 - 7 - 7 ∧ (∀ q_40 : Nat, (∀ κ, s1_39 κ q_40 = none) → (∀ s1_41 : PS, s1_41 = up s1_39 100 q_40 (.inr (32, .inl (fun _ => 0))) → ∃ fs_42 : List Value, Ob s1_41 9 h0 fs_42 ∧ 22 < fs_42.length ∧ (∀ s1_43 : PS, s1_43 = up s1_41 9 h0 (.inl (fs_42.set 22 (.ref q_40))) → 7 ≤ b - 1 - 25 - 1 - 1 - 1 - 1 - 1 - 1 - 7 - 7 - 2 ∧ (∀ q_44 : Nat, (∀ κ, s1_43 κ q_44 = none) → (∀ s1_45 : PS, s1_45 = up s1_43 100 q_44 (.inr (150, .inl (fun _ => 0))) → ∃ fs_46 : List Value, Ob s1_45 9 h0 fs_46 ∧ 23 < fs_46.length ∧ (∀ s1_47 : PS, s1_47 = up s1_45 9 h0 (.inl (fs_46.set 23 (.ref q_44))) → 44 ≤ b - 1 - 25 - 1 - 1 - 1 - 1 - 1 - 1 - 7 - 7 - 2 - 7 ∧ (∀ q_48 : Nat, (∀ κ, s1_47 κ q_48 = none) → (∀ s1_49 : PS, s1_49 = up s1_47 100 q_48 (.inr (1050, .inl (fun _ => 0))) → ∃ fs_50 : List Value, Ob s1_49 9 h0 fs_50 ∧ 24 < fs_50.length ∧ (∀ s1_51 : PS, s1_51 = up s1_49 9 h0 (.inl (fs_50.set 24 (.ref q_48))) → 44 ≤ b - 1 - 25 - 1 - 1 - 1 - 1 - 1 - 1 - 7 - 7 - 2 - 7 - 44 ∧ (∀ q_52 : Nat, (∀ κ, s1_51 κ q_52 = none) → (∀ s1_53 : PS, s1_53 = up s1_51 100 q_52 (.inr (1050, .inl (fun _ => 0))) → ∃ fs_54 : List Value, Ob s1_53 9 h0 fs_54 ∧ 25 < fs_54.length ∧ (∀ s1_55 : PS, s1_55 = up s1_53 9 h0 (.inl (fs_54.set 25 (.ref q_52))) → 10 ≤ b - 1 - 25 - 1 - 1 - 1 - 1 - 1 - 1 - 7 - 7 - 2 - 7 - 44 - 44 ∧ (∀ q_56 : Nat, (∀ κ, s1_55 κ q_56 = none) → (∀ s1_57 : PS, s1_57 = up s1_55 100 q_56 (.inr (224, .inl (fun _ => 0))) → ∃ fs_58 : List Value, Ob s1_57 9 h0 fs_58 ∧ 26 < fs_58.length ∧ (∀ s1_59 : PS, s1_59 = up s1_57 9 h0 (.inl (fs_58.set 26 (.ref q_56))) → 1 ≤ b - 1 - 25 - 1 - 1 - 1 - 1 - 1 - 1 - 7 - 7 - 2 - 7 - 44 - 44 - 10 ∧ (∀ q_60 : Nat, (∀ κ, s1_59 κ q_60 = none) → (∀ s1_61 : PS, s1_61 = up s1_59 100 q_60 (.inr (7, .inl (fun _ => 0))) → ∃ fs_62 : List Value, Ob s1_61 9 h0 fs_62 ∧ 27 < fs_62.length ∧ (∀ s1_63 : PS, s1_63 = up s1_61 9 h0 (.inl (fs_62.set 27 (.ref q_60))) → 2 ≤ b - 1 - 25 - 1 - 1 - 1 - 1 - 1 - 1 - 7 - 7 - 2 - 7 - 44 - 44 - 10 - 1 ∧ (∀ q_64 : Nat, (∀ κ, s1_63 κ q_64 = none) → (∀ s1_65 : PS, s1_65 = up s1_63 100 q_64 (.inr (30, .inl (fun _ => 0))) → ∃ fs_66 : List Value, Ob s1_65 9 h0 fs_66 ∧ 30 < fs_66.length ∧ (∀ s1_67 : PS, s1_67 = up s1_65 9 h0 (.inl (fs_66.set 30 (.ref q_64))) → 2 ≤ b - 1 - 25 - 1 - 1 - 1 - 1 - 1 - 1 - 7 - 7 - 2 - 7 - 44 - 44 - 10 - 1 - 2 ∧ (∀ q_68 : Nat, (∀ κ, s1_67 κ q_68 = none) → (∀ s1_69 : PS, s1_69 = up s1_67 100 q_68 (.inr (30, .inl (fun _ => 0))) → ∃ fs_70 : List Value, Ob s1_69 9 h0 fs_70 ∧ 31 < fs_70.length ∧ (∀ s1_71 : PS, s1_71 = up s1_69 9 h0 (.inl (fs_70.set 31 (.ref q_68))) → 705 ≤ b - 1 - 25 - 1 - 1 - 1 - 1 - 1 - 1 - 7 - 7 - 2 - 7 - 44 - 44 - 10 - 1 - 2 - 2 ∧ (∀ q_72 : Nat, (∀ κ, s1_71 κ q_72 = none) → (∀ s1_73 : PS, s1_73 = up s1_71 100 q_72 (.inr (16900, .inl (fun _ => 0))) → ∃ fs_74 : List Value, Ob s1_73 9 h0 fs_74 ∧ 33 < fs_74.length ∧ (∀ s1_75 : PS, s1_75 = up s1_73 9 h0 (.inl (fs_74.set 33 (.ref q_72))) → 705 ≤ b - 1 - 25 - 1 - 1 - 1 - 1 - 1 - 1 - 7 - 7 - 2 - 7 - 44 - 44 - 10 - 1 - 2 - 2 - 705 ∧ (∀ q_76 : Nat, (∀ κ, s1_75 κ q_76 = none) → (∀ s1_77 : PS, s1_77 = up s1_75 100 q_76 (.inr (16900, .inl (fun _ => 0))) → ∃ fs_78 : List Value, Ob s1_77 9 h0 fs_78 ∧ 34 < fs_78.length ∧ (∀ s1_79 : PS, s1_79 = up s1_77 9 h0 (.inl (fs_78.set 34 (.ref q_76))) → 705 ≤ b - 1 - 25 - 1 - 1 - 1 - 1 - 1 - 1 - 7 - 7 - 2 - 7 - 44 - 44 - 10 - 1 - 2 - 2 - 705 - 705 ∧ (∀ q_80 : Nat, (∀ κ, s1_79 κ q_80 = none) → (∀ s1_81 : PS, s1_81 = up s1_79 101 q_80 (.inr (16900, .inr (.inl (fun _ => 0)))) → ∃ fs_82 : List Value, Ob s1_81 9 h0 fs_82 ∧ 37 < fs_82.length ∧ (∀ s1_83 : PS, s1_83 = up s1_81 9 h0 (.inl (fs_82.set 37 (.ref q_80))) → 705 ≤ b - 1 - 25 - 1 - 1 - 1 - 1 - 1 - 1 - 7 - 7 - 2 - 7 - 44 - 44 - 10 - 1 - 2 - 2 - 705 - 705 - 705 ∧ (∀ q_84 : Nat, (∀ κ, s1_83 κ q_84 = none) → (∀ s1_85 : PS, s1_85 = up s1_83 101 q_84 (.inr (16900, .inr (.inl (fun _ => 0)))) → ∃ fs_86 : List Value, Ob s1_85 9 h0 fs_86 ∧ 38 < fs_86.length ∧ (∀ s1_87 : PS, s1_87 = up s1_85 9 h0 (.inl (fs_86.set 38 (.ref q_84))) → 1 ≤ b - 1 - 25 - 1 - 1 - 1 - 1 - 1 - 1 - 7 - 7 - 2 - 7 - 44 - 44 - 10 - 1 - 2 - 2 - 705 - 705 - 705 - 705 ∧ (∀ q_88 : Nat, (∀ κ, s1_87 κ q_88 = none) → (∀ s1_89 : PS, s1_89 = up s1_87 101 q_88 (.inr (6, .inr (.inl (fun _ => 0)))) → ∃ fs_90 : List Value, Ob s1_89 9 h0 fs_90 ∧ 39 < fs_90.length ∧ (∀ s1_91 : PS, s1_91 = up s1_89 9 h0 (.inl (fs_90.set 39 (.ref q_88))) → 1 ≤ b - 1 - 25 - 1 - 1 - 1 - 1 - 1 - 1 - 7 - 7 - 2 - 7 - 44 - 44 - 10 - 1 - 2 - 2 - 705 - 705 - 705 - 705 - 1 ∧ (∀ q_92 : Nat, (∀ κ, s1_91 κ q_92 = none) → (∀ s1_93 : PS, s1_93 = up s1_91 101 q_92 (.inr (24, .inr (.inl (fun _ => 0)))) → ∃ fs_94 : List Value, Ob s1_93 9 h0 fs_94 ∧ 40 < fs_94.length ∧ (∀ s1_95 : PS, s1_95 = up s1_93 9 h0 (.inl (fs_94.set 40 (.ref q_92))) → 1 ≤ b - 1 - 25 - 1 - 1 - 1 - 1 - 1 - 1 - 7 - 7 - 2 - 7 - 44 - 44 - 10 - 1 - 2 - 2 - 705 - 705 - 705 - 705 - 1 - 1 ∧ (∀ q_96 : Nat, (∀ κ, s1_95 κ q_96 = none) → (∀ s1_97 : PS, s1_97 = up s1_95 100 q_96 (.inr (8, .inl (fun _ => 0))) → ∃ fs_98 : List Value, Ob s1_97 9 h0 fs_98 ∧ 56 < fs_98.length ∧ (∀ s1_99 : PS, s1_99 = up s1_97 9 h0 (.inl (fs_98.set 56 (.ref q_96))) → 41 ≤ b - 1 - 25 - 1 - 1 - 1 - 1 - 1 - 1 - 7 - 7 - 2 - 7 - 44 - 44 - 10 - 1 - 2 - 2 - 705 - 705 - 705 - 705 - 1 - 1 - 1 ∧ (∀ q_100 : Nat, (∀ κ, s1_99 κ q_100 = none) → (∀ s1_101 : PS, s1_101 = up s1_99 100 q_100 (.inr (980, .inl (fun _ => 0))) → ∃ fs_102 : List Value, Ob s1_101 9 h0 fs_102 ∧ 61 < fs_102.length ∧ (∀ s1_103 : PS, s1_103 = up s1_101 9 h0 (.inl (fs_102.set 61 (.ref q_100))) → 129 ≤ b - 1 - 25 - 1 - 1 - 1 - 1 - 1 - 1 - 7 - 7 - 2 - 7 - 44 - 44 - 10 - 1 - 2 - 2 - 705 - 705 - 705 - 705 - 1 - 1 - 1 - 41 ∧ (∀ q_104 : Nat, (∀ κ, s1_103 κ q_104 = none) → (∀ s1_105 : PS, s1_105 = up s1_103 100 q_104 (.inr (3090, .inl (fun _ => 0))) → ∃ fs_106 : List Value, Ob s1_105 9 h0 fs_106 ∧ 63 < fs_106.length ∧ (∀ s1_107 : PS, s1_107 = up s1_105 9 h0 (.inl (fs_106.set 63 (.ref q_104))) → (∃ fs_111 : List Value, Ob s1_107 9 h0 fs_111) ∧ Call G mX9_clears 3 0 [.ref h0] s1_107 (qV (fun s1_108 => (∃ fs_110 : List Value, Ob s1_108 9 h0 fs_110) ∧ Call G mX9_sets 4 0 [.ref h0] s1_108 (qV (fun s1_109 => Q none s1_109)) X)) X))))))))))))))))))))))))))))))))))))))))))))))))))))))))))))))))))))))))))))))))))) : At G mX9_init 5 Q X b 0 [(0, .ref h0)] [] (σ) := by
  refine g_aload_n dX9_init_0 rfl 0 rfl ?_
  refine g_objInit dX9_init_1 q1750 q151 q152 (by decide) (Nat.zero_le _) ?_
  refine g_aload_n dX9_init_4 rfl 0 rfl ?_
  refine g_iconst (v := 2) dX9_init_5 (by decide) ?_
  obtain ⟨hb, h⟩ := h
  refine g_newa (κ := 100) (t0 := 0) (N := 2) (ty := .int) (atype := .int) (x := .inl (fun _ => 0)) 1 dX9_init_6 q177 rfl rfl (Or.inl ⟨rfl, rfl⟩) (by decide) (by decide) (Nat.le_of_ble_eq_true rfl) (by decide) (by decide) hb (fun q hq => ?_)
  replace h := h q hq
  refine g_tops (fun s1 es1 => ?_)
  replace h := h s1 es1
  obtain ⟨fs, hO, hl, h⟩ := h
  refine g_putF 1 dX9_init_8 in_X9 tyX9 tyX9_ok nmX9 cl9 (by decide) q1764 rfl rfl rfl rfl rfl hO hl ?_
  refine g_tops (fun s1_1 es1_1 => ?_)
  replace h := h s1_1 es1_1
  refine g_aload_n dX9_init_11 rfl 0 rfl ?_
  refine g_iconst (v := (-1)) dX9_init_12 (by decide) ?_
  obtain ⟨fs_2, hO, hl, h⟩ := h
  refine g_put 8 dX9_init_13 in_X9 tyX9 tyX9_ok nmX9 cl9 (by decide) q1771 rfl rfl rfl hO hl ?_
  refine g_tops (fun s1_3 es1_3 => ?_)
  replace h := h s1_3 es1_3
  refine g_aload_n dX9_init_16 rfl 0 rfl ?_
  refine g_sipush (v := 600) dX9_init_17 (by decide) ?_
  obtain ⟨hb, h⟩ := h
  refine g_newa (κ := 100) (t0 := 0) (N := 600) (ty := .int) (atype := .int) (x := .inl (fun _ => 0)) 25 dX9_init_20 q177 rfl rfl (Or.inl ⟨rfl, rfl⟩) (by decide) (by decide) (Nat.le_of_ble_eq_true rfl) (by decide) (by decide) hb (fun q_4 hq => ?_)
  replace h := h q_4 hq
  refine g_tops (fun s1_5 es1_5 => ?_)
  replace h := h s1_5 es1_5
  obtain ⟨fs_6, hO, hl, h⟩ := h
  refine g_putF 9 dX9_init_22 in_X9 tyX9 tyX9_ok nmX9 cl9 (by decide) q1772 rfl rfl rfl rfl rfl hO hl ?_
  refine g_tops (fun s1_7 es1_7 => ?_)
  replace h := h s1_7 es1_7
  refine g_aload_n dX9_init_25 rfl 0 rfl ?_
  refine g_bipush (v := 12) dX9_init_26 (by decide) ?_
  obtain ⟨hb, h⟩ := h
  refine g_newa (κ := 100) (t0 := 0) (N := 12) (ty := .int) (atype := .int) (x := .inl (fun _ => 0)) 1 dX9_init_28 q177 rfl rfl (Or.inl ⟨rfl, rfl⟩) (by decide) (by decide) (Nat.le_of_ble_eq_true rfl) (by decide) (by decide) hb (fun q_8 hq => ?_)
  replace h := h q_8 hq
  refine g_tops (fun s1_9 es1_9 => ?_)
  replace h := h s1_9 es1_9
  obtain ⟨fs_10, hO, hl, h⟩ := h
  refine g_putF 10 dX9_init_30 in_X9 tyX9 tyX9_ok nmX9 cl9 (by decide) q1773 rfl rfl rfl rfl rfl hO hl ?_
  refine g_tops (fun s1_11 es1_11 => ?_)
  replace h := h s1_11 es1_11
  refine g_aload_n dX9_init_33 rfl 0 rfl ?_
  refine g_bipush (v := 12) dX9_init_34 (by decide) ?_
  obtain ⟨hb, h⟩ := h
  refine g_newa (κ := 100) (t0 := 0) (N := 12) (ty := .int) (atype := .int) (x := .inl (fun _ => 0)) 1 dX9_init_36 q177 rfl rfl (Or.inl ⟨rfl, rfl⟩) (by decide) (by decide) (Nat.le_of_ble_eq_true rfl) (by decide) (by decide) hb (fun q_12 hq => ?_)
  replace h := h q_12 hq
  refine g_tops (fun s1_13 es1_13 => ?_)
  replace h := h s1_13 es1_13
  obtain ⟨fs_14, hO, hl, h⟩ := h
  refine g_putF 11 dX9_init_38 in_X9 tyX9 tyX9_ok nmX9 cl9 (by decide) q1774 rfl rfl rfl rfl rfl hO hl ?_
  refine g_tops (fun s1_15 es1_15 => ?_)
  replace h := h s1_15 es1_15
  refine g_aload_n dX9_init_41 rfl 0 rfl ?_
  refine g_bipush (v := 24) dX9_init_42 (by decide) ?_
  obtain ⟨hb, h⟩ := h
  refine g_newa (κ := 100) (t0 := 0) (N := 24) (ty := .int) (atype := .int) (x := .inl (fun _ => 0)) 1 dX9_init_44 q177 rfl rfl (Or.inl ⟨rfl, rfl⟩) (by decide) (by decide) (Nat.le_of_ble_eq_true rfl) (by decide) (by decide) hb (fun q_16 hq => ?_)
  replace h := h q_16 hq
  refine g_tops (fun s1_17 es1_17 => ?_)
  replace h := h s1_17 es1_17
  obtain ⟨fs_18, hO, hl, h⟩ := h
  refine g_putF 12 dX9_init_46 in_X9 tyX9 tyX9_ok nmX9 cl9 (by decide) q1775 rfl rfl rfl rfl rfl hO hl ?_
  refine g_tops (fun s1_19 es1_19 => ?_)
  replace h := h s1_19 es1_19
  refine g_aload_n dX9_init_49 rfl 0 rfl ?_
  refine g_bipush (v := 24) dX9_init_50 (by decide) ?_
  obtain ⟨hb, h⟩ := h
  refine g_newa (κ := 100) (t0 := 0) (N := 24) (ty := .int) (atype := .int) (x := .inl (fun _ => 0)) 1 dX9_init_52 q177 rfl rfl (Or.inl ⟨rfl, rfl⟩) (by decide) (by decide) (Nat.le_of_ble_eq_true rfl) (by decide) (by decide) hb (fun q_20 hq => ?_)
  replace h := h q_20 hq
  refine g_tops (fun s1_21 es1_21 => ?_)
  replace h := h s1_21 es1_21
  obtain ⟨fs_22, hO, hl, h⟩ := h
  refine g_putF 13 dX9_init_54 in_X9 tyX9 tyX9_ok nmX9 cl9 (by decide) q1776 rfl rfl rfl rfl rfl hO hl ?_
  refine g_tops (fun s1_23 es1_23 => ?_)
  replace h := h s1_23 es1_23
  refine g_aload_n dX9_init_57 rfl 0 rfl ?_
  refine g_bipush (v := 24) dX9_init_58 (by decide) ?_
  obtain ⟨hb, h⟩ := h
  refine g_newa (κ := 100) (t0 := 0) (N := 24) (ty := .int) (atype := .int) (x := .inl (fun _ => 0)) 1 dX9_init_60 q177 rfl rfl (Or.inl ⟨rfl, rfl⟩) (by decide) (by decide) (Nat.le_of_ble_eq_true rfl) (by decide) (by decide) hb (fun q_24 hq => ?_)
  replace h := h q_24 hq
  refine g_tops (fun s1_25 es1_25 => ?_)
  replace h := h s1_25 es1_25
  obtain ⟨fs_26, hO, hl, h⟩ := h
  refine g_putF 14 dX9_init_62 in_X9 tyX9 tyX9_ok nmX9 cl9 (by decide) q1777 rfl rfl rfl rfl rfl hO hl ?_
  refine g_tops (fun s1_27 es1_27 => ?_)
  replace h := h s1_27 es1_27
  refine g_aload_n dX9_init_65 rfl 0 rfl ?_
  refine g_bipush (v := 24) dX9_init_66 (by decide) ?_
  obtain ⟨hb, h⟩ := h
  refine g_newa (κ := 100) (t0 := 0) (N := 24) (ty := .int) (atype := .int) (x := .inl (fun _ => 0)) 1 dX9_init_68 q177 rfl rfl (Or.inl ⟨rfl, rfl⟩) (by decide) (by decide) (Nat.le_of_ble_eq_true rfl) (by decide) (by decide) hb (fun q_28 hq => ?_)
  replace h := h q_28 hq
  refine g_tops (fun s1_29 es1_29 => ?_)
  replace h := h s1_29 es1_29
  obtain ⟨fs_30, hO, hl, h⟩ := h
  refine g_putF 15 dX9_init_70 in_X9 tyX9 tyX9_ok nmX9 cl9 (by decide) q1778 rfl rfl rfl rfl rfl hO hl ?_
  refine g_tops (fun s1_31 es1_31 => ?_)
  replace h := h s1_31 es1_31
  refine g_aload_n dX9_init_73 rfl 0 rfl ?_
  refine g_sipush (v := 150) dX9_init_74 (by decide) ?_
  obtain ⟨hb, h⟩ := h
  refine g_newa (κ := 100) (t0 := 0) (N := 150) (ty := .int) (atype := .int) (x := .inl (fun _ => 0)) 7 dX9_init_77 q177 rfl rfl (Or.inl ⟨rfl, rfl⟩) (by decide) (by decide) (Nat.le_of_ble_eq_true rfl) (by decide) (by decide) hb (fun q_32 hq => ?_)
  replace h := h q_32 hq
  refine g_tops (fun s1_33 es1_33 => ?_)
  replace h := h s1_33 es1_33
  obtain ⟨fs_34, hO, hl, h⟩ := h
  refine g_putF 20 dX9_init_79 in_X9 tyX9 tyX9_ok nmX9 cl9 (by decide) q1783 rfl rfl rfl rfl rfl hO hl ?_
  refine g_tops (fun s1_35 es1_35 => ?_)
  replace h := h s1_35 es1_35
  refine g_aload_n dX9_init_82 rfl 0 rfl ?_
  refine g_sipush (v := 150) dX9_init_83 (by decide) ?_
  obtain ⟨hb, h⟩ := h
  refine g_newa (κ := 100) (t0 := 0) (N := 150) (ty := .int) (atype := .int) (x := .inl (fun _ => 0)) 7 dX9_init_86 q177 rfl rfl (Or.inl ⟨rfl, rfl⟩) (by decide) (by decide) (Nat.le_of_ble_eq_true rfl) (by decide) (by decide) hb (fun q_36 hq => ?_)
  replace h := h q_36 hq
  refine g_tops (fun s1_37 es1_37 => ?_)
  replace h := h s1_37 es1_37
  obtain ⟨fs_38, hO, hl, h⟩ := h
  refine g_putF 21 dX9_init_88 in_X9 tyX9 tyX9_ok nmX9 cl9 (by decide) q1784 rfl rfl rfl rfl rfl hO hl ?_
  refine g_tops (fun s1_39 es1_39 => ?_)
  replace h := h s1_39 es1_39
  refine g_aload_n dX9_init_91 rfl 0 rfl ?_
  refine g_bipush (v := 32) dX9_init_92 (by decide) ?_
  obtain ⟨hb, h⟩ := h
  refine g_newa (κ := 100) (t0 := 0) (N := 32) (ty := .int) (atype := .int) (x := .inl (fun _ => 0)) 2 dX9_init_94 q177 rfl rfl (Or.inl ⟨rfl, rfl⟩) (by decide) (by decide) (Nat.le_of_ble_eq_true rfl) (by decide) (by decide) hb (fun q_40 hq => ?_)
  replace h := h q_40 hq
  refine g_tops (fun s1_41 es1_41 => ?_)
  replace h := h s1_41 es1_41
  obtain ⟨fs_42, hO, hl, h⟩ := h
  refine g_putF 22 dX9_init_96 in_X9 tyX9 tyX9_ok nmX9 cl9 (by decide) q1785 rfl rfl rfl rfl rfl hO hl ?_
  refine g_tops (fun s1_43 es1_43 => ?_)
  replace h := h s1_43 es1_43
  refine g_aload_n dX9_init_99 rfl 0 rfl ?_
  refine g_sipush (v := 150) dX9_init_100 (by decide) ?_
  obtain ⟨hb, h⟩ := h
  refine g_newa (κ := 100) (t0 := 0) (N := 150) (ty := .int) (atype := .int) (x := .inl (fun _ => 0)) 7 dX9_init_103 q177 rfl rfl (Or.inl ⟨rfl, rfl⟩) (by decide) (by decide) (Nat.le_of_ble_eq_true rfl) (by decide) (by decide) hb (fun q_44 hq => ?_)
  replace h := h q_44 hq
  refine g_tops (fun s1_45 es1_45 => ?_)
  replace h := h s1_45 es1_45
  obtain ⟨fs_46, hO, hl, h⟩ := h
  refine g_putF 23 dX9_init_105 in_X9 tyX9 tyX9_ok nmX9 cl9 (by decide) q1786 rfl rfl rfl rfl rfl hO hl ?_
  refine g_tops (fun s1_47 es1_47 => ?_)
  replace h := h s1_47 es1_47
  refine g_aload_n dX9_init_108 rfl 0 rfl ?_
  refine g_sipush (v := 1050) dX9_init_109 (by decide) ?_
  obtain ⟨hb, h⟩ := h
  refine g_newa (κ := 100) (t0 := 0) (N := 1050) (ty := .int) (atype := .int) (x := .inl (fun _ => 0)) 44 dX9_init_112 q177 rfl rfl (Or.inl ⟨rfl, rfl⟩) (by decide) (by decide) (Nat.le_of_ble_eq_true rfl) (by decide) (by decide) hb (fun q_48 hq => ?_)
  replace h := h q_48 hq
  refine g_tops (fun s1_49 es1_49 => ?_)
  replace h := h s1_49 es1_49
  obtain ⟨fs_50, hO, hl, h⟩ := h
  refine g_putF 24 dX9_init_114 in_X9 tyX9 tyX9_ok nmX9 cl9 (by decide) q1787 rfl rfl rfl rfl rfl hO hl ?_
  refine g_tops (fun s1_51 es1_51 => ?_)
  replace h := h s1_51 es1_51
  refine g_aload_n dX9_init_117 rfl 0 rfl ?_
  refine g_sipush (v := 1050) dX9_init_118 (by decide) ?_
  obtain ⟨hb, h⟩ := h
  refine g_newa (κ := 100) (t0 := 0) (N := 1050) (ty := .int) (atype := .int) (x := .inl (fun _ => 0)) 44 dX9_init_121 q177 rfl rfl (Or.inl ⟨rfl, rfl⟩) (by decide) (by decide) (Nat.le_of_ble_eq_true rfl) (by decide) (by decide) hb (fun q_52 hq => ?_)
  replace h := h q_52 hq
  refine g_tops (fun s1_53 es1_53 => ?_)
  replace h := h s1_53 es1_53
  obtain ⟨fs_54, hO, hl, h⟩ := h
  refine g_putF 25 dX9_init_123 in_X9 tyX9 tyX9_ok nmX9 cl9 (by decide) q1788 rfl rfl rfl rfl rfl hO hl ?_
  refine g_tops (fun s1_55 es1_55 => ?_)
  replace h := h s1_55 es1_55
  refine g_aload_n dX9_init_126 rfl 0 rfl ?_
  refine g_sipush (v := 224) dX9_init_127 (by decide) ?_
  obtain ⟨hb, h⟩ := h
  refine g_newa (κ := 100) (t0 := 0) (N := 224) (ty := .int) (atype := .int) (x := .inl (fun _ => 0)) 10 dX9_init_130 q177 rfl rfl (Or.inl ⟨rfl, rfl⟩) (by decide) (by decide) (Nat.le_of_ble_eq_true rfl) (by decide) (by decide) hb (fun q_56 hq => ?_)
  replace h := h q_56 hq
  refine g_tops (fun s1_57 es1_57 => ?_)
  replace h := h s1_57 es1_57
  obtain ⟨fs_58, hO, hl, h⟩ := h
  refine g_putF 26 dX9_init_132 in_X9 tyX9 tyX9_ok nmX9 cl9 (by decide) q1789 rfl rfl rfl rfl rfl hO hl ?_
  refine g_tops (fun s1_59 es1_59 => ?_)
  replace h := h s1_59 es1_59
  refine g_aload_n dX9_init_135 rfl 0 rfl ?_
  refine g_bipush (v := 7) dX9_init_136 (by decide) ?_
  obtain ⟨hb, h⟩ := h
  refine g_newa (κ := 100) (t0 := 0) (N := 7) (ty := .int) (atype := .int) (x := .inl (fun _ => 0)) 1 dX9_init_138 q177 rfl rfl (Or.inl ⟨rfl, rfl⟩) (by decide) (by decide) (Nat.le_of_ble_eq_true rfl) (by decide) (by decide) hb (fun q_60 hq => ?_)
  replace h := h q_60 hq
  refine g_tops (fun s1_61 es1_61 => ?_)
  replace h := h s1_61 es1_61
  obtain ⟨fs_62, hO, hl, h⟩ := h
  refine g_putF 27 dX9_init_140 in_X9 tyX9 tyX9_ok nmX9 cl9 (by decide) q1790 rfl rfl rfl rfl rfl hO hl ?_
  refine g_tops (fun s1_63 es1_63 => ?_)
  replace h := h s1_63 es1_63
  refine g_aload_n dX9_init_143 rfl 0 rfl ?_
  refine g_bipush (v := 30) dX9_init_144 (by decide) ?_
  obtain ⟨hb, h⟩ := h
  refine g_newa (κ := 100) (t0 := 0) (N := 30) (ty := .int) (atype := .int) (x := .inl (fun _ => 0)) 2 dX9_init_146 q177 rfl rfl (Or.inl ⟨rfl, rfl⟩) (by decide) (by decide) (Nat.le_of_ble_eq_true rfl) (by decide) (by decide) hb (fun q_64 hq => ?_)
  replace h := h q_64 hq
  refine g_tops (fun s1_65 es1_65 => ?_)
  replace h := h s1_65 es1_65
  obtain ⟨fs_66, hO, hl, h⟩ := h
  refine g_putF 30 dX9_init_148 in_X9 tyX9 tyX9_ok nmX9 cl9 (by decide) q1793 rfl rfl rfl rfl rfl hO hl ?_
  refine g_tops (fun s1_67 es1_67 => ?_)
  replace h := h s1_67 es1_67
  refine g_aload_n dX9_init_151 rfl 0 rfl ?_
  refine g_bipush (v := 30) dX9_init_152 (by decide) ?_
  obtain ⟨hb, h⟩ := h
  refine g_newa (κ := 100) (t0 := 0) (N := 30) (ty := .int) (atype := .int) (x := .inl (fun _ => 0)) 2 dX9_init_154 q177 rfl rfl (Or.inl ⟨rfl, rfl⟩) (by decide) (by decide) (Nat.le_of_ble_eq_true rfl) (by decide) (by decide) hb (fun q_68 hq => ?_)
  replace h := h q_68 hq
  refine g_tops (fun s1_69 es1_69 => ?_)
  replace h := h s1_69 es1_69
  obtain ⟨fs_70, hO, hl, h⟩ := h
  refine g_putF 31 dX9_init_156 in_X9 tyX9 tyX9_ok nmX9 cl9 (by decide) q1794 rfl rfl rfl rfl rfl hO hl ?_
  refine g_tops (fun s1_71 es1_71 => ?_)
  replace h := h s1_71 es1_71
  refine g_aload_n dX9_init_159 rfl 0 rfl ?_
  refine g_sipush (v := 16900) dX9_init_160 (by decide) ?_
  obtain ⟨hb, h⟩ := h
  refine g_newa (κ := 100) (t0 := 0) (N := 16900) (ty := .int) (atype := .int) (x := .inl (fun _ => 0)) 705 dX9_init_163 q177 rfl rfl (Or.inl ⟨rfl, rfl⟩) (by decide) (by decide) (Nat.le_of_ble_eq_true rfl) (by decide) (by decide) hb (fun q_72 hq => ?_)
  replace h := h q_72 hq
  refine g_tops (fun s1_73 es1_73 => ?_)
  replace h := h s1_73 es1_73
  obtain ⟨fs_74, hO, hl, h⟩ := h
  refine g_putF 33 dX9_init_165 in_X9 tyX9 tyX9_ok nmX9 cl9 (by decide) q1796 rfl rfl rfl rfl rfl hO hl ?_
  refine g_tops (fun s1_75 es1_75 => ?_)
  replace h := h s1_75 es1_75
  refine g_aload_n dX9_init_168 rfl 0 rfl ?_
  refine g_sipush (v := 16900) dX9_init_169 (by decide) ?_
  obtain ⟨hb, h⟩ := h
  refine g_newa (κ := 100) (t0 := 0) (N := 16900) (ty := .int) (atype := .int) (x := .inl (fun _ => 0)) 705 dX9_init_172 q177 rfl rfl (Or.inl ⟨rfl, rfl⟩) (by decide) (by decide) (Nat.le_of_ble_eq_true rfl) (by decide) (by decide) hb (fun q_76 hq => ?_)
  replace h := h q_76 hq
  refine g_tops (fun s1_77 es1_77 => ?_)
  replace h := h s1_77 es1_77
  obtain ⟨fs_78, hO, hl, h⟩ := h
  refine g_putF 34 dX9_init_174 in_X9 tyX9 tyX9_ok nmX9 cl9 (by decide) q1797 rfl rfl rfl rfl rfl hO hl ?_
  refine g_tops (fun s1_79 es1_79 => ?_)
  replace h := h s1_79 es1_79
  refine g_aload_n dX9_init_177 rfl 0 rfl ?_
  refine g_sipush (v := 16900) dX9_init_178 (by decide) ?_
  obtain ⟨hb, h⟩ := h
  refine g_newa (κ := 101) (t0 := 1) (N := 16900) (ty := .long) (atype := .long) (x := .inr (.inl (fun _ => 0))) 705 dX9_init_181 q278 rfl rfl (Or.inr (Or.inr ⟨rfl, rfl⟩)) (by decide) (by decide) (Nat.le_of_ble_eq_true rfl) (by decide) (by decide) hb (fun q_80 hq => ?_)
  replace h := h q_80 hq
  refine g_tops (fun s1_81 es1_81 => ?_)
  replace h := h s1_81 es1_81
  obtain ⟨fs_82, hO, hl, h⟩ := h
  refine g_putF 37 dX9_init_183 in_X9 tyX9 tyX9_ok nmX9 cl9 (by decide) q1800 rfl rfl rfl rfl rfl hO hl ?_
  refine g_tops (fun s1_83 es1_83 => ?_)
  replace h := h s1_83 es1_83
  refine g_aload_n dX9_init_186 rfl 0 rfl ?_
  refine g_sipush (v := 16900) dX9_init_187 (by decide) ?_
  obtain ⟨hb, h⟩ := h
  refine g_newa (κ := 101) (t0 := 1) (N := 16900) (ty := .long) (atype := .long) (x := .inr (.inl (fun _ => 0))) 705 dX9_init_190 q278 rfl rfl (Or.inr (Or.inr ⟨rfl, rfl⟩)) (by decide) (by decide) (Nat.le_of_ble_eq_true rfl) (by decide) (by decide) hb (fun q_84 hq => ?_)
  replace h := h q_84 hq
  refine g_tops (fun s1_85 es1_85 => ?_)
  replace h := h s1_85 es1_85
  obtain ⟨fs_86, hO, hl, h⟩ := h
  refine g_putF 38 dX9_init_192 in_X9 tyX9 tyX9_ok nmX9 cl9 (by decide) q1801 rfl rfl rfl rfl rfl hO hl ?_
  refine g_tops (fun s1_87 es1_87 => ?_)
  replace h := h s1_87 es1_87
  refine g_aload_n dX9_init_195 rfl 0 rfl ?_
  refine g_bipush (v := 6) dX9_init_196 (by decide) ?_
  obtain ⟨hb, h⟩ := h
  refine g_newa (κ := 101) (t0 := 1) (N := 6) (ty := .long) (atype := .long) (x := .inr (.inl (fun _ => 0))) 1 dX9_init_198 q278 rfl rfl (Or.inr (Or.inr ⟨rfl, rfl⟩)) (by decide) (by decide) (Nat.le_of_ble_eq_true rfl) (by decide) (by decide) hb (fun q_88 hq => ?_)
  replace h := h q_88 hq
  refine g_tops (fun s1_89 es1_89 => ?_)
  replace h := h s1_89 es1_89
  obtain ⟨fs_90, hO, hl, h⟩ := h
  refine g_putF 39 dX9_init_200 in_X9 tyX9 tyX9_ok nmX9 cl9 (by decide) q1802 rfl rfl rfl rfl rfl hO hl ?_
  refine g_tops (fun s1_91 es1_91 => ?_)
  replace h := h s1_91 es1_91
  refine g_aload_n dX9_init_203 rfl 0 rfl ?_
  refine g_bipush (v := 24) dX9_init_204 (by decide) ?_
  obtain ⟨hb, h⟩ := h
  refine g_newa (κ := 101) (t0 := 1) (N := 24) (ty := .long) (atype := .long) (x := .inr (.inl (fun _ => 0))) 1 dX9_init_206 q278 rfl rfl (Or.inr (Or.inr ⟨rfl, rfl⟩)) (by decide) (by decide) (Nat.le_of_ble_eq_true rfl) (by decide) (by decide) hb (fun q_92 hq => ?_)
  replace h := h q_92 hq
  refine g_tops (fun s1_93 es1_93 => ?_)
  replace h := h s1_93 es1_93
  obtain ⟨fs_94, hO, hl, h⟩ := h
  refine g_putF 40 dX9_init_208 in_X9 tyX9 tyX9_ok nmX9 cl9 (by decide) q1803 rfl rfl rfl rfl rfl hO hl ?_
  refine g_tops (fun s1_95 es1_95 => ?_)
  replace h := h s1_95 es1_95
  refine g_aload_n dX9_init_211 rfl 0 rfl ?_
  refine g_bipush (v := 8) dX9_init_212 (by decide) ?_
  obtain ⟨hb, h⟩ := h
  refine g_newa (κ := 100) (t0 := 0) (N := 8) (ty := .int) (atype := .int) (x := .inl (fun _ => 0)) 1 dX9_init_214 q177 rfl rfl (Or.inl ⟨rfl, rfl⟩) (by decide) (by decide) (Nat.le_of_ble_eq_true rfl) (by decide) (by decide) hb (fun q_96 hq => ?_)
  replace h := h q_96 hq
  refine g_tops (fun s1_97 es1_97 => ?_)
  replace h := h s1_97 es1_97
  obtain ⟨fs_98, hO, hl, h⟩ := h
  refine g_putF 56 dX9_init_216 in_X9 tyX9 tyX9_ok nmX9 cl9 (by decide) q1819 rfl rfl rfl rfl rfl hO hl ?_
  refine g_tops (fun s1_99 es1_99 => ?_)
  replace h := h s1_99 es1_99
  refine g_aload_n dX9_init_219 rfl 0 rfl ?_
  refine g_sipush (v := 980) dX9_init_220 (by decide) ?_
  obtain ⟨hb, h⟩ := h
  refine g_newa (κ := 100) (t0 := 0) (N := 980) (ty := .int) (atype := .int) (x := .inl (fun _ => 0)) 41 dX9_init_223 q177 rfl rfl (Or.inl ⟨rfl, rfl⟩) (by decide) (by decide) (Nat.le_of_ble_eq_true rfl) (by decide) (by decide) hb (fun q_100 hq => ?_)
  replace h := h q_100 hq
  refine g_tops (fun s1_101 es1_101 => ?_)
  replace h := h s1_101 es1_101
  obtain ⟨fs_102, hO, hl, h⟩ := h
  refine g_putF 61 dX9_init_225 in_X9 tyX9 tyX9_ok nmX9 cl9 (by decide) q1824 rfl rfl rfl rfl rfl hO hl ?_
  refine g_tops (fun s1_103 es1_103 => ?_)
  replace h := h s1_103 es1_103
  refine g_aload_n dX9_init_228 rfl 0 rfl ?_
  refine g_sipush (v := 3090) dX9_init_229 (by decide) ?_
  obtain ⟨hb, h⟩ := h
  refine g_newa (κ := 100) (t0 := 0) (N := 3090) (ty := .int) (atype := .int) (x := .inl (fun _ => 0)) 129 dX9_init_232 q177 rfl rfl (Or.inl ⟨rfl, rfl⟩) (by decide) (by decide) (Nat.le_of_ble_eq_true rfl) (by decide) (by decide) hb (fun q_104 hq => ?_)
  replace h := h q_104 hq
  refine g_tops (fun s1_105 es1_105 => ?_)
  replace h := h s1_105 es1_105
  obtain ⟨fs_106, hO, hl, h⟩ := h
  refine g_putF 63 dX9_init_234 in_X9 tyX9 tyX9_ok nmX9 cl9 (by decide) q1826 rfl rfl rfl rfl rfl hO hl ?_
  refine g_tops (fun s1_107 es1_107 => ?_)
  replace h := h s1_107 es1_107
  refine g_aload_n dX9_init_237 rfl 0 rfl ?_
  obtain ⟨⟨_, hO⟩, h⟩ := h
  refine g_callV (N := mX9_clears) (st := []) (As := []) (a := h0) dX9_init_238 wsX9_clears (lw_V q1751 q1753 qs35 q116 q1754) rfl mokX9_clears rfl cl9 (by decide) (by decide) (Nat.zero_le _) (Nat.zero_le _) hO h (fun E q s hx => AtX.out0 rfl hx) (fun _ s1_108 hq => ?_)
  obtain ⟨rfl, h⟩ := hq
  refine At.stk (st' := []) rfl ?_
  refine g_aload_n dX9_init_241 rfl 0 rfl ?_
  obtain ⟨⟨_, hO⟩, h⟩ := h
  refine g_callV (N := mX9_sets) (st := []) (As := []) (a := h0) dX9_init_242 wsX9_sets (lw_V q1755 q1757 qs36 q116 q1758) rfl mokX9_sets rfl cl9 (by decide) (by decide) (Nat.zero_le _) (Nat.zero_le _) hO h (fun E q s hx => AtX.out0 rfl hx) (fun _ s1_109 hq => ?_)
  obtain ⟨rfl, h⟩ := hq
  refine At.stk (st' := []) rfl ?_
  exact g_vret rfl dX9_init_245 h
theorem eX9_init {G : GC} {Q : Option Value → PS → Prop} {X : String → Nat → PS → Prop} {b : Nat} {h0 : Nat} {σ : PS} (h : At G mX9_init 5 Q X b 0 [(0, .ref h0)] [] σ) : Call G mX9_init 5 b [.ref h0] σ Q X :=
  Call.of (by decide +kernel) wsX9_init rfl (Nat.le_of_ble_eq_true rfl) (At.sub (ls := [(0, .ref h0)]) [0] rfl h)
set_option maxHeartbeats 4000000 in
theorem bX9_clears_0 {G : GC} {ad : Nat → Nat} {o : Nat} {σ0 : PS} {Q : MPost} {F : Nat → Int32} {L : Nat → Int64} {I : Nat → Nat → Int32} {J : Nat → Nat → Int64} (h : (∀ F1 : Nat → Int32, F1 = fU F 16 0 → (∀ F1_1 : Nat → Int32, F1_1 = fU F1 17 0 → (∀ I1 : Nat → Nat → Int32, I1 = aU I 10 0 8 → (∀ I1_2 : Nat → Nat → Int32, I1_2 = aU I1 10 1 0 → (∀ I1_3 : Nat → Nat → Int32, I1_3 = aU I1_2 10 2 0 → (∀ I1_4 : Nat → Nat → Int32, I1_4 = aU I1_3 10 3 0 → (∀ I1_5 : Nat → Nat → Int32, I1_5 = aU I1_4 10 4 0 → (∀ I1_6 : Nat → Nat → Int32, I1_6 = aU I1_5 10 5 30 → (∀ I1_7 : Nat → Nat → Int32, I1_7 = aU I1_6 10 6 12 → (∀ I1_8 : Nat → Nat → Int32, I1_8 = aU I1_7 10 7 9 → (∀ I1_9 : Nat → Nat → Int32, I1_9 = aU I1_8 10 8 1 → (∀ I1_10 : Nat → Nat → Int32, I1_10 = aU I1_9 10 9 1 → (∀ I1_11 : Nat → Nat → Int32, I1_11 = aU I1_10 10 10 3 → (∀ I1_12 : Nat → Nat → Int32, I1_12 = aU I1_11 10 11 2 → Q none F1_1 L I1_12 J))))))))))))))) : AtM G mX9_clears 3 ad o σ0 Q 0 [(0, .ref o)] [] F L I J := by
  refine m_aload_n dX9_clears_0 rfl 0 rfl ?_
  refine m_iconst (v := 0) dX9_clears_1 (by decide) ?_
  refine m_putI 16 dX9_clears_2 (by decide) q1779 rfl rfl rfl rfl ?_
  refine m_topF (fun F1 eF1 => ?_)
  replace h := h F1 eF1
  refine m_aload_n dX9_clears_5 rfl 0 rfl ?_
  refine m_iconst (v := 0) dX9_clears_6 (by decide) ?_
  refine m_putI 17 dX9_clears_7 (by decide) q1780 rfl rfl rfl rfl ?_
  refine m_topF (fun F1_1 eF1_1 => ?_)
  replace h := h F1_1 eF1_1
  refine m_aload_n dX9_clears_10 rfl 0 rfl ?_
  refine m_get (v := .ref (ad 10)) 10 dX9_clears_11 (by decide) q1773 rfl ?_
  refine m_iconst (v := 0) dX9_clears_14 (by decide) ?_
  refine m_bipush (v := 8) dX9_clears_15 (by decide) ?_
  refine m_iast0 (j := 0) 10 dX9_clears_17 (by decide) rfl (by decide) rfl (Nat.le_of_ble_eq_true rfl) ?_
  refine m_topI (fun I1 eI1 => ?_)
  replace h := h I1 eI1
  refine m_aload_n dX9_clears_18 rfl 0 rfl ?_
  refine m_get (v := .ref (ad 10)) 10 dX9_clears_19 (by decide) q1773 rfl ?_
  refine m_iconst (v := 1) dX9_clears_22 (by decide) ?_
  refine m_iconst (v := 0) dX9_clears_23 (by decide) ?_
  refine m_iast0 (j := 1) 10 dX9_clears_24 (by decide) rfl (by decide) rfl (Nat.le_of_ble_eq_true rfl) ?_
  refine m_topI (fun I1_2 eI1_2 => ?_)
  replace h := h I1_2 eI1_2
  refine m_aload_n dX9_clears_25 rfl 0 rfl ?_
  refine m_get (v := .ref (ad 10)) 10 dX9_clears_26 (by decide) q1773 rfl ?_
  refine m_iconst (v := 2) dX9_clears_29 (by decide) ?_
  refine m_iconst (v := 0) dX9_clears_30 (by decide) ?_
  refine m_iast0 (j := 2) 10 dX9_clears_31 (by decide) rfl (by decide) rfl (Nat.le_of_ble_eq_true rfl) ?_
  refine m_topI (fun I1_3 eI1_3 => ?_)
  replace h := h I1_3 eI1_3
  refine m_aload_n dX9_clears_32 rfl 0 rfl ?_
  refine m_get (v := .ref (ad 10)) 10 dX9_clears_33 (by decide) q1773 rfl ?_
  refine m_iconst (v := 3) dX9_clears_36 (by decide) ?_
  refine m_iconst (v := 0) dX9_clears_37 (by decide) ?_
  refine m_iast0 (j := 3) 10 dX9_clears_38 (by decide) rfl (by decide) rfl (Nat.le_of_ble_eq_true rfl) ?_
  refine m_topI (fun I1_4 eI1_4 => ?_)
  replace h := h I1_4 eI1_4
  refine m_aload_n dX9_clears_39 rfl 0 rfl ?_
  refine m_get (v := .ref (ad 10)) 10 dX9_clears_40 (by decide) q1773 rfl ?_
  refine m_iconst (v := 4) dX9_clears_43 (by decide) ?_
  refine m_iconst (v := 0) dX9_clears_44 (by decide) ?_
  refine m_iast0 (j := 4) 10 dX9_clears_45 (by decide) rfl (by decide) rfl (Nat.le_of_ble_eq_true rfl) ?_
  refine m_topI (fun I1_5 eI1_5 => ?_)
  replace h := h I1_5 eI1_5
  refine m_aload_n dX9_clears_46 rfl 0 rfl ?_
  refine m_get (v := .ref (ad 10)) 10 dX9_clears_47 (by decide) q1773 rfl ?_
  refine m_iconst (v := 5) dX9_clears_50 (by decide) ?_
  refine m_bipush (v := 30) dX9_clears_51 (by decide) ?_
  refine m_iast0 (j := 5) 10 dX9_clears_53 (by decide) rfl (by decide) rfl (Nat.le_of_ble_eq_true rfl) ?_
  refine m_topI (fun I1_6 eI1_6 => ?_)
  replace h := h I1_6 eI1_6
  refine m_aload_n dX9_clears_54 rfl 0 rfl ?_
  refine m_get (v := .ref (ad 10)) 10 dX9_clears_55 (by decide) q1773 rfl ?_
  refine m_bipush (v := 6) dX9_clears_58 (by decide) ?_
  refine m_bipush (v := 12) dX9_clears_60 (by decide) ?_
  refine m_iast0 (j := 6) 10 dX9_clears_62 (by decide) rfl (by decide) rfl (Nat.le_of_ble_eq_true rfl) ?_
  refine m_topI (fun I1_7 eI1_7 => ?_)
  replace h := h I1_7 eI1_7
  refine m_aload_n dX9_clears_63 rfl 0 rfl ?_
  refine m_get (v := .ref (ad 10)) 10 dX9_clears_64 (by decide) q1773 rfl ?_
  refine m_bipush (v := 7) dX9_clears_67 (by decide) ?_
  refine m_bipush (v := 9) dX9_clears_69 (by decide) ?_
  refine m_iast0 (j := 7) 10 dX9_clears_71 (by decide) rfl (by decide) rfl (Nat.le_of_ble_eq_true rfl) ?_
  refine m_topI (fun I1_8 eI1_8 => ?_)
  replace h := h I1_8 eI1_8
  refine m_aload_n dX9_clears_72 rfl 0 rfl ?_
  refine m_get (v := .ref (ad 10)) 10 dX9_clears_73 (by decide) q1773 rfl ?_
  refine m_bipush (v := 8) dX9_clears_76 (by decide) ?_
  refine m_iconst (v := 1) dX9_clears_78 (by decide) ?_
  refine m_iast0 (j := 8) 10 dX9_clears_79 (by decide) rfl (by decide) rfl (Nat.le_of_ble_eq_true rfl) ?_
  refine m_topI (fun I1_9 eI1_9 => ?_)
  replace h := h I1_9 eI1_9
  refine m_aload_n dX9_clears_80 rfl 0 rfl ?_
  refine m_get (v := .ref (ad 10)) 10 dX9_clears_81 (by decide) q1773 rfl ?_
  refine m_bipush (v := 9) dX9_clears_84 (by decide) ?_
  refine m_iconst (v := 1) dX9_clears_86 (by decide) ?_
  refine m_iast0 (j := 9) 10 dX9_clears_87 (by decide) rfl (by decide) rfl (Nat.le_of_ble_eq_true rfl) ?_
  refine m_topI (fun I1_10 eI1_10 => ?_)
  replace h := h I1_10 eI1_10
  refine m_aload_n dX9_clears_88 rfl 0 rfl ?_
  refine m_get (v := .ref (ad 10)) 10 dX9_clears_89 (by decide) q1773 rfl ?_
  refine m_bipush (v := 10) dX9_clears_92 (by decide) ?_
  refine m_iconst (v := 3) dX9_clears_94 (by decide) ?_
  refine m_iast0 (j := 10) 10 dX9_clears_95 (by decide) rfl (by decide) rfl (Nat.le_of_ble_eq_true rfl) ?_
  refine m_topI (fun I1_11 eI1_11 => ?_)
  replace h := h I1_11 eI1_11
  refine m_aload_n dX9_clears_96 rfl 0 rfl ?_
  refine m_get (v := .ref (ad 10)) 10 dX9_clears_97 (by decide) q1773 rfl ?_
  refine m_bipush (v := 11) dX9_clears_100 (by decide) ?_
  refine m_iconst (v := 2) dX9_clears_102 (by decide) ?_
  refine m_iast0 (j := 11) 10 dX9_clears_103 (by decide) rfl (by decide) rfl (Nat.le_of_ble_eq_true rfl) ?_
  refine m_topI (fun I1_12 eI1_12 => ?_)
  replace h := h I1_12 eI1_12
  exact m_vret rfl dX9_clears_104 h
theorem eX9_clears {G : GC} {ad : Nat → Nat} {o : Nat} {Q : MPost} {F : Nat → Int32} {L : Nat → Int64} {I : Nat → Nat → Int32} {J : Nat → Nat → Int64} (h : ∀ σ0, AtM G mX9_clears 3 ad o σ0 Q 0 [(0, .ref o)] [] F L I J) : CallM G mX9_clears 3 ad o [.ref o] F L I J Q :=
  CallM.of (by decide +kernel) wsX9_clears rfl (Nat.le_of_ble_eq_true rfl) (fun σ0 => AtM.sub (ls := [(0, .ref o)]) [0] rfl (h σ0))
set_option maxHeartbeats 4000000 in
theorem bX9_sets_0 {G : GC} {ad : Nat → Nat} {o : Nat} {σ0 : PS} {Q : MPost} {F : Nat → Int32} {L : Nat → Int64} {I : Nat → Nat → Int32} {J : Nat → Nat → Int64} (h : CallM G mX9_copies 3 ad o [.ref o, .ref (ad 10), .ref (ad 11), .int 12] F L I J (mqV (fun F1 L1 I1 J1 => (∀ F1_1 : Nat → Int32, F1_1 = fU F1 18 (F1 16) → (∀ F1_2 : Nat → Int32, F1_2 = fU F1_1 19 (F1_1 17) → CallM G mX9_copies 3 ad o [.ref o, .ref (ad 12), .ref (ad 14), .int 24] F1_2 L1 I1 J1 (mqV (fun F1_3 L1_4 I1_5 J1_6 => CallM G mX9_copies 3 ad o [.ref o, .ref (ad 13), .ref (ad 15), .int 24] F1_3 L1_4 I1_5 J1_6 (mqV (fun F1_7 L1_8 I1_9 J1_10 => AtM G mX9_sets 4 ad o σ0 Q 60 [(0, .ref o), (1, .int 0)] [] F1_7 L1_8 I1_9 J1_10))))))))) : AtM G mX9_sets 4 ad o σ0 Q 0 [(0, .ref o)] [] F L I J := by
  refine m_aload_n dX9_sets_0 rfl 0 rfl ?_
  refine m_aload_n dX9_sets_1 rfl 0 rfl ?_
  refine m_get (v := .ref (ad 10)) 10 dX9_sets_2 (by decide) q1773 rfl ?_
  refine m_aload_n dX9_sets_5 rfl 0 rfl ?_
  refine m_get (v := .ref (ad 11)) 11 dX9_sets_6 (by decide) q1774 rfl ?_
  refine m_bipush (v := 12) dX9_sets_9 (by decide) ?_
  refine m_callV (N := mX9_copies) (st := []) (As := [.ref (ad 10), .ref (ad 11), .int 12]) dX9_sets_11 wsX9_copies (lw_V q1759 q1761 qs37 q116 q1762) rfl mokX9_copies rfl (by decide) (by decide) (Nat.zero_le _) h (fun _ F1 L1 I1 J1 hq => ?_)
  obtain ⟨rfl, h⟩ := hq
  refine AtM.stk (st' := []) rfl ?_
  refine m_aload_n dX9_sets_14 rfl 0 rfl ?_
  refine m_aload_n dX9_sets_15 rfl 0 rfl ?_
  refine m_get (v := .int (F1 16)) 16 dX9_sets_16 (by decide) q1779 rfl ?_
  refine m_putI 18 dX9_sets_19 (by decide) q1781 rfl rfl rfl rfl ?_
  refine m_topF (fun F1_1 eF1_1 => ?_)
  replace h := h F1_1 eF1_1
  refine m_aload_n dX9_sets_22 rfl 0 rfl ?_
  refine m_aload_n dX9_sets_23 rfl 0 rfl ?_
  refine m_get (v := .int (F1_1 17)) 17 dX9_sets_24 (by decide) q1780 rfl ?_
  refine m_putI 19 dX9_sets_27 (by decide) q1782 rfl rfl rfl rfl ?_
  refine m_topF (fun F1_2 eF1_2 => ?_)
  replace h := h F1_2 eF1_2
  refine m_aload_n dX9_sets_30 rfl 0 rfl ?_
  refine m_aload_n dX9_sets_31 rfl 0 rfl ?_
  refine m_get (v := .ref (ad 12)) 12 dX9_sets_32 (by decide) q1775 rfl ?_
  refine m_aload_n dX9_sets_35 rfl 0 rfl ?_
  refine m_get (v := .ref (ad 14)) 14 dX9_sets_36 (by decide) q1777 rfl ?_
  refine m_bipush (v := 24) dX9_sets_39 (by decide) ?_
  refine m_callV (N := mX9_copies) (st := []) (As := [.ref (ad 12), .ref (ad 14), .int 24]) dX9_sets_41 wsX9_copies (lw_V q1759 q1761 qs37 q116 q1762) rfl mokX9_copies rfl (by decide) (by decide) (Nat.zero_le _) h (fun _ F1_3 L1_4 I1_5 J1_6 hq => ?_)
  obtain ⟨rfl, h⟩ := hq
  refine AtM.stk (st' := []) rfl ?_
  refine m_aload_n dX9_sets_44 rfl 0 rfl ?_
  refine m_aload_n dX9_sets_45 rfl 0 rfl ?_
  refine m_get (v := .ref (ad 13)) 13 dX9_sets_46 (by decide) q1776 rfl ?_
  refine m_aload_n dX9_sets_49 rfl 0 rfl ?_
  refine m_get (v := .ref (ad 15)) 15 dX9_sets_50 (by decide) q1778 rfl ?_
  refine m_bipush (v := 24) dX9_sets_53 (by decide) ?_
  refine m_callV (N := mX9_copies) (st := []) (As := [.ref (ad 13), .ref (ad 15), .int 24]) dX9_sets_55 wsX9_copies (lw_V q1759 q1761 qs37 q116 q1762) rfl mokX9_copies rfl (by decide) (by decide) (Nat.zero_le _) h (fun _ F1_7 L1_8 I1_9 J1_10 hq => ?_)
  obtain ⟨rfl, h⟩ := hq
  refine AtM.stk (st' := []) rfl ?_
  refine m_iconst (v := 0) dX9_sets_58 (by decide) ?_
  refine m_istore_n (ls1 := [(1, .int 0), (0, .ref o)]) dX9_sets_59 rfl (by decide) rfl ?_
  exact AtM.sub (ls := [(1, .int 0), (0, .ref o)]) [1, 0] rfl h
set_option maxHeartbeats 4000000 in
theorem bX9_sets_60 {G : GC} {ad : Nat → Nat} {o : Nat} {σ0 : PS} {Q : MPost} {x1 : Int32} {F : Nat → Int32} {L : Nat → Int64} {I : Nat → Nat → Int32} {J : Nat → Nat → Int64} (h : ((6 < x1) → (∀ F1 : Nat → Int32, F1 = fU F 32 0 → (∀ F1_1 : Nat → Int32, F1_1 = fU F1 62 0 → (∀ F1_2 : Nat → Int32, F1_2 = fU F1_1 64 0 → Q none F1_2 L I J)))) ∧ ((¬ 6 < x1) → vp_in x1 7 ∧ (∀ I1 : Nat → Nat → Int32, I1 = aU I 27 x1.toNatClampNeg 0 → ∀ v1 : Int32, v1 = x1 + 1 → AtM G mX9_sets 4 ad o σ0 Q 60 [(0, .ref o), (1, .int v1)] [] F L I1 J))) : AtM G mX9_sets 4 ad o σ0 Q 60 [(0, .ref o), (1, .int x1)] [] F L I J := by
  refine m_iload_n dX9_sets_60 rfl 1 rfl ?_
  refine m_bipush (v := 6) dX9_sets_61 (by decide) ?_
  refine m_icmp_gt (tgt := 79) dX9_sets_63 (by decide) (fun c => ?_) (fun c => ?_)
  · replace h := h.1 c
    refine m_aload_n dX9_sets_79 rfl 0 rfl ?_
    refine m_iconst (v := 0) dX9_sets_80 (by decide) ?_
    refine m_putI 32 dX9_sets_81 (by decide) q1795 rfl rfl rfl rfl ?_
    refine m_topF (fun F1 eF1 => ?_)
    replace h := h F1 eF1
    refine m_aload_n dX9_sets_84 rfl 0 rfl ?_
    refine m_iconst (v := 0) dX9_sets_85 (by decide) ?_
    refine m_putI 62 dX9_sets_86 (by decide) q1825 rfl rfl rfl rfl ?_
    refine m_topF (fun F1_1 eF1_1 => ?_)
    replace h := h F1_1 eF1_1
    refine m_aload_n dX9_sets_89 rfl 0 rfl ?_
    refine m_iconst (v := 0) dX9_sets_90 (by decide) ?_
    refine m_putI 64 dX9_sets_91 (by decide) q1827 rfl rfl rfl rfl ?_
    refine m_topF (fun F1_2 eF1_2 => ?_)
    replace h := h F1_2 eF1_2
    exact m_vret rfl dX9_sets_94 h
  · replace h := h.2 c
    refine m_aload_n dX9_sets_66 rfl 0 rfl ?_
    refine m_get (v := .ref (ad 27)) 27 dX9_sets_67 (by decide) q1790 rfl ?_
    refine m_iload_n dX9_sets_70 rfl 1 rfl ?_
    refine m_iconst (v := 0) dX9_sets_71 (by decide) ?_
    obtain ⟨h1, h⟩ := h
    refine m_iast 27 dX9_sets_72 (by decide) rfl h1 ?_
    refine m_topI (fun I1 eI1 => ?_)
    replace h := h I1 eI1
    obtain ⟨v1, ev1⟩ : ∃ z : Int32, z = x1 + 1 := ⟨_, rfl⟩
    refine m_iinc (v := v1) (ls1 := [(1, .int v1), (0, .ref o)]) dX9_sets_73 1 rfl (by rw [ev1]; rfl) (by decide) rfl ?_
    replace h := h v1 ev1
    refine m_goto (tgt := 60) dX9_sets_76 (by decide) ?_
    exact AtM.sub (ls := [(1, .int v1), (0, .ref o)]) [1, 0] rfl h
theorem eX9_sets {G : GC} {ad : Nat → Nat} {o : Nat} {Q : MPost} {F : Nat → Int32} {L : Nat → Int64} {I : Nat → Nat → Int32} {J : Nat → Nat → Int64} (h : ∀ σ0, AtM G mX9_sets 4 ad o σ0 Q 0 [(0, .ref o)] [] F L I J) : CallM G mX9_sets 4 ad o [.ref o] F L I J Q :=
  CallM.of (by decide +kernel) wsX9_sets rfl (Nat.le_of_ble_eq_true rfl) (fun σ0 => AtM.sub (ls := [(0, .ref o)]) [0] rfl (h σ0))
set_option maxHeartbeats 4000000 in
theorem bX9_copies_0 {G : GC} {ad : Nat → Nat} {o : Nat} {σ0 : PS} {Q : MPost} {k1 : Nat} {k2 : Nat} {x3 : Int32} {F : Nat → Int32} {L : Nat → Int64} {I : Nat → Nat → Int32} {J : Nat → Nat → Int64} (hk1 : k1 < 65 ∧ mKind k1 = 2) (hk2 : k2 < 65 ∧ mKind k2 = 2) (h : AtM G mX9_copies 3 ad o σ0 Q 3 [(1, .ref (ad k1)), (2, .ref (ad k2)), (3, .int x3), (4, .int 0)] [] F L I J) : AtM G mX9_copies 3 ad o σ0 Q 0 [(1, .ref (ad k1)), (2, .ref (ad k2)), (3, .int x3)] [] F L I J := by
  refine m_iconst (v := 0) dX9_copies_0 (by decide) ?_
  refine m_istore (ls1 := [(4, .int 0), (1, .ref (ad k1)), (2, .ref (ad k2)), (3, .int x3)]) dX9_copies_1 (by decide) rfl ?_
  exact AtM.sub (ls := [(4, .int 0), (1, .ref (ad k1)), (2, .ref (ad k2)), (3, .int x3)]) [1, 2, 3, 0] rfl h
set_option maxHeartbeats 4000000 in
theorem bX9_copies_3 {G : GC} {ad : Nat → Nat} {o : Nat} {σ0 : PS} {Q : MPost} {k1 : Nat} {k2 : Nat} {x3 : Int32} {x4 : Int32} {F : Nat → Int32} {L : Nat → Int64} {I : Nat → Nat → Int32} {J : Nat → Nat → Int64} (hk1 : k1 < 65 ∧ mKind k1 = 2) (hk2 : k2 < 65 ∧ mKind k2 = 2) (h : ((x3 ≤ x4) → Q none F L I J) ∧ ((¬ x3 ≤ x4) → vp_in x4 (mLen k1) ∧ (vp_in x4 (mLen k2) ∧ (∀ I1 : Nat → Nat → Int32, I1 = aU I k2 x4.toNatClampNeg ((I k1 x4.toNatClampNeg)) → ∀ v4 : Int32, v4 = x4 + 1 → AtM G mX9_copies 3 ad o σ0 Q 3 [(1, .ref (ad k1)), (2, .ref (ad k2)), (3, .int x3), (4, .int v4)] [] F L I1 J)))) : AtM G mX9_copies 3 ad o σ0 Q 3 [(1, .ref (ad k1)), (2, .ref (ad k2)), (3, .int x3), (4, .int x4)] [] F L I J := by
  refine m_iload dX9_copies_3 3 rfl ?_
  refine m_iload_n dX9_copies_5 rfl 2 rfl ?_
  refine m_icmp_ge (tgt := 23) dX9_copies_6 (by decide) (fun c => ?_) (fun c => ?_)
  · replace h := h.1 c
    exact m_vret rfl dX9_copies_23 h
  · replace h := h.2 c
    refine m_aload_n dX9_copies_9 rfl 1 rfl ?_
    refine m_iload dX9_copies_10 3 rfl ?_
    refine m_aload_n dX9_copies_12 rfl 0 rfl ?_
    refine m_iload dX9_copies_13 3 rfl ?_
    obtain ⟨h1, h⟩ := h
    refine m_iald k1 dX9_copies_15 hk1.1 hk1.2 h1 ?_
    obtain ⟨h1, h⟩ := h
    refine m_iast k2 dX9_copies_16 hk2.1 hk2.2 h1 ?_
    refine m_topI (fun I1 eI1 => ?_)
    replace h := h I1 eI1
    obtain ⟨v4, ev4⟩ : ∃ z : Int32, z = x4 + 1 := ⟨_, rfl⟩
    refine m_iinc (v := v4) (ls1 := [(4, .int v4), (1, .ref (ad k1)), (2, .ref (ad k2)), (3, .int x3)]) dX9_copies_17 3 rfl (by rw [ev4]; rfl) (by decide) rfl ?_
    replace h := h v4 ev4
    refine m_goto (tgt := 3) dX9_copies_20 (by decide) ?_
    exact AtM.sub (ls := [(4, .int v4), (1, .ref (ad k1)), (2, .ref (ad k2)), (3, .int x3)]) [1, 2, 3, 0] rfl h
theorem eX9_copies {G : GC} {ad : Nat → Nat} {o : Nat} {Q : MPost} {k1 : Nat} {k2 : Nat} {p3 : Int32} {F : Nat → Int32} {L : Nat → Int64} {I : Nat → Nat → Int32} {J : Nat → Nat → Int64} (h : ∀ σ0, AtM G mX9_copies 3 ad o σ0 Q 0 [(1, .ref (ad k1)), (2, .ref (ad k2)), (3, .int p3)] [] F L I J) : CallM G mX9_copies 3 ad o [.ref o, .ref (ad k1), .ref (ad k2), .int p3] F L I J Q :=
  CallM.of (by decide +kernel) wsX9_copies rfl (Nat.le_of_ble_eq_true rfl) (fun σ0 => AtM.sub (ls := [(0, .ref o), (1, .ref (ad k1)), (2, .ref (ad k2)), (3, .int p3)]) [1, 2, 3] rfl (h σ0))
set_option maxHeartbeats 4000000 in
theorem bX9_feed_0 {G : GC} {ad : Nat → Nat} {o : Nat} {σ0 : PS} {Q : MPost} {x1 : Int32} {x2 : Int32} {x3 : Int32} {x4 : Int32} {x5 : Int32} {F : Nat → Int32} {L : Nat → Int64} {I : Nat → Nat → Int32} {J : Nat → Nat → Int64} (h : (∀ F1 : Nat → Int32, F1 = fU F 0 0 → ((((F1 2) + 20) ≤ 600) → AtM G mX9_feed 3 ad o σ0 Q 23 [(0, .ref o), (1, .int x1), (2, .int x2), (3, .int x3), (4, .int x4), (5, .int x5), (6, .int 0)] [] F1 L I J) ∧ ((¬ ((F1 2) + 20) ≤ 600) → Q (some (.int (-1))) F1 L I J))) : AtM G mX9_feed 3 ad o σ0 Q 0 [(0, .ref o), (1, .int x1), (2, .int x2), (3, .int x3), (4, .int x4), (5, .int x5)] [] F L I J := by
  refine m_aload_n dX9_feed_0 rfl 0 rfl ?_
  refine m_iconst (v := 0) dX9_feed_1 (by decide) ?_
  refine m_putI 0 dX9_feed_2 (by decide) q1763 rfl rfl rfl rfl ?_
  refine m_topF (fun F1 eF1 => ?_)
  replace h := h F1 eF1
  refine m_aload_n dX9_feed_5 rfl 0 rfl ?_
  refine m_get (v := .int (F1 2)) 2 dX9_feed_6 (by decide) q1765 rfl ?_
  refine m_bipush (v := 20) dX9_feed_9 (by decide) ?_
  refine m_iadd dX9_feed_11 ?_
  refine m_sipush (v := 600) dX9_feed_12 (by decide) ?_
  refine m_icmp_le (tgt := 20) dX9_feed_15 (by decide) (fun c => ?_) (fun c => ?_)
  · replace h := h.1 c
    refine m_iconst (v := 0) dX9_feed_20 (by decide) ?_
    refine m_istore (ls1 := [(6, .int 0), (0, .ref o), (1, .int x1), (2, .int x2), (3, .int x3), (4, .int x4), (5, .int x5)]) dX9_feed_21 (by decide) rfl ?_
    exact AtM.sub (ls := [(6, .int 0), (0, .ref o), (1, .int x1), (2, .int x2), (3, .int x3), (4, .int x4), (5, .int x5)]) [1, 2, 3, 4, 5, 6, 0] rfl h
  · replace h := h.2 c
    refine m_iconst (v := (-1)) dX9_feed_18 (by decide) ?_
    exact m_iret rfl dX9_feed_19 h
set_option maxHeartbeats 4000000 in
theorem bX9_feed_23 {G : GC} {ad : Nat → Nat} {o : Nat} {σ0 : PS} {Q : MPost} {x1 : Int32} {x2 : Int32} {x3 : Int32} {x4 : Int32} {x5 : Int32} {x6 : Int32} {F : Nat → Int32} {L : Nat → Int64} {I : Nat → Nat → Int32} {J : Nat → Nat → Int64} (h : ((20 ≤ x6) → Q (some (.int (F 2))) F L I J) ∧ ((¬ 20 ≤ x6) → ((4 ≤ x6) → ((8 ≤ x6) → ((12 ≤ x6) → ((16 ≤ x6) → AtM G mX9_feed 3 ad o σ0 Q 76 [(0, .ref o), (1, .int x1), (2, .int x2), (3, .int x3), (4, .int x4), (5, .int x5), (6, .int x6)] [.int x5] F L I J) ∧ ((¬ 16 ≤ x6) → AtM G mX9_feed 3 ad o σ0 Q 76 [(0, .ref o), (1, .int x1), (2, .int x2), (3, .int x3), (4, .int x4), (5, .int x5), (6, .int x6)] [.int x4] F L I J)) ∧ ((¬ 12 ≤ x6) → AtM G mX9_feed 3 ad o σ0 Q 76 [(0, .ref o), (1, .int x1), (2, .int x2), (3, .int x3), (4, .int x4), (5, .int x5), (6, .int x6)] [.int x3] F L I J)) ∧ ((¬ 8 ≤ x6) → AtM G mX9_feed 3 ad o σ0 Q 76 [(0, .ref o), (1, .int x1), (2, .int x2), (3, .int x3), (4, .int x4), (5, .int x5), (6, .int x6)] [.int x2] F L I J)) ∧ ((¬ 4 ≤ x6) → AtM G mX9_feed 3 ad o σ0 Q 76 [(0, .ref o), (1, .int x1), (2, .int x2), (3, .int x3), (4, .int x4), (5, .int x5), (6, .int x6)] [.int x1] F L I J))) : AtM G mX9_feed 3 ad o σ0 Q 23 [(0, .ref o), (1, .int x1), (2, .int x2), (3, .int x3), (4, .int x4), (5, .int x5), (6, .int x6)] [] F L I J := by
  refine m_iload dX9_feed_23 6 rfl ?_
  refine m_bipush (v := 20) dX9_feed_25 (by decide) ?_
  refine m_icmp_ge (tgt := 120) dX9_feed_27 (by decide) (fun c => ?_) (fun c => ?_)
  · replace h := h.1 c
    refine m_aload_n dX9_feed_120 rfl 0 rfl ?_
    refine m_get (v := .int (F 2)) 2 dX9_feed_121 (by decide) q1765 rfl ?_
    exact m_iret rfl dX9_feed_124 h
  · replace h := h.2 c
    refine m_iload dX9_feed_30 6 rfl ?_
    refine m_iconst (v := 4) dX9_feed_32 (by decide) ?_
    refine m_icmp_ge (tgt := 40) dX9_feed_33 (by decide) (fun c => ?_) (fun c => ?_)
    · replace h := h.1 c
      refine m_iload dX9_feed_40 6 rfl ?_
      refine m_bipush (v := 8) dX9_feed_42 (by decide) ?_
      refine m_icmp_ge (tgt := 51) dX9_feed_44 (by decide) (fun c => ?_) (fun c => ?_)
      · replace h := h.1 c
        refine m_iload dX9_feed_51 6 rfl ?_
        refine m_bipush (v := 12) dX9_feed_53 (by decide) ?_
        refine m_icmp_ge (tgt := 62) dX9_feed_55 (by decide) (fun c => ?_) (fun c => ?_)
        · replace h := h.1 c
          refine m_iload dX9_feed_62 6 rfl ?_
          refine m_bipush (v := 16) dX9_feed_64 (by decide) ?_
          refine m_icmp_ge (tgt := 74) dX9_feed_66 (by decide) (fun c => ?_) (fun c => ?_)
          · replace h := h.1 c
            refine m_iload dX9_feed_74 5 rfl ?_
            exact AtM.sub (ls := [(0, .ref o), (1, .int x1), (2, .int x2), (3, .int x3), (4, .int x4), (5, .int x5), (6, .int x6)]) [0, 1, 2, 3, 4, 5, 6] rfl h
          · replace h := h.2 c
            refine m_iload dX9_feed_69 4 rfl ?_
            refine m_goto (tgt := 76) dX9_feed_71 (by decide) ?_
            exact AtM.sub (ls := [(0, .ref o), (1, .int x1), (2, .int x2), (3, .int x3), (4, .int x4), (5, .int x5), (6, .int x6)]) [0, 1, 2, 3, 4, 5, 6] rfl h
        · replace h := h.2 c
          refine m_iload_n dX9_feed_58 rfl 3 rfl ?_
          refine m_goto (tgt := 76) dX9_feed_59 (by decide) ?_
          exact AtM.sub (ls := [(0, .ref o), (1, .int x1), (2, .int x2), (3, .int x3), (4, .int x4), (5, .int x5), (6, .int x6)]) [0, 1, 2, 3, 4, 5, 6] rfl h
      · replace h := h.2 c
        refine m_iload_n dX9_feed_47 rfl 2 rfl ?_
        refine m_goto (tgt := 76) dX9_feed_48 (by decide) ?_
        exact AtM.sub (ls := [(0, .ref o), (1, .int x1), (2, .int x2), (3, .int x3), (4, .int x4), (5, .int x5), (6, .int x6)]) [0, 1, 2, 3, 4, 5, 6] rfl h
    · replace h := h.2 c
      refine m_iload_n dX9_feed_36 rfl 1 rfl ?_
      refine m_goto (tgt := 76) dX9_feed_37 (by decide) ?_
      exact AtM.sub (ls := [(0, .ref o), (1, .int x1), (2, .int x2), (3, .int x3), (4, .int x4), (5, .int x5), (6, .int x6)]) [0, 1, 2, 3, 4, 5, 6] rfl h
set_option maxHeartbeats 4000000 in
theorem bX9_feed_76 {G : GC} {ad : Nat → Nat} {o : Nat} {σ0 : PS} {Q : MPost} {x1 : Int32} {x2 : Int32} {x3 : Int32} {x4 : Int32} {x5 : Int32} {x6 : Int32} {sx0 : Int32} {F : Nat → Int32} {L : Nat → Int64} {I : Nat → Nat → Int32} {J : Nat → Nat → Int64} (h : ∀ w : Int32, w = (24 - (8 * (x6 - x6 / 4 * 4))) → ∀ w_1 : Int32, w_1 = ((sx0 >>> (w &&& 31)) &&& 255) → vp_in (F 2) 600 ∧ (∀ I1 : Nat → Nat → Int32, I1 = aU I 9 (F 2).toNatClampNeg w_1 → (∀ F1 : Nat → Int32, F1 = fU F 2 (((F 2) + 1)) → ∀ v6 : Int32, v6 = x6 + 1 → AtM G mX9_feed 3 ad o σ0 Q 23 [(0, .ref o), (1, .int x1), (2, .int x2), (3, .int x3), (4, .int x4), (5, .int x5), (6, .int v6)] [] F1 L I1 J))) : AtM G mX9_feed 3 ad o σ0 Q 76 [(0, .ref o), (1, .int x1), (2, .int x2), (3, .int x3), (4, .int x4), (5, .int x5), (6, .int x6)] [.int sx0] F L I J := by
  refine m_istore (ls1 := [(7, .int sx0), (0, .ref o), (1, .int x1), (2, .int x2), (3, .int x3), (4, .int x4), (5, .int x5), (6, .int x6)]) dX9_feed_76 (by decide) rfl ?_
  refine m_aload_n dX9_feed_78 rfl 1 rfl ?_
  refine m_get (v := .ref (ad 9)) 9 dX9_feed_79 (by decide) q1772 rfl ?_
  refine m_aload_n dX9_feed_82 rfl 1 rfl ?_
  refine m_get (v := .int (F 2)) 2 dX9_feed_83 (by decide) q1765 rfl ?_
  refine m_iload dX9_feed_86 0 rfl ?_
  refine m_bipush (v := 24) dX9_feed_88 (by decide) ?_
  refine m_bipush (v := 8) dX9_feed_90 (by decide) ?_
  refine m_iload dX9_feed_92 7 rfl ?_
  refine m_iconst (v := 4) dX9_feed_94 (by decide) ?_
  refine m_irem dX9_feed_95 (by decide) ?_
  refine m_imul dX9_feed_96 ?_
  refine m_isub dX9_feed_97 ?_
  refine m_topi (fun w ew => ?_)
  replace h := h w ew
  refine m_ishr dX9_feed_98 ?_
  refine m_sipush (v := 255) dX9_feed_99 (by decide) ?_
  refine m_iand dX9_feed_102 ?_
  refine m_topi (fun w_1 ew_1 => ?_)
  replace h := h w_1 ew_1
  obtain ⟨h1, h⟩ := h
  refine m_iast 9 dX9_feed_103 (by decide) rfl h1 ?_
  refine m_topI (fun I1 eI1 => ?_)
  replace h := h I1 eI1
  refine m_aload_n dX9_feed_104 rfl 1 rfl ?_
  refine m_dup dX9_feed_105 rfl ?_
  refine m_get (v := .int (F 2)) 2 dX9_feed_106 (by decide) q1765 rfl ?_
  refine m_iconst (v := 1) dX9_feed_109 (by decide) ?_
  refine m_iadd dX9_feed_110 ?_
  refine m_putI 2 dX9_feed_111 (by decide) q1765 rfl rfl rfl rfl ?_
  refine m_topF (fun F1 eF1 => ?_)
  replace h := h F1 eF1
  obtain ⟨v6, ev6⟩ : ∃ z : Int32, z = x6 + 1 := ⟨_, rfl⟩
  refine m_iinc (v := v6) (ls1 := [(6, .int v6), (7, .int sx0), (0, .ref o), (1, .int x1), (2, .int x2), (3, .int x3), (4, .int x4), (5, .int x5)]) dX9_feed_114 7 rfl (by rw [ev6]; rfl) (by decide) rfl ?_
  replace h := h v6 ev6
  refine m_goto (tgt := 23) dX9_feed_117 (by decide) ?_
  exact AtM.sub (ls := [(6, .int v6), (7, .int sx0), (0, .ref o), (1, .int x1), (2, .int x2), (3, .int x3), (4, .int x4), (5, .int x5)]) [2, 3, 4, 5, 6, 7, 0] rfl h
theorem eX9_feed {G : GC} {ad : Nat → Nat} {o : Nat} {Q : MPost} {p1 : Int32} {p2 : Int32} {p3 : Int32} {p4 : Int32} {p5 : Int32} {F : Nat → Int32} {L : Nat → Int64} {I : Nat → Nat → Int32} {J : Nat → Nat → Int64} (h : ∀ σ0, AtM G mX9_feed 3 ad o σ0 Q 0 [(0, .ref o), (1, .int p1), (2, .int p2), (3, .int p3), (4, .int p4), (5, .int p5)] [] F L I J) : CallM G mX9_feed 3 ad o [.ref o, .int p1, .int p2, .int p3, .int p4, .int p5] F L I J Q :=
  CallM.of (by decide +kernel) wsX9_feed rfl (Nat.le_of_ble_eq_true rfl) (fun σ0 => AtM.sub (ls := [(0, .ref o), (1, .int p1), (2, .int p2), (3, .int p3), (4, .int p4), (5, .int p5)]) [0, 1, 2, 3, 4, 5] rfl (h σ0))
set_option maxHeartbeats 4000000 in
theorem bX9_fault_0 {G : GC} {ad : Nat → Nat} {o : Nat} {σ0 : PS} {Q : MPost} {F : Nat → Int32} {L : Nat → Int64} {I : Nat → Nat → Int32} {J : Nat → Nat → Int64} (h : (∀ F1 : Nat → Int32, F1 = fU F 0 0 → Q (some (.int (F1 8))) F1 L I J)) : AtM G mX9_fault 3 ad o σ0 Q 0 [(0, .ref o)] [] F L I J := by
  refine m_aload_n dX9_fault_0 rfl 0 rfl ?_
  refine m_iconst (v := 0) dX9_fault_1 (by decide) ?_
  refine m_putI 0 dX9_fault_2 (by decide) q1763 rfl rfl rfl rfl ?_
  refine m_topF (fun F1 eF1 => ?_)
  replace h := h F1 eF1
  refine m_aload_n dX9_fault_5 rfl 0 rfl ?_
  refine m_get (v := .int (F1 8)) 8 dX9_fault_6 (by decide) q1771 rfl ?_
  exact m_iret rfl dX9_fault_9 h
theorem eX9_fault {G : GC} {ad : Nat → Nat} {o : Nat} {Q : MPost} {F : Nat → Int32} {L : Nat → Int64} {I : Nat → Nat → Int32} {J : Nat → Nat → Int64} (h : ∀ σ0, AtM G mX9_fault 3 ad o σ0 Q 0 [(0, .ref o)] [] F L I J) : CallM G mX9_fault 3 ad o [.ref o] F L I J Q :=
  CallM.of (by decide +kernel) wsX9_fault rfl (Nat.le_of_ble_eq_true rfl) (fun σ0 => AtM.sub (ls := [(0, .ref o)]) [0] rfl (h σ0))
set_option maxHeartbeats 4000000 in
theorem bX9_office_0 {G : GC} {ad : Nat → Nat} {o : Nat} {σ0 : PS} {Q : MPost} {x1 : Int32} {F : Nat → Int32} {L : Nat → Int64} {I : Nat → Nat → Int32} {J : Nat → Nat → Int64} (h : (∀ F1 : Nat → Int32, F1 = fU F 0 0 → ((x1 < 0) → AtM G mX9_office 9 ad o σ0 Q 22 [(0, .ref o), (1, .int x1)] [.ref o] F1 L I J) ∧ ((¬ x1 < 0) → (((F1 2) < x1) → AtM G mX9_office 9 ad o σ0 Q 22 [(0, .ref o), (1, .int x1)] [.ref o] F1 L I J) ∧ ((¬ (F1 2) < x1) → CallM G mX9_may 3 ad o [.ref o, .int 1, .int 1, .int 1] F1 L I J (mqI (fun rx F1_1 L1 I1 J1 => ((¬ rx = 0) → CallM G mX9_begins 3 ad o [.ref o, .int x1] F1_1 L1 I1 J1 (mqV (fun F1_2 L1_3 I1_4 J1_5 => CallM G mX9_clears 3 ad o [.ref o] F1_2 L1_3 I1_4 J1_5 (mqV (fun F1_6 L1_7 I1_8 J1_9 => AtM G mX9_office 9 ad o σ0 Q 44 [(0, .ref o), (2, .int 0)] [] F1_6 L1_7 I1_8 J1_9))))) ∧ ((rx = 0) → Q (some (.int 0)) F1_1 L1 I1 J1))))))) : AtM G mX9_office 9 ad o σ0 Q 0 [(0, .ref o), (1, .int x1)] [] F L I J := by
  refine m_aload_n dX9_office_0 rfl 0 rfl ?_
  refine m_iconst (v := 0) dX9_office_1 (by decide) ?_
  refine m_putI 0 dX9_office_2 (by decide) q1763 rfl rfl rfl rfl ?_
  refine m_topF (fun F1 eF1 => ?_)
  replace h := h F1 eF1
  refine m_aload_n dX9_office_5 rfl 0 rfl ?_
  refine m_iload_n dX9_office_6 rfl 1 rfl ?_
  refine m_if_lt (tgt := 22) dX9_office_7 (by decide) (fun c => ?_) (fun c => ?_)
  · replace h := h.1 c
    exact AtM.sub (ls := [(0, .ref o), (1, .int x1)]) [0, 1] rfl h
  · replace h := h.2 c
    refine m_iload_n dX9_office_10 rfl 1 rfl ?_
    refine m_aload_n dX9_office_11 rfl 0 rfl ?_
    refine m_get (v := .int (F1 2)) 2 dX9_office_12 (by decide) q1765 rfl ?_
    refine m_icmp_gt (tgt := 22) dX9_office_15 (by decide) (fun c => ?_) (fun c => ?_)
    · replace h := h.1 c
      exact AtM.sub (ls := [(0, .ref o), (1, .int x1)]) [0, 1] rfl h
    · replace h := h.2 c
      refine m_iconst (v := 1) dX9_office_18 (by decide) ?_
      refine m_goto (tgt := 23) dX9_office_19 (by decide) ?_
      refine m_iconst (v := 1) dX9_office_23 (by decide) ?_
      refine m_iconst (v := 1) dX9_office_24 (by decide) ?_
      refine m_callV (N := mX9_may) (st := []) (As := [.int 1, .int 1, .int 1]) dX9_office_25 wsX9_may (lw_V q1971 q1973 qs38 q116 q1974) rfl mokX9_may rfl (by decide) (by decide) (Nat.zero_le _) h (fun _ F1_1 L1 I1 J1 hq => ?_)
      obtain ⟨rx, rfl, h⟩ := hq
      refine AtM.stk (st' := [.int rx]) rfl ?_
      refine m_if_ne (tgt := 33) dX9_office_28 (by decide) (fun c => ?_) (fun c => ?_)
      · replace h := h.1 c
        refine m_aload_n dX9_office_33 rfl 0 rfl ?_
        refine m_iload_n dX9_office_34 rfl 1 rfl ?_
        refine m_callV (N := mX9_begins) (st := []) (As := [.int x1]) dX9_office_35 wsX9_begins (lw_V q1975 q1977 qs39 q116 q1978) rfl mokX9_begins rfl (by decide) (by decide) (Nat.zero_le _) h (fun _ F1_2 L1_3 I1_4 J1_5 hq => ?_)
        obtain ⟨rfl, h⟩ := hq
        refine AtM.stk (st' := []) rfl ?_
        refine m_aload_n dX9_office_38 rfl 0 rfl ?_
        refine m_callV (N := mX9_clears) (st := []) (As := []) dX9_office_39 wsX9_clears (lw_V q1751 q1753 qs35 q116 q1754) rfl mokX9_clears rfl (by decide) (by decide) (Nat.zero_le _) h (fun _ F1_6 L1_7 I1_8 J1_9 hq => ?_)
        obtain ⟨rfl, h⟩ := hq
        refine AtM.stk (st' := []) rfl ?_
        refine m_iconst (v := 0) dX9_office_42 (by decide) ?_
        refine m_istore_n (ls1 := [(2, .int 0), (0, .ref o), (1, .int x1)]) dX9_office_43 rfl (by decide) rfl ?_
        exact AtM.sub (ls := [(2, .int 0), (0, .ref o), (1, .int x1)]) [1, 0] rfl h
      · replace h := h.2 c
        refine m_iconst (v := 0) dX9_office_31 (by decide) ?_
        exact m_iret rfl dX9_office_32 h
set_option maxHeartbeats 4000000 in
theorem bX9_office_22 {G : GC} {ad : Nat → Nat} {o : Nat} {σ0 : PS} {Q : MPost} {x1 : Int32} {F : Nat → Int32} {L : Nat → Int64} {I : Nat → Nat → Int32} {J : Nat → Nat → Int64} (h : CallM G mX9_may 3 ad o [.ref o, .int 0, .int 1, .int 1] F L I J (mqI (fun rx F1 L1 I1 J1 => ((¬ rx = 0) → CallM G mX9_begins 3 ad o [.ref o, .int x1] F1 L1 I1 J1 (mqV (fun F1_1 L1_2 I1_3 J1_4 => CallM G mX9_clears 3 ad o [.ref o] F1_1 L1_2 I1_3 J1_4 (mqV (fun F1_5 L1_6 I1_7 J1_8 => AtM G mX9_office 9 ad o σ0 Q 44 [(0, .ref o), (2, .int 0)] [] F1_5 L1_6 I1_7 J1_8))))) ∧ ((rx = 0) → Q (some (.int 0)) F1 L1 I1 J1)))) : AtM G mX9_office 9 ad o σ0 Q 22 [(0, .ref o), (1, .int x1)] [.ref o] F L I J := by
  refine m_iconst (v := 0) dX9_office_22 (by decide) ?_
  refine m_iconst (v := 1) dX9_office_23 (by decide) ?_
  refine m_iconst (v := 1) dX9_office_24 (by decide) ?_
  refine m_callV (N := mX9_may) (st := []) (As := [.int 0, .int 1, .int 1]) dX9_office_25 wsX9_may (lw_V q1971 q1973 qs38 q116 q1974) rfl mokX9_may rfl (by decide) (by decide) (Nat.zero_le _) h (fun _ F1 L1 I1 J1 hq => ?_)
  obtain ⟨rx, rfl, h⟩ := hq
  refine AtM.stk (st' := [.int rx]) rfl ?_
  refine m_if_ne (tgt := 33) dX9_office_28 (by decide) (fun c => ?_) (fun c => ?_)
  · replace h := h.1 c
    refine m_aload_n dX9_office_33 rfl 0 rfl ?_
    refine m_iload_n dX9_office_34 rfl 1 rfl ?_
    refine m_callV (N := mX9_begins) (st := []) (As := [.int x1]) dX9_office_35 wsX9_begins (lw_V q1975 q1977 qs39 q116 q1978) rfl mokX9_begins rfl (by decide) (by decide) (Nat.zero_le _) h (fun _ F1_1 L1_2 I1_3 J1_4 hq => ?_)
    obtain ⟨rfl, h⟩ := hq
    refine AtM.stk (st' := []) rfl ?_
    refine m_aload_n dX9_office_38 rfl 0 rfl ?_
    refine m_callV (N := mX9_clears) (st := []) (As := []) dX9_office_39 wsX9_clears (lw_V q1751 q1753 qs35 q116 q1754) rfl mokX9_clears rfl (by decide) (by decide) (Nat.zero_le _) h (fun _ F1_5 L1_6 I1_7 J1_8 hq => ?_)
    obtain ⟨rfl, h⟩ := hq
    refine AtM.stk (st' := []) rfl ?_
    refine m_iconst (v := 0) dX9_office_42 (by decide) ?_
    refine m_istore_n (ls1 := [(2, .int 0), (0, .ref o), (1, .int x1)]) dX9_office_43 rfl (by decide) rfl ?_
    exact AtM.sub (ls := [(2, .int 0), (0, .ref o), (1, .int x1)]) [1, 0] rfl h
  · replace h := h.2 c
    refine m_iconst (v := 0) dX9_office_31 (by decide) ?_
    exact m_iret rfl dX9_office_32 h
set_option maxHeartbeats 4000000 in
theorem bX9_office_44 {G : GC} {ad : Nat → Nat} {o : Nat} {σ0 : PS} {Q : MPost} {x2 : Int32} {F : Nat → Int32} {L : Nat → Int64} {I : Nat → Nat → Int32} {J : Nat → Nat → Int64} (h : CallMO G mX9_fine 3 ad o [.ref o] F L I J (pI (fun rx => ((rx = 0) → AtM G mX9_office 9 ad o σ0 Q 184 [(0, .ref o)] [] F L I J) ∧ ((¬ rx = 0) → CallM G mX9_isMore 4 ad o [.ref o] F L I J (mqI (fun rx_1 F1 L1 I1 J1 => ((rx_1 = 0) → AtM G mX9_office 9 ad o σ0 Q 184 [(0, .ref o)] [] F1 L1 I1 J1) ∧ ((¬ rx_1 = 0) → CallM G mX9_clauseHere 8 ad o [.ref o] F1 L1 I1 J1 (mqI (fun rx_2 F1_3 L1_4 I1_5 J1_6 => ((¬ rx_2 = (-1)) → ((x2 = 60) → CallM G mX9_wrong 3 ad o [.ref o, .int 3, .int (F1_3 4)] F1_3 L1_4 I1_5 J1_6 (mqV (fun F1_7 L1_8 I1_9 J1_10 => AtM G mX9_office 9 ad o σ0 Q 153 [(0, .ref o), (2, .int x2), (3, .int rx_2)] [] F1_7 L1_8 I1_9 J1_10))) ∧ ((¬ x2 = 60) → CallP G mX9_of 7 [.ref (gk G 40)] (pI (fun rx_11 => ((¬ rx_2 = rx_11) → AtM G mX9_office 9 ad o σ0 Q 104 [(0, .ref o), (2, .int x2), (3, .int rx_2)] [] F1_3 L1_4 I1_5 J1_6) ∧ ((rx_2 = rx_11) → (((F1_3 16) = 6) → CallM G mX9_wrong 3 ad o [.ref o, .int 3, .int (F1_3 4)] F1_3 L1_4 I1_5 J1_6 (mqV (fun F1_12 L1_13 I1_14 J1_15 => AtM G mX9_office 9 ad o σ0 Q 153 [(0, .ref o), (2, .int x2), (3, .int rx_2)] [] F1_12 L1_13 I1_14 J1_15))) ∧ ((¬ (F1_3 16) = 6) → AtM G mX9_office 9 ad o σ0 Q 104 [(0, .ref o), (2, .int x2), (3, .int rx_2)] [] F1_3 L1_4 I1_5 J1_6)))))) ∧ ((rx_2 = (-1)) → CallM G mX9_wrong 3 ad o [.ref o, .int 1, .int (F1_3 4)] F1_3 L1_4 I1_5 J1_6 (mqV (fun F1_16 L1_17 I1_18 J1_19 => AtM G mX9_office 9 ad o σ0 Q 153 [(0, .ref o), (2, .int x2), (3, .int rx_2)] [] F1_16 L1_17 I1_18 J1_19)))))))))))) : AtM G mX9_office 9 ad o σ0 Q 44 [(0, .ref o), (2, .int x2)] [] F L I J := by
  refine m_aload_n dX9_office_44 rfl 0 rfl ?_
  refine m_callV (N := mX9_fine) (st := []) (As := []) dX9_office_45 wsX9_fine (lw_V q1979 q1981 qs40 q116 q1982) rfl mokX9_fine rfl (by decide) (by decide) (Nat.zero_le _) h (fun _ F9 L9 I9 J9 hq => ?_)
  obtain ⟨e1, e2, e3, e4, hq⟩ := hq
  refine AtM.re e1 e2 e3 e4 ?_
  obtain ⟨rx, rfl, h⟩ := hq
  refine AtM.stk (st' := [.int rx]) rfl ?_
  refine m_if_eq (tgt := 184) dX9_office_48 (by decide) (fun c => ?_) (fun c => ?_)
  · replace h := h.1 c
    exact AtM.sub (ls := [(0, .ref o), (2, .int x2)]) [0] rfl h
  · replace h := h.2 c
    refine m_aload_n dX9_office_51 rfl 0 rfl ?_
    refine m_callV (N := mX9_isMore) (st := []) (As := []) dX9_office_52 wsX9_isMore (lw_V q1983 q1985 qs41 q116 q1986) rfl mokX9_isMore rfl (by decide) (by decide) (Nat.zero_le _) h (fun _ F1 L1 I1 J1 hq => ?_)
    obtain ⟨rx_1, rfl, h⟩ := hq
    refine AtM.stk (st' := [.int rx_1]) rfl ?_
    refine m_if_eq (tgt := 184) dX9_office_55 (by decide) (fun c => ?_) (fun c => ?_)
    · replace h := h.1 c
      exact AtM.sub (ls := [(0, .ref o), (2, .int x2)]) [0] rfl h
    · replace h := h.2 c
      refine m_aload_n dX9_office_58 rfl 0 rfl ?_
      refine m_callV (N := mX9_clauseHere) (st := []) (As := []) dX9_office_59 wsX9_clauseHere (lw_V q1991 q1993 qs43 q116 q1994) rfl mokX9_clauseHere rfl (by decide) (by decide) (Nat.zero_le _) h (fun _ F1_3 L1_4 I1_5 J1_6 hq => ?_)
      obtain ⟨rx_2, rfl, h⟩ := hq
      refine AtM.stk (st' := [.int rx_2]) rfl ?_
      refine m_istore_n (ls1 := [(3, .int rx_2), (0, .ref o), (2, .int x2)]) dX9_office_62 rfl (by decide) rfl ?_
      refine m_iload_n dX9_office_63 rfl 0 rfl ?_
      refine m_iconst (v := (-1)) dX9_office_64 (by decide) ?_
      refine m_icmp_ne (tgt := 80) dX9_office_65 (by decide) (fun c => ?_) (fun c => ?_)
      · replace h := h.1 c
        refine m_iload_n dX9_office_80 rfl 2 rfl ?_
        refine m_bipush (v := 60) dX9_office_81 (by decide) ?_
        refine m_icmp_eq (tgt := 122) dX9_office_83 (by decide) (fun c => ?_) (fun c => ?_)
        · replace h := h.1 c
          refine m_aload_n dX9_office_122 rfl 1 rfl ?_
          refine m_iconst (v := 3) dX9_office_123 (by decide) ?_
          refine m_aload_n dX9_office_124 rfl 1 rfl ?_
          refine m_get (v := .int (F1_3 4)) 4 dX9_office_125 (by decide) q1767 rfl ?_
          refine m_callV (N := mX9_wrong) (st := []) (As := [.int 3, .int (F1_3 4)]) dX9_office_128 wsX9_wrong (lw_V q2020 q2022 qs46 q116 q2023) rfl mokX9_wrong rfl (by decide) (by decide) (Nat.zero_le _) h (fun _ F1_7 L1_8 I1_9 J1_10 hq => ?_)
          obtain ⟨rfl, h⟩ := hq
          refine AtM.stk (st' := []) rfl ?_
          refine m_goto (tgt := 153) dX9_office_131 (by decide) ?_
          exact AtM.sub (ls := [(3, .int rx_2), (0, .ref o), (2, .int x2)]) [1, 2, 0] rfl h
        · replace h := h.2 c
          refine m_iload_n dX9_office_86 rfl 0 rfl ?_
          refine m_ldcS 40 dX9_office_87 rfl rfl rfl ?_
          refine m_callP (N := mX9_of) (st := [.int rx_2]) (As := [.ref (gk G 40)]) dX9_office_89 wsX9_of (lw_S q2010 q2011 q116 q2012) mokX9_of rfl (by decide) (by decide) (by simp [Value.category]) h (fun _ hq => ?_)
          obtain ⟨rx_11, rfl, h⟩ := hq
          refine AtM.stk (st' := [.int rx_11, .int rx_2]) rfl ?_
          refine m_icmp_ne (tgt := 104) dX9_office_92 (by decide) (fun c => ?_) (fun c => ?_)
          · replace h := h.1 c
            exact AtM.sub (ls := [(3, .int rx_2), (0, .ref o), (2, .int x2)]) [1, 2, 0] rfl h
          · replace h := h.2 c
            refine m_aload_n dX9_office_95 rfl 1 rfl ?_
            refine m_get (v := .int (F1_3 16)) 16 dX9_office_96 (by decide) q1779 rfl ?_
            refine m_bipush (v := 6) dX9_office_99 (by decide) ?_
            refine m_icmp_eq (tgt := 122) dX9_office_101 (by decide) (fun c => ?_) (fun c => ?_)
            · replace h := h.1 c
              refine m_aload_n dX9_office_122 rfl 1 rfl ?_
              refine m_iconst (v := 3) dX9_office_123 (by decide) ?_
              refine m_aload_n dX9_office_124 rfl 1 rfl ?_
              refine m_get (v := .int (F1_3 4)) 4 dX9_office_125 (by decide) q1767 rfl ?_
              refine m_callV (N := mX9_wrong) (st := []) (As := [.int 3, .int (F1_3 4)]) dX9_office_128 wsX9_wrong (lw_V q2020 q2022 qs46 q116 q2023) rfl mokX9_wrong rfl (by decide) (by decide) (Nat.zero_le _) h (fun _ F1_12 L1_13 I1_14 J1_15 hq => ?_)
              obtain ⟨rfl, h⟩ := hq
              refine AtM.stk (st' := []) rfl ?_
              refine m_goto (tgt := 153) dX9_office_131 (by decide) ?_
              exact AtM.sub (ls := [(3, .int rx_2), (0, .ref o), (2, .int x2)]) [1, 2, 0] rfl h
            · replace h := h.2 c
              exact AtM.sub (ls := [(3, .int rx_2), (0, .ref o), (2, .int x2)]) [1, 2, 0] rfl h
      · replace h := h.2 c
        refine m_aload_n dX9_office_68 rfl 1 rfl ?_
        refine m_iconst (v := 1) dX9_office_69 (by decide) ?_
        refine m_aload_n dX9_office_70 rfl 1 rfl ?_
        refine m_get (v := .int (F1_3 4)) 4 dX9_office_71 (by decide) q1767 rfl ?_
        refine m_callV (N := mX9_wrong) (st := []) (As := [.int 1, .int (F1_3 4)]) dX9_office_74 wsX9_wrong (lw_V q2020 q2022 qs46 q116 q2023) rfl mokX9_wrong rfl (by decide) (by decide) (Nat.zero_le _) h (fun _ F1_16 L1_17 I1_18 J1_19 hq => ?_)
        obtain ⟨rfl, h⟩ := hq
        refine AtM.stk (st' := []) rfl ?_
        refine m_goto (tgt := 153) dX9_office_77 (by decide) ?_
        exact AtM.sub (ls := [(3, .int rx_2), (0, .ref o), (2, .int x2)]) [1, 2, 0] rfl h
set_option maxHeartbeats 4000000 in
theorem bX9_office_104 {G : GC} {ad : Nat → Nat} {o : Nat} {σ0 : PS} {Q : MPost} {x2 : Int32} {x3 : Int32} {F : Nat → Int32} {L : Nat → Int64} {I : Nat → Nat → Int32} {J : Nat → Nat → Int64} (h : CallP G mX9_of 7 [.ref (gk G 41)] (pI (fun rx => ((¬ x3 = rx) → ((¬ x3 = (-7)) → AtM G mX9_office 9 ad o σ0 Q 153 [(0, .ref o), (2, .int x2), (3, .int x3)] [] F L I J) ∧ ((x3 = (-7)) → ((x2 ≤ 0) → AtM G mX9_office 9 ad o σ0 Q 153 [(0, .ref o), (2, .int x2), (3, .int x3)] [] F L I J) ∧ ((¬ x2 ≤ 0) → CallM G mX9_wrong 3 ad o [.ref o, .int 4, .int (F 4)] F L I J (mqV (fun F1 L1 I1 J1 => AtM G mX9_office 9 ad o σ0 Q 153 [(0, .ref o), (2, .int x2), (3, .int x3)] [] F1 L1 I1 J1))))) ∧ ((x3 = rx) → ((¬ (F 17) = 24) → ((¬ x3 = (-7)) → AtM G mX9_office 9 ad o σ0 Q 153 [(0, .ref o), (2, .int x2), (3, .int x3)] [] F L I J) ∧ ((x3 = (-7)) → ((x2 ≤ 0) → AtM G mX9_office 9 ad o σ0 Q 153 [(0, .ref o), (2, .int x2), (3, .int x3)] [] F L I J) ∧ ((¬ x2 ≤ 0) → CallM G mX9_wrong 3 ad o [.ref o, .int 4, .int (F 4)] F L I J (mqV (fun F1 L1 I1 J1 => AtM G mX9_office 9 ad o σ0 Q 153 [(0, .ref o), (2, .int x2), (3, .int x3)] [] F1 L1 I1 J1))))) ∧ (((F 17) = 24) → CallM G mX9_wrong 3 ad o [.ref o, .int 3, .int (F 4)] F L I J (mqV (fun F1 L1 I1 J1 => AtM G mX9_office 9 ad o σ0 Q 153 [(0, .ref o), (2, .int x2), (3, .int x3)] [] F1 L1 I1 J1))))))) : AtM G mX9_office 9 ad o σ0 Q 104 [(0, .ref o), (2, .int x2), (3, .int x3)] [] F L I J := by
  refine m_iload_n dX9_office_104 rfl 2 rfl ?_
  refine m_ldcS 41 dX9_office_105 rfl rfl rfl ?_
  refine m_callP (N := mX9_of) (st := [.int x3]) (As := [.ref (gk G 41)]) dX9_office_107 wsX9_of (lw_S q2010 q2011 q116 q2012) mokX9_of rfl (by decide) (by decide) (by simp [Value.category]) h (fun _ hq => ?_)
  obtain ⟨rx, rfl, h⟩ := hq
  refine AtM.stk (st' := [.int rx, .int x3]) rfl ?_
  refine m_icmp_ne (tgt := 134) dX9_office_110 (by decide) (fun c => ?_) (fun c => ?_)
  · replace h := h.1 c
    refine m_iload_n dX9_office_134 rfl 2 rfl ?_
    refine m_bipush (v := (-7)) dX9_office_135 (by decide) ?_
    refine m_icmp_ne (tgt := 153) dX9_office_137 (by decide) (fun c => ?_) (fun c => ?_)
    · replace h := h.1 c
      exact AtM.sub (ls := [(0, .ref o), (2, .int x2), (3, .int x3)]) [0, 1, 2] rfl h
    · replace h := h.2 c
      refine m_iload_n dX9_office_140 rfl 1 rfl ?_
      refine m_if_le (tgt := 153) dX9_office_141 (by decide) (fun c => ?_) (fun c => ?_)
      · replace h := h.1 c
        exact AtM.sub (ls := [(0, .ref o), (2, .int x2), (3, .int x3)]) [0, 1, 2] rfl h
      · replace h := h.2 c
        refine m_aload_n dX9_office_144 rfl 0 rfl ?_
        refine m_iconst (v := 4) dX9_office_145 (by decide) ?_
        refine m_aload_n dX9_office_146 rfl 0 rfl ?_
        refine m_get (v := .int (F 4)) 4 dX9_office_147 (by decide) q1767 rfl ?_
        refine m_callV (N := mX9_wrong) (st := []) (As := [.int 4, .int (F 4)]) dX9_office_150 wsX9_wrong (lw_V q2020 q2022 qs46 q116 q2023) rfl mokX9_wrong rfl (by decide) (by decide) (Nat.zero_le _) h (fun _ F1 L1 I1 J1 hq => ?_)
        obtain ⟨rfl, h⟩ := hq
        refine AtM.stk (st' := []) rfl ?_
        exact AtM.sub (ls := [(0, .ref o), (2, .int x2), (3, .int x3)]) [0, 1, 2] rfl h
  · replace h := h.2 c
    refine m_aload_n dX9_office_113 rfl 0 rfl ?_
    refine m_get (v := .int (F 17)) 17 dX9_office_114 (by decide) q1780 rfl ?_
    refine m_bipush (v := 24) dX9_office_117 (by decide) ?_
    refine m_icmp_ne (tgt := 134) dX9_office_119 (by decide) (fun c => ?_) (fun c => ?_)
    · replace h := h.1 c
      refine m_iload_n dX9_office_134 rfl 2 rfl ?_
      refine m_bipush (v := (-7)) dX9_office_135 (by decide) ?_
      refine m_icmp_ne (tgt := 153) dX9_office_137 (by decide) (fun c => ?_) (fun c => ?_)
      · replace h := h.1 c
        exact AtM.sub (ls := [(0, .ref o), (2, .int x2), (3, .int x3)]) [0, 1, 2] rfl h
      · replace h := h.2 c
        refine m_iload_n dX9_office_140 rfl 1 rfl ?_
        refine m_if_le (tgt := 153) dX9_office_141 (by decide) (fun c => ?_) (fun c => ?_)
        · replace h := h.1 c
          exact AtM.sub (ls := [(0, .ref o), (2, .int x2), (3, .int x3)]) [0, 1, 2] rfl h
        · replace h := h.2 c
          refine m_aload_n dX9_office_144 rfl 0 rfl ?_
          refine m_iconst (v := 4) dX9_office_145 (by decide) ?_
          refine m_aload_n dX9_office_146 rfl 0 rfl ?_
          refine m_get (v := .int (F 4)) 4 dX9_office_147 (by decide) q1767 rfl ?_
          refine m_callV (N := mX9_wrong) (st := []) (As := [.int 4, .int (F 4)]) dX9_office_150 wsX9_wrong (lw_V q2020 q2022 qs46 q116 q2023) rfl mokX9_wrong rfl (by decide) (by decide) (Nat.zero_le _) h (fun _ F1 L1 I1 J1 hq => ?_)
          obtain ⟨rfl, h⟩ := hq
          refine AtM.stk (st' := []) rfl ?_
          exact AtM.sub (ls := [(0, .ref o), (2, .int x2), (3, .int x3)]) [0, 1, 2] rfl h
    · replace h := h.2 c
      refine m_aload_n dX9_office_122 rfl 0 rfl ?_
      refine m_iconst (v := 3) dX9_office_123 (by decide) ?_
      refine m_aload_n dX9_office_124 rfl 0 rfl ?_
      refine m_get (v := .int (F 4)) 4 dX9_office_125 (by decide) q1767 rfl ?_
      refine m_callV (N := mX9_wrong) (st := []) (As := [.int 3, .int (F 4)]) dX9_office_128 wsX9_wrong (lw_V q2020 q2022 qs46 q116 q2023) rfl mokX9_wrong rfl (by decide) (by decide) (Nat.zero_le _) h (fun _ F1 L1 I1 J1 hq => ?_)
      obtain ⟨rfl, h⟩ := hq
      refine AtM.stk (st' := []) rfl ?_
      refine m_goto (tgt := 153) dX9_office_131 (by decide) ?_
      exact AtM.sub (ls := [(0, .ref o), (2, .int x2), (3, .int x3)]) [0, 1, 2] rfl h
set_option maxHeartbeats 4000000 in
theorem bX9_office_153 {G : GC} {ad : Nat → Nat} {o : Nat} {σ0 : PS} {Q : MPost} {x2 : Int32} {x3 : Int32} {F : Nat → Int32} {L : Nat → Int64} {I : Nat → Nat → Int32} {J : Nat → Nat → Int64} (h : CallMO G mX9_fine 3 ad o [.ref o] F L I J (pI (fun rx => ((¬ rx = 0) → CallM G mX9_pass 4 ad o [.ref o] F L I J (mqV (fun F1 L1 I1 J1 => CallM G mX9_readClause 8 ad o [.ref o, .int x3] F1 L1 I1 J1 (mqV (fun F1_1 L1_2 I1_3 J1_4 => CallM G mX9_sign 4 ad o [.ref o, .int 59] F1_1 L1_2 I1_3 J1_4 (mqV (fun F1_5 L1_6 I1_7 J1_8 => ∀ v2 : Int32, v2 = x2 + 1 → AtM G mX9_office 9 ad o σ0 Q 44 [(0, .ref o), (2, .int v2)] [] F1_5 L1_6 I1_7 J1_8))))))) ∧ ((rx = 0) → AtM G mX9_office 9 ad o σ0 Q 184 [(0, .ref o)] [] F L I J)))) : AtM G mX9_office 9 ad o σ0 Q 153 [(0, .ref o), (2, .int x2), (3, .int x3)] [] F L I J := by
  refine m_aload_n dX9_office_153 rfl 0 rfl ?_
  refine m_callV (N := mX9_fine) (st := []) (As := []) dX9_office_154 wsX9_fine (lw_V q1979 q1981 qs40 q116 q1982) rfl mokX9_fine rfl (by decide) (by decide) (Nat.zero_le _) h (fun _ F9 L9 I9 J9 hq => ?_)
  obtain ⟨e1, e2, e3, e4, hq⟩ := hq
  refine AtM.re e1 e2 e3 e4 ?_
  obtain ⟨rx, rfl, h⟩ := hq
  refine AtM.stk (st' := [.int rx]) rfl ?_
  refine m_if_ne (tgt := 163) dX9_office_157 (by decide) (fun c => ?_) (fun c => ?_)
  · replace h := h.1 c
    refine m_aload_n dX9_office_163 rfl 0 rfl ?_
    refine m_callV (N := mX9_pass) (st := []) (As := []) dX9_office_164 wsX9_pass (lw_V q2024 q2026 qs47 q116 q2027) rfl mokX9_pass rfl (by decide) (by decide) (Nat.zero_le _) h (fun _ F1 L1 I1 J1 hq => ?_)
    obtain ⟨rfl, h⟩ := hq
    refine AtM.stk (st' := []) rfl ?_
    refine m_aload_n dX9_office_167 rfl 0 rfl ?_
    refine m_iload_n dX9_office_168 rfl 2 rfl ?_
    refine m_callV (N := mX9_readClause) (st := []) (As := [.int x3]) dX9_office_169 wsX9_readClause (lw_V q2028 q2030 qs48 q116 q2031) rfl mokX9_readClause rfl (by decide) (by decide) (Nat.zero_le _) h (fun _ F1_1 L1_2 I1_3 J1_4 hq => ?_)
    obtain ⟨rfl, h⟩ := hq
    refine AtM.stk (st' := []) rfl ?_
    refine m_aload_n dX9_office_172 rfl 0 rfl ?_
    refine m_bipush (v := 59) dX9_office_173 (by decide) ?_
    refine m_callV (N := mX9_sign) (st := []) (As := [.int 59]) dX9_office_175 wsX9_sign (lw_V q2043 q2045 qs51 q116 q2046) rfl mokX9_sign rfl (by decide) (by decide) (Nat.zero_le _) h (fun _ F1_5 L1_6 I1_7 J1_8 hq => ?_)
    obtain ⟨rfl, h⟩ := hq
    refine AtM.stk (st' := []) rfl ?_
    obtain ⟨v2, ev2⟩ : ∃ z : Int32, z = x2 + 1 := ⟨_, rfl⟩
    refine m_iinc (v := v2) (ls1 := [(2, .int v2), (0, .ref o), (3, .int x3)]) dX9_office_178 1 rfl (by rw [ev2]; rfl) (by decide) rfl ?_
    replace h := h v2 ev2
    refine m_goto (tgt := 44) dX9_office_181 (by decide) ?_
    exact AtM.sub (ls := [(2, .int v2), (0, .ref o), (3, .int x3)]) [1, 0] rfl h
  · replace h := h.2 c
    refine m_goto (tgt := 184) dX9_office_160 (by decide) ?_
    exact AtM.sub (ls := [(0, .ref o), (2, .int x2), (3, .int x3)]) [0] rfl h
set_option maxHeartbeats 4000000 in
theorem bX9_office_184 {G : GC} {ad : Nat → Nat} {o : Nat} {σ0 : PS} {Q : MPost} {F : Nat → Int32} {L : Nat → Int64} {I : Nat → Nat → Int32} {J : Nat → Nat → Int64} (h : CallM G mX9_result 4 ad o [.ref o, .int (F 17)] F L I J (mqI (fun rx F1 L1 I1 J1 => ((¬ (F1 5) = (-1)) → Q (some (.int rx)) F1 L1 I1 J1) ∧ (((F1 5) = (-1)) → CallM G mX9_sets 4 ad o [.ref o] F1 L1 I1 J1 (mqV (fun F1_1 L1_2 I1_3 J1_4 => Q (some (.int rx)) F1_1 L1_2 I1_3 J1_4)))))) : AtM G mX9_office 9 ad o σ0 Q 184 [(0, .ref o)] [] F L I J := by
  refine m_aload_n dX9_office_184 rfl 0 rfl ?_
  refine m_aload_n dX9_office_185 rfl 0 rfl ?_
  refine m_get (v := .int (F 17)) 17 dX9_office_186 (by decide) q1780 rfl ?_
  refine m_callV (N := mX9_result) (st := []) (As := [.int (F 17)]) dX9_office_189 wsX9_result (lw_V q2047 q2049 qs52 q116 q2050) rfl mokX9_result rfl (by decide) (by decide) (Nat.zero_le _) h (fun _ F1 L1 I1 J1 hq => ?_)
  obtain ⟨rx, rfl, h⟩ := hq
  refine AtM.stk (st' := [.int rx]) rfl ?_
  refine m_istore_n (ls1 := [(3, .int rx), (0, .ref o)]) dX9_office_192 rfl (by decide) rfl ?_
  refine m_aload_n dX9_office_193 rfl 1 rfl ?_
  refine m_get (v := .int (F1 5)) 5 dX9_office_194 (by decide) q1768 rfl ?_
  refine m_iconst (v := (-1)) dX9_office_197 (by decide) ?_
  refine m_icmp_ne (tgt := 205) dX9_office_198 (by decide) (fun c => ?_) (fun c => ?_)
  · replace h := h.1 c
    refine m_iload_n dX9_office_205 rfl 0 rfl ?_
    exact m_iret rfl dX9_office_206 h
  · replace h := h.2 c
    refine m_aload_n dX9_office_201 rfl 1 rfl ?_
    refine m_callV (N := mX9_sets) (st := []) (As := []) dX9_office_202 wsX9_sets (lw_V q1755 q1757 qs36 q116 q1758) rfl mokX9_sets rfl (by decide) (by decide) (Nat.zero_le _) h (fun _ F1_1 L1_2 I1_3 J1_4 hq => ?_)
    obtain ⟨rfl, h⟩ := hq
    refine AtM.stk (st' := []) rfl ?_
    refine m_iload_n dX9_office_205 rfl 0 rfl ?_
    exact m_iret rfl dX9_office_206 h
theorem eX9_office {G : GC} {ad : Nat → Nat} {o : Nat} {Q : MPost} {p1 : Int32} {F : Nat → Int32} {L : Nat → Int64} {I : Nat → Nat → Int32} {J : Nat → Nat → Int64} (h : ∀ σ0, AtM G mX9_office 9 ad o σ0 Q 0 [(0, .ref o), (1, .int p1)] [] F L I J) : CallM G mX9_office 9 ad o [.ref o, .int p1] F L I J Q :=
  CallM.of (by decide +kernel) wsX9_office rfl (Nat.le_of_ble_eq_true rfl) (fun σ0 => AtM.sub (ls := [(0, .ref o), (1, .int p1)]) [0, 1] rfl (h σ0))
set_option maxHeartbeats 4000000 in
theorem bX9_may_0 {G : GC} {ad : Nat → Nat} {o : Nat} {σ0 : PS} {Q : MPost} {x1 : Int32} {x2 : Int32} {x3 : Int32} {F : Nat → Int32} {L : Nat → Int64} {I : Nat → Nat → Int32} {J : Nat → Nat → Int64} (h : ((¬ x1 = 0) → AtM G mX9_may 3 ad o σ0 Q 26 [(0, .ref o)] [] F L I J) ∧ ((x1 = 0) → ((¬ (F 0) = 0) → AtM G mX9_may 3 ad o σ0 Q 26 [(0, .ref o)] [] F L I J) ∧ (((F 0) = 0) → (∀ F1 : Nat → Int32, F1 = fU F 0 x2 → vp_in x3 2 ∧ (∀ w : Int32, w = ((I 1 x3.toNatClampNeg) + 1) → vp_in x3 2 ∧ (∀ I1 : Nat → Nat → Int32, I1 = aU I 1 x3.toNatClampNeg w → AtM G mX9_may 3 ad o σ0 Q 26 [(0, .ref o)] [] F1 L I1 J)))))) : AtM G mX9_may 3 ad o σ0 Q 0 [(0, .ref o), (1, .int x1), (2, .int x2), (3, .int x3)] [] F L I J := by
  refine m_iload_n dX9_may_0 rfl 1 rfl ?_
  refine m_if_ne (tgt := 26) dX9_may_1 (by decide) (fun c => ?_) (fun c => ?_)
  · replace h := h.1 c
    exact AtM.sub (ls := [(0, .ref o), (1, .int x1), (2, .int x2), (3, .int x3)]) [0] rfl h
  · replace h := h.2 c
    refine m_aload_n dX9_may_4 rfl 0 rfl ?_
    refine m_get (v := .int (F 0)) 0 dX9_may_5 (by decide) q1763 rfl ?_
    refine m_if_ne (tgt := 26) dX9_may_8 (by decide) (fun c => ?_) (fun c => ?_)
    · replace h := h.1 c
      exact AtM.sub (ls := [(0, .ref o), (1, .int x1), (2, .int x2), (3, .int x3)]) [0] rfl h
    · replace h := h.2 c
      refine m_aload_n dX9_may_11 rfl 0 rfl ?_
      refine m_iload_n dX9_may_12 rfl 2 rfl ?_
      refine m_putI 0 dX9_may_13 (by decide) q1763 rfl rfl rfl rfl ?_
      refine m_topF (fun F1 eF1 => ?_)
      replace h := h F1 eF1
      refine m_aload_n dX9_may_16 rfl 0 rfl ?_
      refine m_get (v := .ref (ad 1)) 1 dX9_may_17 (by decide) q1764 rfl ?_
      refine m_iload_n dX9_may_20 rfl 3 rfl ?_
      refine m_dup2 dX9_may_21 rfl rfl ?_
      obtain ⟨h1, h⟩ := h
      refine m_iald 1 dX9_may_22 (by decide) rfl h1 ?_
      refine m_iconst (v := 1) dX9_may_23 (by decide) ?_
      refine m_iadd dX9_may_24 ?_
      refine m_topi (fun w ew => ?_)
      replace h := h w ew
      obtain ⟨h1, h⟩ := h
      refine m_iast 1 dX9_may_25 (by decide) rfl h1 ?_
      refine m_topI (fun I1 eI1 => ?_)
      replace h := h I1 eI1
      exact AtM.sub (ls := [(0, .ref o), (1, .int x1), (2, .int x2), (3, .int x3)]) [0] rfl h
set_option maxHeartbeats 4000000 in
theorem bX9_may_26 {G : GC} {ad : Nat → Nat} {o : Nat} {σ0 : PS} {Q : MPost} {F : Nat → Int32} {L : Nat → Int64} {I : Nat → Nat → Int32} {J : Nat → Nat → Int64} (h : ((¬ (F 0) = 0) → Q (some (.int 0)) F L I J) ∧ (((F 0) = 0) → Q (some (.int 1)) F L I J)) : AtM G mX9_may 3 ad o σ0 Q 26 [(0, .ref o)] [] F L I J := by
  refine m_aload_n dX9_may_26 rfl 0 rfl ?_
  refine m_get (v := .int (F 0)) 0 dX9_may_27 (by decide) q1763 rfl ?_
  refine m_if_ne (tgt := 37) dX9_may_30 (by decide) (fun c => ?_) (fun c => ?_)
  · replace h := h.1 c
    refine m_iconst (v := 0) dX9_may_37 (by decide) ?_
    exact m_zret rfl rfl dX9_may_38 h
  · replace h := h.2 c
    refine m_iconst (v := 1) dX9_may_33 (by decide) ?_
    refine m_goto (tgt := 38) dX9_may_34 (by decide) ?_
    exact m_zret rfl rfl dX9_may_38 h
theorem eX9_may {G : GC} {ad : Nat → Nat} {o : Nat} {Q : MPost} {p1 : Int32} {p2 : Int32} {p3 : Int32} {F : Nat → Int32} {L : Nat → Int64} {I : Nat → Nat → Int32} {J : Nat → Nat → Int64} (h : ∀ σ0, AtM G mX9_may 3 ad o σ0 Q 0 [(0, .ref o), (1, .int p1), (2, .int p2), (3, .int p3)] [] F L I J) : CallM G mX9_may 3 ad o [.ref o, .int p1, .int p2, .int p3] F L I J Q :=
  CallM.of (by decide +kernel) wsX9_may rfl (Nat.le_of_ble_eq_true rfl) (fun σ0 => AtM.sub (ls := [(0, .ref o), (1, .int p1), (2, .int p2), (3, .int p3)]) [0, 1, 2, 3] rfl (h σ0))
set_option maxHeartbeats 4000000 in
theorem bX9_begins_0 {G : GC} {ad : Nat → Nat} {o : Nat} {σ0 : PS} {Q : MPost} {x1 : Int32} {F : Nat → Int32} {L : Nat → Int64} {I : Nat → Nat → Int32} {J : Nat → Nat → Int64} (h : (∀ F1 : Nat → Int32, F1 = fU F 2 0 → (∀ F1_1 : Nat → Int32, F1_1 = fU F1 8 (-1) → (∀ F1_2 : Nat → Int32, F1_2 = fU F1_1 3 x1 → (∀ F1_3 : Nat → Int32, F1_3 = fU F1_2 4 0 → (∀ F1_4 : Nat → Int32, F1_4 = fU F1_3 5 (-1) → (∀ F1_5 : Nat → Int32, F1_5 = fU F1_4 7 0 → Q none F1_5 L I J))))))) : AtM G mX9_begins 3 ad o σ0 Q 0 [(0, .ref o), (1, .int x1)] [] F L I J := by
  refine m_aload_n dX9_begins_0 rfl 0 rfl ?_
  refine m_iconst (v := 0) dX9_begins_1 (by decide) ?_
  refine m_putI 2 dX9_begins_2 (by decide) q1765 rfl rfl rfl rfl ?_
  refine m_topF (fun F1 eF1 => ?_)
  replace h := h F1 eF1
  refine m_aload_n dX9_begins_5 rfl 0 rfl ?_
  refine m_iconst (v := (-1)) dX9_begins_6 (by decide) ?_
  refine m_putI 8 dX9_begins_7 (by decide) q1771 rfl rfl rfl rfl ?_
  refine m_topF (fun F1_1 eF1_1 => ?_)
  replace h := h F1_1 eF1_1
  refine m_aload_n dX9_begins_10 rfl 0 rfl ?_
  refine m_iload_n dX9_begins_11 rfl 1 rfl ?_
  refine m_putI 3 dX9_begins_12 (by decide) q1766 rfl rfl rfl rfl ?_
  refine m_topF (fun F1_2 eF1_2 => ?_)
  replace h := h F1_2 eF1_2
  refine m_aload_n dX9_begins_15 rfl 0 rfl ?_
  refine m_iconst (v := 0) dX9_begins_16 (by decide) ?_
  refine m_putI 4 dX9_begins_17 (by decide) q1767 rfl rfl rfl rfl ?_
  refine m_topF (fun F1_3 eF1_3 => ?_)
  replace h := h F1_3 eF1_3
  refine m_aload_n dX9_begins_20 rfl 0 rfl ?_
  refine m_iconst (v := (-1)) dX9_begins_21 (by decide) ?_
  refine m_putI 5 dX9_begins_22 (by decide) q1768 rfl rfl rfl rfl ?_
  refine m_topF (fun F1_4 eF1_4 => ?_)
  replace h := h F1_4 eF1_4
  refine m_aload_n dX9_begins_25 rfl 0 rfl ?_
  refine m_iconst (v := 0) dX9_begins_26 (by decide) ?_
  refine m_putI 7 dX9_begins_27 (by decide) q1770 rfl rfl rfl rfl ?_
  refine m_topF (fun F1_5 eF1_5 => ?_)
  replace h := h F1_5 eF1_5
  exact m_vret rfl dX9_begins_30 h
theorem eX9_begins {G : GC} {ad : Nat → Nat} {o : Nat} {Q : MPost} {p1 : Int32} {F : Nat → Int32} {L : Nat → Int64} {I : Nat → Nat → Int32} {J : Nat → Nat → Int64} (h : ∀ σ0, AtM G mX9_begins 3 ad o σ0 Q 0 [(0, .ref o), (1, .int p1)] [] F L I J) : CallM G mX9_begins 3 ad o [.ref o, .int p1] F L I J Q :=
  CallM.of (by decide +kernel) wsX9_begins rfl (Nat.le_of_ble_eq_true rfl) (fun σ0 => AtM.sub (ls := [(0, .ref o), (1, .int p1)]) [0, 1] rfl (h σ0))
set_option maxHeartbeats 4000000 in
theorem bX9_fine_0 {G : GC} {ad : Nat → Nat} {o : Nat} {σ0 : PS} {Q : MPost} {F : Nat → Int32} {L : Nat → Int64} {I : Nat → Nat → Int32} {J : Nat → Nat → Int64} (h : ((¬ (F 5) = (-1)) → Q (some (.int 0)) F L I J) ∧ (((F 5) = (-1)) → Q (some (.int 1)) F L I J)) : AtM G mX9_fine 3 ad o σ0 Q 0 [(0, .ref o)] [] F L I J := by
  refine m_aload_n dX9_fine_0 rfl 0 rfl ?_
  refine m_get (v := .int (F 5)) 5 dX9_fine_1 (by decide) q1768 rfl ?_
  refine m_iconst (v := (-1)) dX9_fine_4 (by decide) ?_
  refine m_icmp_ne (tgt := 12) dX9_fine_5 (by decide) (fun c => ?_) (fun c => ?_)
  · replace h := h.1 c
    refine m_iconst (v := 0) dX9_fine_12 (by decide) ?_
    exact m_zret rfl rfl dX9_fine_13 h
  · replace h := h.2 c
    refine m_iconst (v := 1) dX9_fine_8 (by decide) ?_
    refine m_goto (tgt := 13) dX9_fine_9 (by decide) ?_
    exact m_zret rfl rfl dX9_fine_13 h
theorem eX9_fine {G : GC} {ad : Nat → Nat} {o : Nat} {Q : MPost} {F : Nat → Int32} {L : Nat → Int64} {I : Nat → Nat → Int32} {J : Nat → Nat → Int64} (h : ∀ σ0, AtM G mX9_fine 3 ad o σ0 Q 0 [(0, .ref o)] [] F L I J) : CallM G mX9_fine 3 ad o [.ref o] F L I J Q :=
  CallM.of (by decide +kernel) wsX9_fine rfl (Nat.le_of_ble_eq_true rfl) (fun σ0 => AtM.sub (ls := [(0, .ref o)]) [0] rfl (h σ0))
set_option maxHeartbeats 4000000 in
theorem bX9_isMore_0 {G : GC} {ad : Nat → Nat} {o : Nat} {σ0 : PS} {Q : MPost} {F : Nat → Int32} {L : Nat → Int64} {I : Nat → Nat → Int32} {J : Nat → Nat → Int64} (h : CallM G mX9_here 3 ad o [.ref o] F L I J (mqI (fun rx F1 L1 I1 J1 => (((F1 3) ≤ (F1 4)) → Q (some (.int 0)) F1 L1 I1 J1) ∧ ((¬ (F1 3) ≤ (F1 4)) → Q (some (.int 1)) F1 L1 I1 J1)))) : AtM G mX9_isMore 4 ad o σ0 Q 0 [(0, .ref o)] [] F L I J := by
  refine m_aload_n dX9_isMore_0 rfl 0 rfl ?_
  refine m_callV (N := mX9_here) (st := []) (As := []) dX9_isMore_1 wsX9_here (lw_V q1987 q1989 qs42 q116 q1990) rfl mokX9_here rfl (by decide) (by decide) (Nat.zero_le _) h (fun _ F1 L1 I1 J1 hq => ?_)
  obtain ⟨rx, rfl, h⟩ := hq
  refine AtM.stk (st' := [.int rx]) rfl ?_
  refine m_pop dX9_isMore_4 rfl ?_
  refine m_aload_n dX9_isMore_5 rfl 0 rfl ?_
  refine m_get (v := .int (F1 4)) 4 dX9_isMore_6 (by decide) q1767 rfl ?_
  refine m_aload_n dX9_isMore_9 rfl 0 rfl ?_
  refine m_get (v := .int (F1 3)) 3 dX9_isMore_10 (by decide) q1766 rfl ?_
  refine m_icmp_ge (tgt := 20) dX9_isMore_13 (by decide) (fun c => ?_) (fun c => ?_)
  · replace h := h.1 c
    refine m_iconst (v := 0) dX9_isMore_20 (by decide) ?_
    exact m_zret rfl rfl dX9_isMore_21 h
  · replace h := h.2 c
    refine m_iconst (v := 1) dX9_isMore_16 (by decide) ?_
    refine m_goto (tgt := 21) dX9_isMore_17 (by decide) ?_
    exact m_zret rfl rfl dX9_isMore_21 h
theorem eX9_isMore {G : GC} {ad : Nat → Nat} {o : Nat} {Q : MPost} {F : Nat → Int32} {L : Nat → Int64} {I : Nat → Nat → Int32} {J : Nat → Nat → Int64} (h : ∀ σ0, AtM G mX9_isMore 4 ad o σ0 Q 0 [(0, .ref o)] [] F L I J) : CallM G mX9_isMore 4 ad o [.ref o] F L I J Q :=
  CallM.of (by decide +kernel) wsX9_isMore rfl (Nat.le_of_ble_eq_true rfl) (fun σ0 => AtM.sub (ls := [(0, .ref o)]) [0] rfl (h σ0))
set_option maxHeartbeats 4000000 in
theorem bX9_here_0 {G : GC} {ad : Nat → Nat} {o : Nat} {σ0 : PS} {Q : MPost} {F : Nat → Int32} {L : Nat → Int64} {I : Nat → Nat → Int32} {J : Nat → Nat → Int64} (h : (((F 3) ≤ (F 4)) → (((F 3) ≤ (F 4)) → Q (some (.int 0)) F L I J) ∧ ((¬ (F 3) ≤ (F 4)) → vp_in (F 4) 600 ∧ (Q (some (.int (I 9 (F 4).toNatClampNeg))) F L I J))) ∧ ((¬ (F 3) ≤ (F 4)) → vp_in (F 4) 600 ∧ (((¬ (I 9 (F 4).toNatClampNeg) = 32) → (((F 3) ≤ (F 4)) → Q (some (.int 0)) F L I J) ∧ ((¬ (F 3) ≤ (F 4)) → vp_in (F 4) 600 ∧ (Q (some (.int (I 9 (F 4).toNatClampNeg))) F L I J))) ∧ (((I 9 (F 4).toNatClampNeg) = 32) → (∀ F1 : Nat → Int32, F1 = fU F 4 (((F 4) + 1)) → AtM G mX9_here 3 ad o σ0 Q 0 [(0, .ref o)] [] F1 L I J))))) : AtM G mX9_here 3 ad o σ0 Q 0 [(0, .ref o)] [] F L I J := by
  refine m_aload_n dX9_here_0 rfl 0 rfl ?_
  refine m_get (v := .int (F 4)) 4 dX9_here_1 (by decide) q1767 rfl ?_
  refine m_aload_n dX9_here_4 rfl 0 rfl ?_
  refine m_get (v := .int (F 3)) 3 dX9_here_5 (by decide) q1766 rfl ?_
  refine m_icmp_ge (tgt := 38) dX9_here_8 (by decide) (fun c => ?_) (fun c => ?_)
  · replace h := h.1 c
    refine m_aload_n dX9_here_38 rfl 0 rfl ?_
    refine m_get (v := .int (F 4)) 4 dX9_here_39 (by decide) q1767 rfl ?_
    refine m_aload_n dX9_here_42 rfl 0 rfl ?_
    refine m_get (v := .int (F 3)) 3 dX9_here_43 (by decide) q1766 rfl ?_
    refine m_icmp_ge (tgt := 61) dX9_here_46 (by decide) (fun c => ?_) (fun c => ?_)
    · replace h := h.1 c
      refine m_iconst (v := 0) dX9_here_61 (by decide) ?_
      exact m_iret rfl dX9_here_62 h
    · replace h := h.2 c
      refine m_aload_n dX9_here_49 rfl 0 rfl ?_
      refine m_get (v := .ref (ad 9)) 9 dX9_here_50 (by decide) q1772 rfl ?_
      refine m_aload_n dX9_here_53 rfl 0 rfl ?_
      refine m_get (v := .int (F 4)) 4 dX9_here_54 (by decide) q1767 rfl ?_
      obtain ⟨h1, h⟩ := h
      refine m_iald 9 dX9_here_57 (by decide) rfl h1 ?_
      refine m_goto (tgt := 62) dX9_here_58 (by decide) ?_
      exact m_iret rfl dX9_here_62 h
  · replace h := h.2 c
    refine m_aload_n dX9_here_11 rfl 0 rfl ?_
    refine m_get (v := .ref (ad 9)) 9 dX9_here_12 (by decide) q1772 rfl ?_
    refine m_aload_n dX9_here_15 rfl 0 rfl ?_
    refine m_get (v := .int (F 4)) 4 dX9_here_16 (by decide) q1767 rfl ?_
    obtain ⟨h1, h⟩ := h
    refine m_iald 9 dX9_here_19 (by decide) rfl h1 ?_
    refine m_bipush (v := 32) dX9_here_20 (by decide) ?_
    refine m_icmp_ne (tgt := 38) dX9_here_22 (by decide) (fun c => ?_) (fun c => ?_)
    · replace h := h.1 c
      refine m_aload_n dX9_here_38 rfl 0 rfl ?_
      refine m_get (v := .int (F 4)) 4 dX9_here_39 (by decide) q1767 rfl ?_
      refine m_aload_n dX9_here_42 rfl 0 rfl ?_
      refine m_get (v := .int (F 3)) 3 dX9_here_43 (by decide) q1766 rfl ?_
      refine m_icmp_ge (tgt := 61) dX9_here_46 (by decide) (fun c => ?_) (fun c => ?_)
      · replace h := h.1 c
        refine m_iconst (v := 0) dX9_here_61 (by decide) ?_
        exact m_iret rfl dX9_here_62 h
      · replace h := h.2 c
        refine m_aload_n dX9_here_49 rfl 0 rfl ?_
        refine m_get (v := .ref (ad 9)) 9 dX9_here_50 (by decide) q1772 rfl ?_
        refine m_aload_n dX9_here_53 rfl 0 rfl ?_
        refine m_get (v := .int (F 4)) 4 dX9_here_54 (by decide) q1767 rfl ?_
        obtain ⟨h1, h⟩ := h
        refine m_iald 9 dX9_here_57 (by decide) rfl h1 ?_
        refine m_goto (tgt := 62) dX9_here_58 (by decide) ?_
        exact m_iret rfl dX9_here_62 h
    · replace h := h.2 c
      refine m_aload_n dX9_here_25 rfl 0 rfl ?_
      refine m_dup dX9_here_26 rfl ?_
      refine m_get (v := .int (F 4)) 4 dX9_here_27 (by decide) q1767 rfl ?_
      refine m_iconst (v := 1) dX9_here_30 (by decide) ?_
      refine m_iadd dX9_here_31 ?_
      refine m_putI 4 dX9_here_32 (by decide) q1767 rfl rfl rfl rfl ?_
      refine m_topF (fun F1 eF1 => ?_)
      replace h := h F1 eF1
      refine m_goto (tgt := 0) dX9_here_35 (by decide) ?_
      exact AtM.sub (ls := [(0, .ref o)]) [0] rfl h
theorem eX9_here {G : GC} {ad : Nat → Nat} {o : Nat} {Q : MPost} {F : Nat → Int32} {L : Nat → Int64} {I : Nat → Nat → Int32} {J : Nat → Nat → Int64} (h : ∀ σ0, AtM G mX9_here 3 ad o σ0 Q 0 [(0, .ref o)] [] F L I J) : CallM G mX9_here 3 ad o [.ref o] F L I J Q :=
  CallM.of (by decide +kernel) wsX9_here rfl (Nat.le_of_ble_eq_true rfl) (fun σ0 => AtM.sub (ls := [(0, .ref o)]) [0] rfl (h σ0))
set_option maxHeartbeats 4000000 in
theorem bX9_clauseHere_0 {G : GC} {ad : Nat → Nat} {o : Nat} {σ0 : PS} {Q : MPost} {F : Nat → Int32} {L : Nat → Int64} {I : Nat → Nat → Int32} {J : Nat → Nat → Int64} (h : CallM G mX9_standsHere 7 ad o [.ref o, .ref (gk G 33)] F L I J (mqI (fun rx F1 L1 I1 J1 => ((rx = 0) → CallM G mX9_word 4 ad o [.ref o] F1 L1 I1 J1 (mqI (fun rx_1 F1_2 L1_3 I1_4 J1_5 => CallP G mX9_of 7 [.ref (gk G 34)] (pI (fun rx_6 => ((rx_1 = rx_6) → AtM G mX9_clauseHere 8 ad o σ0 Q 89 [(1, .int rx_1)] [] F1_2 L1_3 I1_4 J1_5) ∧ ((¬ rx_1 = rx_6) → CallP G mX9_of 7 [.ref (gk G 35)] (pI (fun rx_7 => ((rx_1 = rx_7) → AtM G mX9_clauseHere 8 ad o σ0 Q 89 [(1, .int rx_1)] [] F1_2 L1_3 I1_4 J1_5) ∧ ((¬ rx_1 = rx_7) → CallP G mX9_of 7 [.ref (gk G 36)] (pI (fun rx_8 => ((rx_1 = rx_8) → AtM G mX9_clauseHere 8 ad o σ0 Q 89 [(1, .int rx_1)] [] F1_2 L1_3 I1_4 J1_5) ∧ ((¬ rx_1 = rx_8) → CallP G mX9_of 7 [.ref (gk G 37)] (pI (fun rx_9 => ((rx_1 = rx_9) → AtM G mX9_clauseHere 8 ad o σ0 Q 89 [(1, .int rx_1)] [] F1_2 L1_3 I1_4 J1_5) ∧ ((¬ rx_1 = rx_9) → CallP G mX9_of 7 [.ref (gk G 38)] (pI (fun rx_10 => ((rx_1 = rx_10) → AtM G mX9_clauseHere 8 ad o σ0 Q 89 [(1, .int rx_1)] [] F1_2 L1_3 I1_4 J1_5) ∧ ((¬ rx_1 = rx_10) → CallP G mX9_of 7 [.ref (gk G 39)] (pI (fun rx_11 => ((rx_1 = rx_11) → AtM G mX9_clauseHere 8 ad o σ0 Q 89 [(1, .int rx_1)] [] F1_2 L1_3 I1_4 J1_5) ∧ ((¬ rx_1 = rx_11) → CallP G mX9_of 7 [.ref (gk G 40)] (pI (fun rx_12 => ((rx_1 = rx_12) → AtM G mX9_clauseHere 8 ad o σ0 Q 89 [(1, .int rx_1)] [] F1_2 L1_3 I1_4 J1_5) ∧ ((¬ rx_1 = rx_12) → CallP G mX9_of 7 [.ref (gk G 41)] (pI (fun rx_13 => ((¬ rx_1 = rx_13) → Q (some (.int (-1))) F1_2 L1_3 I1_4 J1_5) ∧ ((rx_1 = rx_13) → AtM G mX9_clauseHere 8 ad o σ0 Q 89 [(1, .int rx_1)] [] F1_2 L1_3 I1_4 J1_5))))))))))))))))))))))))))) ∧ ((¬ rx = 0) → Q (some (.int (-7))) F1 L1 I1 J1)))) : AtM G mX9_clauseHere 8 ad o σ0 Q 0 [(0, .ref o)] [] F L I J := by
  refine m_aload_n dX9_clauseHere_0 rfl 0 rfl ?_
  refine m_ldcS 33 dX9_clauseHere_1 rfl rfl rfl ?_
  refine m_callV (N := mX9_standsHere) (st := []) (As := [.ref (gk G 33)]) dX9_clauseHere_3 wsX9_standsHere (lw_V q1996 q1998 qs44 q116 q1999) rfl mokX9_standsHere rfl (by decide) (by decide) (Nat.zero_le _) h (fun _ F1 L1 I1 J1 hq => ?_)
  obtain ⟨rx, rfl, h⟩ := hq
  refine AtM.stk (st' := [.int rx]) rfl ?_
  refine m_if_eq (tgt := 12) dX9_clauseHere_6 (by decide) (fun c => ?_) (fun c => ?_)
  · replace h := h.1 c
    refine m_aload_n dX9_clauseHere_12 rfl 0 rfl ?_
    refine m_callV (N := mX9_word) (st := []) (As := []) dX9_clauseHere_13 wsX9_word (lw_V q2005 q2007 qs45 q116 q2008) rfl mokX9_word rfl (by decide) (by decide) (Nat.zero_le _) h (fun _ F1_2 L1_3 I1_4 J1_5 hq => ?_)
    obtain ⟨rx_1, rfl, h⟩ := hq
    refine AtM.stk (st' := [.int rx_1]) rfl ?_
    refine m_istore_n (ls1 := [(1, .int rx_1), (0, .ref o)]) dX9_clauseHere_16 rfl (by decide) rfl ?_
    refine m_iload_n dX9_clauseHere_17 rfl 0 rfl ?_
    refine m_ldcS 34 dX9_clauseHere_18 rfl rfl rfl ?_
    refine m_callP (N := mX9_of) (st := [.int rx_1]) (As := [.ref (gk G 34)]) dX9_clauseHere_20 wsX9_of (lw_S q2010 q2011 q116 q2012) mokX9_of rfl (by decide) (by decide) (by simp [Value.category]) h (fun _ hq => ?_)
    obtain ⟨rx_6, rfl, h⟩ := hq
    refine AtM.stk (st' := [.int rx_6, .int rx_1]) rfl ?_
    refine m_icmp_eq (tgt := 89) dX9_clauseHere_23 (by decide) (fun c => ?_) (fun c => ?_)
    · replace h := h.1 c
      exact AtM.sub (ls := [(1, .int rx_1), (0, .ref o)]) [0] rfl h
    · replace h := h.2 c
      refine m_iload_n dX9_clauseHere_26 rfl 0 rfl ?_
      refine m_ldcS 35 dX9_clauseHere_27 rfl rfl rfl ?_
      refine m_callP (N := mX9_of) (st := [.int rx_1]) (As := [.ref (gk G 35)]) dX9_clauseHere_29 wsX9_of (lw_S q2010 q2011 q116 q2012) mokX9_of rfl (by decide) (by decide) (by simp [Value.category]) h (fun _ hq => ?_)
      obtain ⟨rx_7, rfl, h⟩ := hq
      refine AtM.stk (st' := [.int rx_7, .int rx_1]) rfl ?_
      refine m_icmp_eq (tgt := 89) dX9_clauseHere_32 (by decide) (fun c => ?_) (fun c => ?_)
      · replace h := h.1 c
        exact AtM.sub (ls := [(1, .int rx_1), (0, .ref o)]) [0] rfl h
      · replace h := h.2 c
        refine m_iload_n dX9_clauseHere_35 rfl 0 rfl ?_
        refine m_ldcS 36 dX9_clauseHere_36 rfl rfl rfl ?_
        refine m_callP (N := mX9_of) (st := [.int rx_1]) (As := [.ref (gk G 36)]) dX9_clauseHere_38 wsX9_of (lw_S q2010 q2011 q116 q2012) mokX9_of rfl (by decide) (by decide) (by simp [Value.category]) h (fun _ hq => ?_)
        obtain ⟨rx_8, rfl, h⟩ := hq
        refine AtM.stk (st' := [.int rx_8, .int rx_1]) rfl ?_
        refine m_icmp_eq (tgt := 89) dX9_clauseHere_41 (by decide) (fun c => ?_) (fun c => ?_)
        · replace h := h.1 c
          exact AtM.sub (ls := [(1, .int rx_1), (0, .ref o)]) [0] rfl h
        · replace h := h.2 c
          refine m_iload_n dX9_clauseHere_44 rfl 0 rfl ?_
          refine m_ldcS 37 dX9_clauseHere_45 rfl rfl rfl ?_
          refine m_callP (N := mX9_of) (st := [.int rx_1]) (As := [.ref (gk G 37)]) dX9_clauseHere_47 wsX9_of (lw_S q2010 q2011 q116 q2012) mokX9_of rfl (by decide) (by decide) (by simp [Value.category]) h (fun _ hq => ?_)
          obtain ⟨rx_9, rfl, h⟩ := hq
          refine AtM.stk (st' := [.int rx_9, .int rx_1]) rfl ?_
          refine m_icmp_eq (tgt := 89) dX9_clauseHere_50 (by decide) (fun c => ?_) (fun c => ?_)
          · replace h := h.1 c
            exact AtM.sub (ls := [(1, .int rx_1), (0, .ref o)]) [0] rfl h
          · replace h := h.2 c
            refine m_iload_n dX9_clauseHere_53 rfl 0 rfl ?_
            refine m_ldcS 38 dX9_clauseHere_54 rfl rfl rfl ?_
            refine m_callP (N := mX9_of) (st := [.int rx_1]) (As := [.ref (gk G 38)]) dX9_clauseHere_56 wsX9_of (lw_S q2010 q2011 q116 q2012) mokX9_of rfl (by decide) (by decide) (by simp [Value.category]) h (fun _ hq => ?_)
            obtain ⟨rx_10, rfl, h⟩ := hq
            refine AtM.stk (st' := [.int rx_10, .int rx_1]) rfl ?_
            refine m_icmp_eq (tgt := 89) dX9_clauseHere_59 (by decide) (fun c => ?_) (fun c => ?_)
            · replace h := h.1 c
              exact AtM.sub (ls := [(1, .int rx_1), (0, .ref o)]) [0] rfl h
            · replace h := h.2 c
              refine m_iload_n dX9_clauseHere_62 rfl 0 rfl ?_
              refine m_ldcS 39 dX9_clauseHere_63 rfl rfl rfl ?_
              refine m_callP (N := mX9_of) (st := [.int rx_1]) (As := [.ref (gk G 39)]) dX9_clauseHere_65 wsX9_of (lw_S q2010 q2011 q116 q2012) mokX9_of rfl (by decide) (by decide) (by simp [Value.category]) h (fun _ hq => ?_)
              obtain ⟨rx_11, rfl, h⟩ := hq
              refine AtM.stk (st' := [.int rx_11, .int rx_1]) rfl ?_
              refine m_icmp_eq (tgt := 89) dX9_clauseHere_68 (by decide) (fun c => ?_) (fun c => ?_)
              · replace h := h.1 c
                exact AtM.sub (ls := [(1, .int rx_1), (0, .ref o)]) [0] rfl h
              · replace h := h.2 c
                refine m_iload_n dX9_clauseHere_71 rfl 0 rfl ?_
                refine m_ldcS 40 dX9_clauseHere_72 rfl rfl rfl ?_
                refine m_callP (N := mX9_of) (st := [.int rx_1]) (As := [.ref (gk G 40)]) dX9_clauseHere_74 wsX9_of (lw_S q2010 q2011 q116 q2012) mokX9_of rfl (by decide) (by decide) (by simp [Value.category]) h (fun _ hq => ?_)
                obtain ⟨rx_12, rfl, h⟩ := hq
                refine AtM.stk (st' := [.int rx_12, .int rx_1]) rfl ?_
                refine m_icmp_eq (tgt := 89) dX9_clauseHere_77 (by decide) (fun c => ?_) (fun c => ?_)
                · replace h := h.1 c
                  exact AtM.sub (ls := [(1, .int rx_1), (0, .ref o)]) [0] rfl h
                · replace h := h.2 c
                  refine m_iload_n dX9_clauseHere_80 rfl 0 rfl ?_
                  refine m_ldcS 41 dX9_clauseHere_81 rfl rfl rfl ?_
                  refine m_callP (N := mX9_of) (st := [.int rx_1]) (As := [.ref (gk G 41)]) dX9_clauseHere_83 wsX9_of (lw_S q2010 q2011 q116 q2012) mokX9_of rfl (by decide) (by decide) (by simp [Value.category]) h (fun _ hq => ?_)
                  obtain ⟨rx_13, rfl, h⟩ := hq
                  refine AtM.stk (st' := [.int rx_13, .int rx_1]) rfl ?_
                  refine m_icmp_ne (tgt := 93) dX9_clauseHere_86 (by decide) (fun c => ?_) (fun c => ?_)
                  · replace h := h.1 c
                    refine m_iconst (v := (-1)) dX9_clauseHere_93 (by decide) ?_
                    exact m_iret rfl dX9_clauseHere_94 h
                  · replace h := h.2 c
                    exact AtM.sub (ls := [(1, .int rx_1), (0, .ref o)]) [0] rfl h
  · replace h := h.2 c
    refine m_bipush (v := (-7)) dX9_clauseHere_9 (by decide) ?_
    exact m_iret rfl dX9_clauseHere_11 h
set_option maxHeartbeats 4000000 in
theorem bX9_clauseHere_89 {G : GC} {ad : Nat → Nat} {o : Nat} {σ0 : PS} {Q : MPost} {x1 : Int32} {F : Nat → Int32} {L : Nat → Int64} {I : Nat → Nat → Int32} {J : Nat → Nat → Int64} (h : Q (some (.int x1)) F L I J) : AtM G mX9_clauseHere 8 ad o σ0 Q 89 [(1, .int x1)] [] F L I J := by
  refine m_iload_n dX9_clauseHere_89 rfl 0 rfl ?_
  refine m_goto (tgt := 94) dX9_clauseHere_90 (by decide) ?_
  exact m_iret rfl dX9_clauseHere_94 h
theorem eX9_clauseHere {G : GC} {ad : Nat → Nat} {o : Nat} {Q : MPost} {F : Nat → Int32} {L : Nat → Int64} {I : Nat → Nat → Int32} {J : Nat → Nat → Int64} (h : ∀ σ0, AtM G mX9_clauseHere 8 ad o σ0 Q 0 [(0, .ref o)] [] F L I J) : CallM G mX9_clauseHere 8 ad o [.ref o] F L I J Q :=
  CallM.of (by decide +kernel) wsX9_clauseHere rfl (Nat.le_of_ble_eq_true rfl) (fun σ0 => AtM.sub (ls := [(0, .ref o)]) [0] rfl (h σ0))
set_option maxHeartbeats 4000000 in
theorem bX9_standsHere_0 {G : GC} {ad : Nat → Nat} {o : Nat} {σ0 : PS} {Q : MPost} {a1 : Nat} {F : Nat → Int32} {L : Nat → Int64} {I : Nat → Nat → Int32} {J : Nat → Nat → Int64} (h : CallM G mX9_here 3 ad o [.ref o] F L I J (mqI (fun rx F1 L1 I1 J1 => AtM G mX9_standsHere 7 ad o σ0 Q 7 [(0, .ref o), (1, .ref a1), (2, .int 0)] [] F1 L1 I1 J1))) : AtM G mX9_standsHere 7 ad o σ0 Q 0 [(0, .ref o), (1, .ref a1)] [] F L I J := by
  refine m_aload_n dX9_standsHere_0 rfl 0 rfl ?_
  refine m_callV (N := mX9_here) (st := []) (As := []) dX9_standsHere_1 wsX9_here (lw_V q1987 q1989 qs42 q116 q1990) rfl mokX9_here rfl (by decide) (by decide) (Nat.zero_le _) h (fun _ F1 L1 I1 J1 hq => ?_)
  obtain ⟨rx, rfl, h⟩ := hq
  refine AtM.stk (st' := [.int rx]) rfl ?_
  refine m_pop dX9_standsHere_4 rfl ?_
  refine m_iconst (v := 0) dX9_standsHere_5 (by decide) ?_
  refine m_istore_n (ls1 := [(2, .int 0), (0, .ref o), (1, .ref a1)]) dX9_standsHere_6 rfl (by decide) rfl ?_
  exact AtM.sub (ls := [(2, .int 0), (0, .ref o), (1, .ref a1)]) [1, 2, 0] rfl h
set_option maxHeartbeats 4000000 in
theorem bX9_standsHere_7 {G : GC} {ad : Nat → Nat} {o : Nat} {σ0 : PS} {Q : MPost} {a1 : Nat} {x2 : Int32} {F : Nat → Int32} {L : Nat → Int64} {I : Nat → Nat → Int32} {J : Nat → Nat → Int64} (h : ∃ (i : Nat) (q : String × Nat × String × List Int32), a1 = gk G i ∧ strTab[i]? = some q ∧ ((((nI q.2.2.2.length) ≤ x2) → ∃ (i_1 : Nat) (q_2 : String × Nat × String × List Int32), a1 = gk G i_1 ∧ strTab[i_1]? = some q_2 ∧ (∀ w : Int32, w = ((F 4) + (nI q_2.2.2.2.length)) → (((F 3) ≤ w) → Q (some (.int 1)) F L I J) ∧ ((¬ (F 3) ≤ w) → ∃ (i_3 : Nat) (q_4 : String × Nat × String × List Int32), a1 = gk G i_3 ∧ strTab[i_3]? = some q_4 ∧ (∀ w_5 : Int32, w_5 = ((F 4) + (nI q_4.2.2.2.length)) → vp_in w_5 600 ∧ (CallP G mX9_isSmall 3 [.int (I 9 w_5.toNatClampNeg)] (pI (fun rx => ((¬ rx = 0) → Q (some (.int 0)) F L I J) ∧ ((rx = 0) → Q (some (.int 1)) F L I J)))))))) ∧ ((¬ (nI q.2.2.2.length) ≤ x2) → (((F 3) ≤ ((F 4) + x2)) → Q (some (.int 0)) F L I J) ∧ ((¬ (F 3) ≤ ((F 4) + x2)) → vp_in (((F 4) + x2)) 600 ∧ (∃ (i_6 : Nat) (q_7 : String × Nat × String × List Int32) (j : Nat), a1 = gk G i_6 ∧ strTab[i_6]? = some q_7 ∧ x2 = nI j ∧ j < q_7.2.2.2.length ∧ ((((I 9 (((F 4) + x2)).toNatClampNeg) = (q_7.2.2.2.getD j 0)) → ∀ v2 : Int32, v2 = x2 + 1 → AtM G mX9_standsHere 7 ad o σ0 Q 7 [(0, .ref o), (1, .ref a1), (2, .int v2)] [] F L I J) ∧ ((¬ (I 9 (((F 4) + x2)).toNatClampNeg) = (q_7.2.2.2.getD j 0)) → Q (some (.int 0)) F L I J))))))) : AtM G mX9_standsHere 7 ad o σ0 Q 7 [(0, .ref o), (1, .ref a1), (2, .int x2)] [] F L I J := by
  refine m_iload_n dX9_standsHere_7 rfl 2 rfl ?_
  refine m_aload_n dX9_standsHere_8 rfl 1 rfl ?_
  obtain ⟨i, q, h1, h2, h⟩ := h
  refine AtM.stk (st' := [.ref (gk G i), .int x2]) (by rw [h1]) ?_
  refine m_callStr (N := mJ4_length) (st := [.int x2]) (As := []) dX9_standsHere_9 wsJ4_length (lw_V q2000 q997 q998 q123 q999) rfl mokJ4_length rfl h2 (by decide) (by decide) (by simp [Value.category]) (strlen_callP h2) (fun _ hq => ?_)
  subst hq
  refine AtM.stk (st' := [.int (nI q.2.2.2.length), .int x2]) rfl ?_
  refine m_icmp_ge (tgt := 55) dX9_standsHere_12 (by decide) (fun c => ?_) (fun c => ?_)
  · replace h := h.1 c
    refine m_aload_n dX9_standsHere_55 rfl 0 rfl ?_
    refine m_get (v := .int (F 4)) 4 dX9_standsHere_56 (by decide) q1767 rfl ?_
    refine m_aload_n dX9_standsHere_59 rfl 1 rfl ?_
    obtain ⟨i_1, q_2, h1, h2, h⟩ := h
    refine AtM.stk (st' := [.ref (gk G i_1), .int (F 4)]) (by rw [h1]) ?_
    refine m_callStr (N := mJ4_length) (st := [.int (F 4)]) (As := []) dX9_standsHere_60 wsJ4_length (lw_V q2000 q997 q998 q123 q999) rfl mokJ4_length rfl h2 (by decide) (by decide) (by simp [Value.category]) (strlen_callP h2) (fun _ hq => ?_)
    subst hq
    refine AtM.stk (st' := [.int (nI q_2.2.2.2.length), .int (F 4)]) rfl ?_
    refine m_iadd dX9_standsHere_63 ?_
    refine m_topi (fun w ew => ?_)
    replace h := h w ew
    refine m_aload_n dX9_standsHere_64 rfl 0 rfl ?_
    refine m_get (v := .int (F 3)) 3 dX9_standsHere_65 (by decide) q1766 rfl ?_
    refine m_icmp_ge (tgt := 91) dX9_standsHere_68 (by decide) (fun c => ?_) (fun c => ?_)
    · replace h := h.1 c
      refine m_iconst (v := 1) dX9_standsHere_91 (by decide) ?_
      refine m_goto (tgt := 96) dX9_standsHere_92 (by decide) ?_
      exact m_zret rfl rfl dX9_standsHere_96 h
    · replace h := h.2 c
      refine m_aload_n dX9_standsHere_71 rfl 0 rfl ?_
      refine m_get (v := .ref (ad 9)) 9 dX9_standsHere_72 (by decide) q1772 rfl ?_
      refine m_aload_n dX9_standsHere_75 rfl 0 rfl ?_
      refine m_get (v := .int (F 4)) 4 dX9_standsHere_76 (by decide) q1767 rfl ?_
      refine m_aload_n dX9_standsHere_79 rfl 1 rfl ?_
      obtain ⟨i_3, q_4, h1, h2, h⟩ := h
      refine AtM.stk (st' := [.ref (gk G i_3), .int (F 4), .ref (ad 9)]) (by rw [h1]) ?_
      refine m_callStr (N := mJ4_length) (st := [.int (F 4), .ref (ad 9)]) (As := []) dX9_standsHere_80 wsJ4_length (lw_V q2000 q997 q998 q123 q999) rfl mokJ4_length rfl h2 (by decide) (by decide) (by simp [Value.category]) (strlen_callP h2) (fun _ hq => ?_)
      subst hq
      refine AtM.stk (st' := [.int (nI q_4.2.2.2.length), .int (F 4), .ref (ad 9)]) rfl ?_
      refine m_iadd dX9_standsHere_83 ?_
      refine m_topi (fun w_5 ew_5 => ?_)
      replace h := h w_5 ew_5
      obtain ⟨h1, h⟩ := h
      refine m_iald 9 dX9_standsHere_84 (by decide) rfl h1 ?_
      refine m_callP (N := mX9_isSmall) (st := []) (As := [.int (I 9 w_5.toNatClampNeg)]) dX9_standsHere_85 wsX9_isSmall (lw_S q2002 q2003 q116 q2004) mokX9_isSmall rfl (by decide) (by decide) (Nat.zero_le _) h (fun _ hq => ?_)
      obtain ⟨rx, rfl, h⟩ := hq
      refine AtM.stk (st' := [.int rx]) rfl ?_
      refine m_if_ne (tgt := 95) dX9_standsHere_88 (by decide) (fun c => ?_) (fun c => ?_)
      · replace h := h.1 c
        refine m_iconst (v := 0) dX9_standsHere_95 (by decide) ?_
        exact m_zret rfl rfl dX9_standsHere_96 h
      · replace h := h.2 c
        refine m_iconst (v := 1) dX9_standsHere_91 (by decide) ?_
        refine m_goto (tgt := 96) dX9_standsHere_92 (by decide) ?_
        exact m_zret rfl rfl dX9_standsHere_96 h
  · replace h := h.2 c
    refine m_aload_n dX9_standsHere_15 rfl 0 rfl ?_
    refine m_get (v := .int (F 4)) 4 dX9_standsHere_16 (by decide) q1767 rfl ?_
    refine m_iload_n dX9_standsHere_19 rfl 2 rfl ?_
    refine m_iadd dX9_standsHere_20 ?_
    refine m_aload_n dX9_standsHere_21 rfl 0 rfl ?_
    refine m_get (v := .int (F 3)) 3 dX9_standsHere_22 (by decide) q1766 rfl ?_
    refine m_icmp_ge (tgt := 47) dX9_standsHere_25 (by decide) (fun c => ?_) (fun c => ?_)
    · replace h := h.1 c
      refine m_iconst (v := 0) dX9_standsHere_47 (by decide) ?_
      exact m_zret rfl rfl dX9_standsHere_48 h
    · replace h := h.2 c
      refine m_aload_n dX9_standsHere_28 rfl 0 rfl ?_
      refine m_get (v := .ref (ad 9)) 9 dX9_standsHere_29 (by decide) q1772 rfl ?_
      refine m_aload_n dX9_standsHere_32 rfl 0 rfl ?_
      refine m_get (v := .int (F 4)) 4 dX9_standsHere_33 (by decide) q1767 rfl ?_
      refine m_iload_n dX9_standsHere_36 rfl 2 rfl ?_
      refine m_iadd dX9_standsHere_37 ?_
      obtain ⟨h1, h⟩ := h
      refine m_iald 9 dX9_standsHere_38 (by decide) rfl h1 ?_
      refine m_aload_n dX9_standsHere_39 rfl 1 rfl ?_
      refine m_iload_n dX9_standsHere_40 rfl 2 rfl ?_
      obtain ⟨i_6, q_7, j, h1, h2, h3, h4, h⟩ := h
      refine AtM.stk (st' := [.int (nI j), .ref (gk G i_6), .int (I 9 (((F 4) + x2)).toNatClampNeg)]) (by rw [h1, h3]) ?_
      refine m_callStr (N := mJ4_charAt) (st := [.int (I 9 (((F 4) + x2)).toNatClampNeg)]) (As := [.int (nI j)]) dX9_standsHere_41 wsJ4_charAt (lw_V q2001 q1007 q1008 q123 q1009) rfl mokJ4_charAt rfl h2 (by decide) (by decide) (by simp [Value.category]) (charAt_callP h2 h4) (fun _ hq => ?_)
      subst hq
      refine AtM.stk (st' := [.int (q_7.2.2.2.getD j 0), .int (I 9 (((F 4) + x2)).toNatClampNeg)]) rfl ?_
      refine m_icmp_eq (tgt := 49) dX9_standsHere_44 (by decide) (fun c => ?_) (fun c => ?_)
      · replace h := h.1 c
        obtain ⟨v2, ev2⟩ : ∃ z : Int32, z = x2 + 1 := ⟨_, rfl⟩
        refine m_iinc (v := v2) (ls1 := [(2, .int v2), (0, .ref o), (1, .ref a1)]) dX9_standsHere_49 2 rfl (by rw [ev2]; rfl) (by decide) rfl ?_
        replace h := h v2 ev2
        refine m_goto (tgt := 7) dX9_standsHere_52 (by decide) ?_
        exact AtM.sub (ls := [(2, .int v2), (0, .ref o), (1, .ref a1)]) [1, 2, 0] rfl h
      · replace h := h.2 c
        refine m_iconst (v := 0) dX9_standsHere_47 (by decide) ?_
        exact m_zret rfl rfl dX9_standsHere_48 h
theorem eX9_standsHere {G : GC} {ad : Nat → Nat} {o : Nat} {Q : MPost} {p1 : Nat} {F : Nat → Int32} {L : Nat → Int64} {I : Nat → Nat → Int32} {J : Nat → Nat → Int64} (h : ∀ σ0, AtM G mX9_standsHere 7 ad o σ0 Q 0 [(0, .ref o), (1, .ref p1)] [] F L I J) : CallM G mX9_standsHere 7 ad o [.ref o, .ref p1] F L I J Q :=
  CallM.of (by decide +kernel) wsX9_standsHere rfl (Nat.le_of_ble_eq_true rfl) (fun σ0 => AtM.sub (ls := [(0, .ref o), (1, .ref p1)]) [0, 1] rfl (h σ0))
set_option maxHeartbeats 4000000 in
theorem bX9_isSmall_0 {G : GC} {Q : Option Value → PS → Prop} {X : String → Nat → PS → Prop} {b : Nat} {x0 : Int32} {σ : PS} (h : ((x0 < 97) → Q (some (.int 0)) (σ)) ∧ ((¬ x0 < 97) → ((122 < x0) → Q (some (.int 0)) (σ)) ∧ ((¬ 122 < x0) → Q (some (.int 1)) (σ)))) : At G mX9_isSmall 3 Q X b 0 [(0, .int x0)] [] (σ) := by
  refine g_iload_n dX9_isSmall_0 rfl 0 rfl ?_
  refine g_bipush (v := 97) dX9_isSmall_1 (by decide) ?_
  refine g_icmp_lt (tgt := 16) dX9_isSmall_3 (by decide) (fun c => ?_) (fun c => ?_)
  · replace h := h.1 c
    refine g_iconst (v := 0) dX9_isSmall_16 (by decide) ?_
    exact g_zret rfl rfl dX9_isSmall_17 h
  · replace h := h.2 c
    refine g_iload_n dX9_isSmall_6 rfl 0 rfl ?_
    refine g_bipush (v := 122) dX9_isSmall_7 (by decide) ?_
    refine g_icmp_gt (tgt := 16) dX9_isSmall_9 (by decide) (fun c => ?_) (fun c => ?_)
    · replace h := h.1 c
      refine g_iconst (v := 0) dX9_isSmall_16 (by decide) ?_
      exact g_zret rfl rfl dX9_isSmall_17 h
    · replace h := h.2 c
      refine g_iconst (v := 1) dX9_isSmall_12 (by decide) ?_
      refine g_goto (tgt := 17) dX9_isSmall_13 (by decide) ?_
      exact g_zret rfl rfl dX9_isSmall_17 h
theorem eX9_isSmall {G : GC} {Q : Option Value → PS → Prop} {X : String → Nat → PS → Prop} {b : Nat} {p0 : Int32} {σ : PS} (h : At G mX9_isSmall 3 Q X b 0 [(0, .int p0)] [] σ) : Call G mX9_isSmall 3 b [.int p0] σ Q X :=
  Call.of (by decide +kernel) wsX9_isSmall rfl (Nat.le_of_ble_eq_true rfl) (At.sub (ls := [(0, .int p0)]) [0] rfl h)
set_option maxHeartbeats 4000000 in
theorem bX9_word_0 {G : GC} {ad : Nat → Nat} {o : Nat} {σ0 : PS} {Q : MPost} {F : Nat → Int32} {L : Nat → Int64} {I : Nat → Nat → Int32} {J : Nat → Nat → Int64} (h : CallM G mX9_here 3 ad o [.ref o] F L I J (mqI (fun rx F1 L1 I1 J1 => AtM G mX9_word 4 ad o σ0 Q 14 [(0, .ref o), (1, .int 0), (2, .int 0), (3, .int (F1 4))] [] F1 L1 I1 J1))) : AtM G mX9_word 4 ad o σ0 Q 0 [(0, .ref o)] [] F L I J := by
  refine m_aload_n dX9_word_0 rfl 0 rfl ?_
  refine m_callV (N := mX9_here) (st := []) (As := []) dX9_word_1 wsX9_here (lw_V q1987 q1989 qs42 q116 q1990) rfl mokX9_here rfl (by decide) (by decide) (Nat.zero_le _) h (fun _ F1 L1 I1 J1 hq => ?_)
  obtain ⟨rx, rfl, h⟩ := hq
  refine AtM.stk (st' := [.int rx]) rfl ?_
  refine m_pop dX9_word_4 rfl ?_
  refine m_iconst (v := 0) dX9_word_5 (by decide) ?_
  refine m_istore_n (ls1 := [(1, .int 0), (0, .ref o)]) dX9_word_6 rfl (by decide) rfl ?_
  refine m_iconst (v := 0) dX9_word_7 (by decide) ?_
  refine m_istore_n (ls1 := [(2, .int 0), (1, .int 0), (0, .ref o)]) dX9_word_8 rfl (by decide) rfl ?_
  refine m_aload_n dX9_word_9 rfl 2 rfl ?_
  refine m_get (v := .int (F1 4)) 4 dX9_word_10 (by decide) q1767 rfl ?_
  refine m_istore_n (ls1 := [(3, .int (F1 4)), (2, .int 0), (1, .int 0), (0, .ref o)]) dX9_word_13 rfl (by decide) rfl ?_
  exact AtM.sub (ls := [(3, .int (F1 4)), (2, .int 0), (1, .int 0), (0, .ref o)]) [3, 2, 1, 0] rfl h
set_option maxHeartbeats 4000000 in
theorem bX9_word_14 {G : GC} {ad : Nat → Nat} {o : Nat} {σ0 : PS} {Q : MPost} {x1 : Int32} {x2 : Int32} {x3 : Int32} {F : Nat → Int32} {L : Nat → Int64} {I : Nat → Nat → Int32} {J : Nat → Nat → Int64} (h : (((F 3) ≤ x3) → ((x2 ≤ 6) → Q (some (.int x1)) F L I J) ∧ ((¬ x2 ≤ 6) → Q (some (.int 0)) F L I J)) ∧ ((¬ (F 3) ≤ x3) → vp_in x3 600 ∧ (CallP G mX9_isSmall 3 [.int (I 9 x3.toNatClampNeg)] (pI (fun rx => ((rx = 0) → ((x2 ≤ 6) → Q (some (.int x1)) F L I J) ∧ ((¬ x2 ≤ 6) → Q (some (.int 0)) F L I J)) ∧ ((¬ rx = 0) → ((6 ≤ x2) → ∀ v2 : Int32, v2 = x2 + 1 → ∀ v3 : Int32, v3 = x3 + 1 → AtM G mX9_word 4 ad o σ0 Q 14 [(0, .ref o), (1, .int 0), (2, .int v2), (3, .int v3)] [] F L I J) ∧ ((¬ 6 ≤ x2) → vp_in x3 600 ∧ (∀ w : Int32, w = ((I 9 x3.toNatClampNeg) - 96) → ∀ w_1 : Int32, w_1 = ((x1 <<< (5 &&& 31)) ||| w) → ∀ v2 : Int32, v2 = x2 + 1 → ∀ v3 : Int32, v3 = x3 + 1 → AtM G mX9_word 4 ad o σ0 Q 14 [(0, .ref o), (1, .int w_1), (2, .int v2), (3, .int v3)] [] F L I J)))))))) : AtM G mX9_word 4 ad o σ0 Q 14 [(0, .ref o), (1, .int x1), (2, .int x2), (3, .int x3)] [] F L I J := by
  refine m_iload_n dX9_word_14 rfl 3 rfl ?_
  refine m_aload_n dX9_word_15 rfl 0 rfl ?_
  refine m_get (v := .int (F 3)) 3 dX9_word_16 (by decide) q1766 rfl ?_
  refine m_icmp_ge (tgt := 67) dX9_word_19 (by decide) (fun c => ?_) (fun c => ?_)
  · replace h := h.1 c
    refine m_iload_n dX9_word_67 rfl 2 rfl ?_
    refine m_bipush (v := 6) dX9_word_68 (by decide) ?_
    refine m_icmp_le (tgt := 77) dX9_word_70 (by decide) (fun c => ?_) (fun c => ?_)
    · replace h := h.1 c
      refine m_iload_n dX9_word_77 rfl 1 rfl ?_
      exact m_iret rfl dX9_word_78 h
    · replace h := h.2 c
      refine m_iconst (v := 0) dX9_word_73 (by decide) ?_
      refine m_goto (tgt := 78) dX9_word_74 (by decide) ?_
      exact m_iret rfl dX9_word_78 h
  · replace h := h.2 c
    refine m_aload_n dX9_word_22 rfl 0 rfl ?_
    refine m_get (v := .ref (ad 9)) 9 dX9_word_23 (by decide) q1772 rfl ?_
    refine m_iload_n dX9_word_26 rfl 3 rfl ?_
    obtain ⟨h1, h⟩ := h
    refine m_iald 9 dX9_word_27 (by decide) rfl h1 ?_
    refine m_callP (N := mX9_isSmall) (st := []) (As := [.int (I 9 x3.toNatClampNeg)]) dX9_word_28 wsX9_isSmall (lw_S q2002 q2003 q116 q2004) mokX9_isSmall rfl (by decide) (by decide) (Nat.zero_le _) h (fun _ hq => ?_)
    obtain ⟨rx, rfl, h⟩ := hq
    refine AtM.stk (st' := [.int rx]) rfl ?_
    refine m_if_eq (tgt := 67) dX9_word_31 (by decide) (fun c => ?_) (fun c => ?_)
    · replace h := h.1 c
      refine m_iload_n dX9_word_67 rfl 2 rfl ?_
      refine m_bipush (v := 6) dX9_word_68 (by decide) ?_
      refine m_icmp_le (tgt := 77) dX9_word_70 (by decide) (fun c => ?_) (fun c => ?_)
      · replace h := h.1 c
        refine m_iload_n dX9_word_77 rfl 1 rfl ?_
        exact m_iret rfl dX9_word_78 h
      · replace h := h.2 c
        refine m_iconst (v := 0) dX9_word_73 (by decide) ?_
        refine m_goto (tgt := 78) dX9_word_74 (by decide) ?_
        exact m_iret rfl dX9_word_78 h
    · replace h := h.2 c
      refine m_iload_n dX9_word_34 rfl 2 rfl ?_
      refine m_bipush (v := 6) dX9_word_35 (by decide) ?_
      refine m_icmp_ge (tgt := 56) dX9_word_37 (by decide) (fun c => ?_) (fun c => ?_)
      · replace h := h.1 c
        refine m_iconst (v := 0) dX9_word_56 (by decide) ?_
        refine m_istore_n (ls1 := [(1, .int 0), (0, .ref o), (2, .int x2), (3, .int x3)]) dX9_word_57 rfl (by decide) rfl ?_
        obtain ⟨v2, ev2⟩ : ∃ z : Int32, z = x2 + 1 := ⟨_, rfl⟩
        refine m_iinc (v := v2) (ls1 := [(2, .int v2), (1, .int 0), (0, .ref o), (3, .int x3)]) dX9_word_58 2 rfl (by rw [ev2]; rfl) (by decide) rfl ?_
        replace h := h v2 ev2
        obtain ⟨v3, ev3⟩ : ∃ z : Int32, z = x3 + 1 := ⟨_, rfl⟩
        refine m_iinc (v := v3) (ls1 := [(3, .int v3), (2, .int v2), (1, .int 0), (0, .ref o)]) dX9_word_61 3 rfl (by rw [ev3]; rfl) (by decide) rfl ?_
        replace h := h v3 ev3
        refine m_goto (tgt := 14) dX9_word_64 (by decide) ?_
        exact AtM.sub (ls := [(3, .int v3), (2, .int v2), (1, .int 0), (0, .ref o)]) [3, 2, 1, 0] rfl h
      · replace h := h.2 c
        refine m_iload_n dX9_word_40 rfl 1 rfl ?_
        refine m_iconst (v := 5) dX9_word_41 (by decide) ?_
        refine m_ishl dX9_word_42 ?_
        refine m_aload_n dX9_word_43 rfl 0 rfl ?_
        refine m_get (v := .ref (ad 9)) 9 dX9_word_44 (by decide) q1772 rfl ?_
        refine m_iload_n dX9_word_47 rfl 3 rfl ?_
        obtain ⟨h1, h⟩ := h
        refine m_iald 9 dX9_word_48 (by decide) rfl h1 ?_
        refine m_bipush (v := 96) dX9_word_49 (by decide) ?_
        refine m_isub dX9_word_51 ?_
        refine m_topi (fun w ew => ?_)
        replace h := h w ew
        refine m_ior dX9_word_52 ?_
        refine m_topi (fun w_1 ew_1 => ?_)
        replace h := h w_1 ew_1
        refine m_goto (tgt := 57) dX9_word_53 (by decide) ?_
        refine m_istore_n (ls1 := [(1, .int w_1), (0, .ref o), (2, .int x2), (3, .int x3)]) dX9_word_57 rfl (by decide) rfl ?_
        obtain ⟨v2, ev2⟩ : ∃ z : Int32, z = x2 + 1 := ⟨_, rfl⟩
        refine m_iinc (v := v2) (ls1 := [(2, .int v2), (1, .int w_1), (0, .ref o), (3, .int x3)]) dX9_word_58 2 rfl (by rw [ev2]; rfl) (by decide) rfl ?_
        replace h := h v2 ev2
        obtain ⟨v3, ev3⟩ : ∃ z : Int32, z = x3 + 1 := ⟨_, rfl⟩
        refine m_iinc (v := v3) (ls1 := [(3, .int v3), (2, .int v2), (1, .int w_1), (0, .ref o)]) dX9_word_61 3 rfl (by rw [ev3]; rfl) (by decide) rfl ?_
        replace h := h v3 ev3
        refine m_goto (tgt := 14) dX9_word_64 (by decide) ?_
        exact AtM.sub (ls := [(3, .int v3), (2, .int v2), (1, .int w_1), (0, .ref o)]) [3, 2, 1, 0] rfl h
theorem eX9_word {G : GC} {ad : Nat → Nat} {o : Nat} {Q : MPost} {F : Nat → Int32} {L : Nat → Int64} {I : Nat → Nat → Int32} {J : Nat → Nat → Int64} (h : ∀ σ0, AtM G mX9_word 4 ad o σ0 Q 0 [(0, .ref o)] [] F L I J) : CallM G mX9_word 4 ad o [.ref o] F L I J Q :=
  CallM.of (by decide +kernel) wsX9_word rfl (Nat.le_of_ble_eq_true rfl) (fun σ0 => AtM.sub (ls := [(0, .ref o)]) [0] rfl (h σ0))
set_option maxHeartbeats 4000000 in
theorem bX9_of_0 {G : GC} {Q : Option Value → PS → Prop} {X : String → Nat → PS → Prop} {b : Nat} {a0 : Nat} {σ : PS} (h : At G mX9_of 7 Q X b 4 [(0, .ref a0), (1, .int 0), (2, .int 0)] [] (σ)) : At G mX9_of 7 Q X b 0 [(0, .ref a0)] [] (σ) := by
  refine g_iconst (v := 0) dX9_of_0 (by decide) ?_
  refine g_istore_n (ls1 := [(1, .int 0), (0, .ref a0)]) dX9_of_1 rfl (by decide) rfl ?_
  refine g_iconst (v := 0) dX9_of_2 (by decide) ?_
  refine g_istore_n (ls1 := [(2, .int 0), (1, .int 0), (0, .ref a0)]) dX9_of_3 rfl (by decide) rfl ?_
  exact At.sub (ls := [(2, .int 0), (1, .int 0), (0, .ref a0)]) [2, 1, 0] rfl h
set_option maxHeartbeats 4000000 in
theorem bX9_of_4 {G : GC} {Q : Option Value → PS → Prop} {X : String → Nat → PS → Prop} {b : Nat} {a0 : Nat} {x1 : Int32} {x2 : Int32} {σ : PS} (h : ∃ (i : Nat) (q : String × Nat × String × List Int32), a0 = gk G i ∧ strTab[i]? = some q ∧ ((((nI q.2.2.2.length) ≤ x2) → Q (some (.int x1)) (σ)) ∧ ((¬ (nI q.2.2.2.length) ≤ x2) → ∃ (i_1 : Nat) (q_2 : String × Nat × String × List Int32) (j : Nat), a0 = gk G i_1 ∧ strTab[i_1]? = some q_2 ∧ x2 = nI j ∧ j < q_2.2.2.2.length ∧ (∀ w : Int32, w = ((q_2.2.2.2.getD j 0) - 96) → ∀ w_3 : Int32, w_3 = ((x1 <<< (5 &&& 31)) ||| w) → ∀ v2 : Int32, v2 = x2 + 1 → At G mX9_of 7 Q X b 4 [(0, .ref a0), (1, .int w_3), (2, .int v2)] [] (σ))))) : At G mX9_of 7 Q X b 4 [(0, .ref a0), (1, .int x1), (2, .int x2)] [] (σ) := by
  refine g_iload_n dX9_of_4 rfl 2 rfl ?_
  refine g_aload_n dX9_of_5 rfl 0 rfl ?_
  obtain ⟨i, q, h1, h2, h⟩ := h
  refine At.stk (st' := [.ref (gk G i), .int x2]) (by rw [h1]) ?_
  refine g_callStr (N := mJ4_length) (st := [.int x2]) (As := []) dX9_of_6 wsJ4_length (lw_V q2000 q997 q998 q123 q999) rfl mokJ4_length rfl h2 (by decide) (by decide) (by simp [Value.category]) (strlen_call h2) (fun _ s9 hq => ?_)
  obtain ⟨es, rfl⟩ := hq
  refine g_tops2 es ?_
  refine At.stk (st' := [.int (nI q.2.2.2.length), .int x2]) rfl ?_
  refine g_icmp_ge (tgt := 31) dX9_of_9 (by decide) (fun c => ?_) (fun c => ?_)
  · replace h := h.1 c
    refine g_iload_n dX9_of_31 rfl 1 rfl ?_
    exact g_iret rfl dX9_of_32 h
  · replace h := h.2 c
    refine g_iload_n dX9_of_12 rfl 1 rfl ?_
    refine g_iconst (v := 5) dX9_of_13 (by decide) ?_
    refine g_ishl dX9_of_14 ?_
    refine g_aload_n dX9_of_15 rfl 0 rfl ?_
    refine g_iload_n dX9_of_16 rfl 2 rfl ?_
    obtain ⟨i_1, q_2, j, h1, h2, h3, h4, h⟩ := h
    refine At.stk (st' := [.int (nI j), .ref (gk G i_1), .int (x1 <<< (5 &&& 31))]) (by rw [h1, h3]) ?_
    refine g_callStr (N := mJ4_charAt) (st := [.int (x1 <<< (5 &&& 31))]) (As := [.int (nI j)]) dX9_of_17 wsJ4_charAt (lw_V q2001 q1007 q1008 q123 q1009) rfl mokJ4_charAt rfl h2 (by decide) (by decide) (by simp [Value.category]) (charAt_call h2 h4) (fun _ s9 hq => ?_)
    obtain ⟨es, rfl⟩ := hq
    refine g_tops2 es ?_
    refine At.stk (st' := [.int (q_2.2.2.2.getD j 0), .int (x1 <<< (5 &&& 31))]) rfl ?_
    refine g_bipush (v := 96) dX9_of_20 (by decide) ?_
    refine g_isub dX9_of_22 ?_
    refine g_topi (fun w ew => ?_)
    replace h := h w ew
    refine g_ior dX9_of_23 ?_
    refine g_topi (fun w_3 ew_3 => ?_)
    replace h := h w_3 ew_3
    refine g_istore_n (ls1 := [(1, .int w_3), (0, .ref a0), (2, .int x2)]) dX9_of_24 rfl (by decide) rfl ?_
    obtain ⟨v2, ev2⟩ : ∃ z : Int32, z = x2 + 1 := ⟨_, rfl⟩
    refine g_iinc (v := v2) (ls1 := [(2, .int v2), (1, .int w_3), (0, .ref a0)]) dX9_of_25 2 rfl (by rw [ev2]; rfl) (by decide) rfl ?_
    replace h := h v2 ev2
    refine g_goto (tgt := 4) dX9_of_28 (by decide) ?_
    exact At.sub (ls := [(2, .int v2), (1, .int w_3), (0, .ref a0)]) [2, 1, 0] rfl h
theorem eX9_of {G : GC} {Q : Option Value → PS → Prop} {X : String → Nat → PS → Prop} {b : Nat} {p0 : Nat} {σ : PS} (h : At G mX9_of 7 Q X b 0 [(0, .ref p0)] [] σ) : Call G mX9_of 7 b [.ref p0] σ Q X :=
  Call.of (by decide +kernel) wsX9_of rfl (Nat.le_of_ble_eq_true rfl) (At.sub (ls := [(0, .ref p0)]) [0] rfl h)
set_option maxHeartbeats 4000000 in
theorem bX9_wrong_0 {G : GC} {ad : Nat → Nat} {o : Nat} {σ0 : PS} {Q : MPost} {x1 : Int32} {x2 : Int32} {F : Nat → Int32} {L : Nat → Int64} {I : Nat → Nat → Int32} {J : Nat → Nat → Int64} (h : (((F 5) = (-1)) → (∀ F1 : Nat → Int32, F1 = fU F 5 x2 → (∀ F1_1 : Nat → Int32, F1_1 = fU F1 6 x1 → Q none F1_1 L I J))) ∧ ((¬ (F 5) = (-1)) → Q none F L I J)) : AtM G mX9_wrong 3 ad o σ0 Q 0 [(0, .ref o), (1, .int x1), (2, .int x2)] [] F L I J := by
  refine m_aload_n dX9_wrong_0 rfl 0 rfl ?_
  refine m_get (v := .int (F 5)) 5 dX9_wrong_1 (by decide) q1768 rfl ?_
  refine m_iconst (v := (-1)) dX9_wrong_4 (by decide) ?_
  refine m_icmp_eq (tgt := 9) dX9_wrong_5 (by decide) (fun c => ?_) (fun c => ?_)
  · replace h := h.1 c
    refine m_aload_n dX9_wrong_9 rfl 0 rfl ?_
    refine m_iload_n dX9_wrong_10 rfl 2 rfl ?_
    refine m_putI 5 dX9_wrong_11 (by decide) q1768 rfl rfl rfl rfl ?_
    refine m_topF (fun F1 eF1 => ?_)
    replace h := h F1 eF1
    refine m_aload_n dX9_wrong_14 rfl 0 rfl ?_
    refine m_iload_n dX9_wrong_15 rfl 1 rfl ?_
    refine m_putI 6 dX9_wrong_16 (by decide) q1769 rfl rfl rfl rfl ?_
    refine m_topF (fun F1_1 eF1_1 => ?_)
    replace h := h F1_1 eF1_1
    exact m_vret rfl dX9_wrong_19 h
  · replace h := h.2 c
    exact m_vret rfl dX9_wrong_8 h
theorem eX9_wrong {G : GC} {ad : Nat → Nat} {o : Nat} {Q : MPost} {p1 : Int32} {p2 : Int32} {F : Nat → Int32} {L : Nat → Int64} {I : Nat → Nat → Int32} {J : Nat → Nat → Int64} (h : ∀ σ0, AtM G mX9_wrong 3 ad o σ0 Q 0 [(0, .ref o), (1, .int p1), (2, .int p2)] [] F L I J) : CallM G mX9_wrong 3 ad o [.ref o, .int p1, .int p2] F L I J Q :=
  CallM.of (by decide +kernel) wsX9_wrong rfl (Nat.le_of_ble_eq_true rfl) (fun σ0 => AtM.sub (ls := [(0, .ref o), (1, .int p1), (2, .int p2)]) [0, 1, 2] rfl (h σ0))
set_option maxHeartbeats 4000000 in
theorem bX9_pass_0 {G : GC} {ad : Nat → Nat} {o : Nat} {σ0 : PS} {Q : MPost} {F : Nat → Int32} {L : Nat → Int64} {I : Nat → Nat → Int32} {J : Nat → Nat → Int64} (h : (((F 3) ≤ (F 4)) → Q none F L I J) ∧ ((¬ (F 3) ≤ (F 4)) → vp_in (F 4) 600 ∧ (CallP G mX9_isSmall 3 [.int (I 9 (F 4).toNatClampNeg)] (pI (fun rx => ((rx = 0) → Q none F L I J) ∧ ((¬ rx = 0) → (∀ F1 : Nat → Int32, F1 = fU F 4 (((F 4) + 1)) → AtM G mX9_pass 4 ad o σ0 Q 0 [(0, .ref o)] [] F1 L I J))))))) : AtM G mX9_pass 4 ad o σ0 Q 0 [(0, .ref o)] [] F L I J := by
  refine m_aload_n dX9_pass_0 rfl 0 rfl ?_
  refine m_get (v := .int (F 4)) 4 dX9_pass_1 (by decide) q1767 rfl ?_
  refine m_aload_n dX9_pass_4 rfl 0 rfl ?_
  refine m_get (v := .int (F 3)) 3 dX9_pass_5 (by decide) q1766 rfl ?_
  refine m_icmp_ge (tgt := 39) dX9_pass_8 (by decide) (fun c => ?_) (fun c => ?_)
  · replace h := h.1 c
    exact m_vret rfl dX9_pass_39 h
  · replace h := h.2 c
    refine m_aload_n dX9_pass_11 rfl 0 rfl ?_
    refine m_get (v := .ref (ad 9)) 9 dX9_pass_12 (by decide) q1772 rfl ?_
    refine m_aload_n dX9_pass_15 rfl 0 rfl ?_
    refine m_get (v := .int (F 4)) 4 dX9_pass_16 (by decide) q1767 rfl ?_
    obtain ⟨h1, h⟩ := h
    refine m_iald 9 dX9_pass_19 (by decide) rfl h1 ?_
    refine m_callP (N := mX9_isSmall) (st := []) (As := [.int (I 9 (F 4).toNatClampNeg)]) dX9_pass_20 wsX9_isSmall (lw_S q2002 q2003 q116 q2004) mokX9_isSmall rfl (by decide) (by decide) (Nat.zero_le _) h (fun _ hq => ?_)
    obtain ⟨rx, rfl, h⟩ := hq
    refine AtM.stk (st' := [.int rx]) rfl ?_
    refine m_if_eq (tgt := 39) dX9_pass_23 (by decide) (fun c => ?_) (fun c => ?_)
    · replace h := h.1 c
      exact m_vret rfl dX9_pass_39 h
    · replace h := h.2 c
      refine m_aload_n dX9_pass_26 rfl 0 rfl ?_
      refine m_dup dX9_pass_27 rfl ?_
      refine m_get (v := .int (F 4)) 4 dX9_pass_28 (by decide) q1767 rfl ?_
      refine m_iconst (v := 1) dX9_pass_31 (by decide) ?_
      refine m_iadd dX9_pass_32 ?_
      refine m_putI 4 dX9_pass_33 (by decide) q1767 rfl rfl rfl rfl ?_
      refine m_topF (fun F1 eF1 => ?_)
      replace h := h F1 eF1
      refine m_goto (tgt := 0) dX9_pass_36 (by decide) ?_
      exact AtM.sub (ls := [(0, .ref o)]) [0] rfl h
theorem eX9_pass {G : GC} {ad : Nat → Nat} {o : Nat} {Q : MPost} {F : Nat → Int32} {L : Nat → Int64} {I : Nat → Nat → Int32} {J : Nat → Nat → Int64} (h : ∀ σ0, AtM G mX9_pass 4 ad o σ0 Q 0 [(0, .ref o)] [] F L I J) : CallM G mX9_pass 4 ad o [.ref o] F L I J Q :=
  CallM.of (by decide +kernel) wsX9_pass rfl (Nat.le_of_ble_eq_true rfl) (fun σ0 => AtM.sub (ls := [(0, .ref o)]) [0] rfl (h σ0))
set_option maxHeartbeats 4000000 in
theorem bX9_readClause_0 {G : GC} {ad : Nat → Nat} {o : Nat} {σ0 : PS} {Q : MPost} {x1 : Int32} {F : Nat → Int32} {L : Nat → Int64} {I : Nat → Nat → Int32} {J : Nat → Nat → Int64} (h : ((¬ x1 = (-7)) → CallP G mX9_of 7 [.ref (gk G 34)] (pI (fun rx => ((¬ x1 = rx) → CallP G mX9_of 7 [.ref (gk G 35)] (pI (fun rx_1 => ((¬ x1 = rx_1) → CallP G mX9_of 7 [.ref (gk G 36)] (pI (fun rx_2 => ((¬ x1 = rx_2) → CallP G mX9_of 7 [.ref (gk G 37)] (pI (fun rx_3 => ((¬ x1 = rx_3) → CallP G mX9_of 7 [.ref (gk G 38)] (pI (fun rx_4 => ((¬ x1 = rx_4) → CallP G mX9_of 7 [.ref (gk G 39)] (pI (fun rx_5 => ((¬ x1 = rx_5) → CallP G mX9_of 7 [.ref (gk G 40)] (pI (fun rx_6 => ((¬ x1 = rx_6) → CallM G mX9_readNumber 4 ad o [.ref o, .int 0, .int ((F 16) - 1)] F L I J (mqI (fun rx_7 F1 L1 I1 J1 => CallM G mX9_readNumber 4 ad o [.ref o, .int 0, .int 480] F1 L1 I1 J1 (mqI (fun rx_8 F1_9 L1_10 I1_11 J1_12 => CallMO G mX9_fine 3 ad o [.ref o] F1_9 L1_10 I1_11 J1_12 (pI (fun rx_13 => ((¬ rx_13 = 0) → CallM G mX9_puts 3 ad o [.ref o, .ref (ad 12), .ref (ad 13), .int (F1_9 17), .int rx_7, .int rx_8] F1_9 L1_10 I1_11 J1_12 (mqI (fun rx_14 F1_15 L1_16 I1_17 J1_18 => (∀ F1_19 : Nat → Int32, F1_19 = fU F1_15 17 (((F1_15 17) + 1)) → Q none F1_19 L1_16 I1_17 J1_18)))) ∧ ((rx_13 = 0) → Q none F1_9 L1_10 I1_11 J1_12)))))))) ∧ ((x1 = rx_6) → (∀ F1 : Nat → Int32, F1 = fU F 16 (((F 16) + 1)) → Q none F1 L I J))))) ∧ ((x1 = rx_5) → AtM G mX9_readClause 8 ad o σ0 Q 193 [(0, .ref o), (2, .int 0)] [] F L I J)))) ∧ ((x1 = rx_4) → CallM G mX9_readNumber 4 ad o [.ref o, .int 0, .int 16] F L I J (mqI (fun rx_20 F1 L1 I1 J1 => (∀ I1_21 : Nat → Nat → Int32, I1_21 = aU I1 10 6 rx_20 → Q none F1 L1 I1_21 J1))))))) ∧ ((x1 = rx_3) → CallM G mX9_readNumber 4 ad o [.ref o, .int 1, .int 99] F L I J (mqI (fun rx_22 F1 L1 I1 J1 => (∀ I1_23 : Nat → Nat → Int32, I1_23 = aU I1 10 5 rx_22 → Q none F1 L1 I1_23 J1))))))) ∧ ((x1 = rx_2) → CallM G mX9_readNumber 4 ad o [.ref o, .int 0, .int 16] F L I J (mqI (fun rx_24 F1 L1 I1 J1 => (∀ I1_25 : Nat → Nat → Int32, I1_25 = aU I1 10 4 rx_24 → Q none F1 L1 I1_25 J1))))))) ∧ ((x1 = rx_1) → CallM G mX9_readNumber 4 ad o [.ref o, .int 0, .int 1] F L I J (mqI (fun rx_26 F1 L1 I1 J1 => (∀ I1_27 : Nat → Nat → Int32, I1_27 = aU I1 10 3 rx_26 → Q none F1 L1 I1_27 J1))))))) ∧ ((x1 = rx) → CallM G mX9_readNumber 4 ad o [.ref o, .int 0, .int (I 10 0)] F L I J (mqI (fun rx_28 F1 L1 I1 J1 => CallM G mX9_readNumber 4 ad o [.ref o, .int 0, .int ((I1 10 0) - rx_28)] F1 L1 I1 J1 (mqI (fun rx_29 F1_30 L1_31 I1_32 J1_33 => CallMO G mX9_fine 3 ad o [.ref o] F1_30 L1_31 I1_32 J1_33 (pI (fun rx_34 => ((¬ rx_34 = 0) → (∀ I1_35 : Nat → Nat → Int32, I1_35 = aU I1_32 10 1 rx_28 → (∀ I1_36 : Nat → Nat → Int32, I1_36 = aU I1_35 10 2 rx_29 → Q none F1_30 L1_31 I1_36 J1_33))) ∧ ((rx_34 = 0) → Q none F1_30 L1_31 I1_32 J1_33))))))))))) ∧ ((x1 = (-7)) → CallM G mX9_readNumber 4 ad o [.ref o, .int 1, .int 12] F L I J (mqI (fun rx F1 L1 I1 J1 => (∀ I1_37 : Nat → Nat → Int32, I1_37 = aU I1 10 0 rx → Q none F1 L1 I1_37 J1))))) : AtM G mX9_readClause 8 ad o σ0 Q 0 [(0, .ref o), (1, .int x1)] [] F L I J := by
  refine m_iload_n dX9_readClause_0 rfl 1 rfl ?_
  refine m_bipush (v := (-7)) dX9_readClause_1 (by decide) ?_
  refine m_icmp_ne (tgt := 22) dX9_readClause_3 (by decide) (fun c => ?_) (fun c => ?_)
  · replace h := h.1 c
    refine m_iload_n dX9_readClause_22 rfl 1 rfl ?_
    refine m_ldcS 34 dX9_readClause_23 rfl rfl rfl ?_
    refine m_callP (N := mX9_of) (st := [.int x1]) (As := [.ref (gk G 34)]) dX9_readClause_25 wsX9_of (lw_S q2010 q2011 q116 q2012) mokX9_of rfl (by decide) (by decide) (by simp [Value.category]) h (fun _ hq => ?_)
    obtain ⟨rx, rfl, h⟩ := hq
    refine AtM.stk (st' := [.int rx, .int x1]) rfl ?_
    refine m_icmp_ne (tgt := 82) dX9_readClause_28 (by decide) (fun c => ?_) (fun c => ?_)
    · replace h := h.1 c
      refine m_iload_n dX9_readClause_82 rfl 1 rfl ?_
      refine m_ldcS 35 dX9_readClause_83 rfl rfl rfl ?_
      refine m_callP (N := mX9_of) (st := [.int x1]) (As := [.ref (gk G 35)]) dX9_readClause_85 wsX9_of (lw_S q2010 q2011 q116 q2012) mokX9_of rfl (by decide) (by decide) (by simp [Value.category]) h (fun _ hq => ?_)
      obtain ⟨rx_1, rfl, h⟩ := hq
      refine AtM.stk (st' := [.int rx_1, .int x1]) rfl ?_
      refine m_icmp_ne (tgt := 106) dX9_readClause_88 (by decide) (fun c => ?_) (fun c => ?_)
      · replace h := h.1 c
        refine m_iload_n dX9_readClause_106 rfl 1 rfl ?_
        refine m_ldcS 36 dX9_readClause_107 rfl rfl rfl ?_
        refine m_callP (N := mX9_of) (st := [.int x1]) (As := [.ref (gk G 36)]) dX9_readClause_109 wsX9_of (lw_S q2010 q2011 q116 q2012) mokX9_of rfl (by decide) (by decide) (by simp [Value.category]) h (fun _ hq => ?_)
        obtain ⟨rx_2, rfl, h⟩ := hq
        refine AtM.stk (st' := [.int rx_2, .int x1]) rfl ?_
        refine m_icmp_ne (tgt := 131) dX9_readClause_112 (by decide) (fun c => ?_) (fun c => ?_)
        · replace h := h.1 c
          refine m_iload_n dX9_readClause_131 rfl 1 rfl ?_
          refine m_ldcS 37 dX9_readClause_132 rfl rfl rfl ?_
          refine m_callP (N := mX9_of) (st := [.int x1]) (As := [.ref (gk G 37)]) dX9_readClause_134 wsX9_of (lw_S q2010 q2011 q116 q2012) mokX9_of rfl (by decide) (by decide) (by simp [Value.category]) h (fun _ hq => ?_)
          obtain ⟨rx_3, rfl, h⟩ := hq
          refine AtM.stk (st' := [.int rx_3, .int x1]) rfl ?_
          refine m_icmp_ne (tgt := 156) dX9_readClause_137 (by decide) (fun c => ?_) (fun c => ?_)
          · replace h := h.1 c
            refine m_iload_n dX9_readClause_156 rfl 1 rfl ?_
            refine m_ldcS 38 dX9_readClause_157 rfl rfl rfl ?_
            refine m_callP (N := mX9_of) (st := [.int x1]) (As := [.ref (gk G 38)]) dX9_readClause_159 wsX9_of (lw_S q2010 q2011 q116 q2012) mokX9_of rfl (by decide) (by decide) (by simp [Value.category]) h (fun _ hq => ?_)
            obtain ⟨rx_4, rfl, h⟩ := hq
            refine AtM.stk (st' := [.int rx_4, .int x1]) rfl ?_
            refine m_icmp_ne (tgt := 182) dX9_readClause_162 (by decide) (fun c => ?_) (fun c => ?_)
            · replace h := h.1 c
              refine m_iload_n dX9_readClause_182 rfl 1 rfl ?_
              refine m_ldcS 39 dX9_readClause_183 rfl rfl rfl ?_
              refine m_callP (N := mX9_of) (st := [.int x1]) (As := [.ref (gk G 39)]) dX9_readClause_185 wsX9_of (lw_S q2010 q2011 q116 q2012) mokX9_of rfl (by decide) (by decide) (by simp [Value.category]) h (fun _ hq => ?_)
              obtain ⟨rx_5, rfl, h⟩ := hq
              refine AtM.stk (st' := [.int rx_5, .int x1]) rfl ?_
              refine m_icmp_ne (tgt := 223) dX9_readClause_188 (by decide) (fun c => ?_) (fun c => ?_)
              · replace h := h.1 c
                refine m_iload_n dX9_readClause_223 rfl 1 rfl ?_
                refine m_ldcS 40 dX9_readClause_224 rfl rfl rfl ?_
                refine m_callP (N := mX9_of) (st := [.int x1]) (As := [.ref (gk G 40)]) dX9_readClause_226 wsX9_of (lw_S q2010 q2011 q116 q2012) mokX9_of rfl (by decide) (by decide) (by simp [Value.category]) h (fun _ hq => ?_)
                obtain ⟨rx_6, rfl, h⟩ := hq
                refine AtM.stk (st' := [.int rx_6, .int x1]) rfl ?_
                refine m_icmp_ne (tgt := 245) dX9_readClause_229 (by decide) (fun c => ?_) (fun c => ?_)
                · replace h := h.1 c
                  refine m_aload_n dX9_readClause_245 rfl 0 rfl ?_
                  refine m_iconst (v := 0) dX9_readClause_246 (by decide) ?_
                  refine m_aload_n dX9_readClause_247 rfl 0 rfl ?_
                  refine m_get (v := .int (F 16)) 16 dX9_readClause_248 (by decide) q1779 rfl ?_
                  refine m_iconst (v := 1) dX9_readClause_251 (by decide) ?_
                  refine m_isub dX9_readClause_252 ?_
                  refine m_callV (N := mX9_readNumber) (st := []) (As := [.int 0, .int ((F 16) - 1)]) dX9_readClause_253 wsX9_readNumber (lw_V q2032 q2034 qs49 q116 q2035) rfl mokX9_readNumber rfl (by decide) (by decide) (Nat.zero_le _) h (fun _ F1 L1 I1 J1 hq => ?_)
                  obtain ⟨rx_7, rfl, h⟩ := hq
                  refine AtM.stk (st' := [.int rx_7]) rfl ?_
                  refine m_istore_n (ls1 := [(2, .int rx_7), (0, .ref o), (1, .int x1)]) dX9_readClause_256 rfl (by decide) rfl ?_
                  refine m_aload_n dX9_readClause_257 rfl 1 rfl ?_
                  refine m_iconst (v := 0) dX9_readClause_258 (by decide) ?_
                  refine m_sipush (v := 480) dX9_readClause_259 (by decide) ?_
                  refine m_callV (N := mX9_readNumber) (st := []) (As := [.int 0, .int 480]) dX9_readClause_262 wsX9_readNumber (lw_V q2032 q2034 qs49 q116 q2035) rfl mokX9_readNumber rfl (by decide) (by decide) (Nat.zero_le _) h (fun _ F1_9 L1_10 I1_11 J1_12 hq => ?_)
                  obtain ⟨rx_8, rfl, h⟩ := hq
                  refine AtM.stk (st' := [.int rx_8]) rfl ?_
                  refine m_istore_n (ls1 := [(3, .int rx_8), (2, .int rx_7), (0, .ref o), (1, .int x1)]) dX9_readClause_265 rfl (by decide) rfl ?_
                  refine m_aload_n dX9_readClause_266 rfl 2 rfl ?_
                  refine m_callV (N := mX9_fine) (st := []) (As := []) dX9_readClause_267 wsX9_fine (lw_V q1979 q1981 qs40 q116 q1982) rfl mokX9_fine rfl (by decide) (by decide) (Nat.zero_le _) h (fun _ F9 L9 I9 J9 hq => ?_)
                  obtain ⟨e1, e2, e3, e4, hq⟩ := hq
                  refine AtM.re e1 e2 e3 e4 ?_
                  obtain ⟨rx_13, rfl, h⟩ := hq
                  refine AtM.stk (st' := [.int rx_13]) rfl ?_
                  refine m_if_ne (tgt := 274) dX9_readClause_270 (by decide) (fun c => ?_) (fun c => ?_)
                  · replace h := h.1 c
                    refine m_aload_n dX9_readClause_274 rfl 2 rfl ?_
                    refine m_aload_n dX9_readClause_275 rfl 2 rfl ?_
                    refine m_get (v := .ref (ad 12)) 12 dX9_readClause_276 (by decide) q1775 rfl ?_
                    refine m_aload_n dX9_readClause_279 rfl 2 rfl ?_
                    refine m_get (v := .ref (ad 13)) 13 dX9_readClause_280 (by decide) q1776 rfl ?_
                    refine m_aload_n dX9_readClause_283 rfl 2 rfl ?_
                    refine m_get (v := .int (F1_9 17)) 17 dX9_readClause_284 (by decide) q1780 rfl ?_
                    refine m_iload_n dX9_readClause_287 rfl 1 rfl ?_
                    refine m_iload_n dX9_readClause_288 rfl 0 rfl ?_
                    refine m_callV (N := mX9_puts) (st := []) (As := [.ref (ad 12), .ref (ad 13), .int (F1_9 17), .int rx_7, .int rx_8]) dX9_readClause_289 wsX9_puts (lw_V q2039 q2041 qs50 q116 q2042) rfl mokX9_puts rfl (by decide) (by decide) (Nat.zero_le _) h (fun _ F1_15 L1_16 I1_17 J1_18 hq => ?_)
                    obtain ⟨rx_14, rfl, h⟩ := hq
                    refine AtM.stk (st' := [.int rx_14]) rfl ?_
                    refine m_pop dX9_readClause_292 rfl ?_
                    refine m_aload_n dX9_readClause_293 rfl 2 rfl ?_
                    refine m_dup dX9_readClause_294 rfl ?_
                    refine m_get (v := .int (F1_15 17)) 17 dX9_readClause_295 (by decide) q1780 rfl ?_
                    refine m_iconst (v := 1) dX9_readClause_298 (by decide) ?_
                    refine m_iadd dX9_readClause_299 ?_
                    refine m_putI 17 dX9_readClause_300 (by decide) q1780 rfl rfl rfl rfl ?_
                    refine m_topF (fun F1_19 eF1_19 => ?_)
                    replace h := h F1_19 eF1_19
                    exact m_vret rfl dX9_readClause_303 h
                  · replace h := h.2 c
                    exact m_vret rfl dX9_readClause_273 h
                · replace h := h.2 c
                  refine m_aload_n dX9_readClause_232 rfl 0 rfl ?_
                  refine m_dup dX9_readClause_233 rfl ?_
                  refine m_get (v := .int (F 16)) 16 dX9_readClause_234 (by decide) q1779 rfl ?_
                  refine m_iconst (v := 1) dX9_readClause_237 (by decide) ?_
                  refine m_iadd dX9_readClause_238 ?_
                  refine m_putI 16 dX9_readClause_239 (by decide) q1779 rfl rfl rfl rfl ?_
                  refine m_topF (fun F1 eF1 => ?_)
                  replace h := h F1 eF1
                  refine m_goto (tgt := 303) dX9_readClause_242 (by decide) ?_
                  exact m_vret rfl dX9_readClause_303 h
              · replace h := h.2 c
                refine m_iconst (v := 0) dX9_readClause_191 (by decide) ?_
                refine m_istore_n (ls1 := [(2, .int 0), (0, .ref o), (1, .int x1)]) dX9_readClause_192 rfl (by decide) rfl ?_
                exact AtM.sub (ls := [(2, .int 0), (0, .ref o), (1, .int x1)]) [1, 0] rfl h
            · replace h := h.2 c
              refine m_aload_n dX9_readClause_165 rfl 0 rfl ?_
              refine m_get (v := .ref (ad 10)) 10 dX9_readClause_166 (by decide) q1773 rfl ?_
              refine m_bipush (v := 6) dX9_readClause_169 (by decide) ?_
              refine m_aload_n dX9_readClause_171 rfl 0 rfl ?_
              refine m_iconst (v := 0) dX9_readClause_172 (by decide) ?_
              refine m_bipush (v := 16) dX9_readClause_173 (by decide) ?_
              refine m_callV (N := mX9_readNumber) (st := [.int 6, .ref (ad 10)]) (As := [.int 0, .int 16]) dX9_readClause_175 wsX9_readNumber (lw_V q2032 q2034 qs49 q116 q2035) rfl mokX9_readNumber rfl (by decide) (by decide) (by simp [Value.category]) h (fun _ F1 L1 I1 J1 hq => ?_)
              obtain ⟨rx_20, rfl, h⟩ := hq
              refine AtM.stk (st' := [.int rx_20, .int 6, .ref (ad 10)]) rfl ?_
              refine m_iast0 (j := 6) 10 dX9_readClause_178 (by decide) rfl (by decide) rfl (Nat.le_of_ble_eq_true rfl) ?_
              refine m_topI (fun I1_21 eI1_21 => ?_)
              replace h := h I1_21 eI1_21
              refine m_goto (tgt := 303) dX9_readClause_179 (by decide) ?_
              exact m_vret rfl dX9_readClause_303 h
          · replace h := h.2 c
            refine m_aload_n dX9_readClause_140 rfl 0 rfl ?_
            refine m_get (v := .ref (ad 10)) 10 dX9_readClause_141 (by decide) q1773 rfl ?_
            refine m_iconst (v := 5) dX9_readClause_144 (by decide) ?_
            refine m_aload_n dX9_readClause_145 rfl 0 rfl ?_
            refine m_iconst (v := 1) dX9_readClause_146 (by decide) ?_
            refine m_bipush (v := 99) dX9_readClause_147 (by decide) ?_
            refine m_callV (N := mX9_readNumber) (st := [.int 5, .ref (ad 10)]) (As := [.int 1, .int 99]) dX9_readClause_149 wsX9_readNumber (lw_V q2032 q2034 qs49 q116 q2035) rfl mokX9_readNumber rfl (by decide) (by decide) (by simp [Value.category]) h (fun _ F1 L1 I1 J1 hq => ?_)
            obtain ⟨rx_22, rfl, h⟩ := hq
            refine AtM.stk (st' := [.int rx_22, .int 5, .ref (ad 10)]) rfl ?_
            refine m_iast0 (j := 5) 10 dX9_readClause_152 (by decide) rfl (by decide) rfl (Nat.le_of_ble_eq_true rfl) ?_
            refine m_topI (fun I1_23 eI1_23 => ?_)
            replace h := h I1_23 eI1_23
            refine m_goto (tgt := 303) dX9_readClause_153 (by decide) ?_
            exact m_vret rfl dX9_readClause_303 h
        · replace h := h.2 c
          refine m_aload_n dX9_readClause_115 rfl 0 rfl ?_
          refine m_get (v := .ref (ad 10)) 10 dX9_readClause_116 (by decide) q1773 rfl ?_
          refine m_iconst (v := 4) dX9_readClause_119 (by decide) ?_
          refine m_aload_n dX9_readClause_120 rfl 0 rfl ?_
          refine m_iconst (v := 0) dX9_readClause_121 (by decide) ?_
          refine m_bipush (v := 16) dX9_readClause_122 (by decide) ?_
          refine m_callV (N := mX9_readNumber) (st := [.int 4, .ref (ad 10)]) (As := [.int 0, .int 16]) dX9_readClause_124 wsX9_readNumber (lw_V q2032 q2034 qs49 q116 q2035) rfl mokX9_readNumber rfl (by decide) (by decide) (by simp [Value.category]) h (fun _ F1 L1 I1 J1 hq => ?_)
          obtain ⟨rx_24, rfl, h⟩ := hq
          refine AtM.stk (st' := [.int rx_24, .int 4, .ref (ad 10)]) rfl ?_
          refine m_iast0 (j := 4) 10 dX9_readClause_127 (by decide) rfl (by decide) rfl (Nat.le_of_ble_eq_true rfl) ?_
          refine m_topI (fun I1_25 eI1_25 => ?_)
          replace h := h I1_25 eI1_25
          refine m_goto (tgt := 303) dX9_readClause_128 (by decide) ?_
          exact m_vret rfl dX9_readClause_303 h
      · replace h := h.2 c
        refine m_aload_n dX9_readClause_91 rfl 0 rfl ?_
        refine m_get (v := .ref (ad 10)) 10 dX9_readClause_92 (by decide) q1773 rfl ?_
        refine m_iconst (v := 3) dX9_readClause_95 (by decide) ?_
        refine m_aload_n dX9_readClause_96 rfl 0 rfl ?_
        refine m_iconst (v := 0) dX9_readClause_97 (by decide) ?_
        refine m_iconst (v := 1) dX9_readClause_98 (by decide) ?_
        refine m_callV (N := mX9_readNumber) (st := [.int 3, .ref (ad 10)]) (As := [.int 0, .int 1]) dX9_readClause_99 wsX9_readNumber (lw_V q2032 q2034 qs49 q116 q2035) rfl mokX9_readNumber rfl (by decide) (by decide) (by simp [Value.category]) h (fun _ F1 L1 I1 J1 hq => ?_)
        obtain ⟨rx_26, rfl, h⟩ := hq
        refine AtM.stk (st' := [.int rx_26, .int 3, .ref (ad 10)]) rfl ?_
        refine m_iast0 (j := 3) 10 dX9_readClause_102 (by decide) rfl (by decide) rfl (Nat.le_of_ble_eq_true rfl) ?_
        refine m_topI (fun I1_27 eI1_27 => ?_)
        replace h := h I1_27 eI1_27
        refine m_goto (tgt := 303) dX9_readClause_103 (by decide) ?_
        exact m_vret rfl dX9_readClause_303 h
    · replace h := h.2 c
      refine m_aload_n dX9_readClause_31 rfl 0 rfl ?_
      refine m_iconst (v := 0) dX9_readClause_32 (by decide) ?_
      refine m_aload_n dX9_readClause_33 rfl 0 rfl ?_
      refine m_get (v := .ref (ad 10)) 10 dX9_readClause_34 (by decide) q1773 rfl ?_
      refine m_iconst (v := 0) dX9_readClause_37 (by decide) ?_
      refine m_iald0 (j := 0) 10 dX9_readClause_38 (by decide) rfl (by decide) rfl (Nat.le_of_ble_eq_true rfl) ?_
      refine m_callV (N := mX9_readNumber) (st := []) (As := [.int 0, .int (I 10 0)]) dX9_readClause_39 wsX9_readNumber (lw_V q2032 q2034 qs49 q116 q2035) rfl mokX9_readNumber rfl (by decide) (by decide) (Nat.zero_le _) h (fun _ F1 L1 I1 J1 hq => ?_)
      obtain ⟨rx_28, rfl, h⟩ := hq
      refine AtM.stk (st' := [.int rx_28]) rfl ?_
      refine m_istore_n (ls1 := [(2, .int rx_28), (0, .ref o), (1, .int x1)]) dX9_readClause_42 rfl (by decide) rfl ?_
      refine m_aload_n dX9_readClause_43 rfl 1 rfl ?_
      refine m_iconst (v := 0) dX9_readClause_44 (by decide) ?_
      refine m_aload_n dX9_readClause_45 rfl 1 rfl ?_
      refine m_get (v := .ref (ad 10)) 10 dX9_readClause_46 (by decide) q1773 rfl ?_
      refine m_iconst (v := 0) dX9_readClause_49 (by decide) ?_
      refine m_iald0 (j := 0) 10 dX9_readClause_50 (by decide) rfl (by decide) rfl (Nat.le_of_ble_eq_true rfl) ?_
      refine m_iload_n dX9_readClause_51 rfl 0 rfl ?_
      refine m_isub dX9_readClause_52 ?_
      refine m_callV (N := mX9_readNumber) (st := []) (As := [.int 0, .int ((I1 10 0) - rx_28)]) dX9_readClause_53 wsX9_readNumber (lw_V q2032 q2034 qs49 q116 q2035) rfl mokX9_readNumber rfl (by decide) (by decide) (Nat.zero_le _) h (fun _ F1_30 L1_31 I1_32 J1_33 hq => ?_)
      obtain ⟨rx_29, rfl, h⟩ := hq
      refine AtM.stk (st' := [.int rx_29]) rfl ?_
      refine m_istore_n (ls1 := [(3, .int rx_29), (2, .int rx_28), (0, .ref o), (1, .int x1)]) dX9_readClause_56 rfl (by decide) rfl ?_
      refine m_aload_n dX9_readClause_57 rfl 2 rfl ?_
      refine m_callV (N := mX9_fine) (st := []) (As := []) dX9_readClause_58 wsX9_fine (lw_V q1979 q1981 qs40 q116 q1982) rfl mokX9_fine rfl (by decide) (by decide) (Nat.zero_le _) h (fun _ F9 L9 I9 J9 hq => ?_)
      obtain ⟨e1, e2, e3, e4, hq⟩ := hq
      refine AtM.re e1 e2 e3 e4 ?_
      obtain ⟨rx_34, rfl, h⟩ := hq
      refine AtM.stk (st' := [.int rx_34]) rfl ?_
      refine m_if_ne (tgt := 65) dX9_readClause_61 (by decide) (fun c => ?_) (fun c => ?_)
      · replace h := h.1 c
        refine m_aload_n dX9_readClause_65 rfl 2 rfl ?_
        refine m_get (v := .ref (ad 10)) 10 dX9_readClause_66 (by decide) q1773 rfl ?_
        refine m_iconst (v := 1) dX9_readClause_69 (by decide) ?_
        refine m_iload_n dX9_readClause_70 rfl 1 rfl ?_
        refine m_iast0 (j := 1) 10 dX9_readClause_71 (by decide) rfl (by decide) rfl (Nat.le_of_ble_eq_true rfl) ?_
        refine m_topI (fun I1_35 eI1_35 => ?_)
        replace h := h I1_35 eI1_35
        refine m_aload_n dX9_readClause_72 rfl 2 rfl ?_
        refine m_get (v := .ref (ad 10)) 10 dX9_readClause_73 (by decide) q1773 rfl ?_
        refine m_iconst (v := 2) dX9_readClause_76 (by decide) ?_
        refine m_iload_n dX9_readClause_77 rfl 0 rfl ?_
        refine m_iast0 (j := 2) 10 dX9_readClause_78 (by decide) rfl (by decide) rfl (Nat.le_of_ble_eq_true rfl) ?_
        refine m_topI (fun I1_36 eI1_36 => ?_)
        replace h := h I1_36 eI1_36
        refine m_goto (tgt := 303) dX9_readClause_79 (by decide) ?_
        exact m_vret rfl dX9_readClause_303 h
      · replace h := h.2 c
        exact m_vret rfl dX9_readClause_64 h
  · replace h := h.2 c
    refine m_aload_n dX9_readClause_6 rfl 0 rfl ?_
    refine m_get (v := .ref (ad 10)) 10 dX9_readClause_7 (by decide) q1773 rfl ?_
    refine m_iconst (v := 0) dX9_readClause_10 (by decide) ?_
    refine m_aload_n dX9_readClause_11 rfl 0 rfl ?_
    refine m_iconst (v := 1) dX9_readClause_12 (by decide) ?_
    refine m_bipush (v := 12) dX9_readClause_13 (by decide) ?_
    refine m_callV (N := mX9_readNumber) (st := [.int 0, .ref (ad 10)]) (As := [.int 1, .int 12]) dX9_readClause_15 wsX9_readNumber (lw_V q2032 q2034 qs49 q116 q2035) rfl mokX9_readNumber rfl (by decide) (by decide) (by simp [Value.category]) h (fun _ F1 L1 I1 J1 hq => ?_)
    obtain ⟨rx, rfl, h⟩ := hq
    refine AtM.stk (st' := [.int rx, .int 0, .ref (ad 10)]) rfl ?_
    refine m_iast0 (j := 0) 10 dX9_readClause_18 (by decide) rfl (by decide) rfl (Nat.le_of_ble_eq_true rfl) ?_
    refine m_topI (fun I1_37 eI1_37 => ?_)
    replace h := h I1_37 eI1_37
    refine m_goto (tgt := 303) dX9_readClause_19 (by decide) ?_
    exact m_vret rfl dX9_readClause_303 h
set_option maxHeartbeats 4000000 in
theorem bX9_readClause_193 {G : GC} {ad : Nat → Nat} {o : Nat} {σ0 : PS} {Q : MPost} {x2 : Int32} {F : Nat → Int32} {L : Nat → Int64} {I : Nat → Nat → Int32} {J : Nat → Nat → Int64} (h : ((5 ≤ x2) → Q none F L I J) ∧ ((¬ 5 ≤ x2) → CallM G mX9_readNumber 4 ad o [.ref o, .int 0, .int 99] F L I J (mqI (fun rx F1 L1 I1 J1 => vp_in ((7 + x2)) 12 ∧ (∀ I1_1 : Nat → Nat → Int32, I1_1 = aU I1 10 ((7 + x2)).toNatClampNeg rx → ∀ v2 : Int32, v2 = x2 + 1 → AtM G mX9_readClause 8 ad o σ0 Q 193 [(0, .ref o), (2, .int v2)] [] F1 L1 I1_1 J1))))) : AtM G mX9_readClause 8 ad o σ0 Q 193 [(0, .ref o), (2, .int x2)] [] F L I J := by
  refine m_iload_n dX9_readClause_193 rfl 1 rfl ?_
  refine m_iconst (v := 5) dX9_readClause_194 (by decide) ?_
  refine m_icmp_ge (tgt := 220) dX9_readClause_195 (by decide) (fun c => ?_) (fun c => ?_)
  · replace h := h.1 c
    refine m_goto (tgt := 303) dX9_readClause_220 (by decide) ?_
    exact m_vret rfl dX9_readClause_303 h
  · replace h := h.2 c
    refine m_aload_n dX9_readClause_198 rfl 0 rfl ?_
    refine m_get (v := .ref (ad 10)) 10 dX9_readClause_199 (by decide) q1773 rfl ?_
    refine m_bipush (v := 7) dX9_readClause_202 (by decide) ?_
    refine m_iload_n dX9_readClause_204 rfl 1 rfl ?_
    refine m_iadd dX9_readClause_205 ?_
    refine m_aload_n dX9_readClause_206 rfl 0 rfl ?_
    refine m_iconst (v := 0) dX9_readClause_207 (by decide) ?_
    refine m_bipush (v := 99) dX9_readClause_208 (by decide) ?_
    refine m_callV (N := mX9_readNumber) (st := [.int (7 + x2), .ref (ad 10)]) (As := [.int 0, .int 99]) dX9_readClause_210 wsX9_readNumber (lw_V q2032 q2034 qs49 q116 q2035) rfl mokX9_readNumber rfl (by decide) (by decide) (by simp [Value.category]) h (fun _ F1 L1 I1 J1 hq => ?_)
    obtain ⟨rx, rfl, h⟩ := hq
    refine AtM.stk (st' := [.int rx, .int (7 + x2), .ref (ad 10)]) rfl ?_
    obtain ⟨h1, h⟩ := h
    refine m_iast 10 dX9_readClause_213 (by decide) rfl h1 ?_
    refine m_topI (fun I1_1 eI1_1 => ?_)
    replace h := h I1_1 eI1_1
    obtain ⟨v2, ev2⟩ : ∃ z : Int32, z = x2 + 1 := ⟨_, rfl⟩
    refine m_iinc (v := v2) (ls1 := [(2, .int v2), (0, .ref o)]) dX9_readClause_214 1 rfl (by rw [ev2]; rfl) (by decide) rfl ?_
    replace h := h v2 ev2
    refine m_goto (tgt := 193) dX9_readClause_217 (by decide) ?_
    exact AtM.sub (ls := [(2, .int v2), (0, .ref o)]) [1, 0] rfl h
theorem eX9_readClause {G : GC} {ad : Nat → Nat} {o : Nat} {Q : MPost} {p1 : Int32} {F : Nat → Int32} {L : Nat → Int64} {I : Nat → Nat → Int32} {J : Nat → Nat → Int64} (h : ∀ σ0, AtM G mX9_readClause 8 ad o σ0 Q 0 [(0, .ref o), (1, .int p1)] [] F L I J) : CallM G mX9_readClause 8 ad o [.ref o, .int p1] F L I J Q :=
  CallM.of (by decide +kernel) wsX9_readClause rfl (Nat.le_of_ble_eq_true rfl) (fun σ0 => AtM.sub (ls := [(0, .ref o), (1, .int p1)]) [0, 1] rfl (h σ0))
set_option maxHeartbeats 4000000 in
theorem bX9_readNumber_0 {G : GC} {ad : Nat → Nat} {o : Nat} {σ0 : PS} {Q : MPost} {x1 : Int32} {x2 : Int32} {F : Nat → Int32} {L : Nat → Int64} {I : Nat → Nat → Int32} {J : Nat → Nat → Int64} (h : CallMO G mX9_fine 3 ad o [.ref o] F L I J (pI (fun rx => ((¬ rx = 0) → CallM G mX9_here 3 ad o [.ref o] F L I J (mqI (fun rx_1 F1 L1 I1 J1 => CallP G mX9_isDigit 3 [.int rx_1] (pI (fun rx_2 => ((¬ rx_2 = 0) → AtM G mX9_readNumber 4 ad o σ0 Q 41 [(0, .ref o), (1, .int x1), (2, .int x2), (4, .int (F1 4)), (5, .int 0)] [] F1 L1 I1 J1) ∧ ((rx_2 = 0) → CallM G mX9_wrong 3 ad o [.ref o, .int 1, .int (F1 4)] F1 L1 I1 J1 (mqV (fun F1_3 L1_4 I1_5 J1_6 => Q (some (.int 0)) F1_3 L1_4 I1_5 J1_6)))))))) ∧ ((rx = 0) → Q (some (.int 0)) F L I J)))) : AtM G mX9_readNumber 4 ad o σ0 Q 0 [(0, .ref o), (1, .int x1), (2, .int x2)] [] F L I J := by
  refine m_aload_n dX9_readNumber_0 rfl 0 rfl ?_
  refine m_callV (N := mX9_fine) (st := []) (As := []) dX9_readNumber_1 wsX9_fine (lw_V q1979 q1981 qs40 q116 q1982) rfl mokX9_fine rfl (by decide) (by decide) (Nat.zero_le _) h (fun _ F9 L9 I9 J9 hq => ?_)
  obtain ⟨e1, e2, e3, e4, hq⟩ := hq
  refine AtM.re e1 e2 e3 e4 ?_
  obtain ⟨rx, rfl, h⟩ := hq
  refine AtM.stk (st' := [.int rx]) rfl ?_
  refine m_if_ne (tgt := 9) dX9_readNumber_4 (by decide) (fun c => ?_) (fun c => ?_)
  · replace h := h.1 c
    refine m_aload_n dX9_readNumber_9 rfl 0 rfl ?_
    refine m_callV (N := mX9_here) (st := []) (As := []) dX9_readNumber_10 wsX9_here (lw_V q1987 q1989 qs42 q116 q1990) rfl mokX9_here rfl (by decide) (by decide) (Nat.zero_le _) h (fun _ F1 L1 I1 J1 hq => ?_)
    obtain ⟨rx_1, rfl, h⟩ := hq
    refine AtM.stk (st' := [.int rx_1]) rfl ?_
    refine m_istore_n (ls1 := [(3, .int rx_1), (0, .ref o), (1, .int x1), (2, .int x2)]) dX9_readNumber_13 rfl (by decide) rfl ?_
    refine m_aload_n dX9_readNumber_14 rfl 1 rfl ?_
    refine m_get (v := .int (F1 4)) 4 dX9_readNumber_15 (by decide) q1767 rfl ?_
    refine m_istore (ls1 := [(4, .int (F1 4)), (3, .int rx_1), (0, .ref o), (1, .int x1), (2, .int x2)]) dX9_readNumber_18 (by decide) rfl ?_
    refine m_iconst (v := 0) dX9_readNumber_20 (by decide) ?_
    refine m_istore (ls1 := [(5, .int 0), (4, .int (F1 4)), (3, .int rx_1), (0, .ref o), (1, .int x1), (2, .int x2)]) dX9_readNumber_21 (by decide) rfl ?_
    refine m_iload_n dX9_readNumber_23 rfl 2 rfl ?_
    refine m_callP (N := mX9_isDigit) (st := []) (As := [.int rx_1]) dX9_readNumber_24 wsX9_isDigit (lw_S q2036 q2037 q116 q2038) mokX9_isDigit rfl (by decide) (by decide) (Nat.zero_le _) h (fun _ hq => ?_)
    obtain ⟨rx_2, rfl, h⟩ := hq
    refine AtM.stk (st' := [.int rx_2]) rfl ?_
    refine m_if_ne (tgt := 41) dX9_readNumber_27 (by decide) (fun c => ?_) (fun c => ?_)
    · replace h := h.1 c
      exact AtM.sub (ls := [(5, .int 0), (4, .int (F1 4)), (3, .int rx_1), (0, .ref o), (1, .int x1), (2, .int x2)]) [3, 4, 5, 1, 0] rfl h
    · replace h := h.2 c
      refine m_aload_n dX9_readNumber_30 rfl 3 rfl ?_
      refine m_iconst (v := 1) dX9_readNumber_31 (by decide) ?_
      refine m_aload_n dX9_readNumber_32 rfl 3 rfl ?_
      refine m_get (v := .int (F1 4)) 4 dX9_readNumber_33 (by decide) q1767 rfl ?_
      refine m_callV (N := mX9_wrong) (st := []) (As := [.int 1, .int (F1 4)]) dX9_readNumber_36 wsX9_wrong (lw_V q2020 q2022 qs46 q116 q2023) rfl mokX9_wrong rfl (by decide) (by decide) (Nat.zero_le _) h (fun _ F1_3 L1_4 I1_5 J1_6 hq => ?_)
      obtain ⟨rfl, h⟩ := hq
      refine AtM.stk (st' := []) rfl ?_
      refine m_iconst (v := 0) dX9_readNumber_39 (by decide) ?_
      exact m_iret rfl dX9_readNumber_40 h
  · replace h := h.2 c
    refine m_iconst (v := 0) dX9_readNumber_7 (by decide) ?_
    exact m_iret rfl dX9_readNumber_8 h
set_option maxHeartbeats 4000000 in
theorem bX9_readNumber_41 {G : GC} {ad : Nat → Nat} {o : Nat} {σ0 : PS} {Q : MPost} {x1 : Int32} {x2 : Int32} {x4 : Int32} {x5 : Int32} {F : Nat → Int32} {L : Nat → Int64} {I : Nat → Nat → Int32} {J : Nat → Nat → Int64} (h : (((F 3) ≤ (F 4)) → AtM G mX9_readNumber 4 ad o σ0 Q 114 [(0, .ref o), (1, .int x1), (2, .int x2), (4, .int x4), (5, .int x5)] [] F L I J) ∧ ((¬ (F 3) ≤ (F 4)) → vp_in (F 4) 600 ∧ (CallP G mX9_isDigit 3 [.int (I 9 (F 4).toNatClampNeg)] (pI (fun rx => ((rx = 0) → AtM G mX9_readNumber 4 ad o σ0 Q 114 [(0, .ref o), (1, .int x1), (2, .int x2), (4, .int x4), (5, .int x5)] [] F L I J) ∧ ((¬ rx = 0) → ((x5 ≤ 9999) → vp_in (F 4) 600 ∧ (∀ w : Int32, w = ((10 * x5) + (I 9 (F 4).toNatClampNeg)) → ∀ v5 : Int32, v5 = (w - 48) → (∀ F1 : Nat → Int32, F1 = fU F 4 (((F 4) + 1)) → AtM G mX9_readNumber 4 ad o σ0 Q 41 [(0, .ref o), (1, .int x1), (2, .int x2), (4, .int x4), (5, .int v5)] [] F1 L I J))) ∧ ((¬ x5 ≤ 9999) → (∀ F1 : Nat → Int32, F1 = fU F 4 (((F 4) + 1)) → AtM G mX9_readNumber 4 ad o σ0 Q 41 [(0, .ref o), (1, .int x1), (2, .int x2), (4, .int x4), (5, .int 10000)] [] F1 L I J)))))))) : AtM G mX9_readNumber 4 ad o σ0 Q 41 [(0, .ref o), (1, .int x1), (2, .int x2), (4, .int x4), (5, .int x5)] [] F L I J := by
  refine m_aload_n dX9_readNumber_41 rfl 0 rfl ?_
  refine m_get (v := .int (F 4)) 4 dX9_readNumber_42 (by decide) q1767 rfl ?_
  refine m_aload_n dX9_readNumber_45 rfl 0 rfl ?_
  refine m_get (v := .int (F 3)) 3 dX9_readNumber_46 (by decide) q1766 rfl ?_
  refine m_icmp_ge (tgt := 114) dX9_readNumber_49 (by decide) (fun c => ?_) (fun c => ?_)
  · replace h := h.1 c
    exact AtM.sub (ls := [(0, .ref o), (1, .int x1), (2, .int x2), (4, .int x4), (5, .int x5)]) [0, 1, 2, 3, 4] rfl h
  · replace h := h.2 c
    refine m_aload_n dX9_readNumber_52 rfl 0 rfl ?_
    refine m_get (v := .ref (ad 9)) 9 dX9_readNumber_53 (by decide) q1772 rfl ?_
    refine m_aload_n dX9_readNumber_56 rfl 0 rfl ?_
    refine m_get (v := .int (F 4)) 4 dX9_readNumber_57 (by decide) q1767 rfl ?_
    obtain ⟨h1, h⟩ := h
    refine m_iald 9 dX9_readNumber_60 (by decide) rfl h1 ?_
    refine m_callP (N := mX9_isDigit) (st := []) (As := [.int (I 9 (F 4).toNatClampNeg)]) dX9_readNumber_61 wsX9_isDigit (lw_S q2036 q2037 q116 q2038) mokX9_isDigit rfl (by decide) (by decide) (Nat.zero_le _) h (fun _ hq => ?_)
    obtain ⟨rx, rfl, h⟩ := hq
    refine AtM.stk (st' := [.int rx]) rfl ?_
    refine m_if_eq (tgt := 114) dX9_readNumber_64 (by decide) (fun c => ?_) (fun c => ?_)
    · replace h := h.1 c
      exact AtM.sub (ls := [(0, .ref o), (1, .int x1), (2, .int x2), (4, .int x4), (5, .int x5)]) [0, 1, 2, 3, 4] rfl h
    · replace h := h.2 c
      refine m_iload dX9_readNumber_67 4 rfl ?_
      refine m_sipush (v := 9999) dX9_readNumber_69 (by decide) ?_
      refine m_icmp_le (tgt := 81) dX9_readNumber_72 (by decide) (fun c => ?_) (fun c => ?_)
      · replace h := h.1 c
        refine m_bipush (v := 10) dX9_readNumber_81 (by decide) ?_
        refine m_iload dX9_readNumber_83 4 rfl ?_
        refine m_imul dX9_readNumber_85 ?_
        refine m_aload_n dX9_readNumber_86 rfl 0 rfl ?_
        refine m_get (v := .ref (ad 9)) 9 dX9_readNumber_87 (by decide) q1772 rfl ?_
        refine m_aload_n dX9_readNumber_90 rfl 0 rfl ?_
        refine m_get (v := .int (F 4)) 4 dX9_readNumber_91 (by decide) q1767 rfl ?_
        obtain ⟨h1, h⟩ := h
        refine m_iald 9 dX9_readNumber_94 (by decide) rfl h1 ?_
        refine m_iadd dX9_readNumber_95 ?_
        refine m_topi (fun w ew => ?_)
        replace h := h w ew
        refine m_bipush (v := 48) dX9_readNumber_96 (by decide) ?_
        refine m_isub dX9_readNumber_98 ?_
        refine m_topi (fun v5 ev5 => ?_)
        replace h := h v5 ev5
        refine m_istore (ls1 := [(5, .int v5), (0, .ref o), (1, .int x1), (2, .int x2), (4, .int x4)]) dX9_readNumber_99 (by decide) rfl ?_
        refine m_aload_n dX9_readNumber_101 rfl 1 rfl ?_
        refine m_dup dX9_readNumber_102 rfl ?_
        refine m_get (v := .int (F 4)) 4 dX9_readNumber_103 (by decide) q1767 rfl ?_
        refine m_iconst (v := 1) dX9_readNumber_106 (by decide) ?_
        refine m_iadd dX9_readNumber_107 ?_
        refine m_putI 4 dX9_readNumber_108 (by decide) q1767 rfl rfl rfl rfl ?_
        refine m_topF (fun F1 eF1 => ?_)
        replace h := h F1 eF1
        refine m_goto (tgt := 41) dX9_readNumber_111 (by decide) ?_
        exact AtM.sub (ls := [(5, .int v5), (0, .ref o), (1, .int x1), (2, .int x2), (4, .int x4)]) [1, 2, 3, 4, 0] rfl h
      · replace h := h.2 c
        refine m_sipush (v := 10000) dX9_readNumber_75 (by decide) ?_
        refine m_goto (tgt := 99) dX9_readNumber_78 (by decide) ?_
        refine m_istore (ls1 := [(5, .int 10000), (0, .ref o), (1, .int x1), (2, .int x2), (4, .int x4)]) dX9_readNumber_99 (by decide) rfl ?_
        refine m_aload_n dX9_readNumber_101 rfl 1 rfl ?_
        refine m_dup dX9_readNumber_102 rfl ?_
        refine m_get (v := .int (F 4)) 4 dX9_readNumber_103 (by decide) q1767 rfl ?_
        refine m_iconst (v := 1) dX9_readNumber_106 (by decide) ?_
        refine m_iadd dX9_readNumber_107 ?_
        refine m_putI 4 dX9_readNumber_108 (by decide) q1767 rfl rfl rfl rfl ?_
        refine m_topF (fun F1 eF1 => ?_)
        replace h := h F1 eF1
        refine m_goto (tgt := 41) dX9_readNumber_111 (by decide) ?_
        exact AtM.sub (ls := [(5, .int 10000), (0, .ref o), (1, .int x1), (2, .int x2), (4, .int x4)]) [1, 2, 3, 4, 0] rfl h
set_option maxHeartbeats 4000000 in
theorem bX9_readNumber_114 {G : GC} {ad : Nat → Nat} {o : Nat} {σ0 : PS} {Q : MPost} {x1 : Int32} {x2 : Int32} {x4 : Int32} {x5 : Int32} {F : Nat → Int32} {L : Nat → Int64} {I : Nat → Nat → Int32} {J : Nat → Nat → Int64} (h : ((x5 < x1) → CallM G mX9_wrong 3 ad o [.ref o, .int 2, .int x4] F L I J (mqV (fun F1 L1 I1 J1 => Q (some (.int 0)) F1 L1 I1 J1))) ∧ ((¬ x5 < x1) → ((x5 ≤ x2) → Q (some (.int x5)) F L I J) ∧ ((¬ x5 ≤ x2) → CallM G mX9_wrong 3 ad o [.ref o, .int 2, .int x4] F L I J (mqV (fun F1 L1 I1 J1 => Q (some (.int 0)) F1 L1 I1 J1))))) : AtM G mX9_readNumber 4 ad o σ0 Q 114 [(0, .ref o), (1, .int x1), (2, .int x2), (4, .int x4), (5, .int x5)] [] F L I J := by
  refine m_iload dX9_readNumber_114 4 rfl ?_
  refine m_iload_n dX9_readNumber_116 rfl 1 rfl ?_
  refine m_icmp_lt (tgt := 126) dX9_readNumber_117 (by decide) (fun c => ?_) (fun c => ?_)
  · replace h := h.1 c
    refine m_aload_n dX9_readNumber_126 rfl 0 rfl ?_
    refine m_iconst (v := 2) dX9_readNumber_127 (by decide) ?_
    refine m_iload dX9_readNumber_128 3 rfl ?_
    refine m_callV (N := mX9_wrong) (st := []) (As := [.int 2, .int x4]) dX9_readNumber_130 wsX9_wrong (lw_V q2020 q2022 qs46 q116 q2023) rfl mokX9_wrong rfl (by decide) (by decide) (Nat.zero_le _) h (fun _ F1 L1 I1 J1 hq => ?_)
    obtain ⟨rfl, h⟩ := hq
    refine AtM.stk (st' := []) rfl ?_
    refine m_iconst (v := 0) dX9_readNumber_133 (by decide) ?_
    exact m_iret rfl dX9_readNumber_134 h
  · replace h := h.2 c
    refine m_iload dX9_readNumber_120 4 rfl ?_
    refine m_iload_n dX9_readNumber_122 rfl 2 rfl ?_
    refine m_icmp_le (tgt := 135) dX9_readNumber_123 (by decide) (fun c => ?_) (fun c => ?_)
    · replace h := h.1 c
      refine m_iload dX9_readNumber_135 4 rfl ?_
      exact m_iret rfl dX9_readNumber_137 h
    · replace h := h.2 c
      refine m_aload_n dX9_readNumber_126 rfl 0 rfl ?_
      refine m_iconst (v := 2) dX9_readNumber_127 (by decide) ?_
      refine m_iload dX9_readNumber_128 3 rfl ?_
      refine m_callV (N := mX9_wrong) (st := []) (As := [.int 2, .int x4]) dX9_readNumber_130 wsX9_wrong (lw_V q2020 q2022 qs46 q116 q2023) rfl mokX9_wrong rfl (by decide) (by decide) (Nat.zero_le _) h (fun _ F1 L1 I1 J1 hq => ?_)
      obtain ⟨rfl, h⟩ := hq
      refine AtM.stk (st' := []) rfl ?_
      refine m_iconst (v := 0) dX9_readNumber_133 (by decide) ?_
      exact m_iret rfl dX9_readNumber_134 h
theorem eX9_readNumber {G : GC} {ad : Nat → Nat} {o : Nat} {Q : MPost} {p1 : Int32} {p2 : Int32} {F : Nat → Int32} {L : Nat → Int64} {I : Nat → Nat → Int32} {J : Nat → Nat → Int64} (h : ∀ σ0, AtM G mX9_readNumber 4 ad o σ0 Q 0 [(0, .ref o), (1, .int p1), (2, .int p2)] [] F L I J) : CallM G mX9_readNumber 4 ad o [.ref o, .int p1, .int p2] F L I J Q :=
  CallM.of (by decide +kernel) wsX9_readNumber rfl (Nat.le_of_ble_eq_true rfl) (fun σ0 => AtM.sub (ls := [(0, .ref o), (1, .int p1), (2, .int p2)]) [0, 1, 2] rfl (h σ0))
set_option maxHeartbeats 4000000 in
theorem bX9_isDigit_0 {G : GC} {Q : Option Value → PS → Prop} {X : String → Nat → PS → Prop} {b : Nat} {x0 : Int32} {σ : PS} (h : ((x0 < 48) → Q (some (.int 0)) (σ)) ∧ ((¬ x0 < 48) → ((57 < x0) → Q (some (.int 0)) (σ)) ∧ ((¬ 57 < x0) → Q (some (.int 1)) (σ)))) : At G mX9_isDigit 3 Q X b 0 [(0, .int x0)] [] (σ) := by
  refine g_iload_n dX9_isDigit_0 rfl 0 rfl ?_
  refine g_bipush (v := 48) dX9_isDigit_1 (by decide) ?_
  refine g_icmp_lt (tgt := 16) dX9_isDigit_3 (by decide) (fun c => ?_) (fun c => ?_)
  · replace h := h.1 c
    refine g_iconst (v := 0) dX9_isDigit_16 (by decide) ?_
    exact g_zret rfl rfl dX9_isDigit_17 h
  · replace h := h.2 c
    refine g_iload_n dX9_isDigit_6 rfl 0 rfl ?_
    refine g_bipush (v := 57) dX9_isDigit_7 (by decide) ?_
    refine g_icmp_gt (tgt := 16) dX9_isDigit_9 (by decide) (fun c => ?_) (fun c => ?_)
    · replace h := h.1 c
      refine g_iconst (v := 0) dX9_isDigit_16 (by decide) ?_
      exact g_zret rfl rfl dX9_isDigit_17 h
    · replace h := h.2 c
      refine g_iconst (v := 1) dX9_isDigit_12 (by decide) ?_
      refine g_goto (tgt := 17) dX9_isDigit_13 (by decide) ?_
      exact g_zret rfl rfl dX9_isDigit_17 h
theorem eX9_isDigit {G : GC} {Q : Option Value → PS → Prop} {X : String → Nat → PS → Prop} {b : Nat} {p0 : Int32} {σ : PS} (h : At G mX9_isDigit 3 Q X b 0 [(0, .int p0)] [] σ) : Call G mX9_isDigit 3 b [.int p0] σ Q X :=
  Call.of (by decide +kernel) wsX9_isDigit rfl (Nat.le_of_ble_eq_true rfl) (At.sub (ls := [(0, .int p0)]) [0] rfl h)
set_option maxHeartbeats 4000000 in
theorem bX9_puts_0 {G : GC} {ad : Nat → Nat} {o : Nat} {σ0 : PS} {Q : MPost} {k1 : Nat} {k2 : Nat} {x3 : Int32} {x4 : Int32} {x5 : Int32} {F : Nat → Int32} {L : Nat → Int64} {I : Nat → Nat → Int32} {J : Nat → Nat → Int64} (hk1 : k1 < 65 ∧ mKind k1 = 2) (hk2 : k2 < 65 ∧ mKind k2 = 2) (h : AtM G mX9_puts 3 ad o σ0 Q 3 [(1, .ref (ad k1)), (2, .ref (ad k2)), (4, .int x4), (5, .int x5), (6, .int x3)] [] F L I J) : AtM G mX9_puts 3 ad o σ0 Q 0 [(1, .ref (ad k1)), (2, .ref (ad k2)), (3, .int x3), (4, .int x4), (5, .int x5)] [] F L I J := by
  refine m_iload_n dX9_puts_0 rfl 2 rfl ?_
  refine m_istore (ls1 := [(6, .int x3), (1, .ref (ad k1)), (2, .ref (ad k2)), (3, .int x3), (4, .int x4), (5, .int x5)]) dX9_puts_1 (by decide) rfl ?_
  exact AtM.sub (ls := [(6, .int x3), (1, .ref (ad k1)), (2, .ref (ad k2)), (3, .int x3), (4, .int x4), (5, .int x5)]) [1, 2, 4, 5, 0] rfl h
set_option maxHeartbeats 4000000 in
theorem bX9_puts_3 {G : GC} {ad : Nat → Nat} {o : Nat} {σ0 : PS} {Q : MPost} {k1 : Nat} {k2 : Nat} {x4 : Int32} {x5 : Int32} {x6 : Int32} {F : Nat → Int32} {L : Nat → Int64} {I : Nat → Nat → Int32} {J : Nat → Nat → Int64} (hk1 : k1 < 65 ∧ mKind k1 = 2) (hk2 : k2 < 65 ∧ mKind k2 = 2) (h : ((x6 ≤ 0) → vp_in x6 (mLen k1) ∧ (∀ I1 : Nat → Nat → Int32, I1 = aU I k1 x6.toNatClampNeg x4 → vp_in x6 (mLen k2) ∧ (∀ I1_1 : Nat → Nat → Int32, I1_1 = aU I1 k2 x6.toNatClampNeg x5 → Q (some (.int x6)) F L I1_1 J))) ∧ ((¬ x6 ≤ 0) → vp_in ((x6 - 1)) (mLen k2) ∧ ((((I k2 ((x6 - 1)).toNatClampNeg) ≤ x5) → vp_in x6 (mLen k1) ∧ (∀ I1 : Nat → Nat → Int32, I1 = aU I k1 x6.toNatClampNeg x4 → vp_in x6 (mLen k2) ∧ (∀ I1_2 : Nat → Nat → Int32, I1_2 = aU I1 k2 x6.toNatClampNeg x5 → Q (some (.int x6)) F L I1_2 J))) ∧ ((¬ (I k2 ((x6 - 1)).toNatClampNeg) ≤ x5) → vp_in ((x6 - 1)) (mLen k1) ∧ (vp_in x6 (mLen k1) ∧ (∀ I1 : Nat → Nat → Int32, I1 = aU I k1 x6.toNatClampNeg ((I k1 ((x6 - 1)).toNatClampNeg)) → vp_in ((x6 - 1)) (mLen k2) ∧ (vp_in x6 (mLen k2) ∧ (∀ I1_3 : Nat → Nat → Int32, I1_3 = aU I1 k2 x6.toNatClampNeg ((I1 k2 ((x6 - 1)).toNatClampNeg)) → ∀ v6 : Int32, v6 = x6 + (-1) → AtM G mX9_puts 3 ad o σ0 Q 3 [(1, .ref (ad k1)), (2, .ref (ad k2)), (4, .int x4), (5, .int x5), (6, .int v6)] [] F L I1_3 J)))))))) : AtM G mX9_puts 3 ad o σ0 Q 3 [(1, .ref (ad k1)), (2, .ref (ad k2)), (4, .int x4), (5, .int x5), (6, .int x6)] [] F L I J := by
  refine m_iload dX9_puts_3 4 rfl ?_
  refine m_if_le (tgt := 45) dX9_puts_5 (by decide) (fun c => ?_) (fun c => ?_)
  · replace h := h.1 c
    refine m_aload_n dX9_puts_45 rfl 0 rfl ?_
    refine m_iload dX9_puts_46 4 rfl ?_
    refine m_iload dX9_puts_48 2 rfl ?_
    obtain ⟨h1, h⟩ := h
    refine m_iast k1 dX9_puts_50 hk1.1 hk1.2 h1 ?_
    refine m_topI (fun I1 eI1 => ?_)
    replace h := h I1 eI1
    refine m_aload_n dX9_puts_51 rfl 1 rfl ?_
    refine m_iload dX9_puts_52 4 rfl ?_
    refine m_iload dX9_puts_54 3 rfl ?_
    obtain ⟨h1, h⟩ := h
    refine m_iast k2 dX9_puts_56 hk2.1 hk2.2 h1 ?_
    refine m_topI (fun I1_1 eI1_1 => ?_)
    replace h := h I1_1 eI1_1
    refine m_iload dX9_puts_57 4 rfl ?_
    exact m_iret rfl dX9_puts_59 h
  · replace h := h.2 c
    refine m_aload_n dX9_puts_8 rfl 1 rfl ?_
    refine m_iload dX9_puts_9 4 rfl ?_
    refine m_iconst (v := 1) dX9_puts_11 (by decide) ?_
    refine m_isub dX9_puts_12 ?_
    obtain ⟨h1, h⟩ := h
    refine m_iald k2 dX9_puts_13 hk2.1 hk2.2 h1 ?_
    refine m_iload dX9_puts_14 3 rfl ?_
    refine m_icmp_le (tgt := 45) dX9_puts_16 (by decide) (fun c => ?_) (fun c => ?_)
    · replace h := h.1 c
      refine m_aload_n dX9_puts_45 rfl 0 rfl ?_
      refine m_iload dX9_puts_46 4 rfl ?_
      refine m_iload dX9_puts_48 2 rfl ?_
      obtain ⟨h1, h⟩ := h
      refine m_iast k1 dX9_puts_50 hk1.1 hk1.2 h1 ?_
      refine m_topI (fun I1 eI1 => ?_)
      replace h := h I1 eI1
      refine m_aload_n dX9_puts_51 rfl 1 rfl ?_
      refine m_iload dX9_puts_52 4 rfl ?_
      refine m_iload dX9_puts_54 3 rfl ?_
      obtain ⟨h1, h⟩ := h
      refine m_iast k2 dX9_puts_56 hk2.1 hk2.2 h1 ?_
      refine m_topI (fun I1_2 eI1_2 => ?_)
      replace h := h I1_2 eI1_2
      refine m_iload dX9_puts_57 4 rfl ?_
      exact m_iret rfl dX9_puts_59 h
    · replace h := h.2 c
      refine m_aload_n dX9_puts_19 rfl 0 rfl ?_
      refine m_iload dX9_puts_20 4 rfl ?_
      refine m_aload_n dX9_puts_22 rfl 0 rfl ?_
      refine m_iload dX9_puts_23 4 rfl ?_
      refine m_iconst (v := 1) dX9_puts_25 (by decide) ?_
      refine m_isub dX9_puts_26 ?_
      obtain ⟨h1, h⟩ := h
      refine m_iald k1 dX9_puts_27 hk1.1 hk1.2 h1 ?_
      obtain ⟨h1, h⟩ := h
      refine m_iast k1 dX9_puts_28 hk1.1 hk1.2 h1 ?_
      refine m_topI (fun I1 eI1 => ?_)
      replace h := h I1 eI1
      refine m_aload_n dX9_puts_29 rfl 1 rfl ?_
      refine m_iload dX9_puts_30 4 rfl ?_
      refine m_aload_n dX9_puts_32 rfl 1 rfl ?_
      refine m_iload dX9_puts_33 4 rfl ?_
      refine m_iconst (v := 1) dX9_puts_35 (by decide) ?_
      refine m_isub dX9_puts_36 ?_
      obtain ⟨h1, h⟩ := h
      refine m_iald k2 dX9_puts_37 hk2.1 hk2.2 h1 ?_
      obtain ⟨h1, h⟩ := h
      refine m_iast k2 dX9_puts_38 hk2.1 hk2.2 h1 ?_
      refine m_topI (fun I1_3 eI1_3 => ?_)
      replace h := h I1_3 eI1_3
      obtain ⟨v6, ev6⟩ : ∃ z : Int32, z = x6 + (-1) := ⟨_, rfl⟩
      refine m_iinc (v := v6) (ls1 := [(6, .int v6), (1, .ref (ad k1)), (2, .ref (ad k2)), (4, .int x4), (5, .int x5)]) dX9_puts_39 4 rfl (by rw [ev6]; rfl) (by decide) rfl ?_
      replace h := h v6 ev6
      refine m_goto (tgt := 3) dX9_puts_42 (by decide) ?_
      exact AtM.sub (ls := [(6, .int v6), (1, .ref (ad k1)), (2, .ref (ad k2)), (4, .int x4), (5, .int x5)]) [1, 2, 3, 4, 0] rfl h
theorem eX9_puts {G : GC} {ad : Nat → Nat} {o : Nat} {Q : MPost} {k1 : Nat} {k2 : Nat} {p3 : Int32} {p4 : Int32} {p5 : Int32} {F : Nat → Int32} {L : Nat → Int64} {I : Nat → Nat → Int32} {J : Nat → Nat → Int64} (h : ∀ σ0, AtM G mX9_puts 3 ad o σ0 Q 0 [(1, .ref (ad k1)), (2, .ref (ad k2)), (3, .int p3), (4, .int p4), (5, .int p5)] [] F L I J) : CallM G mX9_puts 3 ad o [.ref o, .ref (ad k1), .ref (ad k2), .int p3, .int p4, .int p5] F L I J Q :=
  CallM.of (by decide +kernel) wsX9_puts rfl (Nat.le_of_ble_eq_true rfl) (fun σ0 => AtM.sub (ls := [(0, .ref o), (1, .ref (ad k1)), (2, .ref (ad k2)), (3, .int p3), (4, .int p4), (5, .int p5)]) [1, 2, 3, 4, 5] rfl (h σ0))
set_option maxHeartbeats 4000000 in
theorem bX9_sign_0 {G : GC} {ad : Nat → Nat} {o : Nat} {σ0 : PS} {Q : MPost} {x1 : Int32} {F : Nat → Int32} {L : Nat → Int64} {I : Nat → Nat → Int32} {J : Nat → Nat → Int64} (h : CallMO G mX9_fine 3 ad o [.ref o] F L I J (pI (fun rx => ((rx = 0) → AtM G mX9_sign 4 ad o σ0 Q 24 [(0, .ref o)] [] F L I J) ∧ ((¬ rx = 0) → CallM G mX9_here 3 ad o [.ref o] F L I J (mqI (fun rx_1 F1 L1 I1 J1 => ((rx_1 = x1) → AtM G mX9_sign 4 ad o σ0 Q 24 [(0, .ref o)] [] F1 L1 I1 J1) ∧ ((¬ rx_1 = x1) → CallM G mX9_wrong 3 ad o [.ref o, .int 1, .int (F1 4)] F1 L1 I1 J1 (mqV (fun F1_2 L1_3 I1_4 J1_5 => AtM G mX9_sign 4 ad o σ0 Q 24 [(0, .ref o)] [] F1_2 L1_3 I1_4 J1_5))))))))) : AtM G mX9_sign 4 ad o σ0 Q 0 [(0, .ref o), (1, .int x1)] [] F L I J := by
  refine m_aload_n dX9_sign_0 rfl 0 rfl ?_
  refine m_callV (N := mX9_fine) (st := []) (As := []) dX9_sign_1 wsX9_fine (lw_V q1979 q1981 qs40 q116 q1982) rfl mokX9_fine rfl (by decide) (by decide) (Nat.zero_le _) h (fun _ F9 L9 I9 J9 hq => ?_)
  obtain ⟨e1, e2, e3, e4, hq⟩ := hq
  refine AtM.re e1 e2 e3 e4 ?_
  obtain ⟨rx, rfl, h⟩ := hq
  refine AtM.stk (st' := [.int rx]) rfl ?_
  refine m_if_eq (tgt := 24) dX9_sign_4 (by decide) (fun c => ?_) (fun c => ?_)
  · replace h := h.1 c
    exact AtM.sub (ls := [(0, .ref o), (1, .int x1)]) [0] rfl h
  · replace h := h.2 c
    refine m_aload_n dX9_sign_7 rfl 0 rfl ?_
    refine m_callV (N := mX9_here) (st := []) (As := []) dX9_sign_8 wsX9_here (lw_V q1987 q1989 qs42 q116 q1990) rfl mokX9_here rfl (by decide) (by decide) (Nat.zero_le _) h (fun _ F1 L1 I1 J1 hq => ?_)
    obtain ⟨rx_1, rfl, h⟩ := hq
    refine AtM.stk (st' := [.int rx_1]) rfl ?_
    refine m_iload_n dX9_sign_11 rfl 1 rfl ?_
    refine m_icmp_eq (tgt := 24) dX9_sign_12 (by decide) (fun c => ?_) (fun c => ?_)
    · replace h := h.1 c
      exact AtM.sub (ls := [(0, .ref o), (1, .int x1)]) [0] rfl h
    · replace h := h.2 c
      refine m_aload_n dX9_sign_15 rfl 0 rfl ?_
      refine m_iconst (v := 1) dX9_sign_16 (by decide) ?_
      refine m_aload_n dX9_sign_17 rfl 0 rfl ?_
      refine m_get (v := .int (F1 4)) 4 dX9_sign_18 (by decide) q1767 rfl ?_
      refine m_callV (N := mX9_wrong) (st := []) (As := [.int 1, .int (F1 4)]) dX9_sign_21 wsX9_wrong (lw_V q2020 q2022 qs46 q116 q2023) rfl mokX9_wrong rfl (by decide) (by decide) (Nat.zero_le _) h (fun _ F1_2 L1_3 I1_4 J1_5 hq => ?_)
      obtain ⟨rfl, h⟩ := hq
      refine AtM.stk (st' := []) rfl ?_
      exact AtM.sub (ls := [(0, .ref o), (1, .int x1)]) [0] rfl h
set_option maxHeartbeats 4000000 in
theorem bX9_sign_24 {G : GC} {ad : Nat → Nat} {o : Nat} {σ0 : PS} {Q : MPost} {F : Nat → Int32} {L : Nat → Int64} {I : Nat → Nat → Int32} {J : Nat → Nat → Int64} (h : CallMO G mX9_fine 3 ad o [.ref o] F L I J (pI (fun rx => ((rx = 0) → Q none F L I J) ∧ ((¬ rx = 0) → (∀ F1 : Nat → Int32, F1 = fU F 4 (((F 4) + 1)) → Q none F1 L I J))))) : AtM G mX9_sign 4 ad o σ0 Q 24 [(0, .ref o)] [] F L I J := by
  refine m_aload_n dX9_sign_24 rfl 0 rfl ?_
  refine m_callV (N := mX9_fine) (st := []) (As := []) dX9_sign_25 wsX9_fine (lw_V q1979 q1981 qs40 q116 q1982) rfl mokX9_fine rfl (by decide) (by decide) (Nat.zero_le _) h (fun _ F9 L9 I9 J9 hq => ?_)
  obtain ⟨e1, e2, e3, e4, hq⟩ := hq
  refine AtM.re e1 e2 e3 e4 ?_
  obtain ⟨rx, rfl, h⟩ := hq
  refine AtM.stk (st' := [.int rx]) rfl ?_
  refine m_if_eq (tgt := 41) dX9_sign_28 (by decide) (fun c => ?_) (fun c => ?_)
  · replace h := h.1 c
    exact m_vret rfl dX9_sign_41 h
  · replace h := h.2 c
    refine m_aload_n dX9_sign_31 rfl 0 rfl ?_
    refine m_dup dX9_sign_32 rfl ?_
    refine m_get (v := .int (F 4)) 4 dX9_sign_33 (by decide) q1767 rfl ?_
    refine m_iconst (v := 1) dX9_sign_36 (by decide) ?_
    refine m_iadd dX9_sign_37 ?_
    refine m_putI 4 dX9_sign_38 (by decide) q1767 rfl rfl rfl rfl ?_
    refine m_topF (fun F1 eF1 => ?_)
    replace h := h F1 eF1
    exact m_vret rfl dX9_sign_41 h
theorem eX9_sign {G : GC} {ad : Nat → Nat} {o : Nat} {Q : MPost} {p1 : Int32} {F : Nat → Int32} {L : Nat → Int64} {I : Nat → Nat → Int32} {J : Nat → Nat → Int64} (h : ∀ σ0, AtM G mX9_sign 4 ad o σ0 Q 0 [(0, .ref o), (1, .int p1)] [] F L I J) : CallM G mX9_sign 4 ad o [.ref o, .int p1] F L I J Q :=
  CallM.of (by decide +kernel) wsX9_sign rfl (Nat.le_of_ble_eq_true rfl) (fun σ0 => AtM.sub (ls := [(0, .ref o), (1, .int p1)]) [0, 1] rfl (h σ0))
set_option maxHeartbeats 4000000 in
theorem bX9_result_0 {G : GC} {ad : Nat → Nat} {o : Nat} {σ0 : PS} {Q : MPost} {x1 : Int32} {F : Nat → Int32} {L : Nat → Int64} {I : Nat → Nat → Int32} {J : Nat → Nat → Int64} (h : (∀ F1 : Nat → Int32, F1 = fU F 8 (F 5) → CallMO G mX9_fine 3 ad o [.ref o] F1 L I J (pI (fun rx => ((rx = 0) → Q (some (.int ((F1 6) - 10))) F1 L I J) ∧ ((¬ rx = 0) → Q (some (.int x1)) F1 L I J))))) : AtM G mX9_result 4 ad o σ0 Q 0 [(0, .ref o), (1, .int x1)] [] F L I J := by
  refine m_aload_n dX9_result_0 rfl 0 rfl ?_
  refine m_aload_n dX9_result_1 rfl 0 rfl ?_
  refine m_get (v := .int (F 5)) 5 dX9_result_2 (by decide) q1768 rfl ?_
  refine m_putI 8 dX9_result_5 (by decide) q1771 rfl rfl rfl rfl ?_
  refine m_topF (fun F1 eF1 => ?_)
  replace h := h F1 eF1
  refine m_aload_n dX9_result_8 rfl 0 rfl ?_
  refine m_callV (N := mX9_fine) (st := []) (As := []) dX9_result_9 wsX9_fine (lw_V q1979 q1981 qs40 q116 q1982) rfl mokX9_fine rfl (by decide) (by decide) (Nat.zero_le _) h (fun _ F9 L9 I9 J9 hq => ?_)
  obtain ⟨e1, e2, e3, e4, hq⟩ := hq
  refine AtM.re e1 e2 e3 e4 ?_
  obtain ⟨rx, rfl, h⟩ := hq
  refine AtM.stk (st' := [.int rx]) rfl ?_
  refine m_if_eq (tgt := 19) dX9_result_12 (by decide) (fun c => ?_) (fun c => ?_)
  · replace h := h.1 c
    refine m_aload_n dX9_result_19 rfl 0 rfl ?_
    refine m_get (v := .int (F1 6)) 6 dX9_result_20 (by decide) q1769 rfl ?_
    refine m_bipush (v := 10) dX9_result_23 (by decide) ?_
    refine m_isub dX9_result_25 ?_
    exact m_iret rfl dX9_result_26 h
  · replace h := h.2 c
    refine m_iload_n dX9_result_15 rfl 1 rfl ?_
    refine m_goto (tgt := 26) dX9_result_16 (by decide) ?_
    exact m_iret rfl dX9_result_26 h
theorem eX9_result {G : GC} {ad : Nat → Nat} {o : Nat} {Q : MPost} {p1 : Int32} {F : Nat → Int32} {L : Nat → Int64} {I : Nat → Nat → Int32} {J : Nat → Nat → Int64} (h : ∀ σ0, AtM G mX9_result 4 ad o σ0 Q 0 [(0, .ref o), (1, .int p1)] [] F L I J) : CallM G mX9_result 4 ad o [.ref o, .int p1] F L I J Q :=
  CallM.of (by decide +kernel) wsX9_result rfl (Nat.le_of_ble_eq_true rfl) (fun σ0 => AtM.sub (ls := [(0, .ref o), (1, .int p1)]) [0, 1] rfl (h σ0))
set_option maxHeartbeats 4000000 in
theorem bX9_habit_0 {G : GC} {ad : Nat → Nat} {o : Nat} {σ0 : PS} {Q : MPost} {x1 : Int32} {x2 : Int32} {F : Nat → Int32} {L : Nat → Int64} {I : Nat → Nat → Int32} {J : Nat → Nat → Int64} (h : (∀ F1 : Nat → Int32, F1 = fU F 0 0 → CallM G mX9_isPerson 4 ad o [.ref o, .int x1, .int 1] F1 L I J (mqI (fun rx F1_1 L1 I1 J1 => ((rx = 0) → Q (some (.int 0)) F1_1 L1 I1 J1) ∧ ((¬ rx = 0) → CallMO G mX9_isTold 3 ad o [.ref o, .int x2] F1_1 L1 I1 J1 (pI (fun rx_2 => CallM G mX9_may 3 ad o [.ref o, .int rx_2, .int 2, .int 1] F1_1 L1 I1 J1 (mqI (fun rx_3 F1_4 L1_5 I1_6 J1_7 => ((¬ rx_3 = 0) → CallM G mX9_readHabit 152 ad o [.ref o, .int x2, .int x1] F1_4 L1_5 I1_6 J1_7 (mqI (fun rx_8 F1_9 L1_10 I1_11 J1_12 => Q (some (.int rx_8)) F1_9 L1_10 I1_11 J1_12))) ∧ ((rx_3 = 0) → Q (some (.int 0)) F1_4 L1_5 I1_6 J1_7)))))))))) : AtM G mX9_habit 153 ad o σ0 Q 0 [(0, .ref o), (1, .int x1), (2, .int x2)] [] F L I J := by
  refine m_aload_n dX9_habit_0 rfl 0 rfl ?_
  refine m_iconst (v := 0) dX9_habit_1 (by decide) ?_
  refine m_putI 0 dX9_habit_2 (by decide) q1763 rfl rfl rfl rfl ?_
  refine m_topF (fun F1 eF1 => ?_)
  replace h := h F1 eF1
  refine m_aload_n dX9_habit_5 rfl 0 rfl ?_
  refine m_iload_n dX9_habit_6 rfl 1 rfl ?_
  refine m_iconst (v := 1) dX9_habit_7 (by decide) ?_
  refine m_callV (N := mX9_isPerson) (st := []) (As := [.int x1, .int 1]) dX9_habit_8 wsX9_isPerson (lw_V q2055 q2057 qs53 q116 q2058) rfl mokX9_isPerson rfl (by decide) (by decide) (Nat.zero_le _) h (fun _ F1_1 L1 I1 J1 hq => ?_)
  obtain ⟨rx, rfl, h⟩ := hq
  refine AtM.stk (st' := [.int rx]) rfl ?_
  refine m_if_eq (tgt := 28) dX9_habit_11 (by decide) (fun c => ?_) (fun c => ?_)
  · replace h := h.1 c
    refine m_iconst (v := 0) dX9_habit_28 (by decide) ?_
    exact m_iret rfl dX9_habit_29 h
  · replace h := h.2 c
    refine m_aload_n dX9_habit_14 rfl 0 rfl ?_
    refine m_aload_n dX9_habit_15 rfl 0 rfl ?_
    refine m_iload_n dX9_habit_16 rfl 2 rfl ?_
    refine m_callV (N := mX9_isTold) (st := [.ref o]) (As := [.int x2]) dX9_habit_17 wsX9_isTold (lw_V q2062 q2064 qs54 q116 q2065) rfl mokX9_isTold rfl (by decide) (by decide) (by simp [Value.category]) h (fun _ F9 L9 I9 J9 hq => ?_)
    obtain ⟨e1, e2, e3, e4, hq⟩ := hq
    refine AtM.re e1 e2 e3 e4 ?_
    obtain ⟨rx_2, rfl, h⟩ := hq
    refine AtM.stk (st' := [.int rx_2, .ref o]) rfl ?_
    refine m_iconst (v := 2) dX9_habit_20 (by decide) ?_
    refine m_iconst (v := 1) dX9_habit_21 (by decide) ?_
    refine m_callV (N := mX9_may) (st := []) (As := [.int rx_2, .int 2, .int 1]) dX9_habit_22 wsX9_may (lw_V q1971 q1973 qs38 q116 q1974) rfl mokX9_may rfl (by decide) (by decide) (Nat.zero_le _) h (fun _ F1_4 L1_5 I1_6 J1_7 hq => ?_)
    obtain ⟨rx_3, rfl, h⟩ := hq
    refine AtM.stk (st' := [.int rx_3]) rfl ?_
    refine m_if_ne (tgt := 30) dX9_habit_25 (by decide) (fun c => ?_) (fun c => ?_)
    · replace h := h.1 c
      refine m_aload_n dX9_habit_30 rfl 0 rfl ?_
      refine m_iload_n dX9_habit_31 rfl 2 rfl ?_
      refine m_iload_n dX9_habit_32 rfl 1 rfl ?_
      refine m_callV (N := mX9_readHabit) (st := []) (As := [.int x2, .int x1]) dX9_habit_33 wsX9_readHabit (lw_V q2066 q2068 qs55 q116 q2069) rfl mokX9_readHabit rfl (by decide) (by decide) (Nat.zero_le _) h (fun _ F1_9 L1_10 I1_11 J1_12 hq => ?_)
      obtain ⟨rx_8, rfl, h⟩ := hq
      refine AtM.stk (st' := [.int rx_8]) rfl ?_
      exact m_iret rfl dX9_habit_36 h
    · replace h := h.2 c
      refine m_iconst (v := 0) dX9_habit_28 (by decide) ?_
      exact m_iret rfl dX9_habit_29 h
theorem eX9_habit {G : GC} {ad : Nat → Nat} {o : Nat} {Q : MPost} {p1 : Int32} {p2 : Int32} {F : Nat → Int32} {L : Nat → Int64} {I : Nat → Nat → Int32} {J : Nat → Nat → Int64} (h : ∀ σ0, AtM G mX9_habit 153 ad o σ0 Q 0 [(0, .ref o), (1, .int p1), (2, .int p2)] [] F L I J) : CallM G mX9_habit 153 ad o [.ref o, .int p1, .int p2] F L I J Q :=
  CallM.of (by decide +kernel) wsX9_habit rfl (Nat.le_of_ble_eq_true rfl) (fun σ0 => AtM.sub (ls := [(0, .ref o), (1, .int p1), (2, .int p2)]) [0, 1, 2] rfl (h σ0))
set_option maxHeartbeats 4000000 in
theorem bX9_isPerson_0 {G : GC} {ad : Nat → Nat} {o : Nat} {σ0 : PS} {Q : MPost} {x1 : Int32} {x2 : Int32} {F : Nat → Int32} {L : Nat → Int64} {I : Nat → Nat → Int32} {J : Nat → Nat → Int64} (h : CallP G mX9_within 3 [.int x1, .int 0, .int ((F 18) - 1)] (pI (fun rx => CallM G mX9_may 3 ad o [.ref o, .int rx, .int x2, .int 0] F L I J (mqI (fun rx_1 F1 L1 I1 J1 => (rx_1 = 0 ∨ rx_1 = 1) ∧ Q (some (.int rx_1)) F1 L1 I1 J1))))) : AtM G mX9_isPerson 4 ad o σ0 Q 0 [(0, .ref o), (1, .int x1), (2, .int x2)] [] F L I J := by
  refine m_aload_n dX9_isPerson_0 rfl 0 rfl ?_
  refine m_iload_n dX9_isPerson_1 rfl 1 rfl ?_
  refine m_iconst (v := 0) dX9_isPerson_2 (by decide) ?_
  refine m_aload_n dX9_isPerson_3 rfl 0 rfl ?_
  refine m_get (v := .int (F 18)) 18 dX9_isPerson_4 (by decide) q1781 rfl ?_
  refine m_iconst (v := 1) dX9_isPerson_7 (by decide) ?_
  refine m_isub dX9_isPerson_8 ?_
  refine m_callP (N := mX9_within) (st := [.ref o]) (As := [.int x1, .int 0, .int ((F 18) - 1)]) dX9_isPerson_9 wsX9_within (lw_S q2059 q2060 q116 q2061) mokX9_within rfl (by decide) (by decide) (by simp [Value.category]) h (fun _ hq => ?_)
  obtain ⟨rx, rfl, h⟩ := hq
  refine AtM.stk (st' := [.int rx, .ref o]) rfl ?_
  refine m_iload_n dX9_isPerson_12 rfl 2 rfl ?_
  refine m_iconst (v := 0) dX9_isPerson_13 (by decide) ?_
  refine m_callV (N := mX9_may) (st := []) (As := [.int rx, .int x2, .int 0]) dX9_isPerson_14 wsX9_may (lw_V q1971 q1973 qs38 q116 q1974) rfl mokX9_may rfl (by decide) (by decide) (Nat.zero_le _) h (fun _ F1 L1 I1 J1 hq => ?_)
  obtain ⟨rx_1, rfl, h⟩ := hq
  refine AtM.stk (st' := [.int rx_1]) rfl ?_
  exact m_zret rfl (nar_z h.1) dX9_isPerson_17 h.2
theorem eX9_isPerson {G : GC} {ad : Nat → Nat} {o : Nat} {Q : MPost} {p1 : Int32} {p2 : Int32} {F : Nat → Int32} {L : Nat → Int64} {I : Nat → Nat → Int32} {J : Nat → Nat → Int64} (h : ∀ σ0, AtM G mX9_isPerson 4 ad o σ0 Q 0 [(0, .ref o), (1, .int p1), (2, .int p2)] [] F L I J) : CallM G mX9_isPerson 4 ad o [.ref o, .int p1, .int p2] F L I J Q :=
  CallM.of (by decide +kernel) wsX9_isPerson rfl (Nat.le_of_ble_eq_true rfl) (fun σ0 => AtM.sub (ls := [(0, .ref o), (1, .int p1), (2, .int p2)]) [0, 1, 2] rfl (h σ0))
set_option maxHeartbeats 4000000 in
theorem bX9_within_0 {G : GC} {Q : Option Value → PS → Prop} {X : String → Nat → PS → Prop} {b : Nat} {x0 : Int32} {x1 : Int32} {x2 : Int32} {σ : PS} (h : ((x0 < x1) → Q (some (.int 0)) (σ)) ∧ ((¬ x0 < x1) → ((x2 < x0) → Q (some (.int 0)) (σ)) ∧ ((¬ x2 < x0) → Q (some (.int 1)) (σ)))) : At G mX9_within 3 Q X b 0 [(0, .int x0), (1, .int x1), (2, .int x2)] [] (σ) := by
  refine g_iload_n dX9_within_0 rfl 0 rfl ?_
  refine g_iload_n dX9_within_1 rfl 1 rfl ?_
  refine g_icmp_lt (tgt := 14) dX9_within_2 (by decide) (fun c => ?_) (fun c => ?_)
  · replace h := h.1 c
    refine g_iconst (v := 0) dX9_within_14 (by decide) ?_
    exact g_zret rfl rfl dX9_within_15 h
  · replace h := h.2 c
    refine g_iload_n dX9_within_5 rfl 0 rfl ?_
    refine g_iload_n dX9_within_6 rfl 2 rfl ?_
    refine g_icmp_gt (tgt := 14) dX9_within_7 (by decide) (fun c => ?_) (fun c => ?_)
    · replace h := h.1 c
      refine g_iconst (v := 0) dX9_within_14 (by decide) ?_
      exact g_zret rfl rfl dX9_within_15 h
    · replace h := h.2 c
      refine g_iconst (v := 1) dX9_within_10 (by decide) ?_
      refine g_goto (tgt := 15) dX9_within_11 (by decide) ?_
      exact g_zret rfl rfl dX9_within_15 h
theorem eX9_within {G : GC} {Q : Option Value → PS → Prop} {X : String → Nat → PS → Prop} {b : Nat} {p0 : Int32} {p1 : Int32} {p2 : Int32} {σ : PS} (h : At G mX9_within 3 Q X b 0 [(0, .int p0), (1, .int p1), (2, .int p2)] [] σ) : Call G mX9_within 3 b [.int p0, .int p1, .int p2] σ Q X :=
  Call.of (by decide +kernel) wsX9_within rfl (Nat.le_of_ble_eq_true rfl) (At.sub (ls := [(0, .int p0), (1, .int p1), (2, .int p2)]) [0, 1, 2] rfl h)
set_option maxHeartbeats 4000000 in
theorem bX9_isTold_0 {G : GC} {ad : Nat → Nat} {o : Nat} {σ0 : PS} {Q : MPost} {x1 : Int32} {F : Nat → Int32} {L : Nat → Int64} {I : Nat → Nat → Int32} {J : Nat → Nat → Int64} (h : ((x1 < 0) → Q (some (.int 0)) F L I J) ∧ ((¬ x1 < 0) → (((F 2) < x1) → Q (some (.int 0)) F L I J) ∧ ((¬ (F 2) < x1) → ((150 < x1) → Q (some (.int 0)) F L I J) ∧ ((¬ 150 < x1) → Q (some (.int 1)) F L I J)))) : AtM G mX9_isTold 3 ad o σ0 Q 0 [(0, .ref o), (1, .int x1)] [] F L I J := by
  refine m_iload_n dX9_isTold_0 rfl 1 rfl ?_
  refine m_if_lt (tgt := 23) dX9_isTold_1 (by decide) (fun c => ?_) (fun c => ?_)
  · replace h := h.1 c
    refine m_iconst (v := 0) dX9_isTold_23 (by decide) ?_
    exact m_zret rfl rfl dX9_isTold_24 h
  · replace h := h.2 c
    refine m_iload_n dX9_isTold_4 rfl 1 rfl ?_
    refine m_aload_n dX9_isTold_5 rfl 0 rfl ?_
    refine m_get (v := .int (F 2)) 2 dX9_isTold_6 (by decide) q1765 rfl ?_
    refine m_icmp_gt (tgt := 23) dX9_isTold_9 (by decide) (fun c => ?_) (fun c => ?_)
    · replace h := h.1 c
      refine m_iconst (v := 0) dX9_isTold_23 (by decide) ?_
      exact m_zret rfl rfl dX9_isTold_24 h
    · replace h := h.2 c
      refine m_iload_n dX9_isTold_12 rfl 1 rfl ?_
      refine m_sipush (v := 150) dX9_isTold_13 (by decide) ?_
      refine m_icmp_gt (tgt := 23) dX9_isTold_16 (by decide) (fun c => ?_) (fun c => ?_)
      · replace h := h.1 c
        refine m_iconst (v := 0) dX9_isTold_23 (by decide) ?_
        exact m_zret rfl rfl dX9_isTold_24 h
      · replace h := h.2 c
        refine m_iconst (v := 1) dX9_isTold_19 (by decide) ?_
        refine m_goto (tgt := 24) dX9_isTold_20 (by decide) ?_
        exact m_zret rfl rfl dX9_isTold_24 h
theorem eX9_isTold {G : GC} {ad : Nat → Nat} {o : Nat} {Q : MPost} {p1 : Int32} {F : Nat → Int32} {L : Nat → Int64} {I : Nat → Nat → Int32} {J : Nat → Nat → Int64} (h : ∀ σ0, AtM G mX9_isTold 3 ad o σ0 Q 0 [(0, .ref o), (1, .int p1)] [] F L I J) : CallM G mX9_isTold 3 ad o [.ref o, .int p1] F L I J Q :=
  CallM.of (by decide +kernel) wsX9_isTold rfl (Nat.le_of_ble_eq_true rfl) (fun σ0 => AtM.sub (ls := [(0, .ref o), (1, .int p1)]) [0, 1] rfl (h σ0))
set_option maxHeartbeats 4000000 in
theorem bX9_readHabit_0 {G : GC} {ad : Nat → Nat} {o : Nat} {σ0 : PS} {Q : MPost} {x1 : Int32} {x2 : Int32} {F : Nat → Int32} {L : Nat → Int64} {I : Nat → Nat → Int32} {J : Nat → Nat → Int64} (h : CallM G mX9_begins 3 ad o [.ref o, .int x1] F L I J (mqV (fun F1 L1 I1 J1 => (∀ F1_1 : Nat → Int32, F1_1 = fU F1 28 0 → (∀ F1_2 : Nat → Int32, F1_2 = fU F1_1 29 0 → AtM G mX9_readHabit 152 ad o σ0 Q 15 [(0, .ref o), (2, .int x2)] [] F1_2 L1 I1 J1))))) : AtM G mX9_readHabit 152 ad o σ0 Q 0 [(0, .ref o), (1, .int x1), (2, .int x2)] [] F L I J := by
  refine m_aload_n dX9_readHabit_0 rfl 0 rfl ?_
  refine m_iload_n dX9_readHabit_1 rfl 1 rfl ?_
  refine m_callV (N := mX9_begins) (st := []) (As := [.int x1]) dX9_readHabit_2 wsX9_begins (lw_V q1975 q1977 qs39 q116 q1978) rfl mokX9_begins rfl (by decide) (by decide) (Nat.zero_le _) h (fun _ F1 L1 I1 J1 hq => ?_)
  obtain ⟨rfl, h⟩ := hq
  refine AtM.stk (st' := []) rfl ?_
  refine m_aload_n dX9_readHabit_5 rfl 0 rfl ?_
  refine m_iconst (v := 0) dX9_readHabit_6 (by decide) ?_
  refine m_putI 28 dX9_readHabit_7 (by decide) q1791 rfl rfl rfl rfl ?_
  refine m_topF (fun F1_1 eF1_1 => ?_)
  replace h := h F1_1 eF1_1
  refine m_aload_n dX9_readHabit_10 rfl 0 rfl ?_
  refine m_iconst (v := 0) dX9_readHabit_11 (by decide) ?_
  refine m_putI 29 dX9_readHabit_12 (by decide) q1792 rfl rfl rfl rfl ?_
  refine m_topF (fun F1_2 eF1_2 => ?_)
  replace h := h F1_2 eF1_2
  exact AtM.sub (ls := [(0, .ref o), (1, .int x1), (2, .int x2)]) [0, 2] rfl h
set_option maxHeartbeats 4000000 in
theorem bX9_readHabit_15 {G : GC} {ad : Nat → Nat} {o : Nat} {σ0 : PS} {Q : MPost} {x2 : Int32} {F : Nat → Int32} {L : Nat → Int64} {I : Nat → Nat → Int32} {J : Nat → Nat → Int64} (h : CallMO G mX9_fine 3 ad o [.ref o] F L I J (pI (fun rx => ((rx = 0) → AtM G mX9_readHabit 152 ad o σ0 Q 36 [(0, .ref o), (2, .int x2)] [] F L I J) ∧ ((¬ rx = 0) → CallM G mX9_isMore 4 ad o [.ref o] F L I J (mqI (fun rx_1 F1 L1 I1 J1 => ((rx_1 = 0) → AtM G mX9_readHabit 152 ad o σ0 Q 36 [(0, .ref o), (2, .int x2)] [] F1 L1 I1 J1) ∧ ((¬ rx_1 = 0) → CallM G mX9_readStep 151 ad o [.ref o] F1 L1 I1 J1 (mqV (fun F1_2 L1_3 I1_4 J1_5 => AtM G mX9_readHabit 152 ad o σ0 Q 15 [(0, .ref o), (2, .int x2)] [] F1_2 L1_3 I1_4 J1_5))))))))) : AtM G mX9_readHabit 152 ad o σ0 Q 15 [(0, .ref o), (2, .int x2)] [] F L I J := by
  refine m_aload_n dX9_readHabit_15 rfl 0 rfl ?_
  refine m_callV (N := mX9_fine) (st := []) (As := []) dX9_readHabit_16 wsX9_fine (lw_V q1979 q1981 qs40 q116 q1982) rfl mokX9_fine rfl (by decide) (by decide) (Nat.zero_le _) h (fun _ F9 L9 I9 J9 hq => ?_)
  obtain ⟨e1, e2, e3, e4, hq⟩ := hq
  refine AtM.re e1 e2 e3 e4 ?_
  obtain ⟨rx, rfl, h⟩ := hq
  refine AtM.stk (st' := [.int rx]) rfl ?_
  refine m_if_eq (tgt := 36) dX9_readHabit_19 (by decide) (fun c => ?_) (fun c => ?_)
  · replace h := h.1 c
    exact AtM.sub (ls := [(0, .ref o), (2, .int x2)]) [0, 1] rfl h
  · replace h := h.2 c
    refine m_aload_n dX9_readHabit_22 rfl 0 rfl ?_
    refine m_callV (N := mX9_isMore) (st := []) (As := []) dX9_readHabit_23 wsX9_isMore (lw_V q1983 q1985 qs41 q116 q1986) rfl mokX9_isMore rfl (by decide) (by decide) (Nat.zero_le _) h (fun _ F1 L1 I1 J1 hq => ?_)
    obtain ⟨rx_1, rfl, h⟩ := hq
    refine AtM.stk (st' := [.int rx_1]) rfl ?_
    refine m_if_eq (tgt := 36) dX9_readHabit_26 (by decide) (fun c => ?_) (fun c => ?_)
    · replace h := h.1 c
      exact AtM.sub (ls := [(0, .ref o), (2, .int x2)]) [0, 1] rfl h
    · replace h := h.2 c
      refine m_aload_n dX9_readHabit_29 rfl 0 rfl ?_
      refine m_callV (N := mX9_readStep) (st := []) (As := []) dX9_readHabit_30 wsX9_readStep (lw_V q2070 q2072 qs56 q116 q2073) rfl mokX9_readStep rfl (by decide) (by decide) (Nat.zero_le _) h (fun _ F1_2 L1_3 I1_4 J1_5 hq => ?_)
      obtain ⟨rfl, h⟩ := hq
      refine AtM.stk (st' := []) rfl ?_
      refine m_goto (tgt := 15) dX9_readHabit_33 (by decide) ?_
      exact AtM.sub (ls := [(0, .ref o), (2, .int x2)]) [0, 1] rfl h
set_option maxHeartbeats 4000000 in
theorem bX9_readHabit_36 {G : GC} {ad : Nat → Nat} {o : Nat} {σ0 : PS} {Q : MPost} {x2 : Int32} {F : Nat → Int32} {L : Nat → Int64} {I : Nat → Nat → Int32} {J : Nat → Nat → Int64} (h : CallM G mX9_result 4 ad o [.ref o, .int (F 29)] F L I J (mqI (fun rx F1 L1 I1 J1 => (((F1 5) = (-1)) → vp_in x2 7 ∧ (∀ I1_1 : Nat → Nat → Int32, I1_1 = aU I1 27 x2.toNatClampNeg (F1 29) → AtM G mX9_readHabit 152 ad o σ0 Q 68 [(0, .ref o), (2, .int x2), (3, .int rx), (4, .int 0)] [] F1 L1 I1_1 J1)) ∧ ((¬ (F1 5) = (-1)) → Q (some (.int rx)) F1 L1 I1 J1)))) : AtM G mX9_readHabit 152 ad o σ0 Q 36 [(0, .ref o), (2, .int x2)] [] F L I J := by
  refine m_aload_n dX9_readHabit_36 rfl 0 rfl ?_
  refine m_aload_n dX9_readHabit_37 rfl 0 rfl ?_
  refine m_get (v := .int (F 29)) 29 dX9_readHabit_38 (by decide) q1792 rfl ?_
  refine m_callV (N := mX9_result) (st := []) (As := [.int (F 29)]) dX9_readHabit_41 wsX9_result (lw_V q2047 q2049 qs52 q116 q2050) rfl mokX9_result rfl (by decide) (by decide) (Nat.zero_le _) h (fun _ F1 L1 I1 J1 hq => ?_)
  obtain ⟨rx, rfl, h⟩ := hq
  refine AtM.stk (st' := [.int rx]) rfl ?_
  refine m_istore_n (ls1 := [(3, .int rx), (0, .ref o), (2, .int x2)]) dX9_readHabit_44 rfl (by decide) rfl ?_
  refine m_aload_n dX9_readHabit_45 rfl 1 rfl ?_
  refine m_get (v := .int (F1 5)) 5 dX9_readHabit_46 (by decide) q1768 rfl ?_
  refine m_iconst (v := (-1)) dX9_readHabit_49 (by decide) ?_
  refine m_icmp_eq (tgt := 55) dX9_readHabit_50 (by decide) (fun c => ?_) (fun c => ?_)
  · replace h := h.1 c
    refine m_aload_n dX9_readHabit_55 rfl 1 rfl ?_
    refine m_get (v := .ref (ad 27)) 27 dX9_readHabit_56 (by decide) q1790 rfl ?_
    refine m_iload_n dX9_readHabit_59 rfl 2 rfl ?_
    refine m_aload_n dX9_readHabit_60 rfl 1 rfl ?_
    refine m_get (v := .int (F1 29)) 29 dX9_readHabit_61 (by decide) q1792 rfl ?_
    obtain ⟨h1, h⟩ := h
    refine m_iast 27 dX9_readHabit_64 (by decide) rfl h1 ?_
    refine m_topI (fun I1_1 eI1_1 => ?_)
    replace h := h I1_1 eI1_1
    refine m_iconst (v := 0) dX9_readHabit_65 (by decide) ?_
    refine m_istore (ls1 := [(4, .int 0), (3, .int rx), (0, .ref o), (2, .int x2)]) dX9_readHabit_66 (by decide) rfl ?_
    exact AtM.sub (ls := [(4, .int 0), (3, .int rx), (0, .ref o), (2, .int x2)]) [2, 3, 1, 0] rfl h
  · replace h := h.2 c
    refine m_iload_n dX9_readHabit_53 rfl 0 rfl ?_
    exact m_iret rfl dX9_readHabit_54 h
set_option maxHeartbeats 4000000 in
theorem bX9_readHabit_68 {G : GC} {ad : Nat → Nat} {o : Nat} {σ0 : PS} {Q : MPost} {x2 : Int32} {x3 : Int32} {x4 : Int32} {F : Nat → Int32} {L : Nat → Int64} {I : Nat → Nat → Int32} {J : Nat → Nat → Int64} (h : (((4 * (F 29)) ≤ x4) → AtM G mX9_readHabit 152 ad o σ0 Q 107 [(0, .ref o), (2, .int x2), (3, .int x3), (4, .int 0)] [] F L I J) ∧ ((¬ (4 * (F 29)) ≤ x4) → vp_in x4 32 ∧ (vp_in (((32 * x2) + x4)) 224 ∧ (∀ I1 : Nat → Nat → Int32, I1 = aU I 26 (((32 * x2) + x4)).toNatClampNeg ((I 22 x4.toNatClampNeg)) → ∀ v4 : Int32, v4 = x4 + 1 → AtM G mX9_readHabit 152 ad o σ0 Q 68 [(0, .ref o), (2, .int x2), (3, .int x3), (4, .int v4)] [] F L I1 J)))) : AtM G mX9_readHabit 152 ad o σ0 Q 68 [(0, .ref o), (2, .int x2), (3, .int x3), (4, .int x4)] [] F L I J := by
  refine m_iload dX9_readHabit_68 3 rfl ?_
  refine m_iconst (v := 4) dX9_readHabit_70 (by decide) ?_
  refine m_aload_n dX9_readHabit_71 rfl 0 rfl ?_
  refine m_get (v := .int (F 29)) 29 dX9_readHabit_72 (by decide) q1792 rfl ?_
  refine m_imul dX9_readHabit_75 ?_
  refine m_icmp_ge (tgt := 104) dX9_readHabit_76 (by decide) (fun c => ?_) (fun c => ?_)
  · replace h := h.1 c
    refine m_iconst (v := 0) dX9_readHabit_104 (by decide) ?_
    refine m_istore (ls1 := [(4, .int 0), (0, .ref o), (2, .int x2), (3, .int x3)]) dX9_readHabit_105 (by decide) rfl ?_
    exact AtM.sub (ls := [(4, .int 0), (0, .ref o), (2, .int x2), (3, .int x3)]) [1, 2, 3, 0] rfl h
  · replace h := h.2 c
    refine m_aload_n dX9_readHabit_79 rfl 0 rfl ?_
    refine m_get (v := .ref (ad 26)) 26 dX9_readHabit_80 (by decide) q1789 rfl ?_
    refine m_bipush (v := 32) dX9_readHabit_83 (by decide) ?_
    refine m_iload_n dX9_readHabit_85 rfl 1 rfl ?_
    refine m_imul dX9_readHabit_86 ?_
    refine m_iload dX9_readHabit_87 3 rfl ?_
    refine m_iadd dX9_readHabit_89 ?_
    refine m_aload_n dX9_readHabit_90 rfl 0 rfl ?_
    refine m_get (v := .ref (ad 22)) 22 dX9_readHabit_91 (by decide) q1785 rfl ?_
    refine m_iload dX9_readHabit_94 3 rfl ?_
    obtain ⟨h1, h⟩ := h
    refine m_iald 22 dX9_readHabit_96 (by decide) rfl h1 ?_
    obtain ⟨h1, h⟩ := h
    refine m_iast 26 dX9_readHabit_97 (by decide) rfl h1 ?_
    refine m_topI (fun I1 eI1 => ?_)
    replace h := h I1 eI1
    obtain ⟨v4, ev4⟩ : ∃ z : Int32, z = x4 + 1 := ⟨_, rfl⟩
    refine m_iinc (v := v4) (ls1 := [(4, .int v4), (0, .ref o), (2, .int x2), (3, .int x3)]) dX9_readHabit_98 3 rfl (by rw [ev4]; rfl) (by decide) rfl ?_
    replace h := h v4 ev4
    refine m_goto (tgt := 68) dX9_readHabit_101 (by decide) ?_
    exact AtM.sub (ls := [(4, .int v4), (0, .ref o), (2, .int x2), (3, .int x3)]) [1, 2, 3, 0] rfl h
set_option maxHeartbeats 4000000 in
theorem bX9_readHabit_107 {G : GC} {ad : Nat → Nat} {o : Nat} {σ0 : PS} {Q : MPost} {x2 : Int32} {x3 : Int32} {x4 : Int32} {F : Nat → Int32} {L : Nat → Int64} {I : Nat → Nat → Int32} {J : Nat → Nat → Int64} (h : (((F 28) ≤ x4) → Q (some (.int x3)) F L I J) ∧ ((¬ (F 28) ≤ x4) → vp_in x4 150 ∧ (vp_in (((150 * x2) + x4)) 1050 ∧ (∀ I1 : Nat → Nat → Int32, I1 = aU I 24 (((150 * x2) + x4)).toNatClampNeg ((I 20 x4.toNatClampNeg)) → vp_in x4 150 ∧ (vp_in (((150 * x2) + x4)) 1050 ∧ (∀ I1_1 : Nat → Nat → Int32, I1_1 = aU I1 25 (((150 * x2) + x4)).toNatClampNeg ((I1 21 x4.toNatClampNeg)) → ∀ v4 : Int32, v4 = x4 + 1 → AtM G mX9_readHabit 152 ad o σ0 Q 107 [(0, .ref o), (2, .int x2), (3, .int x3), (4, .int v4)] [] F L I1_1 J)))))) : AtM G mX9_readHabit 152 ad o σ0 Q 107 [(0, .ref o), (2, .int x2), (3, .int x3), (4, .int x4)] [] F L I J := by
  refine m_iload dX9_readHabit_107 3 rfl ?_
  refine m_aload_n dX9_readHabit_109 rfl 0 rfl ?_
  refine m_get (v := .int (F 28)) 28 dX9_readHabit_110 (by decide) q1791 rfl ?_
  refine m_icmp_ge (tgt := 162) dX9_readHabit_113 (by decide) (fun c => ?_) (fun c => ?_)
  · replace h := h.1 c
    refine m_iload_n dX9_readHabit_162 rfl 2 rfl ?_
    exact m_iret rfl dX9_readHabit_163 h
  · replace h := h.2 c
    refine m_aload_n dX9_readHabit_116 rfl 0 rfl ?_
    refine m_get (v := .ref (ad 24)) 24 dX9_readHabit_117 (by decide) q1787 rfl ?_
    refine m_sipush (v := 150) dX9_readHabit_120 (by decide) ?_
    refine m_iload_n dX9_readHabit_123 rfl 1 rfl ?_
    refine m_imul dX9_readHabit_124 ?_
    refine m_iload dX9_readHabit_125 3 rfl ?_
    refine m_iadd dX9_readHabit_127 ?_
    refine m_aload_n dX9_readHabit_128 rfl 0 rfl ?_
    refine m_get (v := .ref (ad 20)) 20 dX9_readHabit_129 (by decide) q1783 rfl ?_
    refine m_iload dX9_readHabit_132 3 rfl ?_
    obtain ⟨h1, h⟩ := h
    refine m_iald 20 dX9_readHabit_134 (by decide) rfl h1 ?_
    obtain ⟨h1, h⟩ := h
    refine m_iast 24 dX9_readHabit_135 (by decide) rfl h1 ?_
    refine m_topI (fun I1 eI1 => ?_)
    replace h := h I1 eI1
    refine m_aload_n dX9_readHabit_136 rfl 0 rfl ?_
    refine m_get (v := .ref (ad 25)) 25 dX9_readHabit_137 (by decide) q1788 rfl ?_
    refine m_sipush (v := 150) dX9_readHabit_140 (by decide) ?_
    refine m_iload_n dX9_readHabit_143 rfl 1 rfl ?_
    refine m_imul dX9_readHabit_144 ?_
    refine m_iload dX9_readHabit_145 3 rfl ?_
    refine m_iadd dX9_readHabit_147 ?_
    refine m_aload_n dX9_readHabit_148 rfl 0 rfl ?_
    refine m_get (v := .ref (ad 21)) 21 dX9_readHabit_149 (by decide) q1784 rfl ?_
    refine m_iload dX9_readHabit_152 3 rfl ?_
    obtain ⟨h1, h⟩ := h
    refine m_iald 21 dX9_readHabit_154 (by decide) rfl h1 ?_
    obtain ⟨h1, h⟩ := h
    refine m_iast 25 dX9_readHabit_155 (by decide) rfl h1 ?_
    refine m_topI (fun I1_1 eI1_1 => ?_)
    replace h := h I1_1 eI1_1
    obtain ⟨v4, ev4⟩ : ∃ z : Int32, z = x4 + 1 := ⟨_, rfl⟩
    refine m_iinc (v := v4) (ls1 := [(4, .int v4), (0, .ref o), (2, .int x2), (3, .int x3)]) dX9_readHabit_156 3 rfl (by rw [ev4]; rfl) (by decide) rfl ?_
    replace h := h v4 ev4
    refine m_goto (tgt := 107) dX9_readHabit_159 (by decide) ?_
    exact AtM.sub (ls := [(4, .int v4), (0, .ref o), (2, .int x2), (3, .int x3)]) [1, 2, 3, 0] rfl h
theorem eX9_readHabit {G : GC} {ad : Nat → Nat} {o : Nat} {Q : MPost} {p1 : Int32} {p2 : Int32} {F : Nat → Int32} {L : Nat → Int64} {I : Nat → Nat → Int32} {J : Nat → Nat → Int64} (h : ∀ σ0, AtM G mX9_readHabit 152 ad o σ0 Q 0 [(0, .ref o), (1, .int p1), (2, .int p2)] [] F L I J) : CallM G mX9_readHabit 152 ad o [.ref o, .int p1, .int p2] F L I J Q :=
  CallM.of (by decide +kernel) wsX9_readHabit rfl (Nat.le_of_ble_eq_true rfl) (fun σ0 => AtM.sub (ls := [(0, .ref o), (1, .int p1), (2, .int p2)]) [0, 1, 2] rfl (h σ0))
set_option maxHeartbeats 4000000 in
theorem bX9_readStep_0 {G : GC} {ad : Nat → Nat} {o : Nat} {σ0 : PS} {Q : MPost} {F : Nat → Int32} {L : Nat → Int64} {I : Nat → Nat → Int32} {J : Nat → Nat → Int64} (h : CallM G mX9_word 4 ad o [.ref o] F L I J (mqI (fun rx F1 L1 I1 J1 => CallP G mX9_actOf 8 [.int rx] (pI (fun rx_1 => ((¬ rx_1 = (-1)) → ((¬ (F1 29) = 8) → AtM G mX9_readStep 151 ad o σ0 Q 43 [(0, .ref o), (1, .int rx_1)] [] F1 L1 I1 J1) ∧ (((F1 29) = 8) → CallM G mX9_wrong 3 ad o [.ref o, .int 3, .int (F1 4)] F1 L1 I1 J1 (mqV (fun F1_2 L1_3 I1_4 J1_5 => AtM G mX9_readStep 151 ad o σ0 Q 43 [(0, .ref o), (1, .int rx_1)] [] F1_2 L1_3 I1_4 J1_5)))) ∧ ((rx_1 = (-1)) → CallM G mX9_wrong 3 ad o [.ref o, .int 1, .int (F1 4)] F1 L1 I1 J1 (mqV (fun F1_6 L1_7 I1_8 J1_9 => AtM G mX9_readStep 151 ad o σ0 Q 43 [(0, .ref o), (1, .int rx_1)] [] F1_6 L1_7 I1_8 J1_9)))))))) : AtM G mX9_readStep 151 ad o σ0 Q 0 [(0, .ref o)] [] F L I J := by
  refine m_aload_n dX9_readStep_0 rfl 0 rfl ?_
  refine m_callV (N := mX9_word) (st := []) (As := []) dX9_readStep_1 wsX9_word (lw_V q2005 q2007 qs45 q116 q2008) rfl mokX9_word rfl (by decide) (by decide) (Nat.zero_le _) h (fun _ F1 L1 I1 J1 hq => ?_)
  obtain ⟨rx, rfl, h⟩ := hq
  refine AtM.stk (st' := [.int rx]) rfl ?_
  refine m_callP (N := mX9_actOf) (st := []) (As := [.int rx]) dX9_readStep_4 wsX9_actOf (lw_S q2074 q2075 q116 q2076) mokX9_actOf rfl (by decide) (by decide) (Nat.zero_le _) h (fun _ hq => ?_)
  obtain ⟨rx_1, rfl, h⟩ := hq
  refine AtM.stk (st' := [.int rx_1]) rfl ?_
  refine m_istore_n (ls1 := [(1, .int rx_1), (0, .ref o)]) dX9_readStep_7 rfl (by decide) rfl ?_
  refine m_iload_n dX9_readStep_8 rfl 0 rfl ?_
  refine m_iconst (v := (-1)) dX9_readStep_9 (by decide) ?_
  refine m_icmp_ne (tgt := 25) dX9_readStep_10 (by decide) (fun c => ?_) (fun c => ?_)
  · replace h := h.1 c
    refine m_aload_n dX9_readStep_25 rfl 1 rfl ?_
    refine m_get (v := .int (F1 29)) 29 dX9_readStep_26 (by decide) q1792 rfl ?_
    refine m_bipush (v := 8) dX9_readStep_29 (by decide) ?_
    refine m_icmp_ne (tgt := 43) dX9_readStep_31 (by decide) (fun c => ?_) (fun c => ?_)
    · replace h := h.1 c
      exact AtM.sub (ls := [(1, .int rx_1), (0, .ref o)]) [1, 0] rfl h
    · replace h := h.2 c
      refine m_aload_n dX9_readStep_34 rfl 1 rfl ?_
      refine m_iconst (v := 3) dX9_readStep_35 (by decide) ?_
      refine m_aload_n dX9_readStep_36 rfl 1 rfl ?_
      refine m_get (v := .int (F1 4)) 4 dX9_readStep_37 (by decide) q1767 rfl ?_
      refine m_callV (N := mX9_wrong) (st := []) (As := [.int 3, .int (F1 4)]) dX9_readStep_40 wsX9_wrong (lw_V q2020 q2022 qs46 q116 q2023) rfl mokX9_wrong rfl (by decide) (by decide) (Nat.zero_le _) h (fun _ F1_2 L1_3 I1_4 J1_5 hq => ?_)
      obtain ⟨rfl, h⟩ := hq
      refine AtM.stk (st' := []) rfl ?_
      exact AtM.sub (ls := [(1, .int rx_1), (0, .ref o)]) [1, 0] rfl h
  · replace h := h.2 c
    refine m_aload_n dX9_readStep_13 rfl 1 rfl ?_
    refine m_iconst (v := 1) dX9_readStep_14 (by decide) ?_
    refine m_aload_n dX9_readStep_15 rfl 1 rfl ?_
    refine m_get (v := .int (F1 4)) 4 dX9_readStep_16 (by decide) q1767 rfl ?_
    refine m_callV (N := mX9_wrong) (st := []) (As := [.int 1, .int (F1 4)]) dX9_readStep_19 wsX9_wrong (lw_V q2020 q2022 qs46 q116 q2023) rfl mokX9_wrong rfl (by decide) (by decide) (Nat.zero_le _) h (fun _ F1_6 L1_7 I1_8 J1_9 hq => ?_)
    obtain ⟨rfl, h⟩ := hq
    refine AtM.stk (st' := []) rfl ?_
    refine m_goto (tgt := 43) dX9_readStep_22 (by decide) ?_
    exact AtM.sub (ls := [(1, .int rx_1), (0, .ref o)]) [1, 0] rfl h
set_option maxHeartbeats 4000000 in
theorem bX9_readStep_43 {G : GC} {ad : Nat → Nat} {o : Nat} {σ0 : PS} {Q : MPost} {x1 : Int32} {F : Nat → Int32} {L : Nat → Int64} {I : Nat → Nat → Int32} {J : Nat → Nat → Int64} (h : CallMO G mX9_fine 3 ad o [.ref o] F L I J (pI (fun rx => ((¬ rx = 0) → CallM G mX9_pass 4 ad o [.ref o] F L I J (mqV (fun F1 L1 I1 J1 => CallM G mX9_word 4 ad o [.ref o] F1 L1 I1 J1 (mqI (fun rx_1 F1_2 L1_3 I1_4 J1_5 => CallP G mX9_of 7 [.ref (gk G 50)] (pI (fun rx_6 => ((¬ rx_1 = rx_6) → AtM G mX9_readStep 151 ad o σ0 Q 82 [(0, .ref o), (1, .int x1), (2, .int 0)] [] F1_2 L1_3 I1_4 J1_5) ∧ ((rx_1 = rx_6) → CallM G mX9_pass 4 ad o [.ref o] F1_2 L1_3 I1_4 J1_5 (mqV (fun F1_7 L1_8 I1_9 J1_10 => CallM G mX9_readNumber 4 ad o [.ref o, .int 1, .int 16] F1_7 L1_8 I1_9 J1_10 (mqI (fun rx_11 F1_12 L1_13 I1_14 J1_15 => AtM G mX9_readStep 151 ad o σ0 Q 82 [(0, .ref o), (1, .int x1), (2, .int rx_11)] [] F1_12 L1_13 I1_14 J1_15)))))))))))) ∧ ((rx = 0) → Q none F L I J)))) : AtM G mX9_readStep 151 ad o σ0 Q 43 [(0, .ref o), (1, .int x1)] [] F L I J := by
  refine m_aload_n dX9_readStep_43 rfl 0 rfl ?_
  refine m_callV (N := mX9_fine) (st := []) (As := []) dX9_readStep_44 wsX9_fine (lw_V q1979 q1981 qs40 q116 q1982) rfl mokX9_fine rfl (by decide) (by decide) (Nat.zero_le _) h (fun _ F9 L9 I9 J9 hq => ?_)
  obtain ⟨e1, e2, e3, e4, hq⟩ := hq
  refine AtM.re e1 e2 e3 e4 ?_
  obtain ⟨rx, rfl, h⟩ := hq
  refine AtM.stk (st' := [.int rx]) rfl ?_
  refine m_if_ne (tgt := 51) dX9_readStep_47 (by decide) (fun c => ?_) (fun c => ?_)
  · replace h := h.1 c
    refine m_aload_n dX9_readStep_51 rfl 0 rfl ?_
    refine m_callV (N := mX9_pass) (st := []) (As := []) dX9_readStep_52 wsX9_pass (lw_V q2024 q2026 qs47 q116 q2027) rfl mokX9_pass rfl (by decide) (by decide) (Nat.zero_le _) h (fun _ F1 L1 I1 J1 hq => ?_)
    obtain ⟨rfl, h⟩ := hq
    refine AtM.stk (st' := []) rfl ?_
    refine m_iconst (v := 0) dX9_readStep_55 (by decide) ?_
    refine m_istore_n (ls1 := [(2, .int 0), (0, .ref o), (1, .int x1)]) dX9_readStep_56 rfl (by decide) rfl ?_
    refine m_aload_n dX9_readStep_57 rfl 1 rfl ?_
    refine m_callV (N := mX9_word) (st := []) (As := []) dX9_readStep_58 wsX9_word (lw_V q2005 q2007 qs45 q116 q2008) rfl mokX9_word rfl (by decide) (by decide) (Nat.zero_le _) h (fun _ F1_2 L1_3 I1_4 J1_5 hq => ?_)
    obtain ⟨rx_1, rfl, h⟩ := hq
    refine AtM.stk (st' := [.int rx_1]) rfl ?_
    refine m_ldcSw 50 dX9_readStep_61 rfl rfl rfl ?_
    refine m_callP (N := mX9_of) (st := [.int rx_1]) (As := [.ref (gk G 50)]) dX9_readStep_64 wsX9_of (lw_S q2010 q2011 q116 q2012) mokX9_of rfl (by decide) (by decide) (by simp [Value.category]) h (fun _ hq => ?_)
    obtain ⟨rx_6, rfl, h⟩ := hq
    refine AtM.stk (st' := [.int rx_6, .int rx_1]) rfl ?_
    refine m_icmp_ne (tgt := 82) dX9_readStep_67 (by decide) (fun c => ?_) (fun c => ?_)
    · replace h := h.1 c
      exact AtM.sub (ls := [(2, .int 0), (0, .ref o), (1, .int x1)]) [1, 2, 0] rfl h
    · replace h := h.2 c
      refine m_aload_n dX9_readStep_70 rfl 1 rfl ?_
      refine m_callV (N := mX9_pass) (st := []) (As := []) dX9_readStep_71 wsX9_pass (lw_V q2024 q2026 qs47 q116 q2027) rfl mokX9_pass rfl (by decide) (by decide) (Nat.zero_le _) h (fun _ F1_7 L1_8 I1_9 J1_10 hq => ?_)
      obtain ⟨rfl, h⟩ := hq
      refine AtM.stk (st' := []) rfl ?_
      refine m_aload_n dX9_readStep_74 rfl 1 rfl ?_
      refine m_iconst (v := 1) dX9_readStep_75 (by decide) ?_
      refine m_bipush (v := 16) dX9_readStep_76 (by decide) ?_
      refine m_callV (N := mX9_readNumber) (st := []) (As := [.int 1, .int 16]) dX9_readStep_78 wsX9_readNumber (lw_V q2032 q2034 qs49 q116 q2035) rfl mokX9_readNumber rfl (by decide) (by decide) (Nat.zero_le _) h (fun _ F1_12 L1_13 I1_14 J1_15 hq => ?_)
      obtain ⟨rx_11, rfl, h⟩ := hq
      refine AtM.stk (st' := [.int rx_11]) rfl ?_
      refine m_istore_n (ls1 := [(2, .int rx_11), (0, .ref o), (1, .int x1)]) dX9_readStep_81 rfl (by decide) rfl ?_
      exact AtM.sub (ls := [(2, .int rx_11), (0, .ref o), (1, .int x1)]) [1, 2, 0] rfl h
  · replace h := h.2 c
    exact m_vret rfl dX9_readStep_50 h
set_option maxHeartbeats 4000000 in
theorem bX9_readStep_82 {G : GC} {ad : Nat → Nat} {o : Nat} {σ0 : PS} {Q : MPost} {x1 : Int32} {x2 : Int32} {F : Nat → Int32} {L : Nat → Int64} {I : Nat → Nat → Int32} {J : Nat → Nat → Int64} (h : CallMO G mX9_fine 3 ad o [.ref o] F L I J (pI (fun rx => ((rx = 0) → AtM G mX9_readStep 151 ad o σ0 Q 115 [(0, .ref o), (1, .int x1), (2, .int x2), (3, .int (F 28))] [] F L I J) ∧ ((¬ rx = 0) → CallM G mX9_word 4 ad o [.ref o] F L I J (mqI (fun rx_1 F1 L1 I1 J1 => CallP G mX9_of 7 [.ref (gk G 51)] (pI (fun rx_2 => ((¬ rx_1 = rx_2) → AtM G mX9_readStep 151 ad o σ0 Q 115 [(0, .ref o), (1, .int x1), (2, .int x2), (3, .int (F 28))] [] F1 L1 I1 J1) ∧ ((rx_1 = rx_2) → CallM G mX9_pass 4 ad o [.ref o] F1 L1 I1 J1 (mqV (fun F1_3 L1_4 I1_5 J1_6 => CallM G mX9_readAny 150 ad o [.ref o] F1_3 L1_4 I1_5 J1_6 (mqV (fun F1_7 L1_8 I1_9 J1_10 => AtM G mX9_readStep 151 ad o σ0 Q 115 [(0, .ref o), (1, .int x1), (2, .int x2), (3, .int (F 28))] [] F1_7 L1_8 I1_9 J1_10))))))))))))) : AtM G mX9_readStep 151 ad o σ0 Q 82 [(0, .ref o), (1, .int x1), (2, .int x2)] [] F L I J := by
  refine m_aload_n dX9_readStep_82 rfl 0 rfl ?_
  refine m_get (v := .int (F 28)) 28 dX9_readStep_83 (by decide) q1791 rfl ?_
  refine m_istore_n (ls1 := [(3, .int (F 28)), (0, .ref o), (1, .int x1), (2, .int x2)]) dX9_readStep_86 rfl (by decide) rfl ?_
  refine m_aload_n dX9_readStep_87 rfl 1 rfl ?_
  refine m_callV (N := mX9_fine) (st := []) (As := []) dX9_readStep_88 wsX9_fine (lw_V q1979 q1981 qs40 q116 q1982) rfl mokX9_fine rfl (by decide) (by decide) (Nat.zero_le _) h (fun _ F9 L9 I9 J9 hq => ?_)
  obtain ⟨e1, e2, e3, e4, hq⟩ := hq
  refine AtM.re e1 e2 e3 e4 ?_
  obtain ⟨rx, rfl, h⟩ := hq
  refine AtM.stk (st' := [.int rx]) rfl ?_
  refine m_if_eq (tgt := 115) dX9_readStep_91 (by decide) (fun c => ?_) (fun c => ?_)
  · replace h := h.1 c
    exact AtM.sub (ls := [(3, .int (F 28)), (0, .ref o), (1, .int x1), (2, .int x2)]) [1, 2, 3, 0] rfl h
  · replace h := h.2 c
    refine m_aload_n dX9_readStep_94 rfl 1 rfl ?_
    refine m_callV (N := mX9_word) (st := []) (As := []) dX9_readStep_95 wsX9_word (lw_V q2005 q2007 qs45 q116 q2008) rfl mokX9_word rfl (by decide) (by decide) (Nat.zero_le _) h (fun _ F1 L1 I1 J1 hq => ?_)
    obtain ⟨rx_1, rfl, h⟩ := hq
    refine AtM.stk (st' := [.int rx_1]) rfl ?_
    refine m_ldcSw 51 dX9_readStep_98 rfl rfl rfl ?_
    refine m_callP (N := mX9_of) (st := [.int rx_1]) (As := [.ref (gk G 51)]) dX9_readStep_101 wsX9_of (lw_S q2010 q2011 q116 q2012) mokX9_of rfl (by decide) (by decide) (by simp [Value.category]) h (fun _ hq => ?_)
    obtain ⟨rx_2, rfl, h⟩ := hq
    refine AtM.stk (st' := [.int rx_2, .int rx_1]) rfl ?_
    refine m_icmp_ne (tgt := 115) dX9_readStep_104 (by decide) (fun c => ?_) (fun c => ?_)
    · replace h := h.1 c
      exact AtM.sub (ls := [(3, .int (F 28)), (0, .ref o), (1, .int x1), (2, .int x2)]) [1, 2, 3, 0] rfl h
    · replace h := h.2 c
      refine m_aload_n dX9_readStep_107 rfl 1 rfl ?_
      refine m_callV (N := mX9_pass) (st := []) (As := []) dX9_readStep_108 wsX9_pass (lw_V q2024 q2026 qs47 q116 q2027) rfl mokX9_pass rfl (by decide) (by decide) (Nat.zero_le _) h (fun _ F1_3 L1_4 I1_5 J1_6 hq => ?_)
      obtain ⟨rfl, h⟩ := hq
      refine AtM.stk (st' := []) rfl ?_
      refine m_aload_n dX9_readStep_111 rfl 1 rfl ?_
      refine m_callV (N := mX9_readAny) (st := []) (As := []) dX9_readStep_112 wsX9_readAny (lw_V q2087 q2089 qs57 q116 q2090) rfl mokX9_readAny rfl (by decide) (by decide) (Nat.zero_le _) h (fun _ F1_7 L1_8 I1_9 J1_10 hq => ?_)
      obtain ⟨rfl, h⟩ := hq
      refine AtM.stk (st' := []) rfl ?_
      exact AtM.sub (ls := [(3, .int (F 28)), (0, .ref o), (1, .int x1), (2, .int x2)]) [1, 2, 3, 0] rfl h
set_option maxHeartbeats 4000000 in
theorem bX9_readStep_115 {G : GC} {ad : Nat → Nat} {o : Nat} {σ0 : PS} {Q : MPost} {x1 : Int32} {x2 : Int32} {x3 : Int32} {F : Nat → Int32} {L : Nat → Int64} {I : Nat → Nat → Int32} {J : Nat → Nat → Int64} (h : CallM G mX9_sign 4 ad o [.ref o, .int 59] F L I J (mqV (fun F1 L1 I1 J1 => vp_in ((4 * (F1 29))) 32 ∧ (∀ I1_1 : Nat → Nat → Int32, I1_1 = aU I1 22 ((4 * (F1 29))).toNatClampNeg x1 → vp_in (((4 * (F1 29)) + 1)) 32 ∧ (∀ I1_2 : Nat → Nat → Int32, I1_2 = aU I1_1 22 (((4 * (F1 29)) + 1)).toNatClampNeg x2 → vp_in (((4 * (F1 29)) + 2)) 32 ∧ (∀ I1_3 : Nat → Nat → Int32, I1_3 = aU I1_2 22 (((4 * (F1 29)) + 2)).toNatClampNeg x3 → vp_in (((4 * (F1 29)) + 3)) 32 ∧ (∀ I1_4 : Nat → Nat → Int32, I1_4 = aU I1_3 22 (((4 * (F1 29)) + 3)).toNatClampNeg (F1 28) → (∀ F1_5 : Nat → Int32, F1_5 = fU F1 29 (((F1 29) + 1)) → Q none F1_5 L1 I1_4 J1)))))))) : AtM G mX9_readStep 151 ad o σ0 Q 115 [(0, .ref o), (1, .int x1), (2, .int x2), (3, .int x3)] [] F L I J := by
  refine m_aload_n dX9_readStep_115 rfl 0 rfl ?_
  refine m_bipush (v := 59) dX9_readStep_116 (by decide) ?_
  refine m_callV (N := mX9_sign) (st := []) (As := [.int 59]) dX9_readStep_118 wsX9_sign (lw_V q2043 q2045 qs51 q116 q2046) rfl mokX9_sign rfl (by decide) (by decide) (Nat.zero_le _) h (fun _ F1 L1 I1 J1 hq => ?_)
  obtain ⟨rfl, h⟩ := hq
  refine AtM.stk (st' := []) rfl ?_
  refine m_aload_n dX9_readStep_121 rfl 0 rfl ?_
  refine m_get (v := .ref (ad 22)) 22 dX9_readStep_122 (by decide) q1785 rfl ?_
  refine m_iconst (v := 4) dX9_readStep_125 (by decide) ?_
  refine m_aload_n dX9_readStep_126 rfl 0 rfl ?_
  refine m_get (v := .int (F1 29)) 29 dX9_readStep_127 (by decide) q1792 rfl ?_
  refine m_imul dX9_readStep_130 ?_
  refine m_iload_n dX9_readStep_131 rfl 1 rfl ?_
  obtain ⟨h1, h⟩ := h
  refine m_iast 22 dX9_readStep_132 (by decide) rfl h1 ?_
  refine m_topI (fun I1_1 eI1_1 => ?_)
  replace h := h I1_1 eI1_1
  refine m_aload_n dX9_readStep_133 rfl 0 rfl ?_
  refine m_get (v := .ref (ad 22)) 22 dX9_readStep_134 (by decide) q1785 rfl ?_
  refine m_iconst (v := 4) dX9_readStep_137 (by decide) ?_
  refine m_aload_n dX9_readStep_138 rfl 0 rfl ?_
  refine m_get (v := .int (F1 29)) 29 dX9_readStep_139 (by decide) q1792 rfl ?_
  refine m_imul dX9_readStep_142 ?_
  refine m_iconst (v := 1) dX9_readStep_143 (by decide) ?_
  refine m_iadd dX9_readStep_144 ?_
  refine m_iload_n dX9_readStep_145 rfl 2 rfl ?_
  obtain ⟨h1, h⟩ := h
  refine m_iast 22 dX9_readStep_146 (by decide) rfl h1 ?_
  refine m_topI (fun I1_2 eI1_2 => ?_)
  replace h := h I1_2 eI1_2
  refine m_aload_n dX9_readStep_147 rfl 0 rfl ?_
  refine m_get (v := .ref (ad 22)) 22 dX9_readStep_148 (by decide) q1785 rfl ?_
  refine m_iconst (v := 4) dX9_readStep_151 (by decide) ?_
  refine m_aload_n dX9_readStep_152 rfl 0 rfl ?_
  refine m_get (v := .int (F1 29)) 29 dX9_readStep_153 (by decide) q1792 rfl ?_
  refine m_imul dX9_readStep_156 ?_
  refine m_iconst (v := 2) dX9_readStep_157 (by decide) ?_
  refine m_iadd dX9_readStep_158 ?_
  refine m_iload_n dX9_readStep_159 rfl 3 rfl ?_
  obtain ⟨h1, h⟩ := h
  refine m_iast 22 dX9_readStep_160 (by decide) rfl h1 ?_
  refine m_topI (fun I1_3 eI1_3 => ?_)
  replace h := h I1_3 eI1_3
  refine m_aload_n dX9_readStep_161 rfl 0 rfl ?_
  refine m_get (v := .ref (ad 22)) 22 dX9_readStep_162 (by decide) q1785 rfl ?_
  refine m_iconst (v := 4) dX9_readStep_165 (by decide) ?_
  refine m_aload_n dX9_readStep_166 rfl 0 rfl ?_
  refine m_get (v := .int (F1 29)) 29 dX9_readStep_167 (by decide) q1792 rfl ?_
  refine m_imul dX9_readStep_170 ?_
  refine m_iconst (v := 3) dX9_readStep_171 (by decide) ?_
  refine m_iadd dX9_readStep_172 ?_
  refine m_aload_n dX9_readStep_173 rfl 0 rfl ?_
  refine m_get (v := .int (F1 28)) 28 dX9_readStep_174 (by decide) q1791 rfl ?_
  obtain ⟨h1, h⟩ := h
  refine m_iast 22 dX9_readStep_177 (by decide) rfl h1 ?_
  refine m_topI (fun I1_4 eI1_4 => ?_)
  replace h := h I1_4 eI1_4
  refine m_aload_n dX9_readStep_178 rfl 0 rfl ?_
  refine m_dup dX9_readStep_179 rfl ?_
  refine m_get (v := .int (F1 29)) 29 dX9_readStep_180 (by decide) q1792 rfl ?_
  refine m_iconst (v := 1) dX9_readStep_183 (by decide) ?_
  refine m_iadd dX9_readStep_184 ?_
  refine m_putI 29 dX9_readStep_185 (by decide) q1792 rfl rfl rfl rfl ?_
  refine m_topF (fun F1_5 eF1_5 => ?_)
  replace h := h F1_5 eF1_5
  exact m_vret rfl dX9_readStep_188 h
theorem eX9_readStep {G : GC} {ad : Nat → Nat} {o : Nat} {Q : MPost} {F : Nat → Int32} {L : Nat → Int64} {I : Nat → Nat → Int32} {J : Nat → Nat → Int64} (h : ∀ σ0, AtM G mX9_readStep 151 ad o σ0 Q 0 [(0, .ref o)] [] F L I J) : CallM G mX9_readStep 151 ad o [.ref o] F L I J Q :=
  CallM.of (by decide +kernel) wsX9_readStep rfl (Nat.le_of_ble_eq_true rfl) (fun σ0 => AtM.sub (ls := [(0, .ref o)]) [0] rfl (h σ0))
set_option maxHeartbeats 4000000 in
theorem bX9_actOf_0 {G : GC} {Q : Option Value → PS → Prop} {X : String → Nat → PS → Prop} {b : Nat} {x0 : Int32} {σ : PS} (h : CallO G mX9_of 7 [.ref (gk G 42)] (σ) (pI (fun rx => ((¬ x0 = rx) → CallO G mX9_of 7 [.ref (gk G 43)] (σ) (pI (fun rx_2 => ((¬ x0 = rx_2) → CallO G mX9_of 7 [.ref (gk G 44)] (σ) (pI (fun rx_4 => ((¬ x0 = rx_4) → CallO G mX9_of 7 [.ref (gk G 45)] (σ) (pI (fun rx_6 => ((¬ x0 = rx_6) → CallO G mX9_of 7 [.ref (gk G 46)] (σ) (pI (fun rx_8 => ((¬ x0 = rx_8) → CallO G mX9_of 7 [.ref (gk G 47)] (σ) (pI (fun rx_10 => ((¬ x0 = rx_10) → CallO G mX9_of 7 [.ref (gk G 48)] (σ) (pI (fun rx_12 => ((¬ x0 = rx_12) → CallO G mX9_of 7 [.ref (gk G 49)] (σ) (pI (fun rx_14 => ((¬ x0 = rx_14) → Q (some (.int (-1))) (σ)) ∧ ((x0 = rx_14) → Q (some (.int 7)) (σ))))) ∧ ((x0 = rx_12) → Q (some (.int 6)) (σ))))) ∧ ((x0 = rx_10) → Q (some (.int 5)) (σ))))) ∧ ((x0 = rx_8) → Q (some (.int 4)) (σ))))) ∧ ((x0 = rx_6) → Q (some (.int 3)) (σ))))) ∧ ((x0 = rx_4) → Q (some (.int 2)) (σ))))) ∧ ((x0 = rx_2) → Q (some (.int 1)) (σ))))) ∧ ((x0 = rx) → Q (some (.int 0)) (σ))))) : At G mX9_actOf 8 Q X b 0 [(0, .int x0)] [] (σ) := by
  refine g_iload_n dX9_actOf_0 rfl 0 rfl ?_
  refine g_ldcSw 42 dX9_actOf_1 rfl rfl rfl ?_
  refine g_callS (N := mX9_of) (st := [.int x0]) (As := [.ref (gk G 42)]) dX9_actOf_4 wsX9_of (lw_S q2010 q2011 q116 q2012) mokX9_of rfl (by decide) (by decide) (Nat.zero_le _) (by simp [Value.category]) h (fun E q s hx => AtX.never hx) (fun _ s1 hq => ?_)
  obtain ⟨es, hq⟩ := hq
  refine g_tops2 es ?_
  obtain ⟨rx, rfl, h⟩ := hq
  refine At.stk (st' := [.int rx, .int x0]) rfl ?_
  refine g_icmp_ne (tgt := 14) dX9_actOf_7 (by decide) (fun c => ?_) (fun c => ?_)
  · replace h := h.1 c
    refine g_iload_n dX9_actOf_14 rfl 0 rfl ?_
    refine g_ldcSw 43 dX9_actOf_15 rfl rfl rfl ?_
    refine g_callS (N := mX9_of) (st := [.int x0]) (As := [.ref (gk G 43)]) dX9_actOf_18 wsX9_of (lw_S q2010 q2011 q116 q2012) mokX9_of rfl (by decide) (by decide) (Nat.zero_le _) (by simp [Value.category]) h (fun E q s hx => AtX.never hx) (fun _ s1_1 hq => ?_)
    obtain ⟨es, hq⟩ := hq
    refine g_tops2 es ?_
    obtain ⟨rx_2, rfl, h⟩ := hq
    refine At.stk (st' := [.int rx_2, .int x0]) rfl ?_
    refine g_icmp_ne (tgt := 28) dX9_actOf_21 (by decide) (fun c => ?_) (fun c => ?_)
    · replace h := h.1 c
      refine g_iload_n dX9_actOf_28 rfl 0 rfl ?_
      refine g_ldcSw 44 dX9_actOf_29 rfl rfl rfl ?_
      refine g_callS (N := mX9_of) (st := [.int x0]) (As := [.ref (gk G 44)]) dX9_actOf_32 wsX9_of (lw_S q2010 q2011 q116 q2012) mokX9_of rfl (by decide) (by decide) (Nat.zero_le _) (by simp [Value.category]) h (fun E q s hx => AtX.never hx) (fun _ s1_3 hq => ?_)
      obtain ⟨es, hq⟩ := hq
      refine g_tops2 es ?_
      obtain ⟨rx_4, rfl, h⟩ := hq
      refine At.stk (st' := [.int rx_4, .int x0]) rfl ?_
      refine g_icmp_ne (tgt := 42) dX9_actOf_35 (by decide) (fun c => ?_) (fun c => ?_)
      · replace h := h.1 c
        refine g_iload_n dX9_actOf_42 rfl 0 rfl ?_
        refine g_ldcSw 45 dX9_actOf_43 rfl rfl rfl ?_
        refine g_callS (N := mX9_of) (st := [.int x0]) (As := [.ref (gk G 45)]) dX9_actOf_46 wsX9_of (lw_S q2010 q2011 q116 q2012) mokX9_of rfl (by decide) (by decide) (Nat.zero_le _) (by simp [Value.category]) h (fun E q s hx => AtX.never hx) (fun _ s1_5 hq => ?_)
        obtain ⟨es, hq⟩ := hq
        refine g_tops2 es ?_
        obtain ⟨rx_6, rfl, h⟩ := hq
        refine At.stk (st' := [.int rx_6, .int x0]) rfl ?_
        refine g_icmp_ne (tgt := 56) dX9_actOf_49 (by decide) (fun c => ?_) (fun c => ?_)
        · replace h := h.1 c
          refine g_iload_n dX9_actOf_56 rfl 0 rfl ?_
          refine g_ldcSw 46 dX9_actOf_57 rfl rfl rfl ?_
          refine g_callS (N := mX9_of) (st := [.int x0]) (As := [.ref (gk G 46)]) dX9_actOf_60 wsX9_of (lw_S q2010 q2011 q116 q2012) mokX9_of rfl (by decide) (by decide) (Nat.zero_le _) (by simp [Value.category]) h (fun E q s hx => AtX.never hx) (fun _ s1_7 hq => ?_)
          obtain ⟨es, hq⟩ := hq
          refine g_tops2 es ?_
          obtain ⟨rx_8, rfl, h⟩ := hq
          refine At.stk (st' := [.int rx_8, .int x0]) rfl ?_
          refine g_icmp_ne (tgt := 70) dX9_actOf_63 (by decide) (fun c => ?_) (fun c => ?_)
          · replace h := h.1 c
            refine g_iload_n dX9_actOf_70 rfl 0 rfl ?_
            refine g_ldcSw 47 dX9_actOf_71 rfl rfl rfl ?_
            refine g_callS (N := mX9_of) (st := [.int x0]) (As := [.ref (gk G 47)]) dX9_actOf_74 wsX9_of (lw_S q2010 q2011 q116 q2012) mokX9_of rfl (by decide) (by decide) (Nat.zero_le _) (by simp [Value.category]) h (fun E q s hx => AtX.never hx) (fun _ s1_9 hq => ?_)
            obtain ⟨es, hq⟩ := hq
            refine g_tops2 es ?_
            obtain ⟨rx_10, rfl, h⟩ := hq
            refine At.stk (st' := [.int rx_10, .int x0]) rfl ?_
            refine g_icmp_ne (tgt := 84) dX9_actOf_77 (by decide) (fun c => ?_) (fun c => ?_)
            · replace h := h.1 c
              refine g_iload_n dX9_actOf_84 rfl 0 rfl ?_
              refine g_ldcSw 48 dX9_actOf_85 rfl rfl rfl ?_
              refine g_callS (N := mX9_of) (st := [.int x0]) (As := [.ref (gk G 48)]) dX9_actOf_88 wsX9_of (lw_S q2010 q2011 q116 q2012) mokX9_of rfl (by decide) (by decide) (Nat.zero_le _) (by simp [Value.category]) h (fun E q s hx => AtX.never hx) (fun _ s1_11 hq => ?_)
              obtain ⟨es, hq⟩ := hq
              refine g_tops2 es ?_
              obtain ⟨rx_12, rfl, h⟩ := hq
              refine At.stk (st' := [.int rx_12, .int x0]) rfl ?_
              refine g_icmp_ne (tgt := 99) dX9_actOf_91 (by decide) (fun c => ?_) (fun c => ?_)
              · replace h := h.1 c
                refine g_iload_n dX9_actOf_99 rfl 0 rfl ?_
                refine g_ldcSw 49 dX9_actOf_100 rfl rfl rfl ?_
                refine g_callS (N := mX9_of) (st := [.int x0]) (As := [.ref (gk G 49)]) dX9_actOf_103 wsX9_of (lw_S q2010 q2011 q116 q2012) mokX9_of rfl (by decide) (by decide) (Nat.zero_le _) (by simp [Value.category]) h (fun E q s hx => AtX.never hx) (fun _ s1_13 hq => ?_)
                obtain ⟨es, hq⟩ := hq
                refine g_tops2 es ?_
                obtain ⟨rx_14, rfl, h⟩ := hq
                refine At.stk (st' := [.int rx_14, .int x0]) rfl ?_
                refine g_icmp_ne (tgt := 114) dX9_actOf_106 (by decide) (fun c => ?_) (fun c => ?_)
                · replace h := h.1 c
                  refine g_iconst (v := (-1)) dX9_actOf_114 (by decide) ?_
                  exact g_iret rfl dX9_actOf_115 h
                · replace h := h.2 c
                  refine g_bipush (v := 7) dX9_actOf_109 (by decide) ?_
                  refine g_goto (tgt := 115) dX9_actOf_111 (by decide) ?_
                  exact g_iret rfl dX9_actOf_115 h
              · replace h := h.2 c
                refine g_bipush (v := 6) dX9_actOf_94 (by decide) ?_
                refine g_goto (tgt := 115) dX9_actOf_96 (by decide) ?_
                exact g_iret rfl dX9_actOf_115 h
            · replace h := h.2 c
              refine g_iconst (v := 5) dX9_actOf_80 (by decide) ?_
              refine g_goto (tgt := 115) dX9_actOf_81 (by decide) ?_
              exact g_iret rfl dX9_actOf_115 h
          · replace h := h.2 c
            refine g_iconst (v := 4) dX9_actOf_66 (by decide) ?_
            refine g_goto (tgt := 115) dX9_actOf_67 (by decide) ?_
            exact g_iret rfl dX9_actOf_115 h
        · replace h := h.2 c
          refine g_iconst (v := 3) dX9_actOf_52 (by decide) ?_
          refine g_goto (tgt := 115) dX9_actOf_53 (by decide) ?_
          exact g_iret rfl dX9_actOf_115 h
      · replace h := h.2 c
        refine g_iconst (v := 2) dX9_actOf_38 (by decide) ?_
        refine g_goto (tgt := 115) dX9_actOf_39 (by decide) ?_
        exact g_iret rfl dX9_actOf_115 h
    · replace h := h.2 c
      refine g_iconst (v := 1) dX9_actOf_24 (by decide) ?_
      refine g_goto (tgt := 115) dX9_actOf_25 (by decide) ?_
      exact g_iret rfl dX9_actOf_115 h
  · replace h := h.2 c
    refine g_iconst (v := 0) dX9_actOf_10 (by decide) ?_
    refine g_goto (tgt := 115) dX9_actOf_11 (by decide) ?_
    exact g_iret rfl dX9_actOf_115 h
theorem eX9_actOf {G : GC} {Q : Option Value → PS → Prop} {X : String → Nat → PS → Prop} {b : Nat} {p0 : Int32} {σ : PS} (h : At G mX9_actOf 8 Q X b 0 [(0, .int p0)] [] σ) : Call G mX9_actOf 8 b [.int p0] σ Q X :=
  Call.of (by decide +kernel) wsX9_actOf rfl (Nat.le_of_ble_eq_true rfl) (At.sub (ls := [(0, .int p0)]) [0] rfl h)
set_option maxHeartbeats 4000000 in
theorem bX9_readAny_0 {G : GC} {r : Nat} {ad : Nat → Nat} {o : Nat} {σ0 : PS} {Q : MPost} {F : Nat → Int32} {L : Nat → Int64} {I : Nat → Nat → Int32} {J : Nat → Nat → Int64} (h : ∃ rc : Nat, rc + 1 ≤ r ∧ CallM G mX9_readAll rc ad o [.ref o] F L I J (mqV (fun F1 L1 I1 J1 => AtM G mX9_readAny r ad o σ0 Q 4 [(0, .ref o)] [] F1 L1 I1 J1))) : AtM G mX9_readAny r ad o σ0 Q 0 [(0, .ref o)] [] F L I J := by
  refine m_aload_n dX9_readAny_0 rfl 0 rfl ?_
  obtain ⟨rc, hr9, h⟩ := h
  refine m_callV (N := mX9_readAll) (st := []) (As := []) dX9_readAny_1 wsX9_readAll (lw_V q2091 q2093 qs58 q116 q2094) rfl mokX9_readAll rfl hr9 (by decide) (Nat.zero_le _) h (fun _ F1 L1 I1 J1 hq => ?_)
  obtain ⟨rfl, h⟩ := hq
  refine AtM.stk (st' := []) rfl ?_
  exact AtM.sub (ls := [(0, .ref o)]) [0] rfl h
set_option maxHeartbeats 4000000 in
theorem bX9_readAny_4 {G : GC} {r : Nat} {ad : Nat → Nat} {o : Nat} {σ0 : PS} {Q : MPost} {F : Nat → Int32} {L : Nat → Int64} {I : Nat → Nat → Int32} {J : Nat → Nat → Int64} (h : 3 + 1 ≤ r ∧ CallMO G mX9_fine 3 ad o [.ref o] F L I J (pI (fun rx => ((rx = 0) → Q none F L I J) ∧ ((¬ rx = 0) → 4 + 1 ≤ r ∧ CallM G mX9_word 4 ad o [.ref o] F L I J (mqI (fun rx_1 F1 L1 I1 J1 => 7 + 1 ≤ r ∧ CallP G mX9_of 7 [.ref (gk G 60)] (pI (fun rx_2 => ((¬ rx_1 = rx_2) → Q none F1 L1 I1 J1) ∧ ((rx_1 = rx_2) → 4 + 1 ≤ r ∧ CallM G mX9_pass 4 ad o [.ref o] F1 L1 I1 J1 (mqV (fun F1_3 L1_4 I1_5 J1_6 => ∃ rc : Nat, rc + 1 ≤ r ∧ CallM G mX9_readAll rc ad o [.ref o] F1_3 L1_4 I1_5 J1_6 (mqV (fun F1_7 L1_8 I1_9 J1_10 => 4 + 1 ≤ r ∧ CallM G mX9_emit 4 ad o [.ref o, .int 10, .int 0] F1_7 L1_8 I1_9 J1_10 (mqV (fun F1_11 L1_12 I1_13 J1_14 => AtM G mX9_readAny r ad o σ0 Q 4 [(0, .ref o)] [] F1_11 L1_12 I1_13 J1_14))))))))))))))) : AtM G mX9_readAny r ad o σ0 Q 4 [(0, .ref o)] [] F L I J := by
  refine m_aload_n dX9_readAny_4 rfl 0 rfl ?_
  obtain ⟨hr9, h⟩ := h
  refine m_callV (N := mX9_fine) (st := []) (As := []) dX9_readAny_5 wsX9_fine (lw_V q1979 q1981 qs40 q116 q1982) rfl mokX9_fine rfl hr9 (by decide) (Nat.zero_le _) h (fun _ F9 L9 I9 J9 hq => ?_)
  obtain ⟨e1, e2, e3, e4, hq⟩ := hq
  refine AtM.re e1 e2 e3 e4 ?_
  obtain ⟨rx, rfl, h⟩ := hq
  refine AtM.stk (st' := [.int rx]) rfl ?_
  refine m_if_eq (tgt := 41) dX9_readAny_8 (by decide) (fun c => ?_) (fun c => ?_)
  · replace h := h.1 c
    exact m_vret rfl dX9_readAny_41 h
  · replace h := h.2 c
    refine m_aload_n dX9_readAny_11 rfl 0 rfl ?_
    obtain ⟨hr9, h⟩ := h
    refine m_callV (N := mX9_word) (st := []) (As := []) dX9_readAny_12 wsX9_word (lw_V q2005 q2007 qs45 q116 q2008) rfl mokX9_word rfl hr9 (by decide) (Nat.zero_le _) h (fun _ F1 L1 I1 J1 hq => ?_)
    obtain ⟨rx_1, rfl, h⟩ := hq
    refine AtM.stk (st' := [.int rx_1]) rfl ?_
    refine m_ldcS 60 dX9_readAny_15 rfl rfl rfl ?_
    obtain ⟨hr9, h⟩ := h
    refine m_callP (N := mX9_of) (st := [.int rx_1]) (As := [.ref (gk G 60)]) dX9_readAny_17 wsX9_of (lw_S q2010 q2011 q116 q2012) mokX9_of rfl hr9 (by decide) (by simp [Value.category]) h (fun _ hq => ?_)
    obtain ⟨rx_2, rfl, h⟩ := hq
    refine AtM.stk (st' := [.int rx_2, .int rx_1]) rfl ?_
    refine m_icmp_ne (tgt := 41) dX9_readAny_20 (by decide) (fun c => ?_) (fun c => ?_)
    · replace h := h.1 c
      exact m_vret rfl dX9_readAny_41 h
    · replace h := h.2 c
      refine m_aload_n dX9_readAny_23 rfl 0 rfl ?_
      obtain ⟨hr9, h⟩ := h
      refine m_callV (N := mX9_pass) (st := []) (As := []) dX9_readAny_24 wsX9_pass (lw_V q2024 q2026 qs47 q116 q2027) rfl mokX9_pass rfl hr9 (by decide) (Nat.zero_le _) h (fun _ F1_3 L1_4 I1_5 J1_6 hq => ?_)
      obtain ⟨rfl, h⟩ := hq
      refine AtM.stk (st' := []) rfl ?_
      refine m_aload_n dX9_readAny_27 rfl 0 rfl ?_
      obtain ⟨rc, hr9, h⟩ := h
      refine m_callV (N := mX9_readAll) (st := []) (As := []) dX9_readAny_28 wsX9_readAll (lw_V q2091 q2093 qs58 q116 q2094) rfl mokX9_readAll rfl hr9 (by decide) (Nat.zero_le _) h (fun _ F1_7 L1_8 I1_9 J1_10 hq => ?_)
      obtain ⟨rfl, h⟩ := hq
      refine AtM.stk (st' := []) rfl ?_
      refine m_aload_n dX9_readAny_31 rfl 0 rfl ?_
      refine m_bipush (v := 10) dX9_readAny_32 (by decide) ?_
      refine m_iconst (v := 0) dX9_readAny_34 (by decide) ?_
      obtain ⟨hr9, h⟩ := h
      refine m_callV (N := mX9_emit) (st := []) (As := [.int 10, .int 0]) dX9_readAny_35 wsX9_emit (lw_V q2104 q2106 qs61 q116 q2107) rfl mokX9_emit rfl hr9 (by decide) (Nat.zero_le _) h (fun _ F1_11 L1_12 I1_13 J1_14 hq => ?_)
      obtain ⟨rfl, h⟩ := hq
      refine AtM.stk (st' := []) rfl ?_
      refine m_goto (tgt := 4) dX9_readAny_38 (by decide) ?_
      exact AtM.sub (ls := [(0, .ref o)]) [0] rfl h
theorem eX9_readAny {G : GC} {r : Nat} {ad : Nat → Nat} {o : Nat} {Q : MPost} {F : Nat → Int32} {L : Nat → Int64} {I : Nat → Nat → Int32} {J : Nat → Nat → Int64} (h : ∀ σ0, AtM G mX9_readAny r ad o σ0 Q 0 [(0, .ref o)] [] F L I J) : CallM G mX9_readAny r ad o [.ref o] F L I J Q :=
  CallM.of (by decide +kernel) wsX9_readAny rfl (Nat.le_of_ble_eq_true rfl) (fun σ0 => AtM.sub (ls := [(0, .ref o)]) [0] rfl (h σ0))
set_option maxHeartbeats 4000000 in
theorem bX9_readAll_0 {G : GC} {r : Nat} {ad : Nat → Nat} {o : Nat} {σ0 : PS} {Q : MPost} {F : Nat → Int32} {L : Nat → Int64} {I : Nat → Nat → Int32} {J : Nat → Nat → Int64} (h : ∃ rc : Nat, rc + 1 ≤ r ∧ CallM G mX9_readOne rc ad o [.ref o] F L I J (mqV (fun F1 L1 I1 J1 => AtM G mX9_readAll r ad o σ0 Q 4 [(0, .ref o)] [] F1 L1 I1 J1))) : AtM G mX9_readAll r ad o σ0 Q 0 [(0, .ref o)] [] F L I J := by
  refine m_aload_n dX9_readAll_0 rfl 0 rfl ?_
  obtain ⟨rc, hr9, h⟩ := h
  refine m_callV (N := mX9_readOne) (st := []) (As := []) dX9_readAll_1 wsX9_readOne (lw_V q2095 q2097 qs59 q116 q2098) rfl mokX9_readOne rfl hr9 (by decide) (Nat.zero_le _) h (fun _ F1 L1 I1 J1 hq => ?_)
  obtain ⟨rfl, h⟩ := hq
  refine AtM.stk (st' := []) rfl ?_
  exact AtM.sub (ls := [(0, .ref o)]) [0] rfl h
set_option maxHeartbeats 4000000 in
theorem bX9_readAll_4 {G : GC} {r : Nat} {ad : Nat → Nat} {o : Nat} {σ0 : PS} {Q : MPost} {F : Nat → Int32} {L : Nat → Int64} {I : Nat → Nat → Int32} {J : Nat → Nat → Int64} (h : 3 + 1 ≤ r ∧ CallMO G mX9_fine 3 ad o [.ref o] F L I J (pI (fun rx => ((rx = 0) → Q none F L I J) ∧ ((¬ rx = 0) → 4 + 1 ≤ r ∧ CallM G mX9_word 4 ad o [.ref o] F L I J (mqI (fun rx_1 F1 L1 I1 J1 => 7 + 1 ≤ r ∧ CallP G mX9_of 7 [.ref (gk G 59)] (pI (fun rx_2 => ((¬ rx_1 = rx_2) → Q none F1 L1 I1 J1) ∧ ((rx_1 = rx_2) → 4 + 1 ≤ r ∧ CallM G mX9_pass 4 ad o [.ref o] F1 L1 I1 J1 (mqV (fun F1_3 L1_4 I1_5 J1_6 => ∃ rc : Nat, rc + 1 ≤ r ∧ CallM G mX9_readOne rc ad o [.ref o] F1_3 L1_4 I1_5 J1_6 (mqV (fun F1_7 L1_8 I1_9 J1_10 => 4 + 1 ≤ r ∧ CallM G mX9_emit 4 ad o [.ref o, .int 9, .int 0] F1_7 L1_8 I1_9 J1_10 (mqV (fun F1_11 L1_12 I1_13 J1_14 => AtM G mX9_readAll r ad o σ0 Q 4 [(0, .ref o)] [] F1_11 L1_12 I1_13 J1_14))))))))))))))) : AtM G mX9_readAll r ad o σ0 Q 4 [(0, .ref o)] [] F L I J := by
  refine m_aload_n dX9_readAll_4 rfl 0 rfl ?_
  obtain ⟨hr9, h⟩ := h
  refine m_callV (N := mX9_fine) (st := []) (As := []) dX9_readAll_5 wsX9_fine (lw_V q1979 q1981 qs40 q116 q1982) rfl mokX9_fine rfl hr9 (by decide) (Nat.zero_le _) h (fun _ F9 L9 I9 J9 hq => ?_)
  obtain ⟨e1, e2, e3, e4, hq⟩ := hq
  refine AtM.re e1 e2 e3 e4 ?_
  obtain ⟨rx, rfl, h⟩ := hq
  refine AtM.stk (st' := [.int rx]) rfl ?_
  refine m_if_eq (tgt := 41) dX9_readAll_8 (by decide) (fun c => ?_) (fun c => ?_)
  · replace h := h.1 c
    exact m_vret rfl dX9_readAll_41 h
  · replace h := h.2 c
    refine m_aload_n dX9_readAll_11 rfl 0 rfl ?_
    obtain ⟨hr9, h⟩ := h
    refine m_callV (N := mX9_word) (st := []) (As := []) dX9_readAll_12 wsX9_word (lw_V q2005 q2007 qs45 q116 q2008) rfl mokX9_word rfl hr9 (by decide) (Nat.zero_le _) h (fun _ F1 L1 I1 J1 hq => ?_)
    obtain ⟨rx_1, rfl, h⟩ := hq
    refine AtM.stk (st' := [.int rx_1]) rfl ?_
    refine m_ldcS 59 dX9_readAll_15 rfl rfl rfl ?_
    obtain ⟨hr9, h⟩ := h
    refine m_callP (N := mX9_of) (st := [.int rx_1]) (As := [.ref (gk G 59)]) dX9_readAll_17 wsX9_of (lw_S q2010 q2011 q116 q2012) mokX9_of rfl hr9 (by decide) (by simp [Value.category]) h (fun _ hq => ?_)
    obtain ⟨rx_2, rfl, h⟩ := hq
    refine AtM.stk (st' := [.int rx_2, .int rx_1]) rfl ?_
    refine m_icmp_ne (tgt := 41) dX9_readAll_20 (by decide) (fun c => ?_) (fun c => ?_)
    · replace h := h.1 c
      exact m_vret rfl dX9_readAll_41 h
    · replace h := h.2 c
      refine m_aload_n dX9_readAll_23 rfl 0 rfl ?_
      obtain ⟨hr9, h⟩ := h
      refine m_callV (N := mX9_pass) (st := []) (As := []) dX9_readAll_24 wsX9_pass (lw_V q2024 q2026 qs47 q116 q2027) rfl mokX9_pass rfl hr9 (by decide) (Nat.zero_le _) h (fun _ F1_3 L1_4 I1_5 J1_6 hq => ?_)
      obtain ⟨rfl, h⟩ := hq
      refine AtM.stk (st' := []) rfl ?_
      refine m_aload_n dX9_readAll_27 rfl 0 rfl ?_
      obtain ⟨rc, hr9, h⟩ := h
      refine m_callV (N := mX9_readOne) (st := []) (As := []) dX9_readAll_28 wsX9_readOne (lw_V q2095 q2097 qs59 q116 q2098) rfl mokX9_readOne rfl hr9 (by decide) (Nat.zero_le _) h (fun _ F1_7 L1_8 I1_9 J1_10 hq => ?_)
      obtain ⟨rfl, h⟩ := hq
      refine AtM.stk (st' := []) rfl ?_
      refine m_aload_n dX9_readAll_31 rfl 0 rfl ?_
      refine m_bipush (v := 9) dX9_readAll_32 (by decide) ?_
      refine m_iconst (v := 0) dX9_readAll_34 (by decide) ?_
      obtain ⟨hr9, h⟩ := h
      refine m_callV (N := mX9_emit) (st := []) (As := [.int 9, .int 0]) dX9_readAll_35 wsX9_emit (lw_V q2104 q2106 qs61 q116 q2107) rfl mokX9_emit rfl hr9 (by decide) (Nat.zero_le _) h (fun _ F1_11 L1_12 I1_13 J1_14 hq => ?_)
      obtain ⟨rfl, h⟩ := hq
      refine AtM.stk (st' := []) rfl ?_
      refine m_goto (tgt := 4) dX9_readAll_38 (by decide) ?_
      exact AtM.sub (ls := [(0, .ref o)]) [0] rfl h
theorem eX9_readAll {G : GC} {r : Nat} {ad : Nat → Nat} {o : Nat} {Q : MPost} {F : Nat → Int32} {L : Nat → Int64} {I : Nat → Nat → Int32} {J : Nat → Nat → Int64} (h : ∀ σ0, AtM G mX9_readAll r ad o σ0 Q 0 [(0, .ref o)] [] F L I J) : CallM G mX9_readAll r ad o [.ref o] F L I J Q :=
  CallM.of (by decide +kernel) wsX9_readAll rfl (Nat.le_of_ble_eq_true rfl) (fun σ0 => AtM.sub (ls := [(0, .ref o)]) [0] rfl (h σ0))
set_option maxHeartbeats 4000000 in
theorem bX9_readOne_0 {G : GC} {r : Nat} {ad : Nat → Nat} {o : Nat} {σ0 : PS} {Q : MPost} {F : Nat → Int32} {L : Nat → Int64} {I : Nat → Nat → Int32} {J : Nat → Nat → Int64} (h : 3 + 1 ≤ r ∧ CallMO G mX9_fine 3 ad o [.ref o] F L I J (pI (fun rx => ((¬ rx = 0) → 3 + 1 ≤ r ∧ CallM G mX9_here 3 ad o [.ref o] F L I J (mqI (fun rx_1 F1 L1 I1 J1 => ((¬ rx_1 = 91) → 4 + 1 ≤ r ∧ CallM G mX9_word 4 ad o [.ref o] F1 L1 I1 J1 (mqI (fun rx_2 F1_3 L1_4 I1_5 J1_6 => 7 + 1 ≤ r ∧ CallP G mX9_of 7 [.ref (gk G 52)] (pI (fun rx_7 => ((¬ rx_2 = rx_7) → ∃ rc : Nat, rc + 1 ≤ r ∧ CallM G mX9_readSum rc ad o [.ref o] F1_3 L1_4 I1_5 J1_6 (mqV (fun F1_8 L1_9 I1_10 J1_11 => 3 + 1 ≤ r ∧ CallM G mX9_here 3 ad o [.ref o] F1_8 L1_9 I1_10 J1_11 (mqI (fun rx_12 F1_13 L1_14 I1_15 J1_16 => ((rx_12 = 60) → AtM G mX9_readOne r ad o σ0 Q 123 [(0, .ref o), (1, .int rx_12)] [] F1_13 L1_14 I1_15 J1_16) ∧ ((¬ rx_12 = 60) → ((rx_12 = 62) → AtM G mX9_readOne r ad o σ0 Q 123 [(0, .ref o), (1, .int rx_12)] [] F1_13 L1_14 I1_15 J1_16) ∧ ((¬ rx_12 = 62) → ((rx_12 = 61) → AtM G mX9_readOne r ad o σ0 Q 123 [(0, .ref o), (1, .int rx_12)] [] F1_13 L1_14 I1_15 J1_16) ∧ ((¬ rx_12 = 61) → 3 + 1 ≤ r ∧ CallM G mX9_wrong 3 ad o [.ref o, .int 1, .int (F1_13 4)] F1_13 L1_14 I1_15 J1_16 (mqV (fun F1_17 L1_18 I1_19 J1_20 => AtM G mX9_readOne r ad o σ0 Q 123 [(0, .ref o), (1, .int rx_12)] [] F1_17 L1_18 I1_19 J1_20)))))))))) ∧ ((rx_2 = rx_7) → 4 + 1 ≤ r ∧ CallM G mX9_opensOne 4 ad o [.ref o, .int 3] F1_3 L1_4 I1_5 J1_6 (mqV (fun F1_21 L1_22 I1_23 J1_24 => ∃ rc : Nat, rc + 1 ≤ r ∧ CallM G mX9_readOne rc ad o [.ref o] F1_21 L1_22 I1_23 J1_24 (mqV (fun F1_25 L1_26 I1_27 J1_28 => (∀ F1_29 : Nat → Int32, F1_29 = fU F1_25 7 (((F1_25 7) - 1)) → 4 + 1 ≤ r ∧ CallM G mX9_emit 4 ad o [.ref o, .int 8, .int 0] F1_29 L1_26 I1_27 J1_28 (mqV (fun F1_30 L1_31 I1_32 J1_33 => Q none F1_30 L1_31 I1_32 J1_33))))))))))))) ∧ ((rx_1 = 91) → 4 + 1 ≤ r ∧ CallM G mX9_opensOne 4 ad o [.ref o, .int 1] F1 L1 I1 J1 (mqV (fun F1_34 L1_35 I1_36 J1_37 => ∃ rc : Nat, rc + 1 ≤ r ∧ CallM G mX9_readAny rc ad o [.ref o] F1_34 L1_35 I1_36 J1_37 (mqV (fun F1_38 L1_39 I1_40 J1_41 => 4 + 1 ≤ r ∧ CallM G mX9_sign 4 ad o [.ref o, .int 93] F1_38 L1_39 I1_40 J1_41 (mqV (fun F1_42 L1_43 I1_44 J1_45 => (∀ F1_46 : Nat → Int32, F1_46 = fU F1_42 7 (((F1_42 7) - 1)) → Q none F1_46 L1_43 I1_44 J1_45))))))))))) ∧ ((rx = 0) → Q none F L I J)))) : AtM G mX9_readOne r ad o σ0 Q 0 [(0, .ref o)] [] F L I J := by
  refine m_aload_n dX9_readOne_0 rfl 0 rfl ?_
  obtain ⟨hr9, h⟩ := h
  refine m_callV (N := mX9_fine) (st := []) (As := []) dX9_readOne_1 wsX9_fine (lw_V q1979 q1981 qs40 q116 q1982) rfl mokX9_fine rfl hr9 (by decide) (Nat.zero_le _) h (fun _ F9 L9 I9 J9 hq => ?_)
  obtain ⟨e1, e2, e3, e4, hq⟩ := hq
  refine AtM.re e1 e2 e3 e4 ?_
  obtain ⟨rx, rfl, h⟩ := hq
  refine AtM.stk (st' := [.int rx]) rfl ?_
  refine m_if_ne (tgt := 8) dX9_readOne_4 (by decide) (fun c => ?_) (fun c => ?_)
  · replace h := h.1 c
    refine m_aload_n dX9_readOne_8 rfl 0 rfl ?_
    obtain ⟨hr9, h⟩ := h
    refine m_callV (N := mX9_here) (st := []) (As := []) dX9_readOne_9 wsX9_here (lw_V q1987 q1989 qs42 q116 q1990) rfl mokX9_here rfl hr9 (by decide) (Nat.zero_le _) h (fun _ F1 L1 I1 J1 hq => ?_)
    obtain ⟨rx_1, rfl, h⟩ := hq
    refine AtM.stk (st' := [.int rx_1]) rfl ?_
    refine m_bipush (v := 91) dX9_readOne_12 (by decide) ?_
    refine m_icmp_ne (tgt := 45) dX9_readOne_14 (by decide) (fun c => ?_) (fun c => ?_)
    · replace h := h.1 c
      refine m_aload_n dX9_readOne_45 rfl 0 rfl ?_
      obtain ⟨hr9, h⟩ := h
      refine m_callV (N := mX9_word) (st := []) (As := []) dX9_readOne_46 wsX9_word (lw_V q2005 q2007 qs45 q116 q2008) rfl mokX9_word rfl hr9 (by decide) (Nat.zero_le _) h (fun _ F1_3 L1_4 I1_5 J1_6 hq => ?_)
      obtain ⟨rx_2, rfl, h⟩ := hq
      refine AtM.stk (st' := [.int rx_2]) rfl ?_
      refine m_ldcSw 52 dX9_readOne_49 rfl rfl rfl ?_
      obtain ⟨hr9, h⟩ := h
      refine m_callP (N := mX9_of) (st := [.int rx_2]) (As := [.ref (gk G 52)]) dX9_readOne_52 wsX9_of (lw_S q2010 q2011 q116 q2012) mokX9_of rfl hr9 (by decide) (by simp [Value.category]) h (fun _ hq => ?_)
      obtain ⟨rx_7, rfl, h⟩ := hq
      refine AtM.stk (st' := [.int rx_7, .int rx_2]) rfl ?_
      refine m_icmp_ne (tgt := 87) dX9_readOne_55 (by decide) (fun c => ?_) (fun c => ?_)
      · replace h := h.1 c
        refine m_aload_n dX9_readOne_87 rfl 0 rfl ?_
        obtain ⟨rc, hr9, h⟩ := h
        refine m_callV (N := mX9_readSum) (st := []) (As := []) dX9_readOne_88 wsX9_readSum (lw_V q2108 q2110 qs62 q116 q2111) rfl mokX9_readSum rfl hr9 (by decide) (Nat.zero_le _) h (fun _ F1_8 L1_9 I1_10 J1_11 hq => ?_)
        obtain ⟨rfl, h⟩ := hq
        refine AtM.stk (st' := []) rfl ?_
        refine m_aload_n dX9_readOne_91 rfl 0 rfl ?_
        obtain ⟨hr9, h⟩ := h
        refine m_callV (N := mX9_here) (st := []) (As := []) dX9_readOne_92 wsX9_here (lw_V q1987 q1989 qs42 q116 q1990) rfl mokX9_here rfl hr9 (by decide) (Nat.zero_le _) h (fun _ F1_13 L1_14 I1_15 J1_16 hq => ?_)
        obtain ⟨rx_12, rfl, h⟩ := hq
        refine AtM.stk (st' := [.int rx_12]) rfl ?_
        refine m_istore_n (ls1 := [(1, .int rx_12), (0, .ref o)]) dX9_readOne_95 rfl (by decide) rfl ?_
        refine m_iload_n dX9_readOne_96 rfl 0 rfl ?_
        refine m_bipush (v := 60) dX9_readOne_97 (by decide) ?_
        refine m_icmp_eq (tgt := 123) dX9_readOne_99 (by decide) (fun c => ?_) (fun c => ?_)
        · replace h := h.1 c
          exact AtM.sub (ls := [(1, .int rx_12), (0, .ref o)]) [1, 0] rfl h
        · replace h := h.2 c
          refine m_iload_n dX9_readOne_102 rfl 0 rfl ?_
          refine m_bipush (v := 62) dX9_readOne_103 (by decide) ?_
          refine m_icmp_eq (tgt := 123) dX9_readOne_105 (by decide) (fun c => ?_) (fun c => ?_)
          · replace h := h.1 c
            exact AtM.sub (ls := [(1, .int rx_12), (0, .ref o)]) [1, 0] rfl h
          · replace h := h.2 c
            refine m_iload_n dX9_readOne_108 rfl 0 rfl ?_
            refine m_bipush (v := 61) dX9_readOne_109 (by decide) ?_
            refine m_icmp_eq (tgt := 123) dX9_readOne_111 (by decide) (fun c => ?_) (fun c => ?_)
            · replace h := h.1 c
              exact AtM.sub (ls := [(1, .int rx_12), (0, .ref o)]) [1, 0] rfl h
            · replace h := h.2 c
              refine m_aload_n dX9_readOne_114 rfl 1 rfl ?_
              refine m_iconst (v := 1) dX9_readOne_115 (by decide) ?_
              refine m_aload_n dX9_readOne_116 rfl 1 rfl ?_
              refine m_get (v := .int (F1_13 4)) 4 dX9_readOne_117 (by decide) q1767 rfl ?_
              obtain ⟨hr9, h⟩ := h
              refine m_callV (N := mX9_wrong) (st := []) (As := [.int 1, .int (F1_13 4)]) dX9_readOne_120 wsX9_wrong (lw_V q2020 q2022 qs46 q116 q2023) rfl mokX9_wrong rfl hr9 (by decide) (Nat.zero_le _) h (fun _ F1_17 L1_18 I1_19 J1_20 hq => ?_)
              obtain ⟨rfl, h⟩ := hq
              refine AtM.stk (st' := []) rfl ?_
              exact AtM.sub (ls := [(1, .int rx_12), (0, .ref o)]) [1, 0] rfl h
      · replace h := h.2 c
        refine m_aload_n dX9_readOne_58 rfl 0 rfl ?_
        refine m_iconst (v := 3) dX9_readOne_59 (by decide) ?_
        obtain ⟨hr9, h⟩ := h
        refine m_callV (N := mX9_opensOne) (st := []) (As := [.int 3]) dX9_readOne_60 wsX9_opensOne (lw_V q2099 q2101 qs60 q116 q2102) rfl mokX9_opensOne rfl hr9 (by decide) (Nat.zero_le _) h (fun _ F1_21 L1_22 I1_23 J1_24 hq => ?_)
        obtain ⟨rfl, h⟩ := hq
        refine AtM.stk (st' := []) rfl ?_
        refine m_aload_n dX9_readOne_63 rfl 0 rfl ?_
        obtain ⟨rc, hr9, h⟩ := h
        refine m_callV (N := mX9_readOne) (st := []) (As := []) dX9_readOne_64 wsX9_readOne (lw_V q2095 q2097 qs59 q116 q2098) rfl mokX9_readOne rfl hr9 (by decide) (Nat.zero_le _) h (fun _ F1_25 L1_26 I1_27 J1_28 hq => ?_)
        obtain ⟨rfl, h⟩ := hq
        refine AtM.stk (st' := []) rfl ?_
        refine m_aload_n dX9_readOne_67 rfl 0 rfl ?_
        refine m_dup dX9_readOne_68 rfl ?_
        refine m_get (v := .int (F1_25 7)) 7 dX9_readOne_69 (by decide) q1770 rfl ?_
        refine m_iconst (v := 1) dX9_readOne_72 (by decide) ?_
        refine m_isub dX9_readOne_73 ?_
        refine m_putI 7 dX9_readOne_74 (by decide) q1770 rfl rfl rfl rfl ?_
        refine m_topF (fun F1_29 eF1_29 => ?_)
        replace h := h F1_29 eF1_29
        refine m_aload_n dX9_readOne_77 rfl 0 rfl ?_
        refine m_bipush (v := 8) dX9_readOne_78 (by decide) ?_
        refine m_iconst (v := 0) dX9_readOne_80 (by decide) ?_
        obtain ⟨hr9, h⟩ := h
        refine m_callV (N := mX9_emit) (st := []) (As := [.int 8, .int 0]) dX9_readOne_81 wsX9_emit (lw_V q2104 q2106 qs61 q116 q2107) rfl mokX9_emit rfl hr9 (by decide) (Nat.zero_le _) h (fun _ F1_30 L1_31 I1_32 J1_33 hq => ?_)
        obtain ⟨rfl, h⟩ := hq
        refine AtM.stk (st' := []) rfl ?_
        refine m_goto (tgt := 173) dX9_readOne_84 (by decide) ?_
        exact m_vret rfl dX9_readOne_173 h
    · replace h := h.2 c
      refine m_aload_n dX9_readOne_17 rfl 0 rfl ?_
      refine m_iconst (v := 1) dX9_readOne_18 (by decide) ?_
      obtain ⟨hr9, h⟩ := h
      refine m_callV (N := mX9_opensOne) (st := []) (As := [.int 1]) dX9_readOne_19 wsX9_opensOne (lw_V q2099 q2101 qs60 q116 q2102) rfl mokX9_opensOne rfl hr9 (by decide) (Nat.zero_le _) h (fun _ F1_34 L1_35 I1_36 J1_37 hq => ?_)
      obtain ⟨rfl, h⟩ := hq
      refine AtM.stk (st' := []) rfl ?_
      refine m_aload_n dX9_readOne_22 rfl 0 rfl ?_
      obtain ⟨rc, hr9, h⟩ := h
      refine m_callV (N := mX9_readAny) (st := []) (As := []) dX9_readOne_23 wsX9_readAny (lw_V q2087 q2089 qs57 q116 q2090) rfl mokX9_readAny rfl hr9 (by decide) (Nat.zero_le _) h (fun _ F1_38 L1_39 I1_40 J1_41 hq => ?_)
      obtain ⟨rfl, h⟩ := hq
      refine AtM.stk (st' := []) rfl ?_
      refine m_aload_n dX9_readOne_26 rfl 0 rfl ?_
      refine m_bipush (v := 93) dX9_readOne_27 (by decide) ?_
      obtain ⟨hr9, h⟩ := h
      refine m_callV (N := mX9_sign) (st := []) (As := [.int 93]) dX9_readOne_29 wsX9_sign (lw_V q2043 q2045 qs51 q116 q2046) rfl mokX9_sign rfl hr9 (by decide) (Nat.zero_le _) h (fun _ F1_42 L1_43 I1_44 J1_45 hq => ?_)
      obtain ⟨rfl, h⟩ := hq
      refine AtM.stk (st' := []) rfl ?_
      refine m_aload_n dX9_readOne_32 rfl 0 rfl ?_
      refine m_dup dX9_readOne_33 rfl ?_
      refine m_get (v := .int (F1_42 7)) 7 dX9_readOne_34 (by decide) q1770 rfl ?_
      refine m_iconst (v := 1) dX9_readOne_37 (by decide) ?_
      refine m_isub dX9_readOne_38 ?_
      refine m_putI 7 dX9_readOne_39 (by decide) q1770 rfl rfl rfl rfl ?_
      refine m_topF (fun F1_46 eF1_46 => ?_)
      replace h := h F1_46 eF1_46
      refine m_goto (tgt := 173) dX9_readOne_42 (by decide) ?_
      exact m_vret rfl dX9_readOne_173 h
  · replace h := h.2 c
    exact m_vret rfl dX9_readOne_7 h
set_option maxHeartbeats 4000000 in
theorem bX9_readOne_123 {G : GC} {r : Nat} {ad : Nat → Nat} {o : Nat} {σ0 : PS} {Q : MPost} {x1 : Int32} {F : Nat → Int32} {L : Nat → Int64} {I : Nat → Nat → Int32} {J : Nat → Nat → Int64} (h : 3 + 1 ≤ r ∧ CallMO G mX9_fine 3 ad o [.ref o] F L I J (pI (fun rx => ((¬ rx = 0) → (∀ F1 : Nat → Int32, F1 = fU F 4 (((F 4) + 1)) → ∃ rc : Nat, rc + 1 ≤ r ∧ CallM G mX9_readSum rc ad o [.ref o] F1 L I J (mqV (fun F1_1 L1 I1 J1 => ((¬ x1 = 60) → ((¬ x1 = 62) → 4 + 1 ≤ r ∧ CallM G mX9_emit 4 ad o [.ref o, .int 7, .int 0] F1_1 L1 I1 J1 (mqV (fun F1_2 L1_3 I1_4 J1_5 => Q none F1_2 L1_3 I1_4 J1_5))) ∧ ((x1 = 62) → 4 + 1 ≤ r ∧ CallM G mX9_emit 4 ad o [.ref o, .int 6, .int 0] F1_1 L1 I1 J1 (mqV (fun F1_6 L1_7 I1_8 J1_9 => Q none F1_6 L1_7 I1_8 J1_9)))) ∧ ((x1 = 60) → 4 + 1 ≤ r ∧ CallM G mX9_emit 4 ad o [.ref o, .int 5, .int 0] F1_1 L1 I1 J1 (mqV (fun F1_10 L1_11 I1_12 J1_13 => Q none F1_10 L1_11 I1_12 J1_13))))))) ∧ ((rx = 0) → Q none F L I J)))) : AtM G mX9_readOne r ad o σ0 Q 123 [(0, .ref o), (1, .int x1)] [] F L I J := by
  refine m_aload_n dX9_readOne_123 rfl 0 rfl ?_
  obtain ⟨hr9, h⟩ := h
  refine m_callV (N := mX9_fine) (st := []) (As := []) dX9_readOne_124 wsX9_fine (lw_V q1979 q1981 qs40 q116 q1982) rfl mokX9_fine rfl hr9 (by decide) (Nat.zero_le _) h (fun _ F9 L9 I9 J9 hq => ?_)
  obtain ⟨e1, e2, e3, e4, hq⟩ := hq
  refine AtM.re e1 e2 e3 e4 ?_
  obtain ⟨rx, rfl, h⟩ := hq
  refine AtM.stk (st' := [.int rx]) rfl ?_
  refine m_if_ne (tgt := 131) dX9_readOne_127 (by decide) (fun c => ?_) (fun c => ?_)
  · replace h := h.1 c
    refine m_aload_n dX9_readOne_131 rfl 0 rfl ?_
    refine m_dup dX9_readOne_132 rfl ?_
    refine m_get (v := .int (F 4)) 4 dX9_readOne_133 (by decide) q1767 rfl ?_
    refine m_iconst (v := 1) dX9_readOne_136 (by decide) ?_
    refine m_iadd dX9_readOne_137 ?_
    refine m_putI 4 dX9_readOne_138 (by decide) q1767 rfl rfl rfl rfl ?_
    refine m_topF (fun F1 eF1 => ?_)
    replace h := h F1 eF1
    refine m_aload_n dX9_readOne_141 rfl 0 rfl ?_
    obtain ⟨rc, hr9, h⟩ := h
    refine m_callV (N := mX9_readSum) (st := []) (As := []) dX9_readOne_142 wsX9_readSum (lw_V q2108 q2110 qs62 q116 q2111) rfl mokX9_readSum rfl hr9 (by decide) (Nat.zero_le _) h (fun _ F1_1 L1 I1 J1 hq => ?_)
    obtain ⟨rfl, h⟩ := hq
    refine AtM.stk (st' := []) rfl ?_
    refine m_aload_n dX9_readOne_145 rfl 0 rfl ?_
    refine m_iload_n dX9_readOne_146 rfl 1 rfl ?_
    refine m_bipush (v := 60) dX9_readOne_147 (by decide) ?_
    refine m_icmp_ne (tgt := 156) dX9_readOne_149 (by decide) (fun c => ?_) (fun c => ?_)
    · replace h := h.1 c
      refine m_iload_n dX9_readOne_156 rfl 1 rfl ?_
      refine m_bipush (v := 62) dX9_readOne_157 (by decide) ?_
      refine m_icmp_ne (tgt := 167) dX9_readOne_159 (by decide) (fun c => ?_) (fun c => ?_)
      · replace h := h.1 c
        refine m_bipush (v := 7) dX9_readOne_167 (by decide) ?_
        refine m_iconst (v := 0) dX9_readOne_169 (by decide) ?_
        obtain ⟨hr9, h⟩ := h
        refine m_callV (N := mX9_emit) (st := []) (As := [.int 7, .int 0]) dX9_readOne_170 wsX9_emit (lw_V q2104 q2106 qs61 q116 q2107) rfl mokX9_emit rfl hr9 (by decide) (Nat.zero_le _) h (fun _ F1_2 L1_3 I1_4 J1_5 hq => ?_)
        obtain ⟨rfl, h⟩ := hq
        refine AtM.stk (st' := []) rfl ?_
        exact m_vret rfl dX9_readOne_173 h
      · replace h := h.2 c
        refine m_bipush (v := 6) dX9_readOne_162 (by decide) ?_
        refine m_goto (tgt := 169) dX9_readOne_164 (by decide) ?_
        refine m_iconst (v := 0) dX9_readOne_169 (by decide) ?_
        obtain ⟨hr9, h⟩ := h
        refine m_callV (N := mX9_emit) (st := []) (As := [.int 6, .int 0]) dX9_readOne_170 wsX9_emit (lw_V q2104 q2106 qs61 q116 q2107) rfl mokX9_emit rfl hr9 (by decide) (Nat.zero_le _) h (fun _ F1_6 L1_7 I1_8 J1_9 hq => ?_)
        obtain ⟨rfl, h⟩ := hq
        refine AtM.stk (st' := []) rfl ?_
        exact m_vret rfl dX9_readOne_173 h
    · replace h := h.2 c
      refine m_iconst (v := 5) dX9_readOne_152 (by decide) ?_
      refine m_goto (tgt := 169) dX9_readOne_153 (by decide) ?_
      refine m_iconst (v := 0) dX9_readOne_169 (by decide) ?_
      obtain ⟨hr9, h⟩ := h
      refine m_callV (N := mX9_emit) (st := []) (As := [.int 5, .int 0]) dX9_readOne_170 wsX9_emit (lw_V q2104 q2106 qs61 q116 q2107) rfl mokX9_emit rfl hr9 (by decide) (Nat.zero_le _) h (fun _ F1_10 L1_11 I1_12 J1_13 hq => ?_)
      obtain ⟨rfl, h⟩ := hq
      refine AtM.stk (st' := []) rfl ?_
      exact m_vret rfl dX9_readOne_173 h
  · replace h := h.2 c
    exact m_vret rfl dX9_readOne_130 h
theorem eX9_readOne {G : GC} {r : Nat} {ad : Nat → Nat} {o : Nat} {Q : MPost} {F : Nat → Int32} {L : Nat → Int64} {I : Nat → Nat → Int32} {J : Nat → Nat → Int64} (h : ∀ σ0, AtM G mX9_readOne r ad o σ0 Q 0 [(0, .ref o)] [] F L I J) : CallM G mX9_readOne r ad o [.ref o] F L I J Q :=
  CallM.of (by decide +kernel) wsX9_readOne rfl (Nat.le_of_ble_eq_true rfl) (fun σ0 => AtM.sub (ls := [(0, .ref o)]) [0] rfl (h σ0))
set_option maxHeartbeats 4000000 in
theorem bX9_opensOne_0 {G : GC} {ad : Nat → Nat} {o : Nat} {σ0 : PS} {Q : MPost} {x1 : Int32} {F : Nat → Int32} {L : Nat → Int64} {I : Nat → Nat → Int32} {J : Nat → Nat → Int64} (h : CallMO G mX9_fine 3 ad o [.ref o] F L I J (pI (fun rx => ((rx = 0) → AtM G mX9_opensOne 4 ad o σ0 Q 25 [(0, .ref o), (1, .int x1)] [] F L I J) ∧ ((¬ rx = 0) → ((¬ (F 7) = 6) → AtM G mX9_opensOne 4 ad o σ0 Q 25 [(0, .ref o), (1, .int x1)] [] F L I J) ∧ (((F 7) = 6) → CallM G mX9_wrong 3 ad o [.ref o, .int 3, .int (F 4)] F L I J (mqV (fun F1 L1 I1 J1 => AtM G mX9_opensOne 4 ad o σ0 Q 25 [(0, .ref o), (1, .int x1)] [] F1 L1 I1 J1))))))) : AtM G mX9_opensOne 4 ad o σ0 Q 0 [(0, .ref o), (1, .int x1)] [] F L I J := by
  refine m_aload_n dX9_opensOne_0 rfl 0 rfl ?_
  refine m_callV (N := mX9_fine) (st := []) (As := []) dX9_opensOne_1 wsX9_fine (lw_V q1979 q1981 qs40 q116 q1982) rfl mokX9_fine rfl (by decide) (by decide) (Nat.zero_le _) h (fun _ F9 L9 I9 J9 hq => ?_)
  obtain ⟨e1, e2, e3, e4, hq⟩ := hq
  refine AtM.re e1 e2 e3 e4 ?_
  obtain ⟨rx, rfl, h⟩ := hq
  refine AtM.stk (st' := [.int rx]) rfl ?_
  refine m_if_eq (tgt := 25) dX9_opensOne_4 (by decide) (fun c => ?_) (fun c => ?_)
  · replace h := h.1 c
    exact AtM.sub (ls := [(0, .ref o), (1, .int x1)]) [0, 1] rfl h
  · replace h := h.2 c
    refine m_aload_n dX9_opensOne_7 rfl 0 rfl ?_
    refine m_get (v := .int (F 7)) 7 dX9_opensOne_8 (by decide) q1770 rfl ?_
    refine m_bipush (v := 6) dX9_opensOne_11 (by decide) ?_
    refine m_icmp_ne (tgt := 25) dX9_opensOne_13 (by decide) (fun c => ?_) (fun c => ?_)
    · replace h := h.1 c
      exact AtM.sub (ls := [(0, .ref o), (1, .int x1)]) [0, 1] rfl h
    · replace h := h.2 c
      refine m_aload_n dX9_opensOne_16 rfl 0 rfl ?_
      refine m_iconst (v := 3) dX9_opensOne_17 (by decide) ?_
      refine m_aload_n dX9_opensOne_18 rfl 0 rfl ?_
      refine m_get (v := .int (F 4)) 4 dX9_opensOne_19 (by decide) q1767 rfl ?_
      refine m_callV (N := mX9_wrong) (st := []) (As := [.int 3, .int (F 4)]) dX9_opensOne_22 wsX9_wrong (lw_V q2020 q2022 qs46 q116 q2023) rfl mokX9_wrong rfl (by decide) (by decide) (Nat.zero_le _) h (fun _ F1 L1 I1 J1 hq => ?_)
      obtain ⟨rfl, h⟩ := hq
      refine AtM.stk (st' := []) rfl ?_
      exact AtM.sub (ls := [(0, .ref o), (1, .int x1)]) [0, 1] rfl h
set_option maxHeartbeats 4000000 in
theorem bX9_opensOne_25 {G : GC} {ad : Nat → Nat} {o : Nat} {σ0 : PS} {Q : MPost} {x1 : Int32} {F : Nat → Int32} {L : Nat → Int64} {I : Nat → Nat → Int32} {J : Nat → Nat → Int64} (h : CallMO G mX9_fine 3 ad o [.ref o] F L I J (pI (fun rx => ((rx = 0) → (∀ F1 : Nat → Int32, F1 = fU F 7 (((F 7) + 1)) → Q none F1 L I J)) ∧ ((¬ rx = 0) → (∀ F1 : Nat → Int32, F1 = fU F 4 (((F 4) + x1)) → (∀ F1_1 : Nat → Int32, F1_1 = fU F1 7 (((F1 7) + 1)) → Q none F1_1 L I J)))))) : AtM G mX9_opensOne 4 ad o σ0 Q 25 [(0, .ref o), (1, .int x1)] [] F L I J := by
  refine m_aload_n dX9_opensOne_25 rfl 0 rfl ?_
  refine m_callV (N := mX9_fine) (st := []) (As := []) dX9_opensOne_26 wsX9_fine (lw_V q1979 q1981 qs40 q116 q1982) rfl mokX9_fine rfl (by decide) (by decide) (Nat.zero_le _) h (fun _ F9 L9 I9 J9 hq => ?_)
  obtain ⟨e1, e2, e3, e4, hq⟩ := hq
  refine AtM.re e1 e2 e3 e4 ?_
  obtain ⟨rx, rfl, h⟩ := hq
  refine AtM.stk (st' := [.int rx]) rfl ?_
  refine m_if_eq (tgt := 42) dX9_opensOne_29 (by decide) (fun c => ?_) (fun c => ?_)
  · replace h := h.1 c
    refine m_aload_n dX9_opensOne_42 rfl 0 rfl ?_
    refine m_dup dX9_opensOne_43 rfl ?_
    refine m_get (v := .int (F 7)) 7 dX9_opensOne_44 (by decide) q1770 rfl ?_
    refine m_iconst (v := 1) dX9_opensOne_47 (by decide) ?_
    refine m_iadd dX9_opensOne_48 ?_
    refine m_putI 7 dX9_opensOne_49 (by decide) q1770 rfl rfl rfl rfl ?_
    refine m_topF (fun F1 eF1 => ?_)
    replace h := h F1 eF1
    exact m_vret rfl dX9_opensOne_52 h
  · replace h := h.2 c
    refine m_aload_n dX9_opensOne_32 rfl 0 rfl ?_
    refine m_dup dX9_opensOne_33 rfl ?_
    refine m_get (v := .int (F 4)) 4 dX9_opensOne_34 (by decide) q1767 rfl ?_
    refine m_iload_n dX9_opensOne_37 rfl 1 rfl ?_
    refine m_iadd dX9_opensOne_38 ?_
    refine m_putI 4 dX9_opensOne_39 (by decide) q1767 rfl rfl rfl rfl ?_
    refine m_topF (fun F1 eF1 => ?_)
    replace h := h F1 eF1
    refine m_aload_n dX9_opensOne_42 rfl 0 rfl ?_
    refine m_dup dX9_opensOne_43 rfl ?_
    refine m_get (v := .int (F1 7)) 7 dX9_opensOne_44 (by decide) q1770 rfl ?_
    refine m_iconst (v := 1) dX9_opensOne_47 (by decide) ?_
    refine m_iadd dX9_opensOne_48 ?_
    refine m_putI 7 dX9_opensOne_49 (by decide) q1770 rfl rfl rfl rfl ?_
    refine m_topF (fun F1_1 eF1_1 => ?_)
    replace h := h F1_1 eF1_1
    exact m_vret rfl dX9_opensOne_52 h
theorem eX9_opensOne {G : GC} {ad : Nat → Nat} {o : Nat} {Q : MPost} {p1 : Int32} {F : Nat → Int32} {L : Nat → Int64} {I : Nat → Nat → Int32} {J : Nat → Nat → Int64} (h : ∀ σ0, AtM G mX9_opensOne 4 ad o σ0 Q 0 [(0, .ref o), (1, .int p1)] [] F L I J) : CallM G mX9_opensOne 4 ad o [.ref o, .int p1] F L I J Q :=
  CallM.of (by decide +kernel) wsX9_opensOne rfl (Nat.le_of_ble_eq_true rfl) (fun σ0 => AtM.sub (ls := [(0, .ref o), (1, .int p1)]) [0, 1] rfl (h σ0))
set_option maxHeartbeats 4000000 in
theorem bX9_emit_0 {G : GC} {ad : Nat → Nat} {o : Nat} {σ0 : PS} {Q : MPost} {x1 : Int32} {x2 : Int32} {F : Nat → Int32} {L : Nat → Int64} {I : Nat → Nat → Int32} {J : Nat → Nat → Int64} (h : CallMO G mX9_fine 3 ad o [.ref o] F L I J (pI (fun rx => ((¬ rx = 0) → vp_in (F 28) 150 ∧ (∀ I1 : Nat → Nat → Int32, I1 = aU I 20 (F 28).toNatClampNeg x1 → vp_in (F 28) 150 ∧ (∀ I1_1 : Nat → Nat → Int32, I1_1 = aU I1 21 (F 28).toNatClampNeg x2 → (∀ F1 : Nat → Int32, F1 = fU F 28 (((F 28) + 1)) → Q none F1 L I1_1 J)))) ∧ ((rx = 0) → Q none F L I J)))) : AtM G mX9_emit 4 ad o σ0 Q 0 [(0, .ref o), (1, .int x1), (2, .int x2)] [] F L I J := by
  refine m_aload_n dX9_emit_0 rfl 0 rfl ?_
  refine m_callV (N := mX9_fine) (st := []) (As := []) dX9_emit_1 wsX9_fine (lw_V q1979 q1981 qs40 q116 q1982) rfl mokX9_fine rfl (by decide) (by decide) (Nat.zero_le _) h (fun _ F9 L9 I9 J9 hq => ?_)
  obtain ⟨e1, e2, e3, e4, hq⟩ := hq
  refine AtM.re e1 e2 e3 e4 ?_
  obtain ⟨rx, rfl, h⟩ := hq
  refine AtM.stk (st' := [.int rx]) rfl ?_
  refine m_if_ne (tgt := 8) dX9_emit_4 (by decide) (fun c => ?_) (fun c => ?_)
  · replace h := h.1 c
    refine m_aload_n dX9_emit_8 rfl 0 rfl ?_
    refine m_get (v := .ref (ad 20)) 20 dX9_emit_9 (by decide) q1783 rfl ?_
    refine m_aload_n dX9_emit_12 rfl 0 rfl ?_
    refine m_get (v := .int (F 28)) 28 dX9_emit_13 (by decide) q1791 rfl ?_
    refine m_iload_n dX9_emit_16 rfl 1 rfl ?_
    obtain ⟨h1, h⟩ := h
    refine m_iast 20 dX9_emit_17 (by decide) rfl h1 ?_
    refine m_topI (fun I1 eI1 => ?_)
    replace h := h I1 eI1
    refine m_aload_n dX9_emit_18 rfl 0 rfl ?_
    refine m_get (v := .ref (ad 21)) 21 dX9_emit_19 (by decide) q1784 rfl ?_
    refine m_aload_n dX9_emit_22 rfl 0 rfl ?_
    refine m_get (v := .int (F 28)) 28 dX9_emit_23 (by decide) q1791 rfl ?_
    refine m_iload_n dX9_emit_26 rfl 2 rfl ?_
    obtain ⟨h1, h⟩ := h
    refine m_iast 21 dX9_emit_27 (by decide) rfl h1 ?_
    refine m_topI (fun I1_1 eI1_1 => ?_)
    replace h := h I1_1 eI1_1
    refine m_aload_n dX9_emit_28 rfl 0 rfl ?_
    refine m_dup dX9_emit_29 rfl ?_
    refine m_get (v := .int (F 28)) 28 dX9_emit_30 (by decide) q1791 rfl ?_
    refine m_iconst (v := 1) dX9_emit_33 (by decide) ?_
    refine m_iadd dX9_emit_34 ?_
    refine m_putI 28 dX9_emit_35 (by decide) q1791 rfl rfl rfl rfl ?_
    refine m_topF (fun F1 eF1 => ?_)
    replace h := h F1 eF1
    exact m_vret rfl dX9_emit_38 h
  · replace h := h.2 c
    exact m_vret rfl dX9_emit_7 h
theorem eX9_emit {G : GC} {ad : Nat → Nat} {o : Nat} {Q : MPost} {p1 : Int32} {p2 : Int32} {F : Nat → Int32} {L : Nat → Int64} {I : Nat → Nat → Int32} {J : Nat → Nat → Int64} (h : ∀ σ0, AtM G mX9_emit 4 ad o σ0 Q 0 [(0, .ref o), (1, .int p1), (2, .int p2)] [] F L I J) : CallM G mX9_emit 4 ad o [.ref o, .int p1, .int p2] F L I J Q :=
  CallM.of (by decide +kernel) wsX9_emit rfl (Nat.le_of_ble_eq_true rfl) (fun σ0 => AtM.sub (ls := [(0, .ref o), (1, .int p1), (2, .int p2)]) [0, 1, 2] rfl (h σ0))
set_option maxHeartbeats 4000000 in
theorem bX9_readSum_0 {G : GC} {r : Nat} {ad : Nat → Nat} {o : Nat} {σ0 : PS} {Q : MPost} {F : Nat → Int32} {L : Nat → Int64} {I : Nat → Nat → Int32} {J : Nat → Nat → Int64} (h : ∃ rc : Nat, rc + 1 ≤ r ∧ CallM G mX9_readProduct rc ad o [.ref o] F L I J (mqV (fun F1 L1 I1 J1 => AtM G mX9_readSum r ad o σ0 Q 4 [(0, .ref o)] [] F1 L1 I1 J1))) : AtM G mX9_readSum r ad o σ0 Q 0 [(0, .ref o)] [] F L I J := by
  refine m_aload_n dX9_readSum_0 rfl 0 rfl ?_
  obtain ⟨rc, hr9, h⟩ := h
  refine m_callV (N := mX9_readProduct) (st := []) (As := []) dX9_readSum_1 wsX9_readProduct (lw_V q2112 q2114 qs63 q116 q2115) rfl mokX9_readProduct rfl hr9 (by decide) (Nat.zero_le _) h (fun _ F1 L1 I1 J1 hq => ?_)
  obtain ⟨rfl, h⟩ := hq
  refine AtM.stk (st' := []) rfl ?_
  exact AtM.sub (ls := [(0, .ref o)]) [0] rfl h
set_option maxHeartbeats 4000000 in
theorem bX9_readSum_4 {G : GC} {r : Nat} {ad : Nat → Nat} {o : Nat} {σ0 : PS} {Q : MPost} {F : Nat → Int32} {L : Nat → Int64} {I : Nat → Nat → Int32} {J : Nat → Nat → Int64} (h : 3 + 1 ≤ r ∧ CallMO G mX9_fine 3 ad o [.ref o] F L I J (pI (fun rx => ((rx = 0) → Q none F L I J) ∧ ((¬ rx = 0) → 3 + 1 ≤ r ∧ CallM G mX9_here 3 ad o [.ref o] F L I J (mqI (fun rx_1 F1 L1 I1 J1 => ((rx_1 = 43) → 3 + 1 ≤ r ∧ CallM G mX9_here 3 ad o [.ref o] F1 L1 I1 J1 (mqI (fun rx_2 F1_3 L1_4 I1_5 J1_6 => ((¬ rx_2 = 43) → AtM G mX9_readSum r ad o σ0 Q 43 [(0, .ref o)] [.int 3] F1_3 L1_4 I1_5 J1_6) ∧ ((rx_2 = 43) → AtM G mX9_readSum r ad o σ0 Q 43 [(0, .ref o)] [.int 2] F1_3 L1_4 I1_5 J1_6)))) ∧ ((¬ rx_1 = 43) → 3 + 1 ≤ r ∧ CallM G mX9_here 3 ad o [.ref o] F1 L1 I1 J1 (mqI (fun rx_7 F1_8 L1_9 I1_10 J1_11 => ((¬ rx_7 = 45) → Q none F1_8 L1_9 I1_10 J1_11) ∧ ((rx_7 = 45) → 3 + 1 ≤ r ∧ CallM G mX9_here 3 ad o [.ref o] F1_8 L1_9 I1_10 J1_11 (mqI (fun rx_12 F1_13 L1_14 I1_15 J1_16 => ((¬ rx_12 = 43) → AtM G mX9_readSum r ad o σ0 Q 43 [(0, .ref o)] [.int 3] F1_13 L1_14 I1_15 J1_16) ∧ ((rx_12 = 43) → AtM G mX9_readSum r ad o σ0 Q 43 [(0, .ref o)] [.int 2] F1_13 L1_14 I1_15 J1_16))))))))))))) : AtM G mX9_readSum r ad o σ0 Q 4 [(0, .ref o)] [] F L I J := by
  refine m_aload_n dX9_readSum_4 rfl 0 rfl ?_
  obtain ⟨hr9, h⟩ := h
  refine m_callV (N := mX9_fine) (st := []) (As := []) dX9_readSum_5 wsX9_fine (lw_V q1979 q1981 qs40 q116 q1982) rfl mokX9_fine rfl hr9 (by decide) (Nat.zero_le _) h (fun _ F9 L9 I9 J9 hq => ?_)
  obtain ⟨e1, e2, e3, e4, hq⟩ := hq
  refine AtM.re e1 e2 e3 e4 ?_
  obtain ⟨rx, rfl, h⟩ := hq
  refine AtM.stk (st' := [.int rx]) rfl ?_
  refine m_if_eq (tgt := 67) dX9_readSum_8 (by decide) (fun c => ?_) (fun c => ?_)
  · replace h := h.1 c
    exact m_vret rfl dX9_readSum_67 h
  · replace h := h.2 c
    refine m_aload_n dX9_readSum_11 rfl 0 rfl ?_
    obtain ⟨hr9, h⟩ := h
    refine m_callV (N := mX9_here) (st := []) (As := []) dX9_readSum_12 wsX9_here (lw_V q1987 q1989 qs42 q116 q1990) rfl mokX9_here rfl hr9 (by decide) (Nat.zero_le _) h (fun _ F1 L1 I1 J1 hq => ?_)
    obtain ⟨rx_1, rfl, h⟩ := hq
    refine AtM.stk (st' := [.int rx_1]) rfl ?_
    refine m_bipush (v := 43) dX9_readSum_15 (by decide) ?_
    refine m_icmp_eq (tgt := 29) dX9_readSum_17 (by decide) (fun c => ?_) (fun c => ?_)
    · replace h := h.1 c
      refine m_aload_n dX9_readSum_29 rfl 0 rfl ?_
      obtain ⟨hr9, h⟩ := h
      refine m_callV (N := mX9_here) (st := []) (As := []) dX9_readSum_30 wsX9_here (lw_V q1987 q1989 qs42 q116 q1990) rfl mokX9_here rfl hr9 (by decide) (Nat.zero_le _) h (fun _ F1_3 L1_4 I1_5 J1_6 hq => ?_)
      obtain ⟨rx_2, rfl, h⟩ := hq
      refine AtM.stk (st' := [.int rx_2]) rfl ?_
      refine m_bipush (v := 43) dX9_readSum_33 (by decide) ?_
      refine m_icmp_ne (tgt := 42) dX9_readSum_35 (by decide) (fun c => ?_) (fun c => ?_)
      · replace h := h.1 c
        refine m_iconst (v := 3) dX9_readSum_42 (by decide) ?_
        exact AtM.sub (ls := [(0, .ref o)]) [0] rfl h
      · replace h := h.2 c
        refine m_iconst (v := 2) dX9_readSum_38 (by decide) ?_
        refine m_goto (tgt := 43) dX9_readSum_39 (by decide) ?_
        exact AtM.sub (ls := [(0, .ref o)]) [0] rfl h
    · replace h := h.2 c
      refine m_aload_n dX9_readSum_20 rfl 0 rfl ?_
      obtain ⟨hr9, h⟩ := h
      refine m_callV (N := mX9_here) (st := []) (As := []) dX9_readSum_21 wsX9_here (lw_V q1987 q1989 qs42 q116 q1990) rfl mokX9_here rfl hr9 (by decide) (Nat.zero_le _) h (fun _ F1_8 L1_9 I1_10 J1_11 hq => ?_)
      obtain ⟨rx_7, rfl, h⟩ := hq
      refine AtM.stk (st' := [.int rx_7]) rfl ?_
      refine m_bipush (v := 45) dX9_readSum_24 (by decide) ?_
      refine m_icmp_ne (tgt := 67) dX9_readSum_26 (by decide) (fun c => ?_) (fun c => ?_)
      · replace h := h.1 c
        exact m_vret rfl dX9_readSum_67 h
      · replace h := h.2 c
        refine m_aload_n dX9_readSum_29 rfl 0 rfl ?_
        obtain ⟨hr9, h⟩ := h
        refine m_callV (N := mX9_here) (st := []) (As := []) dX9_readSum_30 wsX9_here (lw_V q1987 q1989 qs42 q116 q1990) rfl mokX9_here rfl hr9 (by decide) (Nat.zero_le _) h (fun _ F1_13 L1_14 I1_15 J1_16 hq => ?_)
        obtain ⟨rx_12, rfl, h⟩ := hq
        refine AtM.stk (st' := [.int rx_12]) rfl ?_
        refine m_bipush (v := 43) dX9_readSum_33 (by decide) ?_
        refine m_icmp_ne (tgt := 42) dX9_readSum_35 (by decide) (fun c => ?_) (fun c => ?_)
        · replace h := h.1 c
          refine m_iconst (v := 3) dX9_readSum_42 (by decide) ?_
          exact AtM.sub (ls := [(0, .ref o)]) [0] rfl h
        · replace h := h.2 c
          refine m_iconst (v := 2) dX9_readSum_38 (by decide) ?_
          refine m_goto (tgt := 43) dX9_readSum_39 (by decide) ?_
          exact AtM.sub (ls := [(0, .ref o)]) [0] rfl h
set_option maxHeartbeats 4000000 in
theorem bX9_readSum_43 {G : GC} {r : Nat} {ad : Nat → Nat} {o : Nat} {σ0 : PS} {Q : MPost} {sx0 : Int32} {F : Nat → Int32} {L : Nat → Int64} {I : Nat → Nat → Int32} {J : Nat → Nat → Int64} (h : (∀ F1 : Nat → Int32, F1 = fU F 4 (((F 4) + 1)) → ∃ rc : Nat, rc + 1 ≤ r ∧ CallM G mX9_readProduct rc ad o [.ref o] F1 L I J (mqV (fun F1_1 L1 I1 J1 => 4 + 1 ≤ r ∧ CallM G mX9_emit 4 ad o [.ref o, .int sx0, .int 0] F1_1 L1 I1 J1 (mqV (fun F1_2 L1_3 I1_4 J1_5 => AtM G mX9_readSum r ad o σ0 Q 4 [(0, .ref o)] [] F1_2 L1_3 I1_4 J1_5)))))) : AtM G mX9_readSum r ad o σ0 Q 43 [(0, .ref o)] [.int sx0] F L I J := by
  refine m_istore_n (ls1 := [(1, .int sx0), (0, .ref o)]) dX9_readSum_43 rfl (by decide) rfl ?_
  refine m_aload_n dX9_readSum_44 rfl 1 rfl ?_
  refine m_dup dX9_readSum_45 rfl ?_
  refine m_get (v := .int (F 4)) 4 dX9_readSum_46 (by decide) q1767 rfl ?_
  refine m_iconst (v := 1) dX9_readSum_49 (by decide) ?_
  refine m_iadd dX9_readSum_50 ?_
  refine m_putI 4 dX9_readSum_51 (by decide) q1767 rfl rfl rfl rfl ?_
  refine m_topF (fun F1 eF1 => ?_)
  replace h := h F1 eF1
  refine m_aload_n dX9_readSum_54 rfl 1 rfl ?_
  obtain ⟨rc, hr9, h⟩ := h
  refine m_callV (N := mX9_readProduct) (st := []) (As := []) dX9_readSum_55 wsX9_readProduct (lw_V q2112 q2114 qs63 q116 q2115) rfl mokX9_readProduct rfl hr9 (by decide) (Nat.zero_le _) h (fun _ F1_1 L1 I1 J1 hq => ?_)
  obtain ⟨rfl, h⟩ := hq
  refine AtM.stk (st' := []) rfl ?_
  refine m_aload_n dX9_readSum_58 rfl 1 rfl ?_
  refine m_iload_n dX9_readSum_59 rfl 0 rfl ?_
  refine m_iconst (v := 0) dX9_readSum_60 (by decide) ?_
  obtain ⟨hr9, h⟩ := h
  refine m_callV (N := mX9_emit) (st := []) (As := [.int sx0, .int 0]) dX9_readSum_61 wsX9_emit (lw_V q2104 q2106 qs61 q116 q2107) rfl mokX9_emit rfl hr9 (by decide) (Nat.zero_le _) h (fun _ F1_2 L1_3 I1_4 J1_5 hq => ?_)
  obtain ⟨rfl, h⟩ := hq
  refine AtM.stk (st' := []) rfl ?_
  refine m_goto (tgt := 4) dX9_readSum_64 (by decide) ?_
  exact AtM.sub (ls := [(1, .int sx0), (0, .ref o)]) [1] rfl h
theorem eX9_readSum {G : GC} {r : Nat} {ad : Nat → Nat} {o : Nat} {Q : MPost} {F : Nat → Int32} {L : Nat → Int64} {I : Nat → Nat → Int32} {J : Nat → Nat → Int64} (h : ∀ σ0, AtM G mX9_readSum r ad o σ0 Q 0 [(0, .ref o)] [] F L I J) : CallM G mX9_readSum r ad o [.ref o] F L I J Q :=
  CallM.of (by decide +kernel) wsX9_readSum rfl (Nat.le_of_ble_eq_true rfl) (fun σ0 => AtM.sub (ls := [(0, .ref o)]) [0] rfl (h σ0))
set_option maxHeartbeats 4000000 in
theorem bX9_readProduct_0 {G : GC} {r : Nat} {ad : Nat → Nat} {o : Nat} {σ0 : PS} {Q : MPost} {F : Nat → Int32} {L : Nat → Int64} {I : Nat → Nat → Int32} {J : Nat → Nat → Int64} (h : ∃ rc : Nat, rc + 1 ≤ r ∧ CallM G mX9_readUnit rc ad o [.ref o] F L I J (mqV (fun F1 L1 I1 J1 => AtM G mX9_readProduct r ad o σ0 Q 4 [(0, .ref o)] [] F1 L1 I1 J1))) : AtM G mX9_readProduct r ad o σ0 Q 0 [(0, .ref o)] [] F L I J := by
  refine m_aload_n dX9_readProduct_0 rfl 0 rfl ?_
  obtain ⟨rc, hr9, h⟩ := h
  refine m_callV (N := mX9_readUnit) (st := []) (As := []) dX9_readProduct_1 wsX9_readUnit (lw_V q2116 q2118 qs64 q116 q2119) rfl mokX9_readUnit rfl hr9 (by decide) (Nat.zero_le _) h (fun _ F1 L1 I1 J1 hq => ?_)
  obtain ⟨rfl, h⟩ := hq
  refine AtM.stk (st' := []) rfl ?_
  exact AtM.sub (ls := [(0, .ref o)]) [0] rfl h
set_option maxHeartbeats 4000000 in
theorem bX9_readProduct_4 {G : GC} {r : Nat} {ad : Nat → Nat} {o : Nat} {σ0 : PS} {Q : MPost} {F : Nat → Int32} {L : Nat → Int64} {I : Nat → Nat → Int32} {J : Nat → Nat → Int64} (h : 3 + 1 ≤ r ∧ CallMO G mX9_fine 3 ad o [.ref o] F L I J (pI (fun rx => ((rx = 0) → Q none F L I J) ∧ ((¬ rx = 0) → 3 + 1 ≤ r ∧ CallM G mX9_here 3 ad o [.ref o] F L I J (mqI (fun rx_1 F1 L1 I1 J1 => ((¬ rx_1 = 42) → Q none F1 L1 I1 J1) ∧ ((rx_1 = 42) → (∀ F1_2 : Nat → Int32, F1_2 = fU F1 4 (((F1 4) + 1)) → ∃ rc : Nat, rc + 1 ≤ r ∧ CallM G mX9_readUnit rc ad o [.ref o] F1_2 L1 I1 J1 (mqV (fun F1_3 L1_4 I1_5 J1_6 => 4 + 1 ≤ r ∧ CallM G mX9_emit 4 ad o [.ref o, .int 4, .int 0] F1_3 L1_4 I1_5 J1_6 (mqV (fun F1_7 L1_8 I1_9 J1_10 => AtM G mX9_readProduct r ad o σ0 Q 4 [(0, .ref o)] [] F1_7 L1_8 I1_9 J1_10)))))))))))) : AtM G mX9_readProduct r ad o σ0 Q 4 [(0, .ref o)] [] F L I J := by
  refine m_aload_n dX9_readProduct_4 rfl 0 rfl ?_
  obtain ⟨hr9, h⟩ := h
  refine m_callV (N := mX9_fine) (st := []) (As := []) dX9_readProduct_5 wsX9_fine (lw_V q1979 q1981 qs40 q116 q1982) rfl mokX9_fine rfl hr9 (by decide) (Nat.zero_le _) h (fun _ F9 L9 I9 J9 hq => ?_)
  obtain ⟨e1, e2, e3, e4, hq⟩ := hq
  refine AtM.re e1 e2 e3 e4 ?_
  obtain ⟨rx, rfl, h⟩ := hq
  refine AtM.stk (st' := [.int rx]) rfl ?_
  refine m_if_eq (tgt := 43) dX9_readProduct_8 (by decide) (fun c => ?_) (fun c => ?_)
  · replace h := h.1 c
    exact m_vret rfl dX9_readProduct_43 h
  · replace h := h.2 c
    refine m_aload_n dX9_readProduct_11 rfl 0 rfl ?_
    obtain ⟨hr9, h⟩ := h
    refine m_callV (N := mX9_here) (st := []) (As := []) dX9_readProduct_12 wsX9_here (lw_V q1987 q1989 qs42 q116 q1990) rfl mokX9_here rfl hr9 (by decide) (Nat.zero_le _) h (fun _ F1 L1 I1 J1 hq => ?_)
    obtain ⟨rx_1, rfl, h⟩ := hq
    refine AtM.stk (st' := [.int rx_1]) rfl ?_
    refine m_bipush (v := 42) dX9_readProduct_15 (by decide) ?_
    refine m_icmp_ne (tgt := 43) dX9_readProduct_17 (by decide) (fun c => ?_) (fun c => ?_)
    · replace h := h.1 c
      exact m_vret rfl dX9_readProduct_43 h
    · replace h := h.2 c
      refine m_aload_n dX9_readProduct_20 rfl 0 rfl ?_
      refine m_dup dX9_readProduct_21 rfl ?_
      refine m_get (v := .int (F1 4)) 4 dX9_readProduct_22 (by decide) q1767 rfl ?_
      refine m_iconst (v := 1) dX9_readProduct_25 (by decide) ?_
      refine m_iadd dX9_readProduct_26 ?_
      refine m_putI 4 dX9_readProduct_27 (by decide) q1767 rfl rfl rfl rfl ?_
      refine m_topF (fun F1_2 eF1_2 => ?_)
      replace h := h F1_2 eF1_2
      refine m_aload_n dX9_readProduct_30 rfl 0 rfl ?_
      obtain ⟨rc, hr9, h⟩ := h
      refine m_callV (N := mX9_readUnit) (st := []) (As := []) dX9_readProduct_31 wsX9_readUnit (lw_V q2116 q2118 qs64 q116 q2119) rfl mokX9_readUnit rfl hr9 (by decide) (Nat.zero_le _) h (fun _ F1_3 L1_4 I1_5 J1_6 hq => ?_)
      obtain ⟨rfl, h⟩ := hq
      refine AtM.stk (st' := []) rfl ?_
      refine m_aload_n dX9_readProduct_34 rfl 0 rfl ?_
      refine m_iconst (v := 4) dX9_readProduct_35 (by decide) ?_
      refine m_iconst (v := 0) dX9_readProduct_36 (by decide) ?_
      obtain ⟨hr9, h⟩ := h
      refine m_callV (N := mX9_emit) (st := []) (As := [.int 4, .int 0]) dX9_readProduct_37 wsX9_emit (lw_V q2104 q2106 qs61 q116 q2107) rfl mokX9_emit rfl hr9 (by decide) (Nat.zero_le _) h (fun _ F1_7 L1_8 I1_9 J1_10 hq => ?_)
      obtain ⟨rfl, h⟩ := hq
      refine AtM.stk (st' := []) rfl ?_
      refine m_goto (tgt := 4) dX9_readProduct_40 (by decide) ?_
      exact AtM.sub (ls := [(0, .ref o)]) [0] rfl h
theorem eX9_readProduct {G : GC} {r : Nat} {ad : Nat → Nat} {o : Nat} {Q : MPost} {F : Nat → Int32} {L : Nat → Int64} {I : Nat → Nat → Int32} {J : Nat → Nat → Int64} (h : ∀ σ0, AtM G mX9_readProduct r ad o σ0 Q 0 [(0, .ref o)] [] F L I J) : CallM G mX9_readProduct r ad o [.ref o] F L I J Q :=
  CallM.of (by decide +kernel) wsX9_readProduct rfl (Nat.le_of_ble_eq_true rfl) (fun σ0 => AtM.sub (ls := [(0, .ref o)]) [0] rfl (h σ0))
set_option maxHeartbeats 4000000 in
theorem bX9_readUnit_0 {G : GC} {r : Nat} {ad : Nat → Nat} {o : Nat} {σ0 : PS} {Q : MPost} {F : Nat → Int32} {L : Nat → Int64} {I : Nat → Nat → Int32} {J : Nat → Nat → Int64} (h : 3 + 1 ≤ r ∧ CallMO G mX9_fine 3 ad o [.ref o] F L I J (pI (fun rx => ((¬ rx = 0) → 3 + 1 ≤ r ∧ CallM G mX9_here 3 ad o [.ref o] F L I J (mqI (fun rx_1 F1 L1 I1 J1 => ((¬ rx_1 = 40) → 3 + 1 ≤ r ∧ CallM G mX9_here 3 ad o [.ref o] F1 L1 I1 J1 (mqI (fun rx_2 F1_3 L1_4 I1_5 J1_6 => 3 + 1 ≤ r ∧ CallP G mX9_isDigit 3 [.int rx_2] (pI (fun rx_7 => ((rx_7 = 0) → 4 + 1 ≤ r ∧ CallM G mX9_word 4 ad o [.ref o] F1_3 L1_4 I1_5 J1_6 (mqI (fun rx_8 F1_9 L1_10 I1_11 J1_12 => 8 + 1 ≤ r ∧ CallP G mX9_factOf 8 [.int rx_8] (pI (fun rx_13 => ((¬ rx_13 = (-1)) → 3 + 1 ≤ r ∧ CallMO G mX9_fine 3 ad o [.ref o] F1_9 L1_10 I1_11 J1_12 (pI (fun rx_14 => ((¬ rx_14 = 0) → 4 + 1 ≤ r ∧ CallM G mX9_pass 4 ad o [.ref o] F1_9 L1_10 I1_11 J1_12 (mqV (fun F1_15 L1_16 I1_17 J1_18 => 4 + 1 ≤ r ∧ CallM G mX9_emit 4 ad o [.ref o, .int 1, .int rx_13] F1_15 L1_16 I1_17 J1_18 (mqV (fun F1_19 L1_20 I1_21 J1_22 => Q none F1_19 L1_20 I1_21 J1_22))))) ∧ ((rx_14 = 0) → Q none F1_9 L1_10 I1_11 J1_12)))) ∧ ((rx_13 = (-1)) → 3 + 1 ≤ r ∧ CallM G mX9_wrong 3 ad o [.ref o, .int 1, .int (F1_9 4)] F1_9 L1_10 I1_11 J1_12 (mqV (fun F1_23 L1_24 I1_25 J1_26 => 3 + 1 ≤ r ∧ CallMO G mX9_fine 3 ad o [.ref o] F1_23 L1_24 I1_25 J1_26 (pI (fun rx_27 => ((¬ rx_27 = 0) → 4 + 1 ≤ r ∧ CallM G mX9_pass 4 ad o [.ref o] F1_23 L1_24 I1_25 J1_26 (mqV (fun F1_28 L1_29 I1_30 J1_31 => 4 + 1 ≤ r ∧ CallM G mX9_emit 4 ad o [.ref o, .int 1, .int rx_13] F1_28 L1_29 I1_30 J1_31 (mqV (fun F1_32 L1_33 I1_34 J1_35 => Q none F1_32 L1_33 I1_34 J1_35))))) ∧ ((rx_27 = 0) → Q none F1_23 L1_24 I1_25 J1_26))))))))))) ∧ ((¬ rx_7 = 0) → 4 + 1 ≤ r ∧ CallM G mX9_readNumber 4 ad o [.ref o, .int 0, .int 999] F1_3 L1_4 I1_5 J1_6 (mqI (fun rx_36 F1_37 L1_38 I1_39 J1_40 => 4 + 1 ≤ r ∧ CallM G mX9_emit 4 ad o [.ref o, .int 0, .int rx_36] F1_37 L1_38 I1_39 J1_40 (mqV (fun F1_41 L1_42 I1_43 J1_44 => Q none F1_41 L1_42 I1_43 J1_44)))))))))) ∧ ((rx_1 = 40) → 4 + 1 ≤ r ∧ CallM G mX9_opensOne 4 ad o [.ref o, .int 1] F1 L1 I1 J1 (mqV (fun F1_45 L1_46 I1_47 J1_48 => ∃ rc : Nat, rc + 1 ≤ r ∧ CallM G mX9_readSum rc ad o [.ref o] F1_45 L1_46 I1_47 J1_48 (mqV (fun F1_49 L1_50 I1_51 J1_52 => 4 + 1 ≤ r ∧ CallM G mX9_sign 4 ad o [.ref o, .int 41] F1_49 L1_50 I1_51 J1_52 (mqV (fun F1_53 L1_54 I1_55 J1_56 => (∀ F1_57 : Nat → Int32, F1_57 = fU F1_53 7 (((F1_53 7) - 1)) → Q none F1_57 L1_54 I1_55 J1_56))))))))))) ∧ ((rx = 0) → Q none F L I J)))) : AtM G mX9_readUnit r ad o σ0 Q 0 [(0, .ref o)] [] F L I J := by
  refine m_aload_n dX9_readUnit_0 rfl 0 rfl ?_
  obtain ⟨hr9, h⟩ := h
  refine m_callV (N := mX9_fine) (st := []) (As := []) dX9_readUnit_1 wsX9_fine (lw_V q1979 q1981 qs40 q116 q1982) rfl mokX9_fine rfl hr9 (by decide) (Nat.zero_le _) h (fun _ F9 L9 I9 J9 hq => ?_)
  obtain ⟨e1, e2, e3, e4, hq⟩ := hq
  refine AtM.re e1 e2 e3 e4 ?_
  obtain ⟨rx, rfl, h⟩ := hq
  refine AtM.stk (st' := [.int rx]) rfl ?_
  refine m_if_ne (tgt := 8) dX9_readUnit_4 (by decide) (fun c => ?_) (fun c => ?_)
  · replace h := h.1 c
    refine m_aload_n dX9_readUnit_8 rfl 0 rfl ?_
    obtain ⟨hr9, h⟩ := h
    refine m_callV (N := mX9_here) (st := []) (As := []) dX9_readUnit_9 wsX9_here (lw_V q1987 q1989 qs42 q116 q1990) rfl mokX9_here rfl hr9 (by decide) (Nat.zero_le _) h (fun _ F1 L1 I1 J1 hq => ?_)
    obtain ⟨rx_1, rfl, h⟩ := hq
    refine AtM.stk (st' := [.int rx_1]) rfl ?_
    refine m_bipush (v := 40) dX9_readUnit_12 (by decide) ?_
    refine m_icmp_ne (tgt := 45) dX9_readUnit_14 (by decide) (fun c => ?_) (fun c => ?_)
    · replace h := h.1 c
      refine m_aload_n dX9_readUnit_45 rfl 0 rfl ?_
      obtain ⟨hr9, h⟩ := h
      refine m_callV (N := mX9_here) (st := []) (As := []) dX9_readUnit_46 wsX9_here (lw_V q1987 q1989 qs42 q116 q1990) rfl mokX9_here rfl hr9 (by decide) (Nat.zero_le _) h (fun _ F1_3 L1_4 I1_5 J1_6 hq => ?_)
      obtain ⟨rx_2, rfl, h⟩ := hq
      refine AtM.stk (st' := [.int rx_2]) rfl ?_
      obtain ⟨hr9, h⟩ := h
      refine m_callP (N := mX9_isDigit) (st := []) (As := [.int rx_2]) dX9_readUnit_49 wsX9_isDigit (lw_S q2036 q2037 q116 q2038) mokX9_isDigit rfl hr9 (by decide) (Nat.zero_le _) h (fun _ hq => ?_)
      obtain ⟨rx_7, rfl, h⟩ := hq
      refine AtM.stk (st' := [.int rx_7]) rfl ?_
      refine m_if_eq (tgt := 71) dX9_readUnit_52 (by decide) (fun c => ?_) (fun c => ?_)
      · replace h := h.1 c
        refine m_aload_n dX9_readUnit_71 rfl 0 rfl ?_
        obtain ⟨hr9, h⟩ := h
        refine m_callV (N := mX9_word) (st := []) (As := []) dX9_readUnit_72 wsX9_word (lw_V q2005 q2007 qs45 q116 q2008) rfl mokX9_word rfl hr9 (by decide) (Nat.zero_le _) h (fun _ F1_9 L1_10 I1_11 J1_12 hq => ?_)
        obtain ⟨rx_8, rfl, h⟩ := hq
        refine AtM.stk (st' := [.int rx_8]) rfl ?_
        obtain ⟨hr9, h⟩ := h
        refine m_callP (N := mX9_factOf) (st := []) (As := [.int rx_8]) dX9_readUnit_75 wsX9_factOf (lw_S q2120 q2121 q116 q2122) mokX9_factOf rfl hr9 (by decide) (Nat.zero_le _) h (fun _ hq => ?_)
        obtain ⟨rx_13, rfl, h⟩ := hq
        refine AtM.stk (st' := [.int rx_13]) rfl ?_
        refine m_istore_n (ls1 := [(1, .int rx_13), (0, .ref o)]) dX9_readUnit_78 rfl (by decide) rfl ?_
        refine m_iload_n dX9_readUnit_79 rfl 0 rfl ?_
        refine m_iconst (v := (-1)) dX9_readUnit_80 (by decide) ?_
        refine m_icmp_ne (tgt := 93) dX9_readUnit_81 (by decide) (fun c => ?_) (fun c => ?_)
        · replace h := h.1 c
          refine m_aload_n dX9_readUnit_93 rfl 1 rfl ?_
          obtain ⟨hr9, h⟩ := h
          refine m_callV (N := mX9_fine) (st := []) (As := []) dX9_readUnit_94 wsX9_fine (lw_V q1979 q1981 qs40 q116 q1982) rfl mokX9_fine rfl hr9 (by decide) (Nat.zero_le _) h (fun _ F9 L9 I9 J9 hq => ?_)
          obtain ⟨e1, e2, e3, e4, hq⟩ := hq
          refine AtM.re e1 e2 e3 e4 ?_
          obtain ⟨rx_14, rfl, h⟩ := hq
          refine AtM.stk (st' := [.int rx_14]) rfl ?_
          refine m_if_ne (tgt := 101) dX9_readUnit_97 (by decide) (fun c => ?_) (fun c => ?_)
          · replace h := h.1 c
            refine m_aload_n dX9_readUnit_101 rfl 1 rfl ?_
            obtain ⟨hr9, h⟩ := h
            refine m_callV (N := mX9_pass) (st := []) (As := []) dX9_readUnit_102 wsX9_pass (lw_V q2024 q2026 qs47 q116 q2027) rfl mokX9_pass rfl hr9 (by decide) (Nat.zero_le _) h (fun _ F1_15 L1_16 I1_17 J1_18 hq => ?_)
            obtain ⟨rfl, h⟩ := hq
            refine AtM.stk (st' := []) rfl ?_
            refine m_aload_n dX9_readUnit_105 rfl 1 rfl ?_
            refine m_iconst (v := 1) dX9_readUnit_106 (by decide) ?_
            refine m_iload_n dX9_readUnit_107 rfl 0 rfl ?_
            obtain ⟨hr9, h⟩ := h
            refine m_callV (N := mX9_emit) (st := []) (As := [.int 1, .int rx_13]) dX9_readUnit_108 wsX9_emit (lw_V q2104 q2106 qs61 q116 q2107) rfl mokX9_emit rfl hr9 (by decide) (Nat.zero_le _) h (fun _ F1_19 L1_20 I1_21 J1_22 hq => ?_)
            obtain ⟨rfl, h⟩ := hq
            refine AtM.stk (st' := []) rfl ?_
            exact m_vret rfl dX9_readUnit_111 h
          · replace h := h.2 c
            exact m_vret rfl dX9_readUnit_100 h
        · replace h := h.2 c
          refine m_aload_n dX9_readUnit_84 rfl 1 rfl ?_
          refine m_iconst (v := 1) dX9_readUnit_85 (by decide) ?_
          refine m_aload_n dX9_readUnit_86 rfl 1 rfl ?_
          refine m_get (v := .int (F1_9 4)) 4 dX9_readUnit_87 (by decide) q1767 rfl ?_
          obtain ⟨hr9, h⟩ := h
          refine m_callV (N := mX9_wrong) (st := []) (As := [.int 1, .int (F1_9 4)]) dX9_readUnit_90 wsX9_wrong (lw_V q2020 q2022 qs46 q116 q2023) rfl mokX9_wrong rfl hr9 (by decide) (Nat.zero_le _) h (fun _ F1_23 L1_24 I1_25 J1_26 hq => ?_)
          obtain ⟨rfl, h⟩ := hq
          refine AtM.stk (st' := []) rfl ?_
          refine m_aload_n dX9_readUnit_93 rfl 1 rfl ?_
          obtain ⟨hr9, h⟩ := h
          refine m_callV (N := mX9_fine) (st := []) (As := []) dX9_readUnit_94 wsX9_fine (lw_V q1979 q1981 qs40 q116 q1982) rfl mokX9_fine rfl hr9 (by decide) (Nat.zero_le _) h (fun _ F9 L9 I9 J9 hq => ?_)
          obtain ⟨e1, e2, e3, e4, hq⟩ := hq
          refine AtM.re e1 e2 e3 e4 ?_
          obtain ⟨rx_27, rfl, h⟩ := hq
          refine AtM.stk (st' := [.int rx_27]) rfl ?_
          refine m_if_ne (tgt := 101) dX9_readUnit_97 (by decide) (fun c => ?_) (fun c => ?_)
          · replace h := h.1 c
            refine m_aload_n dX9_readUnit_101 rfl 1 rfl ?_
            obtain ⟨hr9, h⟩ := h
            refine m_callV (N := mX9_pass) (st := []) (As := []) dX9_readUnit_102 wsX9_pass (lw_V q2024 q2026 qs47 q116 q2027) rfl mokX9_pass rfl hr9 (by decide) (Nat.zero_le _) h (fun _ F1_28 L1_29 I1_30 J1_31 hq => ?_)
            obtain ⟨rfl, h⟩ := hq
            refine AtM.stk (st' := []) rfl ?_
            refine m_aload_n dX9_readUnit_105 rfl 1 rfl ?_
            refine m_iconst (v := 1) dX9_readUnit_106 (by decide) ?_
            refine m_iload_n dX9_readUnit_107 rfl 0 rfl ?_
            obtain ⟨hr9, h⟩ := h
            refine m_callV (N := mX9_emit) (st := []) (As := [.int 1, .int rx_13]) dX9_readUnit_108 wsX9_emit (lw_V q2104 q2106 qs61 q116 q2107) rfl mokX9_emit rfl hr9 (by decide) (Nat.zero_le _) h (fun _ F1_32 L1_33 I1_34 J1_35 hq => ?_)
            obtain ⟨rfl, h⟩ := hq
            refine AtM.stk (st' := []) rfl ?_
            exact m_vret rfl dX9_readUnit_111 h
          · replace h := h.2 c
            exact m_vret rfl dX9_readUnit_100 h
      · replace h := h.2 c
        refine m_aload_n dX9_readUnit_55 rfl 0 rfl ?_
        refine m_iconst (v := 0) dX9_readUnit_56 (by decide) ?_
        refine m_aload_n dX9_readUnit_57 rfl 0 rfl ?_
        refine m_iconst (v := 0) dX9_readUnit_58 (by decide) ?_
        refine m_sipush (v := 999) dX9_readUnit_59 (by decide) ?_
        obtain ⟨hr9, h⟩ := h
        refine m_callV (N := mX9_readNumber) (st := [.int 0, .ref o]) (As := [.int 0, .int 999]) dX9_readUnit_62 wsX9_readNumber (lw_V q2032 q2034 qs49 q116 q2035) rfl mokX9_readNumber rfl hr9 (by decide) (by simp [Value.category]) h (fun _ F1_37 L1_38 I1_39 J1_40 hq => ?_)
        obtain ⟨rx_36, rfl, h⟩ := hq
        refine AtM.stk (st' := [.int rx_36, .int 0, .ref o]) rfl ?_
        obtain ⟨hr9, h⟩ := h
        refine m_callV (N := mX9_emit) (st := []) (As := [.int 0, .int rx_36]) dX9_readUnit_65 wsX9_emit (lw_V q2104 q2106 qs61 q116 q2107) rfl mokX9_emit rfl hr9 (by decide) (Nat.zero_le _) h (fun _ F1_41 L1_42 I1_43 J1_44 hq => ?_)
        obtain ⟨rfl, h⟩ := hq
        refine AtM.stk (st' := []) rfl ?_
        refine m_goto (tgt := 111) dX9_readUnit_68 (by decide) ?_
        exact m_vret rfl dX9_readUnit_111 h
    · replace h := h.2 c
      refine m_aload_n dX9_readUnit_17 rfl 0 rfl ?_
      refine m_iconst (v := 1) dX9_readUnit_18 (by decide) ?_
      obtain ⟨hr9, h⟩ := h
      refine m_callV (N := mX9_opensOne) (st := []) (As := [.int 1]) dX9_readUnit_19 wsX9_opensOne (lw_V q2099 q2101 qs60 q116 q2102) rfl mokX9_opensOne rfl hr9 (by decide) (Nat.zero_le _) h (fun _ F1_45 L1_46 I1_47 J1_48 hq => ?_)
      obtain ⟨rfl, h⟩ := hq
      refine AtM.stk (st' := []) rfl ?_
      refine m_aload_n dX9_readUnit_22 rfl 0 rfl ?_
      obtain ⟨rc, hr9, h⟩ := h
      refine m_callV (N := mX9_readSum) (st := []) (As := []) dX9_readUnit_23 wsX9_readSum (lw_V q2108 q2110 qs62 q116 q2111) rfl mokX9_readSum rfl hr9 (by decide) (Nat.zero_le _) h (fun _ F1_49 L1_50 I1_51 J1_52 hq => ?_)
      obtain ⟨rfl, h⟩ := hq
      refine AtM.stk (st' := []) rfl ?_
      refine m_aload_n dX9_readUnit_26 rfl 0 rfl ?_
      refine m_bipush (v := 41) dX9_readUnit_27 (by decide) ?_
      obtain ⟨hr9, h⟩ := h
      refine m_callV (N := mX9_sign) (st := []) (As := [.int 41]) dX9_readUnit_29 wsX9_sign (lw_V q2043 q2045 qs51 q116 q2046) rfl mokX9_sign rfl hr9 (by decide) (Nat.zero_le _) h (fun _ F1_53 L1_54 I1_55 J1_56 hq => ?_)
      obtain ⟨rfl, h⟩ := hq
      refine AtM.stk (st' := []) rfl ?_
      refine m_aload_n dX9_readUnit_32 rfl 0 rfl ?_
      refine m_dup dX9_readUnit_33 rfl ?_
      refine m_get (v := .int (F1_53 7)) 7 dX9_readUnit_34 (by decide) q1770 rfl ?_
      refine m_iconst (v := 1) dX9_readUnit_37 (by decide) ?_
      refine m_isub dX9_readUnit_38 ?_
      refine m_putI 7 dX9_readUnit_39 (by decide) q1770 rfl rfl rfl rfl ?_
      refine m_topF (fun F1_57 eF1_57 => ?_)
      replace h := h F1_57 eF1_57
      refine m_goto (tgt := 111) dX9_readUnit_42 (by decide) ?_
      exact m_vret rfl dX9_readUnit_111 h
  · replace h := h.2 c
    exact m_vret rfl dX9_readUnit_7 h
theorem eX9_readUnit {G : GC} {r : Nat} {ad : Nat → Nat} {o : Nat} {Q : MPost} {F : Nat → Int32} {L : Nat → Int64} {I : Nat → Nat → Int32} {J : Nat → Nat → Int64} (h : ∀ σ0, AtM G mX9_readUnit r ad o σ0 Q 0 [(0, .ref o)] [] F L I J) : CallM G mX9_readUnit r ad o [.ref o] F L I J Q :=
  CallM.of (by decide +kernel) wsX9_readUnit rfl (Nat.le_of_ble_eq_true rfl) (fun σ0 => AtM.sub (ls := [(0, .ref o)]) [0] rfl (h σ0))
set_option maxHeartbeats 4000000 in
theorem bX9_factOf_0 {G : GC} {Q : Option Value → PS → Prop} {X : String → Nat → PS → Prop} {b : Nat} {x0 : Int32} {σ : PS} (h : CallO G mX9_of 7 [.ref (gk G 35)] (σ) (pI (fun rx => ((¬ x0 = rx) → CallO G mX9_of 7 [.ref (gk G 37)] (σ) (pI (fun rx_2 => ((¬ x0 = rx_2) → CallO G mX9_of 7 [.ref (gk G 53)] (σ) (pI (fun rx_4 => ((¬ x0 = rx_4) → CallO G mX9_of 7 [.ref (gk G 54)] (σ) (pI (fun rx_6 => ((¬ x0 = rx_6) → CallO G mX9_of 7 [.ref (gk G 55)] (σ) (pI (fun rx_8 => ((¬ x0 = rx_8) → CallO G mX9_of 7 [.ref (gk G 56)] (σ) (pI (fun rx_10 => ((¬ x0 = rx_10) → CallO G mX9_of 7 [.ref (gk G 57)] (σ) (pI (fun rx_12 => ((¬ x0 = rx_12) → CallO G mX9_of 7 [.ref (gk G 58)] (σ) (pI (fun rx_14 => ((¬ x0 = rx_14) → Q (some (.int (-1))) (σ)) ∧ ((x0 = rx_14) → Q (some (.int 7)) (σ))))) ∧ ((x0 = rx_12) → Q (some (.int 6)) (σ))))) ∧ ((x0 = rx_10) → Q (some (.int 5)) (σ))))) ∧ ((x0 = rx_8) → Q (some (.int 4)) (σ))))) ∧ ((x0 = rx_6) → Q (some (.int 3)) (σ))))) ∧ ((x0 = rx_4) → Q (some (.int 2)) (σ))))) ∧ ((x0 = rx_2) → Q (some (.int 1)) (σ))))) ∧ ((x0 = rx) → Q (some (.int 0)) (σ))))) : At G mX9_factOf 8 Q X b 0 [(0, .int x0)] [] (σ) := by
  refine g_iload_n dX9_factOf_0 rfl 0 rfl ?_
  refine g_ldcS 35 dX9_factOf_1 rfl rfl rfl ?_
  refine g_callS (N := mX9_of) (st := [.int x0]) (As := [.ref (gk G 35)]) dX9_factOf_3 wsX9_of (lw_S q2010 q2011 q116 q2012) mokX9_of rfl (by decide) (by decide) (Nat.zero_le _) (by simp [Value.category]) h (fun E q s hx => AtX.never hx) (fun _ s1 hq => ?_)
  obtain ⟨es, hq⟩ := hq
  refine g_tops2 es ?_
  obtain ⟨rx, rfl, h⟩ := hq
  refine At.stk (st' := [.int rx, .int x0]) rfl ?_
  refine g_icmp_ne (tgt := 13) dX9_factOf_6 (by decide) (fun c => ?_) (fun c => ?_)
  · replace h := h.1 c
    refine g_iload_n dX9_factOf_13 rfl 0 rfl ?_
    refine g_ldcS 37 dX9_factOf_14 rfl rfl rfl ?_
    refine g_callS (N := mX9_of) (st := [.int x0]) (As := [.ref (gk G 37)]) dX9_factOf_16 wsX9_of (lw_S q2010 q2011 q116 q2012) mokX9_of rfl (by decide) (by decide) (Nat.zero_le _) (by simp [Value.category]) h (fun E q s hx => AtX.never hx) (fun _ s1_1 hq => ?_)
    obtain ⟨es, hq⟩ := hq
    refine g_tops2 es ?_
    obtain ⟨rx_2, rfl, h⟩ := hq
    refine At.stk (st' := [.int rx_2, .int x0]) rfl ?_
    refine g_icmp_ne (tgt := 26) dX9_factOf_19 (by decide) (fun c => ?_) (fun c => ?_)
    · replace h := h.1 c
      refine g_iload_n dX9_factOf_26 rfl 0 rfl ?_
      refine g_ldcSw 53 dX9_factOf_27 rfl rfl rfl ?_
      refine g_callS (N := mX9_of) (st := [.int x0]) (As := [.ref (gk G 53)]) dX9_factOf_30 wsX9_of (lw_S q2010 q2011 q116 q2012) mokX9_of rfl (by decide) (by decide) (Nat.zero_le _) (by simp [Value.category]) h (fun E q s hx => AtX.never hx) (fun _ s1_3 hq => ?_)
      obtain ⟨es, hq⟩ := hq
      refine g_tops2 es ?_
      obtain ⟨rx_4, rfl, h⟩ := hq
      refine At.stk (st' := [.int rx_4, .int x0]) rfl ?_
      refine g_icmp_ne (tgt := 40) dX9_factOf_33 (by decide) (fun c => ?_) (fun c => ?_)
      · replace h := h.1 c
        refine g_iload_n dX9_factOf_40 rfl 0 rfl ?_
        refine g_ldcSw 54 dX9_factOf_41 rfl rfl rfl ?_
        refine g_callS (N := mX9_of) (st := [.int x0]) (As := [.ref (gk G 54)]) dX9_factOf_44 wsX9_of (lw_S q2010 q2011 q116 q2012) mokX9_of rfl (by decide) (by decide) (Nat.zero_le _) (by simp [Value.category]) h (fun E q s hx => AtX.never hx) (fun _ s1_5 hq => ?_)
        obtain ⟨es, hq⟩ := hq
        refine g_tops2 es ?_
        obtain ⟨rx_6, rfl, h⟩ := hq
        refine At.stk (st' := [.int rx_6, .int x0]) rfl ?_
        refine g_icmp_ne (tgt := 54) dX9_factOf_47 (by decide) (fun c => ?_) (fun c => ?_)
        · replace h := h.1 c
          refine g_iload_n dX9_factOf_54 rfl 0 rfl ?_
          refine g_ldcSw 55 dX9_factOf_55 rfl rfl rfl ?_
          refine g_callS (N := mX9_of) (st := [.int x0]) (As := [.ref (gk G 55)]) dX9_factOf_58 wsX9_of (lw_S q2010 q2011 q116 q2012) mokX9_of rfl (by decide) (by decide) (Nat.zero_le _) (by simp [Value.category]) h (fun E q s hx => AtX.never hx) (fun _ s1_7 hq => ?_)
          obtain ⟨es, hq⟩ := hq
          refine g_tops2 es ?_
          obtain ⟨rx_8, rfl, h⟩ := hq
          refine At.stk (st' := [.int rx_8, .int x0]) rfl ?_
          refine g_icmp_ne (tgt := 68) dX9_factOf_61 (by decide) (fun c => ?_) (fun c => ?_)
          · replace h := h.1 c
            refine g_iload_n dX9_factOf_68 rfl 0 rfl ?_
            refine g_ldcSw 56 dX9_factOf_69 rfl rfl rfl ?_
            refine g_callS (N := mX9_of) (st := [.int x0]) (As := [.ref (gk G 56)]) dX9_factOf_72 wsX9_of (lw_S q2010 q2011 q116 q2012) mokX9_of rfl (by decide) (by decide) (Nat.zero_le _) (by simp [Value.category]) h (fun E q s hx => AtX.never hx) (fun _ s1_9 hq => ?_)
            obtain ⟨es, hq⟩ := hq
            refine g_tops2 es ?_
            obtain ⟨rx_10, rfl, h⟩ := hq
            refine At.stk (st' := [.int rx_10, .int x0]) rfl ?_
            refine g_icmp_ne (tgt := 82) dX9_factOf_75 (by decide) (fun c => ?_) (fun c => ?_)
            · replace h := h.1 c
              refine g_iload_n dX9_factOf_82 rfl 0 rfl ?_
              refine g_ldcSw 57 dX9_factOf_83 rfl rfl rfl ?_
              refine g_callS (N := mX9_of) (st := [.int x0]) (As := [.ref (gk G 57)]) dX9_factOf_86 wsX9_of (lw_S q2010 q2011 q116 q2012) mokX9_of rfl (by decide) (by decide) (Nat.zero_le _) (by simp [Value.category]) h (fun E q s hx => AtX.never hx) (fun _ s1_11 hq => ?_)
              obtain ⟨es, hq⟩ := hq
              refine g_tops2 es ?_
              obtain ⟨rx_12, rfl, h⟩ := hq
              refine At.stk (st' := [.int rx_12, .int x0]) rfl ?_
              refine g_icmp_ne (tgt := 97) dX9_factOf_89 (by decide) (fun c => ?_) (fun c => ?_)
              · replace h := h.1 c
                refine g_iload_n dX9_factOf_97 rfl 0 rfl ?_
                refine g_ldcSw 58 dX9_factOf_98 rfl rfl rfl ?_
                refine g_callS (N := mX9_of) (st := [.int x0]) (As := [.ref (gk G 58)]) dX9_factOf_101 wsX9_of (lw_S q2010 q2011 q116 q2012) mokX9_of rfl (by decide) (by decide) (Nat.zero_le _) (by simp [Value.category]) h (fun E q s hx => AtX.never hx) (fun _ s1_13 hq => ?_)
                obtain ⟨es, hq⟩ := hq
                refine g_tops2 es ?_
                obtain ⟨rx_14, rfl, h⟩ := hq
                refine At.stk (st' := [.int rx_14, .int x0]) rfl ?_
                refine g_icmp_ne (tgt := 112) dX9_factOf_104 (by decide) (fun c => ?_) (fun c => ?_)
                · replace h := h.1 c
                  refine g_iconst (v := (-1)) dX9_factOf_112 (by decide) ?_
                  exact g_iret rfl dX9_factOf_113 h
                · replace h := h.2 c
                  refine g_bipush (v := 7) dX9_factOf_107 (by decide) ?_
                  refine g_goto (tgt := 113) dX9_factOf_109 (by decide) ?_
                  exact g_iret rfl dX9_factOf_113 h
              · replace h := h.2 c
                refine g_bipush (v := 6) dX9_factOf_92 (by decide) ?_
                refine g_goto (tgt := 113) dX9_factOf_94 (by decide) ?_
                exact g_iret rfl dX9_factOf_113 h
            · replace h := h.2 c
              refine g_iconst (v := 5) dX9_factOf_78 (by decide) ?_
              refine g_goto (tgt := 113) dX9_factOf_79 (by decide) ?_
              exact g_iret rfl dX9_factOf_113 h
          · replace h := h.2 c
            refine g_iconst (v := 4) dX9_factOf_64 (by decide) ?_
            refine g_goto (tgt := 113) dX9_factOf_65 (by decide) ?_
            exact g_iret rfl dX9_factOf_113 h
        · replace h := h.2 c
          refine g_iconst (v := 3) dX9_factOf_50 (by decide) ?_
          refine g_goto (tgt := 113) dX9_factOf_51 (by decide) ?_
          exact g_iret rfl dX9_factOf_113 h
      · replace h := h.2 c
        refine g_iconst (v := 2) dX9_factOf_36 (by decide) ?_
        refine g_goto (tgt := 113) dX9_factOf_37 (by decide) ?_
        exact g_iret rfl dX9_factOf_113 h
    · replace h := h.2 c
      refine g_iconst (v := 1) dX9_factOf_22 (by decide) ?_
      refine g_goto (tgt := 113) dX9_factOf_23 (by decide) ?_
      exact g_iret rfl dX9_factOf_113 h
  · replace h := h.2 c
    refine g_iconst (v := 0) dX9_factOf_9 (by decide) ?_
    refine g_goto (tgt := 113) dX9_factOf_10 (by decide) ?_
    exact g_iret rfl dX9_factOf_113 h
theorem eX9_factOf {G : GC} {Q : Option Value → PS → Prop} {X : String → Nat → PS → Prop} {b : Nat} {p0 : Int32} {σ : PS} (h : At G mX9_factOf 8 Q X b 0 [(0, .int p0)] [] σ) : Call G mX9_factOf 8 b [.int p0] σ Q X :=
  Call.of (by decide +kernel) wsX9_factOf rfl (Nat.le_of_ble_eq_true rfl) (At.sub (ls := [(0, .int p0)]) [0] rfl h)
set_option maxHeartbeats 4000000 in
theorem bX9_rule_0 {G : GC} {ad : Nat → Nat} {o : Nat} {σ0 : PS} {Q : MPost} {x1 : Int32} {F : Nat → Int32} {L : Nat → Int64} {I : Nat → Nat → Int32} {J : Nat → Nat → Int64} (h : (∀ F1 : Nat → Int32, F1 = fU F 0 0 → CallMO G mX9_isTold 3 ad o [.ref o, .int x1] F1 L I J (pI (fun rx => CallM G mX9_may 3 ad o [.ref o, .int rx, .int 1, .int 1] F1 L I J (mqI (fun rx_1 F1_2 L1 I1 J1 => ((¬ rx_1 = 0) → CallM G mX9_readHabit 152 ad o [.ref o, .int x1, .int 6] F1_2 L1 I1 J1 (mqI (fun rx_3 F1_4 L1_5 I1_6 J1_7 => Q (some (.int rx_3)) F1_4 L1_5 I1_6 J1_7))) ∧ ((rx_1 = 0) → Q (some (.int 0)) F1_2 L1 I1 J1))))))) : AtM G mX9_rule 153 ad o σ0 Q 0 [(0, .ref o), (1, .int x1)] [] F L I J := by
  refine m_aload_n dX9_rule_0 rfl 0 rfl ?_
  refine m_iconst (v := 0) dX9_rule_1 (by decide) ?_
  refine m_putI 0 dX9_rule_2 (by decide) q1763 rfl rfl rfl rfl ?_
  refine m_topF (fun F1 eF1 => ?_)
  replace h := h F1 eF1
  refine m_aload_n dX9_rule_5 rfl 0 rfl ?_
  refine m_aload_n dX9_rule_6 rfl 0 rfl ?_
  refine m_iload_n dX9_rule_7 rfl 1 rfl ?_
  refine m_callV (N := mX9_isTold) (st := [.ref o]) (As := [.int x1]) dX9_rule_8 wsX9_isTold (lw_V q2062 q2064 qs54 q116 q2065) rfl mokX9_isTold rfl (by decide) (by decide) (by simp [Value.category]) h (fun _ F9 L9 I9 J9 hq => ?_)
  obtain ⟨e1, e2, e3, e4, hq⟩ := hq
  refine AtM.re e1 e2 e3 e4 ?_
  obtain ⟨rx, rfl, h⟩ := hq
  refine AtM.stk (st' := [.int rx, .ref o]) rfl ?_
  refine m_iconst (v := 1) dX9_rule_11 (by decide) ?_
  refine m_iconst (v := 1) dX9_rule_12 (by decide) ?_
  refine m_callV (N := mX9_may) (st := []) (As := [.int rx, .int 1, .int 1]) dX9_rule_13 wsX9_may (lw_V q1971 q1973 qs38 q116 q1974) rfl mokX9_may rfl (by decide) (by decide) (Nat.zero_le _) h (fun _ F1_2 L1 I1 J1 hq => ?_)
  obtain ⟨rx_1, rfl, h⟩ := hq
  refine AtM.stk (st' := [.int rx_1]) rfl ?_
  refine m_if_ne (tgt := 21) dX9_rule_16 (by decide) (fun c => ?_) (fun c => ?_)
  · replace h := h.1 c
    refine m_aload_n dX9_rule_21 rfl 0 rfl ?_
    refine m_iload_n dX9_rule_22 rfl 1 rfl ?_
    refine m_bipush (v := 6) dX9_rule_23 (by decide) ?_
    refine m_callV (N := mX9_readHabit) (st := []) (As := [.int x1, .int 6]) dX9_rule_25 wsX9_readHabit (lw_V q2066 q2068 qs55 q116 q2069) rfl mokX9_readHabit rfl (by decide) (by decide) (Nat.zero_le _) h (fun _ F1_4 L1_5 I1_6 J1_7 hq => ?_)
    obtain ⟨rx_3, rfl, h⟩ := hq
    refine AtM.stk (st' := [.int rx_3]) rfl ?_
    exact m_iret rfl dX9_rule_28 h
  · replace h := h.2 c
    refine m_iconst (v := 0) dX9_rule_19 (by decide) ?_
    exact m_iret rfl dX9_rule_20 h
theorem eX9_rule {G : GC} {ad : Nat → Nat} {o : Nat} {Q : MPost} {p1 : Int32} {F : Nat → Int32} {L : Nat → Int64} {I : Nat → Nat → Int32} {J : Nat → Nat → Int64} (h : ∀ σ0, AtM G mX9_rule 153 ad o σ0 Q 0 [(0, .ref o), (1, .int p1)] [] F L I J) : CallM G mX9_rule 153 ad o [.ref o, .int p1] F L I J Q :=
  CallM.of (by decide +kernel) wsX9_rule rfl (Nat.le_of_ble_eq_true rfl) (fun σ0 => AtM.sub (ls := [(0, .ref o), (1, .int p1)]) [0, 1] rfl (h σ0))
set_option maxHeartbeats 4000000 in
theorem bX9_book_0 {G : GC} {ad : Nat → Nat} {o : Nat} {σ0 : PS} {Q : MPost} {x1 : Int32} {F : Nat → Int32} {L : Nat → Int64} {I : Nat → Nat → Int32} {J : Nat → Nat → Int64} (h : (∀ F1 : Nat → Int32, F1 = fU F 0 0 → CallMO G mX9_isTold 3 ad o [.ref o, .int x1] F1 L I J (pI (fun rx => CallM G mX9_may 3 ad o [.ref o, .int rx, .int 1, .int 1] F1 L I J (mqI (fun rx_1 F1_2 L1 I1 J1 => ((¬ rx_1 = 0) → CallM G mX9_begins 3 ad o [.ref o, .int x1] F1_2 L1 I1 J1 (mqV (fun F1_3 L1_4 I1_5 J1_6 => AtM G mX9_book 8 ad o σ0 Q 28 [(0, .ref o), (2, .int 0)] [] F1_3 L1_4 I1_5 J1_6))) ∧ ((rx_1 = 0) → Q (some (.int 0)) F1_2 L1 I1 J1))))))) : AtM G mX9_book 8 ad o σ0 Q 0 [(0, .ref o), (1, .int x1)] [] F L I J := by
  refine m_aload_n dX9_book_0 rfl 0 rfl ?_
  refine m_iconst (v := 0) dX9_book_1 (by decide) ?_
  refine m_putI 0 dX9_book_2 (by decide) q1763 rfl rfl rfl rfl ?_
  refine m_topF (fun F1 eF1 => ?_)
  replace h := h F1 eF1
  refine m_aload_n dX9_book_5 rfl 0 rfl ?_
  refine m_aload_n dX9_book_6 rfl 0 rfl ?_
  refine m_iload_n dX9_book_7 rfl 1 rfl ?_
  refine m_callV (N := mX9_isTold) (st := [.ref o]) (As := [.int x1]) dX9_book_8 wsX9_isTold (lw_V q2062 q2064 qs54 q116 q2065) rfl mokX9_isTold rfl (by decide) (by decide) (by simp [Value.category]) h (fun _ F9 L9 I9 J9 hq => ?_)
  obtain ⟨e1, e2, e3, e4, hq⟩ := hq
  refine AtM.re e1 e2 e3 e4 ?_
  obtain ⟨rx, rfl, h⟩ := hq
  refine AtM.stk (st' := [.int rx, .ref o]) rfl ?_
  refine m_iconst (v := 1) dX9_book_11 (by decide) ?_
  refine m_iconst (v := 1) dX9_book_12 (by decide) ?_
  refine m_callV (N := mX9_may) (st := []) (As := [.int rx, .int 1, .int 1]) dX9_book_13 wsX9_may (lw_V q1971 q1973 qs38 q116 q1974) rfl mokX9_may rfl (by decide) (by decide) (Nat.zero_le _) h (fun _ F1_2 L1 I1 J1 hq => ?_)
  obtain ⟨rx_1, rfl, h⟩ := hq
  refine AtM.stk (st' := [.int rx_1]) rfl ?_
  refine m_if_ne (tgt := 21) dX9_book_16 (by decide) (fun c => ?_) (fun c => ?_)
  · replace h := h.1 c
    refine m_aload_n dX9_book_21 rfl 0 rfl ?_
    refine m_iload_n dX9_book_22 rfl 1 rfl ?_
    refine m_callV (N := mX9_begins) (st := []) (As := [.int x1]) dX9_book_23 wsX9_begins (lw_V q1975 q1977 qs39 q116 q1978) rfl mokX9_begins rfl (by decide) (by decide) (Nat.zero_le _) h (fun _ F1_3 L1_4 I1_5 J1_6 hq => ?_)
    obtain ⟨rfl, h⟩ := hq
    refine AtM.stk (st' := []) rfl ?_
    refine m_iconst (v := 0) dX9_book_26 (by decide) ?_
    refine m_istore_n (ls1 := [(2, .int 0), (0, .ref o), (1, .int x1)]) dX9_book_27 rfl (by decide) rfl ?_
    exact AtM.sub (ls := [(2, .int 0), (0, .ref o), (1, .int x1)]) [1, 0] rfl h
  · replace h := h.2 c
    refine m_iconst (v := 0) dX9_book_19 (by decide) ?_
    exact m_iret rfl dX9_book_20 h
set_option maxHeartbeats 4000000 in
theorem bX9_book_28 {G : GC} {ad : Nat → Nat} {o : Nat} {σ0 : PS} {Q : MPost} {x2 : Int32} {F : Nat → Int32} {L : Nat → Int64} {I : Nat → Nat → Int32} {J : Nat → Nat → Int64} (h : CallMO G mX9_fine 3 ad o [.ref o] F L I J (pI (fun rx => ((rx = 0) → AtM G mX9_book 8 ad o σ0 Q 231 [(0, .ref o), (2, .int x2)] [] F L I J) ∧ ((¬ rx = 0) → CallM G mX9_isMore 4 ad o [.ref o] F L I J (mqI (fun rx_1 F1 L1 I1 J1 => ((rx_1 = 0) → AtM G mX9_book 8 ad o σ0 Q 231 [(0, .ref o), (2, .int x2)] [] F1 L1 I1 J1) ∧ ((¬ rx_1 = 0) → CallM G mX9_readNumber 4 ad o [.ref o, .int 0, .int 23] F1 L1 I1 J1 (mqI (fun rx_2 F1_3 L1_4 I1_5 J1_6 => CallMO G mX9_fine 3 ad o [.ref o] F1_3 L1_4 I1_5 J1_6 (pI (fun rx_7 => ((rx_7 = 0) → AtM G mX9_book 8 ad o σ0 Q 75 [(0, .ref o), (2, .int x2), (4, .int rx_2)] [] F1_3 L1_4 I1_5 J1_6) ∧ ((¬ rx_7 = 0) → ((¬ x2 = 10) → AtM G mX9_book 8 ad o σ0 Q 75 [(0, .ref o), (2, .int x2), (4, .int rx_2)] [] F1_3 L1_4 I1_5 J1_6) ∧ ((x2 = 10) → CallM G mX9_wrong 3 ad o [.ref o, .int 3, .int (F1 4)] F1_3 L1_4 I1_5 J1_6 (mqV (fun F1_8 L1_9 I1_10 J1_11 => AtM G mX9_book 8 ad o σ0 Q 75 [(0, .ref o), (2, .int x2), (4, .int rx_2)] [] F1_8 L1_9 I1_10 J1_11))))))))))))))) : AtM G mX9_book 8 ad o σ0 Q 28 [(0, .ref o), (2, .int x2)] [] F L I J := by
  refine m_aload_n dX9_book_28 rfl 0 rfl ?_
  refine m_callV (N := mX9_fine) (st := []) (As := []) dX9_book_29 wsX9_fine (lw_V q1979 q1981 qs40 q116 q1982) rfl mokX9_fine rfl (by decide) (by decide) (Nat.zero_le _) h (fun _ F9 L9 I9 J9 hq => ?_)
  obtain ⟨e1, e2, e3, e4, hq⟩ := hq
  refine AtM.re e1 e2 e3 e4 ?_
  obtain ⟨rx, rfl, h⟩ := hq
  refine AtM.stk (st' := [.int rx]) rfl ?_
  refine m_if_eq (tgt := 231) dX9_book_32 (by decide) (fun c => ?_) (fun c => ?_)
  · replace h := h.1 c
    exact AtM.sub (ls := [(0, .ref o), (2, .int x2)]) [0, 1] rfl h
  · replace h := h.2 c
    refine m_aload_n dX9_book_35 rfl 0 rfl ?_
    refine m_callV (N := mX9_isMore) (st := []) (As := []) dX9_book_36 wsX9_isMore (lw_V q1983 q1985 qs41 q116 q1986) rfl mokX9_isMore rfl (by decide) (by decide) (Nat.zero_le _) h (fun _ F1 L1 I1 J1 hq => ?_)
    obtain ⟨rx_1, rfl, h⟩ := hq
    refine AtM.stk (st' := [.int rx_1]) rfl ?_
    refine m_if_eq (tgt := 231) dX9_book_39 (by decide) (fun c => ?_) (fun c => ?_)
    · replace h := h.1 c
      exact AtM.sub (ls := [(0, .ref o), (2, .int x2)]) [0, 1] rfl h
    · replace h := h.2 c
      refine m_aload_n dX9_book_42 rfl 0 rfl ?_
      refine m_get (v := .int (F1 4)) 4 dX9_book_43 (by decide) q1767 rfl ?_
      refine m_istore_n (ls1 := [(3, .int (F1 4)), (0, .ref o), (2, .int x2)]) dX9_book_46 rfl (by decide) rfl ?_
      refine m_aload_n dX9_book_47 rfl 1 rfl ?_
      refine m_iconst (v := 0) dX9_book_48 (by decide) ?_
      refine m_bipush (v := 23) dX9_book_49 (by decide) ?_
      refine m_callV (N := mX9_readNumber) (st := []) (As := [.int 0, .int 23]) dX9_book_51 wsX9_readNumber (lw_V q2032 q2034 qs49 q116 q2035) rfl mokX9_readNumber rfl (by decide) (by decide) (Nat.zero_le _) h (fun _ F1_3 L1_4 I1_5 J1_6 hq => ?_)
      obtain ⟨rx_2, rfl, h⟩ := hq
      refine AtM.stk (st' := [.int rx_2]) rfl ?_
      refine m_istore (ls1 := [(4, .int rx_2), (3, .int (F1 4)), (0, .ref o), (2, .int x2)]) dX9_book_54 (by decide) rfl ?_
      refine m_aload_n dX9_book_56 rfl 2 rfl ?_
      refine m_callV (N := mX9_fine) (st := []) (As := []) dX9_book_57 wsX9_fine (lw_V q1979 q1981 qs40 q116 q1982) rfl mokX9_fine rfl (by decide) (by decide) (Nat.zero_le _) h (fun _ F9 L9 I9 J9 hq => ?_)
      obtain ⟨e1, e2, e3, e4, hq⟩ := hq
      refine AtM.re e1 e2 e3 e4 ?_
      obtain ⟨rx_7, rfl, h⟩ := hq
      refine AtM.stk (st' := [.int rx_7]) rfl ?_
      refine m_if_eq (tgt := 75) dX9_book_60 (by decide) (fun c => ?_) (fun c => ?_)
      · replace h := h.1 c
        exact AtM.sub (ls := [(4, .int rx_2), (3, .int (F1 4)), (0, .ref o), (2, .int x2)]) [2, 3, 0] rfl h
      · replace h := h.2 c
        refine m_iload_n dX9_book_63 rfl 3 rfl ?_
        refine m_bipush (v := 10) dX9_book_64 (by decide) ?_
        refine m_icmp_ne (tgt := 75) dX9_book_66 (by decide) (fun c => ?_) (fun c => ?_)
        · replace h := h.1 c
          exact AtM.sub (ls := [(4, .int rx_2), (3, .int (F1 4)), (0, .ref o), (2, .int x2)]) [2, 3, 0] rfl h
        · replace h := h.2 c
          refine m_aload_n dX9_book_69 rfl 2 rfl ?_
          refine m_iconst (v := 3) dX9_book_70 (by decide) ?_
          refine m_iload_n dX9_book_71 rfl 1 rfl ?_
          refine m_callV (N := mX9_wrong) (st := []) (As := [.int 3, .int (F1 4)]) dX9_book_72 wsX9_wrong (lw_V q2020 q2022 qs46 q116 q2023) rfl mokX9_wrong rfl (by decide) (by decide) (Nat.zero_le _) h (fun _ F1_8 L1_9 I1_10 J1_11 hq => ?_)
          obtain ⟨rfl, h⟩ := hq
          refine AtM.stk (st' := []) rfl ?_
          exact AtM.sub (ls := [(4, .int rx_2), (3, .int (F1 4)), (0, .ref o), (2, .int x2)]) [2, 3, 0] rfl h
set_option maxHeartbeats 4000000 in
theorem bX9_book_75 {G : GC} {ad : Nat → Nat} {o : Nat} {σ0 : PS} {Q : MPost} {x2 : Int32} {x4 : Int32} {F : Nat → Int32} {L : Nat → Int64} {I : Nat → Nat → Int32} {J : Nat → Nat → Int64} (h : CallM G mX9_word 4 ad o [.ref o] F L I J (mqI (fun rx F1 L1 I1 J1 => CallP G mX9_of 7 [.ref (gk G 35)] (pI (fun rx_1 => ((¬ rx = rx_1) → CallP G mX9_of 7 [.ref (gk G 37)] (pI (fun rx_2 => ((¬ rx = rx_2) → CallP G mX9_of 7 [.ref (gk G 53)] (pI (fun rx_3 => ((¬ rx = rx_3) → AtM G mX9_book 8 ad o σ0 Q 125 [(0, .ref o), (2, .int x2), (4, .int x4)] [.int (-1)] F1 L1 I1 J1) ∧ ((rx = rx_3) → AtM G mX9_book 8 ad o σ0 Q 125 [(0, .ref o), (2, .int x2), (4, .int x4)] [.int 2] F1 L1 I1 J1)))) ∧ ((rx = rx_2) → AtM G mX9_book 8 ad o σ0 Q 125 [(0, .ref o), (2, .int x2), (4, .int x4)] [.int 1] F1 L1 I1 J1)))) ∧ ((rx = rx_1) → AtM G mX9_book 8 ad o σ0 Q 125 [(0, .ref o), (2, .int x2), (4, .int x4)] [.int 0] F1 L1 I1 J1)))))) : AtM G mX9_book 8 ad o σ0 Q 75 [(0, .ref o), (2, .int x2), (4, .int x4)] [] F L I J := by
  refine m_aload_n dX9_book_75 rfl 0 rfl ?_
  refine m_callV (N := mX9_word) (st := []) (As := []) dX9_book_76 wsX9_word (lw_V q2005 q2007 qs45 q116 q2008) rfl mokX9_word rfl (by decide) (by decide) (Nat.zero_le _) h (fun _ F1 L1 I1 J1 hq => ?_)
  obtain ⟨rx, rfl, h⟩ := hq
  refine AtM.stk (st' := [.int rx]) rfl ?_
  refine m_istore (ls1 := [(5, .int rx), (0, .ref o), (2, .int x2), (4, .int x4)]) dX9_book_79 (by decide) rfl ?_
  refine m_iload dX9_book_81 0 rfl ?_
  refine m_ldcS 35 dX9_book_83 rfl rfl rfl ?_
  refine m_callP (N := mX9_of) (st := [.int rx]) (As := [.ref (gk G 35)]) dX9_book_85 wsX9_of (lw_S q2010 q2011 q116 q2012) mokX9_of rfl (by decide) (by decide) (by simp [Value.category]) h (fun _ hq => ?_)
  obtain ⟨rx_1, rfl, h⟩ := hq
  refine AtM.stk (st' := [.int rx_1, .int rx]) rfl ?_
  refine m_icmp_ne (tgt := 95) dX9_book_88 (by decide) (fun c => ?_) (fun c => ?_)
  · replace h := h.1 c
    refine m_iload dX9_book_95 0 rfl ?_
    refine m_ldcS 37 dX9_book_97 rfl rfl rfl ?_
    refine m_callP (N := mX9_of) (st := [.int rx]) (As := [.ref (gk G 37)]) dX9_book_99 wsX9_of (lw_S q2010 q2011 q116 q2012) mokX9_of rfl (by decide) (by decide) (by simp [Value.category]) h (fun _ hq => ?_)
    obtain ⟨rx_2, rfl, h⟩ := hq
    refine AtM.stk (st' := [.int rx_2, .int rx]) rfl ?_
    refine m_icmp_ne (tgt := 109) dX9_book_102 (by decide) (fun c => ?_) (fun c => ?_)
    · replace h := h.1 c
      refine m_iload dX9_book_109 0 rfl ?_
      refine m_ldcSw 53 dX9_book_111 rfl rfl rfl ?_
      refine m_callP (N := mX9_of) (st := [.int rx]) (As := [.ref (gk G 53)]) dX9_book_114 wsX9_of (lw_S q2010 q2011 q116 q2012) mokX9_of rfl (by decide) (by decide) (by simp [Value.category]) h (fun _ hq => ?_)
      obtain ⟨rx_3, rfl, h⟩ := hq
      refine AtM.stk (st' := [.int rx_3, .int rx]) rfl ?_
      refine m_icmp_ne (tgt := 124) dX9_book_117 (by decide) (fun c => ?_) (fun c => ?_)
      · replace h := h.1 c
        refine m_iconst (v := (-1)) dX9_book_124 (by decide) ?_
        exact AtM.sub (ls := [(5, .int rx), (0, .ref o), (2, .int x2), (4, .int x4)]) [1, 2, 3] rfl h
      · replace h := h.2 c
        refine m_iconst (v := 2) dX9_book_120 (by decide) ?_
        refine m_goto (tgt := 125) dX9_book_121 (by decide) ?_
        exact AtM.sub (ls := [(5, .int rx), (0, .ref o), (2, .int x2), (4, .int x4)]) [1, 2, 3] rfl h
    · replace h := h.2 c
      refine m_iconst (v := 1) dX9_book_105 (by decide) ?_
      refine m_goto (tgt := 125) dX9_book_106 (by decide) ?_
      exact AtM.sub (ls := [(5, .int rx), (0, .ref o), (2, .int x2), (4, .int x4)]) [1, 2, 3] rfl h
  · replace h := h.2 c
    refine m_iconst (v := 0) dX9_book_91 (by decide) ?_
    refine m_goto (tgt := 125) dX9_book_92 (by decide) ?_
    exact AtM.sub (ls := [(5, .int rx), (0, .ref o), (2, .int x2), (4, .int x4)]) [1, 2, 3] rfl h
set_option maxHeartbeats 4000000 in
theorem bX9_book_125 {G : GC} {ad : Nat → Nat} {o : Nat} {σ0 : PS} {Q : MPost} {x2 : Int32} {x4 : Int32} {sx0 : Int32} {F : Nat → Int32} {L : Nat → Int64} {I : Nat → Nat → Int32} {J : Nat → Nat → Int64} (h : ((¬ sx0 = (-1)) → AtM G mX9_book 8 ad o σ0 Q 142 [(0, .ref o), (2, .int x2), (4, .int x4), (6, .int sx0)] [] F L I J) ∧ ((sx0 = (-1)) → CallM G mX9_wrong 3 ad o [.ref o, .int 1, .int (F 4)] F L I J (mqV (fun F1 L1 I1 J1 => AtM G mX9_book 8 ad o σ0 Q 142 [(0, .ref o), (2, .int x2), (4, .int x4), (6, .int sx0)] [] F1 L1 I1 J1)))) : AtM G mX9_book 8 ad o σ0 Q 125 [(0, .ref o), (2, .int x2), (4, .int x4)] [.int sx0] F L I J := by
  refine m_istore (ls1 := [(6, .int sx0), (0, .ref o), (2, .int x2), (4, .int x4)]) dX9_book_125 (by decide) rfl ?_
  refine m_iload dX9_book_127 0 rfl ?_
  refine m_iconst (v := (-1)) dX9_book_129 (by decide) ?_
  refine m_icmp_ne (tgt := 142) dX9_book_130 (by decide) (fun c => ?_) (fun c => ?_)
  · replace h := h.1 c
    exact AtM.sub (ls := [(6, .int sx0), (0, .ref o), (2, .int x2), (4, .int x4)]) [1, 2, 3, 0] rfl h
  · replace h := h.2 c
    refine m_aload_n dX9_book_133 rfl 1 rfl ?_
    refine m_iconst (v := 1) dX9_book_134 (by decide) ?_
    refine m_aload_n dX9_book_135 rfl 1 rfl ?_
    refine m_get (v := .int (F 4)) 4 dX9_book_136 (by decide) q1767 rfl ?_
    refine m_callV (N := mX9_wrong) (st := []) (As := [.int 1, .int (F 4)]) dX9_book_139 wsX9_wrong (lw_V q2020 q2022 qs46 q116 q2023) rfl mokX9_wrong rfl (by decide) (by decide) (Nat.zero_le _) h (fun _ F1 L1 I1 J1 hq => ?_)
    obtain ⟨rfl, h⟩ := hq
    refine AtM.stk (st' := []) rfl ?_
    exact AtM.sub (ls := [(6, .int sx0), (0, .ref o), (2, .int x2), (4, .int x4)]) [1, 2, 3, 0] rfl h
set_option maxHeartbeats 4000000 in
theorem bX9_book_142 {G : GC} {ad : Nat → Nat} {o : Nat} {σ0 : PS} {Q : MPost} {x2 : Int32} {x4 : Int32} {x6 : Int32} {F : Nat → Int32} {L : Nat → Int64} {I : Nat → Nat → Int32} {J : Nat → Nat → Int64} (h : CallMO G mX9_fine 3 ad o [.ref o] F L I J (pI (fun rx => ((¬ rx = 0) → CallM G mX9_pass 4 ad o [.ref o] F L I J (mqV (fun F1 L1 I1 J1 => ((¬ x6 = 2) → AtM G mX9_book 8 ad o σ0 Q 170 [(0, .ref o), (2, .int x2), (4, .int x4), (6, .int x6)] [.int 1, .int 0, .ref o] F1 L1 I1 J1) ∧ ((x6 = 2) → AtM G mX9_book 8 ad o σ0 Q 170 [(0, .ref o), (2, .int x2), (4, .int x4), (6, .int x6)] [.int 12, .int 0, .ref o] F1 L1 I1 J1)))) ∧ ((rx = 0) → AtM G mX9_book 8 ad o σ0 Q 231 [(0, .ref o), (2, .int x2)] [] F L I J)))) : AtM G mX9_book 8 ad o σ0 Q 142 [(0, .ref o), (2, .int x2), (4, .int x4), (6, .int x6)] [] F L I J := by
  refine m_aload_n dX9_book_142 rfl 0 rfl ?_
  refine m_callV (N := mX9_fine) (st := []) (As := []) dX9_book_143 wsX9_fine (lw_V q1979 q1981 qs40 q116 q1982) rfl mokX9_fine rfl (by decide) (by decide) (Nat.zero_le _) h (fun _ F9 L9 I9 J9 hq => ?_)
  obtain ⟨e1, e2, e3, e4, hq⟩ := hq
  refine AtM.re e1 e2 e3 e4 ?_
  obtain ⟨rx, rfl, h⟩ := hq
  refine AtM.stk (st' := [.int rx]) rfl ?_
  refine m_if_ne (tgt := 152) dX9_book_146 (by decide) (fun c => ?_) (fun c => ?_)
  · replace h := h.1 c
    refine m_aload_n dX9_book_152 rfl 0 rfl ?_
    refine m_callV (N := mX9_pass) (st := []) (As := []) dX9_book_153 wsX9_pass (lw_V q2024 q2026 qs47 q116 q2027) rfl mokX9_pass rfl (by decide) (by decide) (Nat.zero_le _) h (fun _ F1 L1 I1 J1 hq => ?_)
    obtain ⟨rfl, h⟩ := hq
    refine AtM.stk (st' := []) rfl ?_
    refine m_aload_n dX9_book_156 rfl 0 rfl ?_
    refine m_iconst (v := 0) dX9_book_157 (by decide) ?_
    refine m_iload dX9_book_158 3 rfl ?_
    refine m_iconst (v := 2) dX9_book_160 (by decide) ?_
    refine m_icmp_ne (tgt := 169) dX9_book_161 (by decide) (fun c => ?_) (fun c => ?_)
    · replace h := h.1 c
      refine m_iconst (v := 1) dX9_book_169 (by decide) ?_
      exact AtM.sub (ls := [(0, .ref o), (2, .int x2), (4, .int x4), (6, .int x6)]) [0, 1, 2, 3] rfl h
    · replace h := h.2 c
      refine m_bipush (v := 12) dX9_book_164 (by decide) ?_
      refine m_goto (tgt := 170) dX9_book_166 (by decide) ?_
      exact AtM.sub (ls := [(0, .ref o), (2, .int x2), (4, .int x4), (6, .int x6)]) [0, 1, 2, 3] rfl h
  · replace h := h.2 c
    refine m_goto (tgt := 231) dX9_book_149 (by decide) ?_
    exact AtM.sub (ls := [(0, .ref o), (2, .int x2), (4, .int x4), (6, .int x6)]) [0, 1] rfl h
set_option maxHeartbeats 4000000 in
theorem bX9_book_170 {G : GC} {ad : Nat → Nat} {o : Nat} {σ0 : PS} {Q : MPost} {x2 : Int32} {x4 : Int32} {x6 : Int32} {sx1 : Int32} {sx2 : Int32} {F : Nat → Int32} {L : Nat → Int64} {I : Nat → Nat → Int32} {J : Nat → Nat → Int64} (h : CallM G mX9_readNumber 4 ad o [.ref o, .int sx1, .int sx2] F L I J (mqI (fun rx F1 L1 I1 J1 => CallM G mX9_sign 4 ad o [.ref o, .int 59] F1 L1 I1 J1 (mqV (fun F1_1 L1_2 I1_3 J1_4 => CallMO G mX9_fine 3 ad o [.ref o] F1_1 L1_2 I1_3 J1_4 (pI (fun rx_5 => ((¬ rx_5 = 0) → vp_in ((3 * x2)) 30 ∧ (∀ I1_6 : Nat → Nat → Int32, I1_6 = aU I1_3 30 ((3 * x2)).toNatClampNeg x4 → vp_in (((3 * x2) + 1)) 30 ∧ (∀ I1_7 : Nat → Nat → Int32, I1_7 = aU I1_6 30 (((3 * x2) + 1)).toNatClampNeg x6 → vp_in (((3 * x2) + 2)) 30 ∧ (∀ I1_8 : Nat → Nat → Int32, I1_8 = aU I1_7 30 (((3 * x2) + 2)).toNatClampNeg rx → ∀ v2 : Int32, v2 = x2 + 1 → AtM G mX9_book 8 ad o σ0 Q 28 [(0, .ref o), (2, .int v2)] [] F1_1 L1_2 I1_8 J1_4)))) ∧ ((rx_5 = 0) → AtM G mX9_book 8 ad o σ0 Q 231 [(0, .ref o), (2, .int x2)] [] F1_1 L1_2 I1_3 J1_4)))))))) : AtM G mX9_book 8 ad o σ0 Q 170 [(0, .ref o), (2, .int x2), (4, .int x4), (6, .int x6)] [.int sx2, .int sx1, .ref o] F L I J := by
  refine m_callV (N := mX9_readNumber) (st := []) (As := [.int sx1, .int sx2]) dX9_book_170 wsX9_readNumber (lw_V q2032 q2034 qs49 q116 q2035) rfl mokX9_readNumber rfl (by decide) (by decide) (Nat.zero_le _) h (fun _ F1 L1 I1 J1 hq => ?_)
  obtain ⟨rx, rfl, h⟩ := hq
  refine AtM.stk (st' := [.int rx]) rfl ?_
  refine m_istore (ls1 := [(7, .int rx), (0, .ref o), (2, .int x2), (4, .int x4), (6, .int x6)]) dX9_book_173 (by decide) rfl ?_
  refine m_aload_n dX9_book_175 rfl 1 rfl ?_
  refine m_bipush (v := 59) dX9_book_176 (by decide) ?_
  refine m_callV (N := mX9_sign) (st := []) (As := [.int 59]) dX9_book_178 wsX9_sign (lw_V q2043 q2045 qs51 q116 q2046) rfl mokX9_sign rfl (by decide) (by decide) (Nat.zero_le _) h (fun _ F1_1 L1_2 I1_3 J1_4 hq => ?_)
  obtain ⟨rfl, h⟩ := hq
  refine AtM.stk (st' := []) rfl ?_
  refine m_aload_n dX9_book_181 rfl 1 rfl ?_
  refine m_callV (N := mX9_fine) (st := []) (As := []) dX9_book_182 wsX9_fine (lw_V q1979 q1981 qs40 q116 q1982) rfl mokX9_fine rfl (by decide) (by decide) (Nat.zero_le _) h (fun _ F9 L9 I9 J9 hq => ?_)
  obtain ⟨e1, e2, e3, e4, hq⟩ := hq
  refine AtM.re e1 e2 e3 e4 ?_
  obtain ⟨rx_5, rfl, h⟩ := hq
  refine AtM.stk (st' := [.int rx_5]) rfl ?_
  refine m_if_ne (tgt := 191) dX9_book_185 (by decide) (fun c => ?_) (fun c => ?_)
  · replace h := h.1 c
    refine m_aload_n dX9_book_191 rfl 1 rfl ?_
    refine m_get (v := .ref (ad 30)) 30 dX9_book_192 (by decide) q1793 rfl ?_
    refine m_iconst (v := 3) dX9_book_195 (by decide) ?_
    refine m_iload_n dX9_book_196 rfl 2 rfl ?_
    refine m_imul dX9_book_197 ?_
    refine m_iload dX9_book_198 3 rfl ?_
    obtain ⟨h1, h⟩ := h
    refine m_iast 30 dX9_book_200 (by decide) rfl h1 ?_
    refine m_topI (fun I1_6 eI1_6 => ?_)
    replace h := h I1_6 eI1_6
    refine m_aload_n dX9_book_201 rfl 1 rfl ?_
    refine m_get (v := .ref (ad 30)) 30 dX9_book_202 (by decide) q1793 rfl ?_
    refine m_iconst (v := 3) dX9_book_205 (by decide) ?_
    refine m_iload_n dX9_book_206 rfl 2 rfl ?_
    refine m_imul dX9_book_207 ?_
    refine m_iconst (v := 1) dX9_book_208 (by decide) ?_
    refine m_iadd dX9_book_209 ?_
    refine m_iload dX9_book_210 4 rfl ?_
    obtain ⟨h1, h⟩ := h
    refine m_iast 30 dX9_book_212 (by decide) rfl h1 ?_
    refine m_topI (fun I1_7 eI1_7 => ?_)
    replace h := h I1_7 eI1_7
    refine m_aload_n dX9_book_213 rfl 1 rfl ?_
    refine m_get (v := .ref (ad 30)) 30 dX9_book_214 (by decide) q1793 rfl ?_
    refine m_iconst (v := 3) dX9_book_217 (by decide) ?_
    refine m_iload_n dX9_book_218 rfl 2 rfl ?_
    refine m_imul dX9_book_219 ?_
    refine m_iconst (v := 2) dX9_book_220 (by decide) ?_
    refine m_iadd dX9_book_221 ?_
    refine m_iload dX9_book_222 0 rfl ?_
    obtain ⟨h1, h⟩ := h
    refine m_iast 30 dX9_book_224 (by decide) rfl h1 ?_
    refine m_topI (fun I1_8 eI1_8 => ?_)
    replace h := h I1_8 eI1_8
    obtain ⟨v2, ev2⟩ : ∃ z : Int32, z = x2 + 1 := ⟨_, rfl⟩
    refine m_iinc (v := v2) (ls1 := [(2, .int v2), (7, .int rx), (0, .ref o), (4, .int x4), (6, .int x6)]) dX9_book_225 2 rfl (by rw [ev2]; rfl) (by decide) rfl ?_
    replace h := h v2 ev2
    refine m_goto (tgt := 28) dX9_book_228 (by decide) ?_
    exact AtM.sub (ls := [(2, .int v2), (7, .int rx), (0, .ref o), (4, .int x4), (6, .int x6)]) [2, 0] rfl h
  · replace h := h.2 c
    refine m_goto (tgt := 231) dX9_book_188 (by decide) ?_
    exact AtM.sub (ls := [(7, .int rx), (0, .ref o), (2, .int x2), (4, .int x4), (6, .int x6)]) [1, 2] rfl h
set_option maxHeartbeats 4000000 in
theorem bX9_book_231 {G : GC} {ad : Nat → Nat} {o : Nat} {σ0 : PS} {Q : MPost} {x2 : Int32} {F : Nat → Int32} {L : Nat → Int64} {I : Nat → Nat → Int32} {J : Nat → Nat → Int64} (h : CallM G mX9_result 4 ad o [.ref o, .int x2] F L I J (mqI (fun rx F1 L1 I1 J1 => (((F1 5) = (-1)) → (∀ F1_1 : Nat → Int32, F1_1 = fU F1 32 x2 → CallM G mX9_copies 3 ad o [.ref o, .ref (ad 30), .ref (ad 31), .int (3 * x2)] F1_1 L1 I1 J1 (mqV (fun F1_2 L1_3 I1_4 J1_5 => Q (some (.int rx)) F1_2 L1_3 I1_4 J1_5)))) ∧ ((¬ (F1 5) = (-1)) → Q (some (.int rx)) F1 L1 I1 J1)))) : AtM G mX9_book 8 ad o σ0 Q 231 [(0, .ref o), (2, .int x2)] [] F L I J := by
  refine m_aload_n dX9_book_231 rfl 0 rfl ?_
  refine m_iload_n dX9_book_232 rfl 1 rfl ?_
  refine m_callV (N := mX9_result) (st := []) (As := [.int x2]) dX9_book_233 wsX9_result (lw_V q2047 q2049 qs52 q116 q2050) rfl mokX9_result rfl (by decide) (by decide) (Nat.zero_le _) h (fun _ F1 L1 I1 J1 hq => ?_)
  obtain ⟨rx, rfl, h⟩ := hq
  refine AtM.stk (st' := [.int rx]) rfl ?_
  refine m_istore_n (ls1 := [(3, .int rx), (0, .ref o), (2, .int x2)]) dX9_book_236 rfl (by decide) rfl ?_
  refine m_aload_n dX9_book_237 rfl 1 rfl ?_
  refine m_get (v := .int (F1 5)) 5 dX9_book_238 (by decide) q1768 rfl ?_
  refine m_iconst (v := (-1)) dX9_book_241 (by decide) ?_
  refine m_icmp_eq (tgt := 247) dX9_book_242 (by decide) (fun c => ?_) (fun c => ?_)
  · replace h := h.1 c
    refine m_aload_n dX9_book_247 rfl 1 rfl ?_
    refine m_iload_n dX9_book_248 rfl 2 rfl ?_
    refine m_putI 32 dX9_book_249 (by decide) q1795 rfl rfl rfl rfl ?_
    refine m_topF (fun F1_1 eF1_1 => ?_)
    replace h := h F1_1 eF1_1
    refine m_aload_n dX9_book_252 rfl 1 rfl ?_
    refine m_aload_n dX9_book_253 rfl 1 rfl ?_
    refine m_get (v := .ref (ad 30)) 30 dX9_book_254 (by decide) q1793 rfl ?_
    refine m_aload_n dX9_book_257 rfl 1 rfl ?_
    refine m_get (v := .ref (ad 31)) 31 dX9_book_258 (by decide) q1794 rfl ?_
    refine m_iconst (v := 3) dX9_book_261 (by decide) ?_
    refine m_iload_n dX9_book_262 rfl 2 rfl ?_
    refine m_imul dX9_book_263 ?_
    refine m_callV (N := mX9_copies) (st := []) (As := [.ref (ad 30), .ref (ad 31), .int (3 * x2)]) dX9_book_264 wsX9_copies (lw_V q1759 q1761 qs37 q116 q1762) rfl mokX9_copies rfl (by decide) (by decide) (Nat.zero_le _) h (fun _ F1_2 L1_3 I1_4 J1_5 hq => ?_)
    obtain ⟨rfl, h⟩ := hq
    refine AtM.stk (st' := []) rfl ?_
    refine m_iload_n dX9_book_267 rfl 0 rfl ?_
    exact m_iret rfl dX9_book_268 h
  · replace h := h.2 c
    refine m_iload_n dX9_book_245 rfl 0 rfl ?_
    exact m_iret rfl dX9_book_246 h
theorem eX9_book {G : GC} {ad : Nat → Nat} {o : Nat} {Q : MPost} {p1 : Int32} {F : Nat → Int32} {L : Nat → Int64} {I : Nat → Nat → Int32} {J : Nat → Nat → Int64} (h : ∀ σ0, AtM G mX9_book 8 ad o σ0 Q 0 [(0, .ref o), (1, .int p1)] [] F L I J) : CallM G mX9_book 8 ad o [.ref o, .int p1] F L I J Q :=
  CallM.of (by decide +kernel) wsX9_book rfl (Nat.le_of_ble_eq_true rfl) (fun σ0 => AtM.sub (ls := [(0, .ref o), (1, .int p1)]) [0, 1] rfl (h σ0))
set_option maxHeartbeats 4000000 in
theorem bX9_told_0 {G : GC} {ad : Nat → Nat} {o : Nat} {σ0 : PS} {Q : MPost} {x1 : Int32} {F : Nat → Int32} {L : Nat → Int64} {I : Nat → Nat → Int32} {J : Nat → Nat → Int64} (h : (∀ F1 : Nat → Int32, F1 = fU F 0 0 → CallP G mX9_within 3 [.int x1, .int 0, .int 9] (pI (fun rx => CallM G mX9_may 3 ad o [.ref o, .int rx, .int 1, .int 1] F1 L I J (mqI (fun rx_1 F1_2 L1 I1 J1 => ((¬ rx_1 = 0) → ((7 ≤ x1) → ((¬ x1 = 7) → ((¬ x1 = 8) → Q (some (.int (F1_2 32))) F1_2 L1 I1 J1) ∧ ((x1 = 8) → Q (some (.int (F1_2 19))) F1_2 L1 I1 J1)) ∧ ((x1 = 7) → Q (some (.int (F1_2 18))) F1_2 L1 I1 J1)) ∧ ((¬ 7 ≤ x1) → vp_in x1 12 ∧ (Q (some (.int (I1 11 x1.toNatClampNeg))) F1_2 L1 I1 J1))) ∧ ((rx_1 = 0) → Q (some (.int 0)) F1_2 L1 I1 J1))))))) : AtM G mX9_told 4 ad o σ0 Q 0 [(0, .ref o), (1, .int x1)] [] F L I J := by
  refine m_aload_n dX9_told_0 rfl 0 rfl ?_
  refine m_iconst (v := 0) dX9_told_1 (by decide) ?_
  refine m_putI 0 dX9_told_2 (by decide) q1763 rfl rfl rfl rfl ?_
  refine m_topF (fun F1 eF1 => ?_)
  replace h := h F1 eF1
  refine m_aload_n dX9_told_5 rfl 0 rfl ?_
  refine m_iload_n dX9_told_6 rfl 1 rfl ?_
  refine m_iconst (v := 0) dX9_told_7 (by decide) ?_
  refine m_bipush (v := 9) dX9_told_8 (by decide) ?_
  refine m_callP (N := mX9_within) (st := [.ref o]) (As := [.int x1, .int 0, .int 9]) dX9_told_10 wsX9_within (lw_S q2059 q2060 q116 q2061) mokX9_within rfl (by decide) (by decide) (by simp [Value.category]) h (fun _ hq => ?_)
  obtain ⟨rx, rfl, h⟩ := hq
  refine AtM.stk (st' := [.int rx, .ref o]) rfl ?_
  refine m_iconst (v := 1) dX9_told_13 (by decide) ?_
  refine m_iconst (v := 1) dX9_told_14 (by decide) ?_
  refine m_callV (N := mX9_may) (st := []) (As := [.int rx, .int 1, .int 1]) dX9_told_15 wsX9_may (lw_V q1971 q1973 qs38 q116 q1974) rfl mokX9_may rfl (by decide) (by decide) (Nat.zero_le _) h (fun _ F1_2 L1 I1 J1 hq => ?_)
  obtain ⟨rx_1, rfl, h⟩ := hq
  refine AtM.stk (st' := [.int rx_1]) rfl ?_
  refine m_if_ne (tgt := 23) dX9_told_18 (by decide) (fun c => ?_) (fun c => ?_)
  · replace h := h.1 c
    refine m_iload_n dX9_told_23 rfl 1 rfl ?_
    refine m_bipush (v := 7) dX9_told_24 (by decide) ?_
    refine m_icmp_ge (tgt := 36) dX9_told_26 (by decide) (fun c => ?_) (fun c => ?_)
    · replace h := h.1 c
      refine m_iload_n dX9_told_36 rfl 1 rfl ?_
      refine m_bipush (v := 7) dX9_told_37 (by decide) ?_
      refine m_icmp_ne (tgt := 49) dX9_told_39 (by decide) (fun c => ?_) (fun c => ?_)
      · replace h := h.1 c
        refine m_iload_n dX9_told_49 rfl 1 rfl ?_
        refine m_bipush (v := 8) dX9_told_50 (by decide) ?_
        refine m_icmp_ne (tgt := 62) dX9_told_52 (by decide) (fun c => ?_) (fun c => ?_)
        · replace h := h.1 c
          refine m_aload_n dX9_told_62 rfl 0 rfl ?_
          refine m_get (v := .int (F1_2 32)) 32 dX9_told_63 (by decide) q1795 rfl ?_
          exact m_iret rfl dX9_told_66 h
        · replace h := h.2 c
          refine m_aload_n dX9_told_55 rfl 0 rfl ?_
          refine m_get (v := .int (F1_2 19)) 19 dX9_told_56 (by decide) q1782 rfl ?_
          refine m_goto (tgt := 66) dX9_told_59 (by decide) ?_
          exact m_iret rfl dX9_told_66 h
      · replace h := h.2 c
        refine m_aload_n dX9_told_42 rfl 0 rfl ?_
        refine m_get (v := .int (F1_2 18)) 18 dX9_told_43 (by decide) q1781 rfl ?_
        refine m_goto (tgt := 66) dX9_told_46 (by decide) ?_
        exact m_iret rfl dX9_told_66 h
    · replace h := h.2 c
      refine m_aload_n dX9_told_29 rfl 0 rfl ?_
      refine m_get (v := .ref (ad 11)) 11 dX9_told_30 (by decide) q1774 rfl ?_
      refine m_iload_n dX9_told_33 rfl 1 rfl ?_
      obtain ⟨h1, h⟩ := h
      refine m_iald 11 dX9_told_34 (by decide) rfl h1 ?_
      exact m_iret rfl dX9_told_35 h
  · replace h := h.2 c
    refine m_iconst (v := 0) dX9_told_21 (by decide) ?_
    exact m_iret rfl dX9_told_22 h
theorem eX9_told {G : GC} {ad : Nat → Nat} {o : Nat} {Q : MPost} {p1 : Int32} {F : Nat → Int32} {L : Nat → Int64} {I : Nat → Nat → Int32} {J : Nat → Nat → Int64} (h : ∀ σ0, AtM G mX9_told 4 ad o σ0 Q 0 [(0, .ref o), (1, .int p1)] [] F L I J) : CallM G mX9_told 4 ad o [.ref o, .int p1] F L I J Q :=
  CallM.of (by decide +kernel) wsX9_told rfl (Nat.le_of_ble_eq_true rfl) (fun σ0 => AtM.sub (ls := [(0, .ref o), (1, .int p1)]) [0, 1] rfl (h σ0))
set_option maxHeartbeats 4000000 in
theorem bX9_visit_0 {G : GC} {ad : Nat → Nat} {o : Nat} {σ0 : PS} {Q : MPost} {x1 : Int32} {x2 : Int32} {F : Nat → Int32} {L : Nat → Int64} {I : Nat → Nat → Int32} {J : Nat → Nat → Int64} (h : (∀ F1 : Nat → Int32, F1 = fU F 0 0 → CallM G mX9_isVisit 4 ad o [.ref o, .int x1, .int 1] F1 L I J (mqI (fun rx F1_1 L1 I1 J1 => ((rx = 0) → Q (some (.int 0)) F1_1 L1 I1 J1) ∧ ((¬ rx = 0) → CallP G mX9_within 3 [.int x2, .int 0, .int 3] (pI (fun rx_2 => CallM G mX9_may 3 ad o [.ref o, .int rx_2, .int 2, .int 1] F1_1 L1 I1 J1 (mqI (fun rx_3 F1_4 L1_5 I1_6 J1_7 => ((¬ rx_3 = 0) → ((¬ x2 = 0) → ((¬ x2 = 1) → ((¬ x2 = 2) → CallMO G mX9_sinceOf 3 ad o [.ref o, .int x1] F1_4 L1_5 I1_6 J1_7 (pI (fun rx_8 => Q (some (.int rx_8)) F1_4 L1_5 I1_6 J1_7))) ∧ ((x2 = 2) → CallMO G mX9_whichOf 3 ad o [.ref o, .int x1] F1_4 L1_5 I1_6 J1_7 (pI (fun rx_9 => Q (some (.int rx_9)) F1_4 L1_5 I1_6 J1_7)))) ∧ ((x2 = 1) → vp_in x1 24 ∧ (Q (some (.int (I1_6 15 x1.toNatClampNeg))) F1_4 L1_5 I1_6 J1_7))) ∧ ((x2 = 0) → vp_in x1 24 ∧ (Q (some (.int (I1_6 14 x1.toNatClampNeg))) F1_4 L1_5 I1_6 J1_7))) ∧ ((rx_3 = 0) → Q (some (.int 0)) F1_4 L1_5 I1_6 J1_7)))))))))) : AtM G mX9_visit 5 ad o σ0 Q 0 [(0, .ref o), (1, .int x1), (2, .int x2)] [] F L I J := by
  refine m_aload_n dX9_visit_0 rfl 0 rfl ?_
  refine m_iconst (v := 0) dX9_visit_1 (by decide) ?_
  refine m_putI 0 dX9_visit_2 (by decide) q1763 rfl rfl rfl rfl ?_
  refine m_topF (fun F1 eF1 => ?_)
  replace h := h F1 eF1
  refine m_aload_n dX9_visit_5 rfl 0 rfl ?_
  refine m_iload_n dX9_visit_6 rfl 1 rfl ?_
  refine m_iconst (v := 1) dX9_visit_7 (by decide) ?_
  refine m_callV (N := mX9_isVisit) (st := []) (As := [.int x1, .int 1]) dX9_visit_8 wsX9_isVisit (lw_V q2147 q2149 qs65 q116 q2150) rfl mokX9_isVisit rfl (by decide) (by decide) (Nat.zero_le _) h (fun _ F1_1 L1 I1 J1 hq => ?_)
  obtain ⟨rx, rfl, h⟩ := hq
  refine AtM.stk (st' := [.int rx]) rfl ?_
  refine m_if_eq (tgt := 29) dX9_visit_11 (by decide) (fun c => ?_) (fun c => ?_)
  · replace h := h.1 c
    refine m_iconst (v := 0) dX9_visit_29 (by decide) ?_
    exact m_iret rfl dX9_visit_30 h
  · replace h := h.2 c
    refine m_aload_n dX9_visit_14 rfl 0 rfl ?_
    refine m_iload_n dX9_visit_15 rfl 2 rfl ?_
    refine m_iconst (v := 0) dX9_visit_16 (by decide) ?_
    refine m_iconst (v := 3) dX9_visit_17 (by decide) ?_
    refine m_callP (N := mX9_within) (st := [.ref o]) (As := [.int x2, .int 0, .int 3]) dX9_visit_18 wsX9_within (lw_S q2059 q2060 q116 q2061) mokX9_within rfl (by decide) (by decide) (by simp [Value.category]) h (fun _ hq => ?_)
    obtain ⟨rx_2, rfl, h⟩ := hq
    refine AtM.stk (st' := [.int rx_2, .ref o]) rfl ?_
    refine m_iconst (v := 2) dX9_visit_21 (by decide) ?_
    refine m_iconst (v := 1) dX9_visit_22 (by decide) ?_
    refine m_callV (N := mX9_may) (st := []) (As := [.int rx_2, .int 2, .int 1]) dX9_visit_23 wsX9_may (lw_V q1971 q1973 qs38 q116 q1974) rfl mokX9_may rfl (by decide) (by decide) (Nat.zero_le _) h (fun _ F1_4 L1_5 I1_6 J1_7 hq => ?_)
    obtain ⟨rx_3, rfl, h⟩ := hq
    refine AtM.stk (st' := [.int rx_3]) rfl ?_
    refine m_if_ne (tgt := 31) dX9_visit_26 (by decide) (fun c => ?_) (fun c => ?_)
    · replace h := h.1 c
      refine m_iload_n dX9_visit_31 rfl 2 rfl ?_
      refine m_if_ne (tgt := 44) dX9_visit_32 (by decide) (fun c => ?_) (fun c => ?_)
      · replace h := h.1 c
        refine m_iload_n dX9_visit_44 rfl 2 rfl ?_
        refine m_iconst (v := 1) dX9_visit_45 (by decide) ?_
        refine m_icmp_ne (tgt := 58) dX9_visit_46 (by decide) (fun c => ?_) (fun c => ?_)
        · replace h := h.1 c
          refine m_iload_n dX9_visit_58 rfl 2 rfl ?_
          refine m_iconst (v := 2) dX9_visit_59 (by decide) ?_
          refine m_icmp_ne (tgt := 71) dX9_visit_60 (by decide) (fun c => ?_) (fun c => ?_)
          · replace h := h.1 c
            refine m_aload_n dX9_visit_71 rfl 0 rfl ?_
            refine m_iload_n dX9_visit_72 rfl 1 rfl ?_
            refine m_callV (N := mX9_sinceOf) (st := []) (As := [.int x1]) dX9_visit_73 wsX9_sinceOf (lw_V q2155 q2157 qs67 q116 q2158) rfl mokX9_sinceOf rfl (by decide) (by decide) (Nat.zero_le _) h (fun _ F9 L9 I9 J9 hq => ?_)
            obtain ⟨e1, e2, e3, e4, hq⟩ := hq
            refine AtM.re e1 e2 e3 e4 ?_
            obtain ⟨rx_8, rfl, h⟩ := hq
            refine AtM.stk (st' := [.int rx_8]) rfl ?_
            exact m_iret rfl dX9_visit_76 h
          · replace h := h.2 c
            refine m_aload_n dX9_visit_63 rfl 0 rfl ?_
            refine m_iload_n dX9_visit_64 rfl 1 rfl ?_
            refine m_callV (N := mX9_whichOf) (st := []) (As := [.int x1]) dX9_visit_65 wsX9_whichOf (lw_V q2151 q2153 qs66 q116 q2154) rfl mokX9_whichOf rfl (by decide) (by decide) (Nat.zero_le _) h (fun _ F9 L9 I9 J9 hq => ?_)
            obtain ⟨e1, e2, e3, e4, hq⟩ := hq
            refine AtM.re e1 e2 e3 e4 ?_
            obtain ⟨rx_9, rfl, h⟩ := hq
            refine AtM.stk (st' := [.int rx_9]) rfl ?_
            refine m_goto (tgt := 76) dX9_visit_68 (by decide) ?_
            exact m_iret rfl dX9_visit_76 h
        · replace h := h.2 c
          refine m_aload_n dX9_visit_49 rfl 0 rfl ?_
          refine m_get (v := .ref (ad 15)) 15 dX9_visit_50 (by decide) q1778 rfl ?_
          refine m_iload_n dX9_visit_53 rfl 1 rfl ?_
          obtain ⟨h1, h⟩ := h
          refine m_iald 15 dX9_visit_54 (by decide) rfl h1 ?_
          refine m_goto (tgt := 76) dX9_visit_55 (by decide) ?_
          exact m_iret rfl dX9_visit_76 h
      · replace h := h.2 c
        refine m_aload_n dX9_visit_35 rfl 0 rfl ?_
        refine m_get (v := .ref (ad 14)) 14 dX9_visit_36 (by decide) q1777 rfl ?_
        refine m_iload_n dX9_visit_39 rfl 1 rfl ?_
        obtain ⟨h1, h⟩ := h
        refine m_iald 14 dX9_visit_40 (by decide) rfl h1 ?_
        refine m_goto (tgt := 76) dX9_visit_41 (by decide) ?_
        exact m_iret rfl dX9_visit_76 h
    · replace h := h.2 c
      refine m_iconst (v := 0) dX9_visit_29 (by decide) ?_
      exact m_iret rfl dX9_visit_30 h
theorem eX9_visit {G : GC} {ad : Nat → Nat} {o : Nat} {Q : MPost} {p1 : Int32} {p2 : Int32} {F : Nat → Int32} {L : Nat → Int64} {I : Nat → Nat → Int32} {J : Nat → Nat → Int64} (h : ∀ σ0, AtM G mX9_visit 5 ad o σ0 Q 0 [(0, .ref o), (1, .int p1), (2, .int p2)] [] F L I J) : CallM G mX9_visit 5 ad o [.ref o, .int p1, .int p2] F L I J Q :=
  CallM.of (by decide +kernel) wsX9_visit rfl (Nat.le_of_ble_eq_true rfl) (fun σ0 => AtM.sub (ls := [(0, .ref o), (1, .int p1), (2, .int p2)]) [0, 1, 2] rfl (h σ0))
set_option maxHeartbeats 4000000 in
theorem bX9_isVisit_0 {G : GC} {ad : Nat → Nat} {o : Nat} {σ0 : PS} {Q : MPost} {x1 : Int32} {x2 : Int32} {F : Nat → Int32} {L : Nat → Int64} {I : Nat → Nat → Int32} {J : Nat → Nat → Int64} (h : CallP G mX9_within 3 [.int x1, .int 0, .int ((F 19) - 1)] (pI (fun rx => CallM G mX9_may 3 ad o [.ref o, .int rx, .int x2, .int 0] F L I J (mqI (fun rx_1 F1 L1 I1 J1 => (rx_1 = 0 ∨ rx_1 = 1) ∧ Q (some (.int rx_1)) F1 L1 I1 J1))))) : AtM G mX9_isVisit 4 ad o σ0 Q 0 [(0, .ref o), (1, .int x1), (2, .int x2)] [] F L I J := by
  refine m_aload_n dX9_isVisit_0 rfl 0 rfl ?_
  refine m_iload_n dX9_isVisit_1 rfl 1 rfl ?_
  refine m_iconst (v := 0) dX9_isVisit_2 (by decide) ?_
  refine m_aload_n dX9_isVisit_3 rfl 0 rfl ?_
  refine m_get (v := .int (F 19)) 19 dX9_isVisit_4 (by decide) q1782 rfl ?_
  refine m_iconst (v := 1) dX9_isVisit_7 (by decide) ?_
  refine m_isub dX9_isVisit_8 ?_
  refine m_callP (N := mX9_within) (st := [.ref o]) (As := [.int x1, .int 0, .int ((F 19) - 1)]) dX9_isVisit_9 wsX9_within (lw_S q2059 q2060 q116 q2061) mokX9_within rfl (by decide) (by decide) (by simp [Value.category]) h (fun _ hq => ?_)
  obtain ⟨rx, rfl, h⟩ := hq
  refine AtM.stk (st' := [.int rx, .ref o]) rfl ?_
  refine m_iload_n dX9_isVisit_12 rfl 2 rfl ?_
  refine m_iconst (v := 0) dX9_isVisit_13 (by decide) ?_
  refine m_callV (N := mX9_may) (st := []) (As := [.int rx, .int x2, .int 0]) dX9_isVisit_14 wsX9_may (lw_V q1971 q1973 qs38 q116 q1974) rfl mokX9_may rfl (by decide) (by decide) (Nat.zero_le _) h (fun _ F1 L1 I1 J1 hq => ?_)
  obtain ⟨rx_1, rfl, h⟩ := hq
  refine AtM.stk (st' := [.int rx_1]) rfl ?_
  exact m_zret rfl (nar_z h.1) dX9_isVisit_17 h.2
theorem eX9_isVisit {G : GC} {ad : Nat → Nat} {o : Nat} {Q : MPost} {p1 : Int32} {p2 : Int32} {F : Nat → Int32} {L : Nat → Int64} {I : Nat → Nat → Int32} {J : Nat → Nat → Int64} (h : ∀ σ0, AtM G mX9_isVisit 4 ad o σ0 Q 0 [(0, .ref o), (1, .int p1), (2, .int p2)] [] F L I J) : CallM G mX9_isVisit 4 ad o [.ref o, .int p1, .int p2] F L I J Q :=
  CallM.of (by decide +kernel) wsX9_isVisit rfl (Nat.le_of_ble_eq_true rfl) (fun σ0 => AtM.sub (ls := [(0, .ref o), (1, .int p1), (2, .int p2)]) [0, 1, 2] rfl (h σ0))
set_option maxHeartbeats 4000000 in
theorem bX9_whichOf_0 {G : GC} {ad : Nat → Nat} {o : Nat} {σ0 : PS} {Q : MPost} {x1 : Int32} {F : Nat → Int32} {L : Nat → Int64} {I : Nat → Nat → Int32} {J : Nat → Nat → Int64} (h : AtM G mX9_whichOf 3 ad o σ0 Q 4 [(0, .ref o), (1, .int x1), (2, .int 0), (3, .int 0)] [] F L I J) : AtM G mX9_whichOf 3 ad o σ0 Q 0 [(0, .ref o), (1, .int x1)] [] F L I J := by
  refine m_iconst (v := 0) dX9_whichOf_0 (by decide) ?_
  refine m_istore_n (ls1 := [(2, .int 0), (0, .ref o), (1, .int x1)]) dX9_whichOf_1 rfl (by decide) rfl ?_
  refine m_iconst (v := 0) dX9_whichOf_2 (by decide) ?_
  refine m_istore_n (ls1 := [(3, .int 0), (2, .int 0), (0, .ref o), (1, .int x1)]) dX9_whichOf_3 rfl (by decide) rfl ?_
  exact AtM.sub (ls := [(3, .int 0), (2, .int 0), (0, .ref o), (1, .int x1)]) [2, 3, 1, 0] rfl h
set_option maxHeartbeats 4000000 in
theorem bX9_whichOf_4 {G : GC} {ad : Nat → Nat} {o : Nat} {σ0 : PS} {Q : MPost} {x1 : Int32} {x2 : Int32} {x3 : Int32} {F : Nat → Int32} {L : Nat → Int64} {I : Nat → Nat → Int32} {J : Nat → Nat → Int64} (h : ((x1 < x3) → Q (some (.int x2)) F L I J) ∧ ((¬ x1 < x3) → vp_in x3 24 ∧ (vp_in x1 24 ∧ (((¬ (I 14 x3.toNatClampNeg) = (I 14 x1.toNatClampNeg)) → ∀ v2 : Int32, v2 = (x2 + 0) → ∀ v3 : Int32, v3 = x3 + 1 → AtM G mX9_whichOf 3 ad o σ0 Q 4 [(0, .ref o), (1, .int x1), (2, .int v2), (3, .int v3)] [] F L I J) ∧ (((I 14 x3.toNatClampNeg) = (I 14 x1.toNatClampNeg)) → ∀ v2 : Int32, v2 = (x2 + 1) → ∀ v3 : Int32, v3 = x3 + 1 → AtM G mX9_whichOf 3 ad o σ0 Q 4 [(0, .ref o), (1, .int x1), (2, .int v2), (3, .int v3)] [] F L I J))))) : AtM G mX9_whichOf 3 ad o σ0 Q 4 [(0, .ref o), (1, .int x1), (2, .int x2), (3, .int x3)] [] F L I J := by
  refine m_iload_n dX9_whichOf_4 rfl 3 rfl ?_
  refine m_iload_n dX9_whichOf_5 rfl 1 rfl ?_
  refine m_icmp_gt (tgt := 38) dX9_whichOf_6 (by decide) (fun c => ?_) (fun c => ?_)
  · replace h := h.1 c
    refine m_iload_n dX9_whichOf_38 rfl 2 rfl ?_
    exact m_iret rfl dX9_whichOf_39 h
  · replace h := h.2 c
    refine m_iload_n dX9_whichOf_9 rfl 2 rfl ?_
    refine m_aload_n dX9_whichOf_10 rfl 0 rfl ?_
    refine m_get (v := .ref (ad 14)) 14 dX9_whichOf_11 (by decide) q1777 rfl ?_
    refine m_iload_n dX9_whichOf_14 rfl 3 rfl ?_
    obtain ⟨h1, h⟩ := h
    refine m_iald 14 dX9_whichOf_15 (by decide) rfl h1 ?_
    refine m_aload_n dX9_whichOf_16 rfl 0 rfl ?_
    refine m_get (v := .ref (ad 14)) 14 dX9_whichOf_17 (by decide) q1777 rfl ?_
    refine m_iload_n dX9_whichOf_20 rfl 1 rfl ?_
    obtain ⟨h1, h⟩ := h
    refine m_iald 14 dX9_whichOf_21 (by decide) rfl h1 ?_
    refine m_icmp_ne (tgt := 29) dX9_whichOf_22 (by decide) (fun c => ?_) (fun c => ?_)
    · replace h := h.1 c
      refine m_iconst (v := 0) dX9_whichOf_29 (by decide) ?_
      refine m_iadd dX9_whichOf_30 ?_
      refine m_topi (fun v2 ev2 => ?_)
      replace h := h v2 ev2
      refine m_istore_n (ls1 := [(2, .int v2), (0, .ref o), (1, .int x1), (3, .int x3)]) dX9_whichOf_31 rfl (by decide) rfl ?_
      obtain ⟨v3, ev3⟩ : ∃ z : Int32, z = x3 + 1 := ⟨_, rfl⟩
      refine m_iinc (v := v3) (ls1 := [(3, .int v3), (2, .int v2), (0, .ref o), (1, .int x1)]) dX9_whichOf_32 3 rfl (by rw [ev3]; rfl) (by decide) rfl ?_
      replace h := h v3 ev3
      refine m_goto (tgt := 4) dX9_whichOf_35 (by decide) ?_
      exact AtM.sub (ls := [(3, .int v3), (2, .int v2), (0, .ref o), (1, .int x1)]) [2, 3, 1, 0] rfl h
    · replace h := h.2 c
      refine m_iconst (v := 1) dX9_whichOf_25 (by decide) ?_
      refine m_goto (tgt := 30) dX9_whichOf_26 (by decide) ?_
      refine m_iadd dX9_whichOf_30 ?_
      refine m_topi (fun v2 ev2 => ?_)
      replace h := h v2 ev2
      refine m_istore_n (ls1 := [(2, .int v2), (0, .ref o), (1, .int x1), (3, .int x3)]) dX9_whichOf_31 rfl (by decide) rfl ?_
      obtain ⟨v3, ev3⟩ : ∃ z : Int32, z = x3 + 1 := ⟨_, rfl⟩
      refine m_iinc (v := v3) (ls1 := [(3, .int v3), (2, .int v2), (0, .ref o), (1, .int x1)]) dX9_whichOf_32 3 rfl (by rw [ev3]; rfl) (by decide) rfl ?_
      replace h := h v3 ev3
      refine m_goto (tgt := 4) dX9_whichOf_35 (by decide) ?_
      exact AtM.sub (ls := [(3, .int v3), (2, .int v2), (0, .ref o), (1, .int x1)]) [2, 3, 1, 0] rfl h
theorem eX9_whichOf {G : GC} {ad : Nat → Nat} {o : Nat} {Q : MPost} {p1 : Int32} {F : Nat → Int32} {L : Nat → Int64} {I : Nat → Nat → Int32} {J : Nat → Nat → Int64} (h : ∀ σ0, AtM G mX9_whichOf 3 ad o σ0 Q 0 [(0, .ref o), (1, .int p1)] [] F L I J) : CallM G mX9_whichOf 3 ad o [.ref o, .int p1] F L I J Q :=
  CallM.of (by decide +kernel) wsX9_whichOf rfl (Nat.le_of_ble_eq_true rfl) (fun σ0 => AtM.sub (ls := [(0, .ref o), (1, .int p1)]) [0, 1] rfl (h σ0))
set_option maxHeartbeats 4000000 in
theorem bX9_sinceOf_0 {G : GC} {ad : Nat → Nat} {o : Nat} {σ0 : PS} {Q : MPost} {x1 : Int32} {F : Nat → Int32} {L : Nat → Int64} {I : Nat → Nat → Int32} {J : Nat → Nat → Int64} (h : ∀ v2 : Int32, v2 = (x1 - 1) → AtM G mX9_sinceOf 3 ad o σ0 Q 4 [(0, .ref o), (1, .int x1), (2, .int v2)] [] F L I J) : AtM G mX9_sinceOf 3 ad o σ0 Q 0 [(0, .ref o), (1, .int x1)] [] F L I J := by
  refine m_iload_n dX9_sinceOf_0 rfl 1 rfl ?_
  refine m_iconst (v := 1) dX9_sinceOf_1 (by decide) ?_
  refine m_isub dX9_sinceOf_2 ?_
  refine m_topi (fun v2 ev2 => ?_)
  replace h := h v2 ev2
  refine m_istore_n (ls1 := [(2, .int v2), (0, .ref o), (1, .int x1)]) dX9_sinceOf_3 rfl (by decide) rfl ?_
  exact AtM.sub (ls := [(2, .int v2), (0, .ref o), (1, .int x1)]) [1, 2, 0] rfl h
set_option maxHeartbeats 4000000 in
theorem bX9_sinceOf_4 {G : GC} {ad : Nat → Nat} {o : Nat} {σ0 : PS} {Q : MPost} {x1 : Int32} {x2 : Int32} {F : Nat → Int32} {L : Nat → Int64} {I : Nat → Nat → Int32} {J : Nat → Nat → Int64} (h : ((x2 < 0) → Q (some (.int 999)) F L I J) ∧ ((¬ x2 < 0) → vp_in x2 24 ∧ (vp_in x1 24 ∧ (((¬ (I 14 x2.toNatClampNeg) = (I 14 x1.toNatClampNeg)) → ∀ v2 : Int32, v2 = x2 + (-1) → AtM G mX9_sinceOf 3 ad o σ0 Q 4 [(0, .ref o), (1, .int x1), (2, .int v2)] [] F L I J) ∧ (((I 14 x2.toNatClampNeg) = (I 14 x1.toNatClampNeg)) → vp_in x1 24 ∧ (vp_in x2 24 ∧ (∀ w : Int32, w = ((I 15 x1.toNatClampNeg) - (I 15 x2.toNatClampNeg)) → Q (some (.int w)) F L I J))))))) : AtM G mX9_sinceOf 3 ad o σ0 Q 4 [(0, .ref o), (1, .int x1), (2, .int x2)] [] F L I J := by
  refine m_iload_n dX9_sinceOf_4 rfl 2 rfl ?_
  refine m_if_lt (tgt := 43) dX9_sinceOf_5 (by decide) (fun c => ?_) (fun c => ?_)
  · replace h := h.1 c
    refine m_sipush (v := 999) dX9_sinceOf_43 (by decide) ?_
    exact m_iret rfl dX9_sinceOf_46 h
  · replace h := h.2 c
    refine m_aload_n dX9_sinceOf_8 rfl 0 rfl ?_
    refine m_get (v := .ref (ad 14)) 14 dX9_sinceOf_9 (by decide) q1777 rfl ?_
    refine m_iload_n dX9_sinceOf_12 rfl 2 rfl ?_
    obtain ⟨h1, h⟩ := h
    refine m_iald 14 dX9_sinceOf_13 (by decide) rfl h1 ?_
    refine m_aload_n dX9_sinceOf_14 rfl 0 rfl ?_
    refine m_get (v := .ref (ad 14)) 14 dX9_sinceOf_15 (by decide) q1777 rfl ?_
    refine m_iload_n dX9_sinceOf_18 rfl 1 rfl ?_
    obtain ⟨h1, h⟩ := h
    refine m_iald 14 dX9_sinceOf_19 (by decide) rfl h1 ?_
    refine m_icmp_ne (tgt := 37) dX9_sinceOf_20 (by decide) (fun c => ?_) (fun c => ?_)
    · replace h := h.1 c
      obtain ⟨v2, ev2⟩ : ∃ z : Int32, z = x2 + (-1) := ⟨_, rfl⟩
      refine m_iinc (v := v2) (ls1 := [(2, .int v2), (0, .ref o), (1, .int x1)]) dX9_sinceOf_37 2 rfl (by rw [ev2]; rfl) (by decide) rfl ?_
      replace h := h v2 ev2
      refine m_goto (tgt := 4) dX9_sinceOf_40 (by decide) ?_
      exact AtM.sub (ls := [(2, .int v2), (0, .ref o), (1, .int x1)]) [1, 2, 0] rfl h
    · replace h := h.2 c
      refine m_aload_n dX9_sinceOf_23 rfl 0 rfl ?_
      refine m_get (v := .ref (ad 15)) 15 dX9_sinceOf_24 (by decide) q1778 rfl ?_
      refine m_iload_n dX9_sinceOf_27 rfl 1 rfl ?_
      obtain ⟨h1, h⟩ := h
      refine m_iald 15 dX9_sinceOf_28 (by decide) rfl h1 ?_
      refine m_aload_n dX9_sinceOf_29 rfl 0 rfl ?_
      refine m_get (v := .ref (ad 15)) 15 dX9_sinceOf_30 (by decide) q1778 rfl ?_
      refine m_iload_n dX9_sinceOf_33 rfl 2 rfl ?_
      obtain ⟨h1, h⟩ := h
      refine m_iald 15 dX9_sinceOf_34 (by decide) rfl h1 ?_
      refine m_isub dX9_sinceOf_35 ?_
      refine m_topi (fun w ew => ?_)
      replace h := h w ew
      exact m_iret rfl dX9_sinceOf_36 h
theorem eX9_sinceOf {G : GC} {ad : Nat → Nat} {o : Nat} {Q : MPost} {p1 : Int32} {F : Nat → Int32} {L : Nat → Int64} {I : Nat → Nat → Int32} {J : Nat → Nat → Int64} (h : ∀ σ0, AtM G mX9_sinceOf 3 ad o σ0 Q 0 [(0, .ref o), (1, .int p1)] [] F L I J) : CallM G mX9_sinceOf 3 ad o [.ref o, .int p1] F L I J Q :=
  CallM.of (by decide +kernel) wsX9_sinceOf rfl (Nat.le_of_ble_eq_true rfl) (fun σ0 => AtM.sub (ls := [(0, .ref o), (1, .int p1)]) [0, 1] rfl (h σ0))
set_option maxHeartbeats 4000000 in
theorem bX9_person_0 {G : GC} {ad : Nat → Nat} {o : Nat} {σ0 : PS} {Q : MPost} {x1 : Int32} {x2 : Int32} {F : Nat → Int32} {L : Nat → Int64} {I : Nat → Nat → Int32} {J : Nat → Nat → Int64} (h : (∀ F1 : Nat → Int32, F1 = fU F 0 0 → CallM G mX9_isPerson 4 ad o [.ref o, .int x1, .int 1] F1 L I J (mqI (fun rx F1_1 L1 I1 J1 => ((rx = 0) → Q (some (.int 0)) F1_1 L1 I1 J1) ∧ ((¬ rx = 0) → CallP G mX9_within 3 [.int x2, .int 0, .int 2] (pI (fun rx_2 => CallM G mX9_may 3 ad o [.ref o, .int rx_2, .int 2, .int 1] F1_1 L1 I1 J1 (mqI (fun rx_3 F1_4 L1_5 I1_6 J1_7 => ((¬ rx_3 = 0) → ((¬ x2 = 0) → ∀ v5 : Int32, v5 = ((F1_4 19) - 1) → AtM G mX9_person 5 ad o σ0 Q 55 [(0, .ref o), (1, .int x1), (2, .int x2), (3, .int 0), (4, .int (-1)), (5, .int v5)] [] F1_4 L1_5 I1_6 J1_7) ∧ ((x2 = 0) → vp_in x1 7 ∧ (Q (some (.int (I1_6 27 x1.toNatClampNeg))) F1_4 L1_5 I1_6 J1_7))) ∧ ((rx_3 = 0) → Q (some (.int 0)) F1_4 L1_5 I1_6 J1_7)))))))))) : AtM G mX9_person 5 ad o σ0 Q 0 [(0, .ref o), (1, .int x1), (2, .int x2)] [] F L I J := by
  refine m_aload_n dX9_person_0 rfl 0 rfl ?_
  refine m_iconst (v := 0) dX9_person_1 (by decide) ?_
  refine m_putI 0 dX9_person_2 (by decide) q1763 rfl rfl rfl rfl ?_
  refine m_topF (fun F1 eF1 => ?_)
  replace h := h F1 eF1
  refine m_aload_n dX9_person_5 rfl 0 rfl ?_
  refine m_iload_n dX9_person_6 rfl 1 rfl ?_
  refine m_iconst (v := 1) dX9_person_7 (by decide) ?_
  refine m_callV (N := mX9_isPerson) (st := []) (As := [.int x1, .int 1]) dX9_person_8 wsX9_isPerson (lw_V q2055 q2057 qs53 q116 q2058) rfl mokX9_isPerson rfl (by decide) (by decide) (Nat.zero_le _) h (fun _ F1_1 L1 I1 J1 hq => ?_)
  obtain ⟨rx, rfl, h⟩ := hq
  refine AtM.stk (st' := [.int rx]) rfl ?_
  refine m_if_eq (tgt := 29) dX9_person_11 (by decide) (fun c => ?_) (fun c => ?_)
  · replace h := h.1 c
    refine m_iconst (v := 0) dX9_person_29 (by decide) ?_
    exact m_iret rfl dX9_person_30 h
  · replace h := h.2 c
    refine m_aload_n dX9_person_14 rfl 0 rfl ?_
    refine m_iload_n dX9_person_15 rfl 2 rfl ?_
    refine m_iconst (v := 0) dX9_person_16 (by decide) ?_
    refine m_iconst (v := 2) dX9_person_17 (by decide) ?_
    refine m_callP (N := mX9_within) (st := [.ref o]) (As := [.int x2, .int 0, .int 2]) dX9_person_18 wsX9_within (lw_S q2059 q2060 q116 q2061) mokX9_within rfl (by decide) (by decide) (by simp [Value.category]) h (fun _ hq => ?_)
    obtain ⟨rx_2, rfl, h⟩ := hq
    refine AtM.stk (st' := [.int rx_2, .ref o]) rfl ?_
    refine m_iconst (v := 2) dX9_person_21 (by decide) ?_
    refine m_iconst (v := 1) dX9_person_22 (by decide) ?_
    refine m_callV (N := mX9_may) (st := []) (As := [.int rx_2, .int 2, .int 1]) dX9_person_23 wsX9_may (lw_V q1971 q1973 qs38 q116 q1974) rfl mokX9_may rfl (by decide) (by decide) (Nat.zero_le _) h (fun _ F1_4 L1_5 I1_6 J1_7 hq => ?_)
    obtain ⟨rx_3, rfl, h⟩ := hq
    refine AtM.stk (st' := [.int rx_3]) rfl ?_
    refine m_if_ne (tgt := 31) dX9_person_26 (by decide) (fun c => ?_) (fun c => ?_)
    · replace h := h.1 c
      refine m_iload_n dX9_person_31 rfl 2 rfl ?_
      refine m_if_ne (tgt := 42) dX9_person_32 (by decide) (fun c => ?_) (fun c => ?_)
      · replace h := h.1 c
        refine m_iconst (v := 0) dX9_person_42 (by decide) ?_
        refine m_istore_n (ls1 := [(3, .int 0), (0, .ref o), (1, .int x1), (2, .int x2)]) dX9_person_43 rfl (by decide) rfl ?_
        refine m_iconst (v := (-1)) dX9_person_44 (by decide) ?_
        refine m_istore (ls1 := [(4, .int (-1)), (3, .int 0), (0, .ref o), (1, .int x1), (2, .int x2)]) dX9_person_45 (by decide) rfl ?_
        refine m_aload_n dX9_person_47 rfl 2 rfl ?_
        refine m_get (v := .int (F1_4 19)) 19 dX9_person_48 (by decide) q1782 rfl ?_
        refine m_iconst (v := 1) dX9_person_51 (by decide) ?_
        refine m_isub dX9_person_52 ?_
        refine m_topi (fun v5 ev5 => ?_)
        replace h := h v5 ev5
        refine m_istore (ls1 := [(5, .int v5), (4, .int (-1)), (3, .int 0), (0, .ref o), (1, .int x1), (2, .int x2)]) dX9_person_53 (by decide) rfl ?_
        exact AtM.sub (ls := [(5, .int v5), (4, .int (-1)), (3, .int 0), (0, .ref o), (1, .int x1), (2, .int x2)]) [3, 4, 5, 2, 1, 0] rfl h
      · replace h := h.2 c
        refine m_aload_n dX9_person_35 rfl 0 rfl ?_
        refine m_get (v := .ref (ad 27)) 27 dX9_person_36 (by decide) q1790 rfl ?_
        refine m_iload_n dX9_person_39 rfl 1 rfl ?_
        obtain ⟨h1, h⟩ := h
        refine m_iald 27 dX9_person_40 (by decide) rfl h1 ?_
        exact m_iret rfl dX9_person_41 h
    · replace h := h.2 c
      refine m_iconst (v := 0) dX9_person_29 (by decide) ?_
      exact m_iret rfl dX9_person_30 h
set_option maxHeartbeats 4000000 in
theorem bX9_person_55 {G : GC} {ad : Nat → Nat} {o : Nat} {σ0 : PS} {Q : MPost} {x1 : Int32} {x2 : Int32} {x3 : Int32} {x4 : Int32} {x5 : Int32} {F : Nat → Int32} {L : Nat → Int64} {I : Nat → Nat → Int32} {J : Nat → Nat → Int64} (h : ((x5 < 0) → ((¬ x2 = 1) → Q (some (.int x4)) F L I J) ∧ ((x2 = 1) → Q (some (.int x3)) F L I J)) ∧ ((¬ x5 < 0) → vp_in x5 24 ∧ ((((I 14 x5.toNatClampNeg) = x1) → ∀ v3 : Int32, v3 = x3 + 1 → ∀ v5 : Int32, v5 = x5 + (-1) → AtM G mX9_person 5 ad o σ0 Q 55 [(0, .ref o), (1, .int x1), (2, .int x2), (3, .int v3), (4, .int x5), (5, .int v5)] [] F L I J) ∧ ((¬ (I 14 x5.toNatClampNeg) = x1) → ∀ v5 : Int32, v5 = x5 + (-1) → AtM G mX9_person 5 ad o σ0 Q 55 [(0, .ref o), (1, .int x1), (2, .int x2), (3, .int x3), (4, .int x4), (5, .int v5)] [] F L I J)))) : AtM G mX9_person 5 ad o σ0 Q 55 [(0, .ref o), (1, .int x1), (2, .int x2), (3, .int x3), (4, .int x4), (5, .int x5)] [] F L I J := by
  refine m_iload dX9_person_55 5 rfl ?_
  refine m_if_lt (tgt := 87) dX9_person_57 (by decide) (fun c => ?_) (fun c => ?_)
  · replace h := h.1 c
    refine m_iload_n dX9_person_87 rfl 2 rfl ?_
    refine m_iconst (v := 1) dX9_person_88 (by decide) ?_
    refine m_icmp_ne (tgt := 96) dX9_person_89 (by decide) (fun c => ?_) (fun c => ?_)
    · replace h := h.1 c
      refine m_iload dX9_person_96 4 rfl ?_
      exact m_iret rfl dX9_person_98 h
    · replace h := h.2 c
      refine m_iload_n dX9_person_92 rfl 3 rfl ?_
      refine m_goto (tgt := 98) dX9_person_93 (by decide) ?_
      exact m_iret rfl dX9_person_98 h
  · replace h := h.2 c
    refine m_aload_n dX9_person_60 rfl 0 rfl ?_
    refine m_get (v := .ref (ad 14)) 14 dX9_person_61 (by decide) q1777 rfl ?_
    refine m_iload dX9_person_64 5 rfl ?_
    obtain ⟨h1, h⟩ := h
    refine m_iald 14 dX9_person_66 (by decide) rfl h1 ?_
    refine m_iload_n dX9_person_67 rfl 1 rfl ?_
    refine m_icmp_eq (tgt := 74) dX9_person_68 (by decide) (fun c => ?_) (fun c => ?_)
    · replace h := h.1 c
      obtain ⟨v3, ev3⟩ : ∃ z : Int32, z = x3 + 1 := ⟨_, rfl⟩
      refine m_iinc (v := v3) (ls1 := [(3, .int v3), (0, .ref o), (1, .int x1), (2, .int x2), (4, .int x4), (5, .int x5)]) dX9_person_74 3 rfl (by rw [ev3]; rfl) (by decide) rfl ?_
      replace h := h v3 ev3
      refine m_iload dX9_person_77 5 rfl ?_
      refine m_istore (ls1 := [(4, .int x5), (3, .int v3), (0, .ref o), (1, .int x1), (2, .int x2), (5, .int x5)]) dX9_person_79 (by decide) rfl ?_
      obtain ⟨v5, ev5⟩ : ∃ z : Int32, z = x5 + (-1) := ⟨_, rfl⟩
      refine m_iinc (v := v5) (ls1 := [(5, .int v5), (4, .int x5), (3, .int v3), (0, .ref o), (1, .int x1), (2, .int x2)]) dX9_person_81 5 rfl (by rw [ev5]; rfl) (by decide) rfl ?_
      replace h := h v5 ev5
      refine m_goto (tgt := 55) dX9_person_84 (by decide) ?_
      exact AtM.sub (ls := [(5, .int v5), (4, .int x5), (3, .int v3), (0, .ref o), (1, .int x1), (2, .int x2)]) [3, 4, 5, 2, 1, 0] rfl h
    · replace h := h.2 c
      refine m_goto (tgt := 81) dX9_person_71 (by decide) ?_
      obtain ⟨v5, ev5⟩ : ∃ z : Int32, z = x5 + (-1) := ⟨_, rfl⟩
      refine m_iinc (v := v5) (ls1 := [(5, .int v5), (0, .ref o), (1, .int x1), (2, .int x2), (3, .int x3), (4, .int x4)]) dX9_person_81 5 rfl (by rw [ev5]; rfl) (by decide) rfl ?_
      replace h := h v5 ev5
      refine m_goto (tgt := 55) dX9_person_84 (by decide) ?_
      exact AtM.sub (ls := [(5, .int v5), (0, .ref o), (1, .int x1), (2, .int x2), (3, .int x3), (4, .int x4)]) [1, 2, 3, 4, 5, 0] rfl h
theorem eX9_person {G : GC} {ad : Nat → Nat} {o : Nat} {Q : MPost} {p1 : Int32} {p2 : Int32} {F : Nat → Int32} {L : Nat → Int64} {I : Nat → Nat → Int32} {J : Nat → Nat → Int64} (h : ∀ σ0, AtM G mX9_person 5 ad o σ0 Q 0 [(0, .ref o), (1, .int p1), (2, .int p2)] [] F L I J) : CallM G mX9_person 5 ad o [.ref o, .int p1, .int p2] F L I J Q :=
  CallM.of (by decide +kernel) wsX9_person rfl (Nat.le_of_ble_eq_true rfl) (fun σ0 => AtM.sub (ls := [(0, .ref o), (1, .int p1), (2, .int p2)]) [0, 1, 2] rfl (h σ0))
set_option maxHeartbeats 4000000 in
theorem bX9_price_0 {G : GC} {ad : Nat → Nat} {o : Nat} {σ0 : PS} {Q : MPost} {x1 : Int32} {F : Nat → Int32} {L : Nat → Int64} {I : Nat → Nat → Int32} {J : Nat → Nat → Int64} (h : (∀ F1 : Nat → Int32, F1 = fU F 0 0 → CallP G mX9_within 3 [.int x1, .int 0, .int 4] (pI (fun rx => CallM G mX9_may 3 ad o [.ref o, .int rx, .int 1, .int 1] F1 L I J (mqI (fun rx_1 F1_2 L1 I1 J1 => ((¬ rx_1 = 0) → vp_in ((7 + x1)) 12 ∧ (Q (some (.int (I1 11 ((7 + x1)).toNatClampNeg))) F1_2 L1 I1 J1)) ∧ ((rx_1 = 0) → Q (some (.int 0)) F1_2 L1 I1 J1))))))) : AtM G mX9_price 4 ad o σ0 Q 0 [(0, .ref o), (1, .int x1)] [] F L I J := by
  refine m_aload_n dX9_price_0 rfl 0 rfl ?_
  refine m_iconst (v := 0) dX9_price_1 (by decide) ?_
  refine m_putI 0 dX9_price_2 (by decide) q1763 rfl rfl rfl rfl ?_
  refine m_topF (fun F1 eF1 => ?_)
  replace h := h F1 eF1
  refine m_aload_n dX9_price_5 rfl 0 rfl ?_
  refine m_iload_n dX9_price_6 rfl 1 rfl ?_
  refine m_iconst (v := 0) dX9_price_7 (by decide) ?_
  refine m_iconst (v := 4) dX9_price_8 (by decide) ?_
  refine m_callP (N := mX9_within) (st := [.ref o]) (As := [.int x1, .int 0, .int 4]) dX9_price_9 wsX9_within (lw_S q2059 q2060 q116 q2061) mokX9_within rfl (by decide) (by decide) (by simp [Value.category]) h (fun _ hq => ?_)
  obtain ⟨rx, rfl, h⟩ := hq
  refine AtM.stk (st' := [.int rx, .ref o]) rfl ?_
  refine m_iconst (v := 1) dX9_price_12 (by decide) ?_
  refine m_iconst (v := 1) dX9_price_13 (by decide) ?_
  refine m_callV (N := mX9_may) (st := []) (As := [.int rx, .int 1, .int 1]) dX9_price_14 wsX9_may (lw_V q1971 q1973 qs38 q116 q1974) rfl mokX9_may rfl (by decide) (by decide) (Nat.zero_le _) h (fun _ F1_2 L1 I1 J1 hq => ?_)
  obtain ⟨rx_1, rfl, h⟩ := hq
  refine AtM.stk (st' := [.int rx_1]) rfl ?_
  refine m_if_ne (tgt := 22) dX9_price_17 (by decide) (fun c => ?_) (fun c => ?_)
  · replace h := h.1 c
    refine m_aload_n dX9_price_22 rfl 0 rfl ?_
    refine m_get (v := .ref (ad 11)) 11 dX9_price_23 (by decide) q1774 rfl ?_
    refine m_bipush (v := 7) dX9_price_26 (by decide) ?_
    refine m_iload_n dX9_price_28 rfl 1 rfl ?_
    refine m_iadd dX9_price_29 ?_
    obtain ⟨h1, h⟩ := h
    refine m_iald 11 dX9_price_30 (by decide) rfl h1 ?_
    exact m_iret rfl dX9_price_31 h
  · replace h := h.2 c
    refine m_iconst (v := 0) dX9_price_20 (by decide) ?_
    exact m_iret rfl dX9_price_21 h
theorem eX9_price {G : GC} {ad : Nat → Nat} {o : Nat} {Q : MPost} {p1 : Int32} {F : Nat → Int32} {L : Nat → Int64} {I : Nat → Nat → Int32} {J : Nat → Nat → Int64} (h : ∀ σ0, AtM G mX9_price 4 ad o σ0 Q 0 [(0, .ref o), (1, .int p1)] [] F L I J) : CallM G mX9_price 4 ad o [.ref o, .int p1] F L I J Q :=
  CallM.of (by decide +kernel) wsX9_price rfl (Nat.le_of_ble_eq_true rfl) (fun σ0 => AtM.sub (ls := [(0, .ref o), (1, .int p1)]) [0, 1] rfl (h σ0))
set_option maxHeartbeats 4000000 in
theorem bX9_states_0 {G : GC} {ad : Nat → Nat} {o : Nat} {σ0 : PS} {Q : MPost} {x1 : Int32} {F : Nat → Int32} {L : Nat → Int64} {I : Nat → Nat → Int32} {J : Nat → Nat → Int64} (h : (∀ F1 : Nat → Int32, F1 = fU F 0 0 → CallM G mX9_isVisit 4 ad o [.ref o, .int x1, .int 1] F1 L I J (mqI (fun rx F1_1 L1 I1 J1 => ((¬ rx = 0) → CallM G mX9_plain 3 ad o [.ref o] F1_1 L1 I1 J1 (mqV (fun F1_2 L1_3 I1_4 J1_5 => CallM G mX9_goes 7 ad o [.ref o, .int x1] F1_2 L1_3 I1_4 J1_5 (mqV (fun F1_6 L1_7 I1_8 J1_9 => AtM G mX9_states 8 ad o σ0 Q 29 [(0, .ref o), (2, .int 0), (3, .int 0)] [] F1_6 L1_7 I1_8 J1_9))))) ∧ ((rx = 0) → Q (some (.int 0)) F1_1 L1 I1 J1))))) : AtM G mX9_states 8 ad o σ0 Q 0 [(0, .ref o), (1, .int x1)] [] F L I J := by
  refine m_aload_n dX9_states_0 rfl 0 rfl ?_
  refine m_iconst (v := 0) dX9_states_1 (by decide) ?_
  refine m_putI 0 dX9_states_2 (by decide) q1763 rfl rfl rfl rfl ?_
  refine m_topF (fun F1 eF1 => ?_)
  replace h := h F1 eF1
  refine m_aload_n dX9_states_5 rfl 0 rfl ?_
  refine m_iload_n dX9_states_6 rfl 1 rfl ?_
  refine m_iconst (v := 1) dX9_states_7 (by decide) ?_
  refine m_callV (N := mX9_isVisit) (st := []) (As := [.int x1, .int 1]) dX9_states_8 wsX9_isVisit (lw_V q2147 q2149 qs65 q116 q2150) rfl mokX9_isVisit rfl (by decide) (by decide) (Nat.zero_le _) h (fun _ F1_1 L1 I1 J1 hq => ?_)
  obtain ⟨rx, rfl, h⟩ := hq
  refine AtM.stk (st' := [.int rx]) rfl ?_
  refine m_if_ne (tgt := 16) dX9_states_11 (by decide) (fun c => ?_) (fun c => ?_)
  · replace h := h.1 c
    refine m_aload_n dX9_states_16 rfl 0 rfl ?_
    refine m_callV (N := mX9_plain) (st := []) (As := []) dX9_states_17 wsX9_plain (lw_V q2171 q2173 qs68 q116 q2174) rfl mokX9_plain rfl (by decide) (by decide) (Nat.zero_le _) h (fun _ F1_2 L1_3 I1_4 J1_5 hq => ?_)
    obtain ⟨rfl, h⟩ := hq
    refine AtM.stk (st' := []) rfl ?_
    refine m_aload_n dX9_states_20 rfl 0 rfl ?_
    refine m_iload_n dX9_states_21 rfl 1 rfl ?_
    refine m_callV (N := mX9_goes) (st := []) (As := [.int x1]) dX9_states_22 wsX9_goes (lw_V q2175 q2177 qs69 q116 q2178) rfl mokX9_goes rfl (by decide) (by decide) (Nat.zero_le _) h (fun _ F1_6 L1_7 I1_8 J1_9 hq => ?_)
    obtain ⟨rfl, h⟩ := hq
    refine AtM.stk (st' := []) rfl ?_
    refine m_iconst (v := 0) dX9_states_25 (by decide) ?_
    refine m_istore_n (ls1 := [(2, .int 0), (0, .ref o), (1, .int x1)]) dX9_states_26 rfl (by decide) rfl ?_
    refine m_iconst (v := 0) dX9_states_27 (by decide) ?_
    refine m_istore_n (ls1 := [(3, .int 0), (2, .int 0), (0, .ref o), (1, .int x1)]) dX9_states_28 rfl (by decide) rfl ?_
    exact AtM.sub (ls := [(3, .int 0), (2, .int 0), (0, .ref o), (1, .int x1)]) [2, 1, 0] rfl h
  · replace h := h.2 c
    refine m_iconst (v := 0) dX9_states_14 (by decide) ?_
    exact m_iret rfl dX9_states_15 h
set_option maxHeartbeats 4000000 in
theorem bX9_states_29 {G : GC} {ad : Nat → Nat} {o : Nat} {σ0 : PS} {Q : MPost} {x2 : Int32} {x3 : Int32} {F : Nat → Int32} {L : Nat → Int64} {I : Nat → Nat → Int32} {J : Nat → Nat → Int64} (h : (((F 35) ≤ x3) → Q (some (.int x2)) F L I J) ∧ ((¬ (F 35) ≤ x3) → vp_in x3 16900 ∧ (vp_in ((I 33 x3.toNatClampNeg)) 16900 ∧ ((((J 37 ((I 33 x3.toNatClampNeg)).toNatClampNeg) ≤ 0) → ∀ v2 : Int32, v2 = (x2 + 0) → ∀ v3 : Int32, v3 = x3 + 1 → AtM G mX9_states 8 ad o σ0 Q 29 [(0, .ref o), (2, .int v2), (3, .int v3)] [] F L I J) ∧ ((¬ (J 37 ((I 33 x3.toNatClampNeg)).toNatClampNeg) ≤ 0) → ∀ v2 : Int32, v2 = (x2 + 1) → ∀ v3 : Int32, v3 = x3 + 1 → AtM G mX9_states 8 ad o σ0 Q 29 [(0, .ref o), (2, .int v2), (3, .int v3)] [] F L I J))))) : AtM G mX9_states 8 ad o σ0 Q 29 [(0, .ref o), (2, .int x2), (3, .int x3)] [] F L I J := by
  refine m_iload_n dX9_states_29 rfl 2 rfl ?_
  refine m_aload_n dX9_states_30 rfl 0 rfl ?_
  refine m_get (v := .int (F 35)) 35 dX9_states_31 (by decide) q1798 rfl ?_
  refine m_icmp_ge (tgt := 67) dX9_states_34 (by decide) (fun c => ?_) (fun c => ?_)
  · replace h := h.1 c
    refine m_iload_n dX9_states_67 rfl 1 rfl ?_
    exact m_iret rfl dX9_states_68 h
  · replace h := h.2 c
    refine m_iload_n dX9_states_37 rfl 1 rfl ?_
    refine m_aload_n dX9_states_38 rfl 0 rfl ?_
    refine m_get (v := .ref (ad 37)) 37 dX9_states_39 (by decide) q1800 rfl ?_
    refine m_aload_n dX9_states_42 rfl 0 rfl ?_
    refine m_get (v := .ref (ad 33)) 33 dX9_states_43 (by decide) q1796 rfl ?_
    refine m_iload_n dX9_states_46 rfl 2 rfl ?_
    obtain ⟨h1, h⟩ := h
    refine m_iald 33 dX9_states_47 (by decide) rfl h1 ?_
    obtain ⟨h1, h⟩ := h
    refine m_lald 37 dX9_states_48 (by decide) rfl h1 ?_
    refine m_lconst (v := 0) dX9_states_49 (by decide) ?_
    refine m_lcmp_le (tgt := 58) dX9_states_50 dX9_states_51 (by decide) (fun c => ?_) (fun c => ?_)
    · replace h := h.1 c
      refine m_iconst (v := 0) dX9_states_58 (by decide) ?_
      refine m_iadd dX9_states_59 ?_
      refine m_topi (fun v2 ev2 => ?_)
      replace h := h v2 ev2
      refine m_istore_n (ls1 := [(2, .int v2), (0, .ref o), (3, .int x3)]) dX9_states_60 rfl (by decide) rfl ?_
      obtain ⟨v3, ev3⟩ : ∃ z : Int32, z = x3 + 1 := ⟨_, rfl⟩
      refine m_iinc (v := v3) (ls1 := [(3, .int v3), (2, .int v2), (0, .ref o)]) dX9_states_61 2 rfl (by rw [ev3]; rfl) (by decide) rfl ?_
      replace h := h v3 ev3
      refine m_goto (tgt := 29) dX9_states_64 (by decide) ?_
      exact AtM.sub (ls := [(3, .int v3), (2, .int v2), (0, .ref o)]) [2, 1, 0] rfl h
    · replace h := h.2 c
      refine m_iconst (v := 1) dX9_states_54 (by decide) ?_
      refine m_goto (tgt := 59) dX9_states_55 (by decide) ?_
      refine m_iadd dX9_states_59 ?_
      refine m_topi (fun v2 ev2 => ?_)
      replace h := h v2 ev2
      refine m_istore_n (ls1 := [(2, .int v2), (0, .ref o), (3, .int x3)]) dX9_states_60 rfl (by decide) rfl ?_
      obtain ⟨v3, ev3⟩ : ∃ z : Int32, z = x3 + 1 := ⟨_, rfl⟩
      refine m_iinc (v := v3) (ls1 := [(3, .int v3), (2, .int v2), (0, .ref o)]) dX9_states_61 2 rfl (by rw [ev3]; rfl) (by decide) rfl ?_
      replace h := h v3 ev3
      refine m_goto (tgt := 29) dX9_states_64 (by decide) ?_
      exact AtM.sub (ls := [(3, .int v3), (2, .int v2), (0, .ref o)]) [2, 1, 0] rfl h
theorem eX9_states {G : GC} {ad : Nat → Nat} {o : Nat} {Q : MPost} {p1 : Int32} {F : Nat → Int32} {L : Nat → Int64} {I : Nat → Nat → Int32} {J : Nat → Nat → Int64} (h : ∀ σ0, AtM G mX9_states 8 ad o σ0 Q 0 [(0, .ref o), (1, .int p1)] [] F L I J) : CallM G mX9_states 8 ad o [.ref o, .int p1] F L I J Q :=
  CallM.of (by decide +kernel) wsX9_states rfl (Nat.le_of_ble_eq_true rfl) (fun σ0 => AtM.sub (ls := [(0, .ref o), (1, .int p1)]) [0, 1] rfl (h σ0))
set_option maxHeartbeats 4000000 in
theorem bX9_plain_0 {G : GC} {ad : Nat → Nat} {o : Nat} {σ0 : PS} {Q : MPost} {F : Nat → Int32} {L : Nat → Int64} {I : Nat → Nat → Int32} {J : Nat → Nat → Int64} (h : (∀ F1 : Nat → Int32, F1 = fU F 43 ((I 11 4)) → (∀ F1_1 : Nat → Int32, F1_1 = fU F1 44 ((I 11 6)) → (∀ F1_2 : Nat → Int32, F1_2 = fU F1_1 45 0 → (∀ F1_3 : Nat → Int32, F1_3 = fU F1_2 46 (-1) → (∀ F1_4 : Nat → Int32, F1_4 = fU F1_3 47 (-1) → (∀ F1_5 : Nat → Int32, F1_5 = fU F1_4 48 (-1) → (∀ F1_6 : Nat → Int32, F1_6 = fU F1_5 49 0 → (∀ F1_7 : Nat → Int32, F1_7 = fU F1_6 50 0 → Q none F1_7 L I J))))))))) : AtM G mX9_plain 3 ad o σ0 Q 0 [(0, .ref o)] [] F L I J := by
  refine m_aload_n dX9_plain_0 rfl 0 rfl ?_
  refine m_aload_n dX9_plain_1 rfl 0 rfl ?_
  refine m_get (v := .ref (ad 11)) 11 dX9_plain_2 (by decide) q1774 rfl ?_
  refine m_iconst (v := 4) dX9_plain_5 (by decide) ?_
  refine m_iald0 (j := 4) 11 dX9_plain_6 (by decide) rfl (by decide) rfl (Nat.le_of_ble_eq_true rfl) ?_
  refine m_putI 43 dX9_plain_7 (by decide) q1806 rfl rfl rfl rfl ?_
  refine m_topF (fun F1 eF1 => ?_)
  replace h := h F1 eF1
  refine m_aload_n dX9_plain_10 rfl 0 rfl ?_
  refine m_aload_n dX9_plain_11 rfl 0 rfl ?_
  refine m_get (v := .ref (ad 11)) 11 dX9_plain_12 (by decide) q1774 rfl ?_
  refine m_bipush (v := 6) dX9_plain_15 (by decide) ?_
  refine m_iald0 (j := 6) 11 dX9_plain_17 (by decide) rfl (by decide) rfl (Nat.le_of_ble_eq_true rfl) ?_
  refine m_putI 44 dX9_plain_18 (by decide) q1807 rfl rfl rfl rfl ?_
  refine m_topF (fun F1_1 eF1_1 => ?_)
  replace h := h F1_1 eF1_1
  refine m_aload_n dX9_plain_21 rfl 0 rfl ?_
  refine m_iconst (v := 0) dX9_plain_22 (by decide) ?_
  refine m_putI 45 dX9_plain_23 (by decide) q1808 rfl rfl rfl rfl ?_
  refine m_topF (fun F1_2 eF1_2 => ?_)
  replace h := h F1_2 eF1_2
  refine m_aload_n dX9_plain_26 rfl 0 rfl ?_
  refine m_iconst (v := (-1)) dX9_plain_27 (by decide) ?_
  refine m_putI 46 dX9_plain_28 (by decide) q1809 rfl rfl rfl rfl ?_
  refine m_topF (fun F1_3 eF1_3 => ?_)
  replace h := h F1_3 eF1_3
  refine m_aload_n dX9_plain_31 rfl 0 rfl ?_
  refine m_iconst (v := (-1)) dX9_plain_32 (by decide) ?_
  refine m_putI 47 dX9_plain_33 (by decide) q1810 rfl rfl rfl rfl ?_
  refine m_topF (fun F1_4 eF1_4 => ?_)
  replace h := h F1_4 eF1_4
  refine m_aload_n dX9_plain_36 rfl 0 rfl ?_
  refine m_iconst (v := (-1)) dX9_plain_37 (by decide) ?_
  refine m_putI 48 dX9_plain_38 (by decide) q1811 rfl rfl rfl rfl ?_
  refine m_topF (fun F1_5 eF1_5 => ?_)
  replace h := h F1_5 eF1_5
  refine m_aload_n dX9_plain_41 rfl 0 rfl ?_
  refine m_iconst (v := 0) dX9_plain_42 (by decide) ?_
  refine m_putI 49 dX9_plain_43 (by decide) q1812 rfl rfl rfl rfl ?_
  refine m_topF (fun F1_6 eF1_6 => ?_)
  replace h := h F1_6 eF1_6
  refine m_aload_n dX9_plain_46 rfl 0 rfl ?_
  refine m_iconst (v := 0) dX9_plain_47 (by decide) ?_
  refine m_putI 50 dX9_plain_48 (by decide) q1813 rfl rfl rfl rfl ?_
  refine m_topF (fun F1_7 eF1_7 => ?_)
  replace h := h F1_7 eF1_7
  exact m_vret rfl dX9_plain_51 h
theorem eX9_plain {G : GC} {ad : Nat → Nat} {o : Nat} {Q : MPost} {F : Nat → Int32} {L : Nat → Int64} {I : Nat → Nat → Int32} {J : Nat → Nat → Int64} (h : ∀ σ0, AtM G mX9_plain 3 ad o σ0 Q 0 [(0, .ref o)] [] F L I J) : CallM G mX9_plain 3 ad o [.ref o] F L I J Q :=
  CallM.of (by decide +kernel) wsX9_plain rfl (Nat.le_of_ble_eq_true rfl) (fun σ0 => AtM.sub (ls := [(0, .ref o)]) [0] rfl (h σ0))
set_option maxHeartbeats 4000000 in
theorem bX9_goes_0 {G : GC} {ad : Nat → Nat} {o : Nat} {σ0 : PS} {Q : MPost} {x1 : Int32} {F : Nat → Int32} {L : Nat → Int64} {I : Nat → Nat → Int32} {J : Nat → Nat → Int64} (h : CallM G mX9_begin 4 ad o [.ref o] F L I J (mqV (fun F1 L1 I1 J1 => AtM G mX9_goes 7 ad o σ0 Q 6 [(0, .ref o), (1, .int x1), (2, .int 0)] [] F1 L1 I1 J1))) : AtM G mX9_goes 7 ad o σ0 Q 0 [(0, .ref o), (1, .int x1)] [] F L I J := by
  refine m_aload_n dX9_goes_0 rfl 0 rfl ?_
  refine m_callV (N := mX9_begin) (st := []) (As := []) dX9_goes_1 wsX9_begin (lw_V q2179 q2181 qs70 q116 q2182) rfl mokX9_begin rfl (by decide) (by decide) (Nat.zero_le _) h (fun _ F1 L1 I1 J1 hq => ?_)
  obtain ⟨rfl, h⟩ := hq
  refine AtM.stk (st' := []) rfl ?_
  refine m_iconst (v := 0) dX9_goes_4 (by decide) ?_
  refine m_istore_n (ls1 := [(2, .int 0), (0, .ref o), (1, .int x1)]) dX9_goes_5 rfl (by decide) rfl ?_
  exact AtM.sub (ls := [(2, .int 0), (0, .ref o), (1, .int x1)]) [1, 2, 0] rfl h
set_option maxHeartbeats 4000000 in
theorem bX9_goes_6 {G : GC} {ad : Nat → Nat} {o : Nat} {σ0 : PS} {Q : MPost} {x1 : Int32} {x2 : Int32} {F : Nat → Int32} {L : Nat → Int64} {I : Nat → Nat → Int32} {J : Nat → Nat → Int64} (h : ((x1 < x2) → Q none F L I J) ∧ ((¬ x1 < x2) → vp_in x2 24 ∧ (((¬ (I 14 x2.toNatClampNeg) = (F 46)) → CallM G mX9_comes 6 ad o [.ref o, .int x2] F L I J (mqV (fun F1 L1 I1 J1 => vp_in x2 24 ∧ (CallMO G mX9_habitOf 3 ad o [.ref o, .int (I1 14 x2.toNatClampNeg)] F1 L1 I1 J1 (pI (fun rx => AtM G mX9_goes 7 ad o σ0 Q 46 [(0, .ref o), (1, .int x1), (2, .int x2), (3, .int rx), (4, .int 0)] [] F1 L1 I1 J1)))))) ∧ (((I 14 x2.toNatClampNeg) = (F 46)) → ∀ v2 : Int32, v2 = x2 + 1 → AtM G mX9_goes 7 ad o σ0 Q 6 [(0, .ref o), (1, .int x1), (2, .int v2)] [] F L I J)))) : AtM G mX9_goes 7 ad o σ0 Q 6 [(0, .ref o), (1, .int x1), (2, .int x2)] [] F L I J := by
  refine m_iload_n dX9_goes_6 rfl 2 rfl ?_
  refine m_iload_n dX9_goes_7 rfl 1 rfl ?_
  refine m_icmp_gt (tgt := 94) dX9_goes_8 (by decide) (fun c => ?_) (fun c => ?_)
  · replace h := h.1 c
    exact m_vret rfl dX9_goes_94 h
  · replace h := h.2 c
    refine m_aload_n dX9_goes_11 rfl 0 rfl ?_
    refine m_get (v := .ref (ad 14)) 14 dX9_goes_12 (by decide) q1777 rfl ?_
    refine m_iload_n dX9_goes_15 rfl 2 rfl ?_
    obtain ⟨h1, h⟩ := h
    refine m_iald 14 dX9_goes_16 (by decide) rfl h1 ?_
    refine m_aload_n dX9_goes_17 rfl 0 rfl ?_
    refine m_get (v := .int (F 46)) 46 dX9_goes_18 (by decide) q1809 rfl ?_
    refine m_icmp_ne (tgt := 27) dX9_goes_21 (by decide) (fun c => ?_) (fun c => ?_)
    · replace h := h.1 c
      refine m_aload_n dX9_goes_27 rfl 0 rfl ?_
      refine m_iload_n dX9_goes_28 rfl 2 rfl ?_
      refine m_callV (N := mX9_comes) (st := []) (As := [.int x2]) dX9_goes_29 wsX9_comes (lw_V q2187 q2189 qs71 q116 q2190) rfl mokX9_comes rfl (by decide) (by decide) (Nat.zero_le _) h (fun _ F1 L1 I1 J1 hq => ?_)
      obtain ⟨rfl, h⟩ := hq
      refine AtM.stk (st' := []) rfl ?_
      refine m_aload_n dX9_goes_32 rfl 0 rfl ?_
      refine m_aload_n dX9_goes_33 rfl 0 rfl ?_
      refine m_get (v := .ref (ad 14)) 14 dX9_goes_34 (by decide) q1777 rfl ?_
      refine m_iload_n dX9_goes_37 rfl 2 rfl ?_
      obtain ⟨h1, h⟩ := h
      refine m_iald 14 dX9_goes_38 (by decide) rfl h1 ?_
      refine m_callV (N := mX9_habitOf) (st := []) (As := [.int (I1 14 x2.toNatClampNeg)]) dX9_goes_39 wsX9_habitOf (lw_V q2220 q2222 qs79 q116 q2223) rfl mokX9_habitOf rfl (by decide) (by decide) (Nat.zero_le _) h (fun _ F9 L9 I9 J9 hq => ?_)
      obtain ⟨e1, e2, e3, e4, hq⟩ := hq
      refine AtM.re e1 e2 e3 e4 ?_
      obtain ⟨rx, rfl, h⟩ := hq
      refine AtM.stk (st' := [.int rx]) rfl ?_
      refine m_istore_n (ls1 := [(3, .int rx), (0, .ref o), (1, .int x1), (2, .int x2)]) dX9_goes_42 rfl (by decide) rfl ?_
      refine m_iconst (v := 0) dX9_goes_43 (by decide) ?_
      refine m_istore (ls1 := [(4, .int 0), (3, .int rx), (0, .ref o), (1, .int x1), (2, .int x2)]) dX9_goes_44 (by decide) rfl ?_
      exact AtM.sub (ls := [(4, .int 0), (3, .int rx), (0, .ref o), (1, .int x1), (2, .int x2)]) [2, 3, 4, 1, 0] rfl h
    · replace h := h.2 c
      refine m_goto (tgt := 88) dX9_goes_24 (by decide) ?_
      obtain ⟨v2, ev2⟩ : ∃ z : Int32, z = x2 + 1 := ⟨_, rfl⟩
      refine m_iinc (v := v2) (ls1 := [(2, .int v2), (0, .ref o), (1, .int x1)]) dX9_goes_88 2 rfl (by rw [ev2]; rfl) (by decide) rfl ?_
      replace h := h v2 ev2
      refine m_goto (tgt := 6) dX9_goes_91 (by decide) ?_
      exact AtM.sub (ls := [(2, .int v2), (0, .ref o), (1, .int x1)]) [1, 2, 0] rfl h
set_option maxHeartbeats 4000000 in
theorem bX9_goes_46 {G : GC} {ad : Nat → Nat} {o : Nat} {σ0 : PS} {Q : MPost} {x1 : Int32} {x2 : Int32} {x3 : Int32} {x4 : Int32} {F : Nat → Int32} {L : Nat → Int64} {I : Nat → Nat → Int32} {J : Nat → Nat → Int64} (h : vp_in x3 7 ∧ ((((I 27 x3.toNatClampNeg) ≤ x4) → CallM G mX9_ends 5 ad o [.ref o, .int x2] F L I J (mqV (fun F1 L1 I1 J1 => CallM G mX9_likelyOf 5 ad o [.ref o, .int 1, .int x2] F1 L1 I1 J1 (mqJ (fun ry F1_1 L1_2 I1_3 J1_4 => vp_in x2 24 ∧ (∀ J1_5 : Nat → Nat → Int64, J1_5 = aU J1_4 40 x2.toNatClampNeg ry → ∀ v2 : Int32, v2 = x2 + 1 → AtM G mX9_goes 7 ad o σ0 Q 6 [(0, .ref o), (1, .int x1), (2, .int v2)] [] F1_1 L1_2 I1_3 J1_5)))))) ∧ ((¬ (I 27 x3.toNatClampNeg) ≤ x4) → CallM G mX9_goesStep 6 ad o [.ref o, .int x3, .int x4, .int x2] F L I J (mqV (fun F1 L1 I1 J1 => ∀ v4 : Int32, v4 = x4 + 1 → AtM G mX9_goes 7 ad o σ0 Q 46 [(0, .ref o), (1, .int x1), (2, .int x2), (3, .int x3), (4, .int v4)] [] F1 L1 I1 J1))))) : AtM G mX9_goes 7 ad o σ0 Q 46 [(0, .ref o), (1, .int x1), (2, .int x2), (3, .int x3), (4, .int x4)] [] F L I J := by
  refine m_iload dX9_goes_46 4 rfl ?_
  refine m_aload_n dX9_goes_48 rfl 0 rfl ?_
  refine m_get (v := .ref (ad 27)) 27 dX9_goes_49 (by decide) q1790 rfl ?_
  refine m_iload_n dX9_goes_52 rfl 3 rfl ?_
  obtain ⟨h1, h⟩ := h
  refine m_iald 27 dX9_goes_53 (by decide) rfl h1 ?_
  refine m_icmp_ge (tgt := 71) dX9_goes_54 (by decide) (fun c => ?_) (fun c => ?_)
  · replace h := h.1 c
    refine m_aload_n dX9_goes_71 rfl 0 rfl ?_
    refine m_iload_n dX9_goes_72 rfl 2 rfl ?_
    refine m_callV (N := mX9_ends) (st := []) (As := [.int x2]) dX9_goes_73 wsX9_ends (lw_V q2251 q2253 qs86 q116 q2254) rfl mokX9_ends rfl (by decide) (by decide) (Nat.zero_le _) h (fun _ F1 L1 I1 J1 hq => ?_)
    obtain ⟨rfl, h⟩ := hq
    refine AtM.stk (st' := []) rfl ?_
    refine m_aload_n dX9_goes_76 rfl 0 rfl ?_
    refine m_get (v := .ref (ad 40)) 40 dX9_goes_77 (by decide) q1803 rfl ?_
    refine m_iload_n dX9_goes_80 rfl 2 rfl ?_
    refine m_aload_n dX9_goes_81 rfl 0 rfl ?_
    refine m_iconst (v := 1) dX9_goes_82 (by decide) ?_
    refine m_iload_n dX9_goes_83 rfl 2 rfl ?_
    refine m_callV (N := mX9_likelyOf) (st := [.int x2, .ref (ad 40)]) (As := [.int 1, .int x2]) dX9_goes_84 wsX9_likelyOf (lw_V q2255 q2257 qs87 q116 q2258) rfl mokX9_likelyOf rfl (by decide) (by decide) (by simp [Value.category]) h (fun _ F1_1 L1_2 I1_3 J1_4 hq => ?_)
    obtain ⟨ry, rfl, h⟩ := hq
    refine AtM.stk (st' := [.long ry, .int x2, .ref (ad 40)]) rfl ?_
    obtain ⟨h1, h⟩ := h
    refine m_last 40 dX9_goes_87 (by decide) rfl h1 ?_
    refine m_topJ (fun J1_5 eJ1_5 => ?_)
    replace h := h J1_5 eJ1_5
    obtain ⟨v2, ev2⟩ : ∃ z : Int32, z = x2 + 1 := ⟨_, rfl⟩
    refine m_iinc (v := v2) (ls1 := [(2, .int v2), (0, .ref o), (1, .int x1), (3, .int x3), (4, .int x4)]) dX9_goes_88 2 rfl (by rw [ev2]; rfl) (by decide) rfl ?_
    replace h := h v2 ev2
    refine m_goto (tgt := 6) dX9_goes_91 (by decide) ?_
    exact AtM.sub (ls := [(2, .int v2), (0, .ref o), (1, .int x1), (3, .int x3), (4, .int x4)]) [1, 2, 0] rfl h
  · replace h := h.2 c
    refine m_aload_n dX9_goes_57 rfl 0 rfl ?_
    refine m_iload_n dX9_goes_58 rfl 3 rfl ?_
    refine m_iload dX9_goes_59 4 rfl ?_
    refine m_iload_n dX9_goes_61 rfl 2 rfl ?_
    refine m_callV (N := mX9_goesStep) (st := []) (As := [.int x3, .int x4, .int x2]) dX9_goes_62 wsX9_goesStep (lw_V q2224 q2226 qs80 q116 q2227) rfl mokX9_goesStep rfl (by decide) (by decide) (Nat.zero_le _) h (fun _ F1 L1 I1 J1 hq => ?_)
    obtain ⟨rfl, h⟩ := hq
    refine AtM.stk (st' := []) rfl ?_
    obtain ⟨v4, ev4⟩ : ∃ z : Int32, z = x4 + 1 := ⟨_, rfl⟩
    refine m_iinc (v := v4) (ls1 := [(4, .int v4), (0, .ref o), (1, .int x1), (2, .int x2), (3, .int x3)]) dX9_goes_65 4 rfl (by rw [ev4]; rfl) (by decide) rfl ?_
    replace h := h v4 ev4
    refine m_goto (tgt := 46) dX9_goes_68 (by decide) ?_
    exact AtM.sub (ls := [(4, .int v4), (0, .ref o), (1, .int x1), (2, .int x2), (3, .int x3)]) [1, 2, 3, 4, 0] rfl h
theorem eX9_goes {G : GC} {ad : Nat → Nat} {o : Nat} {Q : MPost} {p1 : Int32} {F : Nat → Int32} {L : Nat → Int64} {I : Nat → Nat → Int32} {J : Nat → Nat → Int64} (h : ∀ σ0, AtM G mX9_goes 7 ad o σ0 Q 0 [(0, .ref o), (1, .int p1)] [] F L I J) : CallM G mX9_goes 7 ad o [.ref o, .int p1] F L I J Q :=
  CallM.of (by decide +kernel) wsX9_goes rfl (Nat.le_of_ble_eq_true rfl) (fun σ0 => AtM.sub (ls := [(0, .ref o), (1, .int p1)]) [0, 1] rfl (h σ0))
set_option maxHeartbeats 4000000 in
theorem bX9_begin_0 {G : GC} {ad : Nat → Nat} {o : Nat} {σ0 : PS} {Q : MPost} {F : Nat → Int32} {L : Nat → Int64} {I : Nat → Nat → Int32} {J : Nat → Nat → Int64} (h : AtM G mX9_begin 4 ad o σ0 Q 2 [(0, .ref o), (1, .int 0)] [] F L I J) : AtM G mX9_begin 4 ad o σ0 Q 0 [(0, .ref o)] [] F L I J := by
  refine m_iconst (v := 0) dX9_begin_0 (by decide) ?_
  refine m_istore_n (ls1 := [(1, .int 0), (0, .ref o)]) dX9_begin_1 rfl (by decide) rfl ?_
  exact AtM.sub (ls := [(1, .int 0), (0, .ref o)]) [1, 0] rfl h
set_option maxHeartbeats 4000000 in
theorem bX9_begin_2 {G : GC} {ad : Nat → Nat} {o : Nat} {σ0 : PS} {Q : MPost} {x1 : Int32} {F : Nat → Int32} {L : Nat → Int64} {I : Nat → Nat → Int32} {J : Nat → Nat → Int64} (h : (((F 35) ≤ x1) → (∀ F1 : Nat → Int32, F1 = fU F 35 1 → CallP G mX9_index 3 [.int (I 11 1), .int (I 11 2), .int (I 11 3), .int 0, .int 0] (pI (fun rx => (∀ I1 : Nat → Nat → Int32, I1 = aU I 33 0 rx → vp_in ((I1 33 0)) 16900 ∧ (∀ J1 : Nat → Nat → Int64, J1 = aU J 37 ((I1 33 0)).toNatClampNeg 1099511627776 → AtM G mX9_begin 4 ad o σ0 Q 78 [(0, .ref o), (1, .int 0)] [] F1 L I1 J1)))))) ∧ ((¬ (F 35) ≤ x1) → vp_in x1 16900 ∧ (vp_in ((I 33 x1.toNatClampNeg)) 16900 ∧ (∀ J1 : Nat → Nat → Int64, J1 = aU J 37 ((I 33 x1.toNatClampNeg)).toNatClampNeg 0 → ∀ v1 : Int32, v1 = x1 + 1 → AtM G mX9_begin 4 ad o σ0 Q 2 [(0, .ref o), (1, .int v1)] [] F L I J1)))) : AtM G mX9_begin 4 ad o σ0 Q 2 [(0, .ref o), (1, .int x1)] [] F L I J := by
  refine m_iload_n dX9_begin_2 rfl 1 rfl ?_
  refine m_aload_n dX9_begin_3 rfl 0 rfl ?_
  refine m_get (v := .int (F 35)) 35 dX9_begin_4 (by decide) q1798 rfl ?_
  refine m_icmp_ge (tgt := 28) dX9_begin_7 (by decide) (fun c => ?_) (fun c => ?_)
  · replace h := h.1 c
    refine m_aload_n dX9_begin_28 rfl 0 rfl ?_
    refine m_iconst (v := 1) dX9_begin_29 (by decide) ?_
    refine m_putI 35 dX9_begin_30 (by decide) q1798 rfl rfl rfl rfl ?_
    refine m_topF (fun F1 eF1 => ?_)
    replace h := h F1 eF1
    refine m_aload_n dX9_begin_33 rfl 0 rfl ?_
    refine m_get (v := .ref (ad 33)) 33 dX9_begin_34 (by decide) q1796 rfl ?_
    refine m_iconst (v := 0) dX9_begin_37 (by decide) ?_
    refine m_aload_n dX9_begin_38 rfl 0 rfl ?_
    refine m_get (v := .ref (ad 11)) 11 dX9_begin_39 (by decide) q1774 rfl ?_
    refine m_iconst (v := 1) dX9_begin_42 (by decide) ?_
    refine m_iald0 (j := 1) 11 dX9_begin_43 (by decide) rfl (by decide) rfl (Nat.le_of_ble_eq_true rfl) ?_
    refine m_aload_n dX9_begin_44 rfl 0 rfl ?_
    refine m_get (v := .ref (ad 11)) 11 dX9_begin_45 (by decide) q1774 rfl ?_
    refine m_iconst (v := 2) dX9_begin_48 (by decide) ?_
    refine m_iald0 (j := 2) 11 dX9_begin_49 (by decide) rfl (by decide) rfl (Nat.le_of_ble_eq_true rfl) ?_
    refine m_aload_n dX9_begin_50 rfl 0 rfl ?_
    refine m_get (v := .ref (ad 11)) 11 dX9_begin_51 (by decide) q1774 rfl ?_
    refine m_iconst (v := 3) dX9_begin_54 (by decide) ?_
    refine m_iald0 (j := 3) 11 dX9_begin_55 (by decide) rfl (by decide) rfl (Nat.le_of_ble_eq_true rfl) ?_
    refine m_iconst (v := 0) dX9_begin_56 (by decide) ?_
    refine m_iconst (v := 0) dX9_begin_57 (by decide) ?_
    refine m_callP (N := mX9_index) (st := [.int 0, .ref (ad 33)]) (As := [.int (I 11 1), .int (I 11 2), .int (I 11 3), .int 0, .int 0]) dX9_begin_58 wsX9_index (lw_S q2183 q2184 q116 q2185) mokX9_index rfl (by decide) (by decide) (by simp [Value.category]) h (fun _ hq => ?_)
    obtain ⟨rx, rfl, h⟩ := hq
    refine AtM.stk (st' := [.int rx, .int 0, .ref (ad 33)]) rfl ?_
    refine m_iast0 (j := 0) 33 dX9_begin_61 (by decide) rfl (by decide) rfl (Nat.le_of_ble_eq_true rfl) ?_
    refine m_topI (fun I1 eI1 => ?_)
    replace h := h I1 eI1
    refine m_aload_n dX9_begin_62 rfl 0 rfl ?_
    refine m_get (v := .ref (ad 37)) 37 dX9_begin_63 (by decide) q1800 rfl ?_
    refine m_aload_n dX9_begin_66 rfl 0 rfl ?_
    refine m_get (v := .ref (ad 33)) 33 dX9_begin_67 (by decide) q1796 rfl ?_
    refine m_iconst (v := 0) dX9_begin_70 (by decide) ?_
    refine m_iald0 (j := 0) 33 dX9_begin_71 (by decide) rfl (by decide) rfl (Nat.le_of_ble_eq_true rfl) ?_
    refine m_ldc2 dX9_begin_72 q2186 ?_
    obtain ⟨h1, h⟩ := h
    refine m_last 37 dX9_begin_75 (by decide) rfl h1 ?_
    refine m_topJ (fun J1 eJ1 => ?_)
    replace h := h J1 eJ1
    refine m_iconst (v := 0) dX9_begin_76 (by decide) ?_
    refine m_istore_n (ls1 := [(1, .int 0), (0, .ref o)]) dX9_begin_77 rfl (by decide) rfl ?_
    exact AtM.sub (ls := [(1, .int 0), (0, .ref o)]) [1, 0] rfl h
  · replace h := h.2 c
    refine m_aload_n dX9_begin_10 rfl 0 rfl ?_
    refine m_get (v := .ref (ad 37)) 37 dX9_begin_11 (by decide) q1800 rfl ?_
    refine m_aload_n dX9_begin_14 rfl 0 rfl ?_
    refine m_get (v := .ref (ad 33)) 33 dX9_begin_15 (by decide) q1796 rfl ?_
    refine m_iload_n dX9_begin_18 rfl 1 rfl ?_
    obtain ⟨h1, h⟩ := h
    refine m_iald 33 dX9_begin_19 (by decide) rfl h1 ?_
    refine m_lconst (v := 0) dX9_begin_20 (by decide) ?_
    obtain ⟨h1, h⟩ := h
    refine m_last 37 dX9_begin_21 (by decide) rfl h1 ?_
    refine m_topJ (fun J1 eJ1 => ?_)
    replace h := h J1 eJ1
    obtain ⟨v1, ev1⟩ : ∃ z : Int32, z = x1 + 1 := ⟨_, rfl⟩
    refine m_iinc (v := v1) (ls1 := [(1, .int v1), (0, .ref o)]) dX9_begin_22 1 rfl (by rw [ev1]; rfl) (by decide) rfl ?_
    replace h := h v1 ev1
    refine m_goto (tgt := 2) dX9_begin_25 (by decide) ?_
    exact AtM.sub (ls := [(1, .int v1), (0, .ref o)]) [1, 0] rfl h
set_option maxHeartbeats 4000000 in
theorem bX9_begin_78 {G : GC} {ad : Nat → Nat} {o : Nat} {σ0 : PS} {Q : MPost} {x1 : Int32} {F : Nat → Int32} {L : Nat → Int64} {I : Nat → Nat → Int32} {J : Nat → Nat → Int64} (h : ((6 ≤ x1) → (∀ L1 : Nat → Int64, L1 = fU L 41 0 → (∀ L1_1 : Nat → Int64, L1_1 = fU L1 42 0 → Q none F L1_1 I J))) ∧ ((¬ 6 ≤ x1) → vp_in x1 6 ∧ (∀ J1 : Nat → Nat → Int64, J1 = aU J 39 x1.toNatClampNeg 0 → ∀ v1 : Int32, v1 = x1 + 1 → AtM G mX9_begin 4 ad o σ0 Q 78 [(0, .ref o), (1, .int v1)] [] F L I J1))) : AtM G mX9_begin 4 ad o σ0 Q 78 [(0, .ref o), (1, .int x1)] [] F L I J := by
  refine m_iload_n dX9_begin_78 rfl 1 rfl ?_
  refine m_bipush (v := 6) dX9_begin_79 (by decide) ?_
  refine m_icmp_ge (tgt := 97) dX9_begin_81 (by decide) (fun c => ?_) (fun c => ?_)
  · replace h := h.1 c
    refine m_aload_n dX9_begin_97 rfl 0 rfl ?_
    refine m_lconst (v := 0) dX9_begin_98 (by decide) ?_
    refine m_putL 41 dX9_begin_99 (by decide) q1804 rfl rfl rfl rfl ?_
    refine m_topL (fun L1 eL1 => ?_)
    replace h := h L1 eL1
    refine m_aload_n dX9_begin_102 rfl 0 rfl ?_
    refine m_lconst (v := 0) dX9_begin_103 (by decide) ?_
    refine m_putL 42 dX9_begin_104 (by decide) q1805 rfl rfl rfl rfl ?_
    refine m_topL (fun L1_1 eL1_1 => ?_)
    replace h := h L1_1 eL1_1
    exact m_vret rfl dX9_begin_107 h
  · replace h := h.2 c
    refine m_aload_n dX9_begin_84 rfl 0 rfl ?_
    refine m_get (v := .ref (ad 39)) 39 dX9_begin_85 (by decide) q1802 rfl ?_
    refine m_iload_n dX9_begin_88 rfl 1 rfl ?_
    refine m_lconst (v := 0) dX9_begin_89 (by decide) ?_
    obtain ⟨h1, h⟩ := h
    refine m_last 39 dX9_begin_90 (by decide) rfl h1 ?_
    refine m_topJ (fun J1 eJ1 => ?_)
    replace h := h J1 eJ1
    obtain ⟨v1, ev1⟩ : ∃ z : Int32, z = x1 + 1 := ⟨_, rfl⟩
    refine m_iinc (v := v1) (ls1 := [(1, .int v1), (0, .ref o)]) dX9_begin_91 1 rfl (by rw [ev1]; rfl) (by decide) rfl ?_
    replace h := h v1 ev1
    refine m_goto (tgt := 78) dX9_begin_94 (by decide) ?_
    exact AtM.sub (ls := [(1, .int v1), (0, .ref o)]) [1, 0] rfl h
theorem eX9_begin {G : GC} {ad : Nat → Nat} {o : Nat} {Q : MPost} {F : Nat → Int32} {L : Nat → Int64} {I : Nat → Nat → Int32} {J : Nat → Nat → Int64} (h : ∀ σ0, AtM G mX9_begin 4 ad o σ0 Q 0 [(0, .ref o)] [] F L I J) : CallM G mX9_begin 4 ad o [.ref o] F L I J Q :=
  CallM.of (by decide +kernel) wsX9_begin rfl (Nat.le_of_ble_eq_true rfl) (fun σ0 => AtM.sub (ls := [(0, .ref o)]) [0] rfl (h σ0))
set_option maxHeartbeats 4000000 in
theorem bX9_index_0 {G : GC} {Q : Option Value → PS → Prop} {X : String → Nat → PS → Prop} {b : Nat} {x0 : Int32} {x1 : Int32} {x2 : Int32} {x3 : Int32} {x4 : Int32} {σ : PS} (h : ∀ w : Int32, w = ((((x0 * 13) + x1) * 2) + x2) → ∀ w_1 : Int32, w_1 = ((((w * 25) + x3) * 2) + x4) → Q (some (.int w_1)) (σ)) : At G mX9_index 3 Q X b 0 [(0, .int x0), (1, .int x1), (2, .int x2), (3, .int x3), (4, .int x4)] [] (σ) := by
  refine g_iload_n dX9_index_0 rfl 0 rfl ?_
  refine g_bipush (v := 13) dX9_index_1 (by decide) ?_
  refine g_imul dX9_index_3 ?_
  refine g_iload_n dX9_index_4 rfl 1 rfl ?_
  refine g_iadd dX9_index_5 ?_
  refine g_iconst (v := 2) dX9_index_6 (by decide) ?_
  refine g_imul dX9_index_7 ?_
  refine g_iload_n dX9_index_8 rfl 2 rfl ?_
  refine g_iadd dX9_index_9 ?_
  refine g_topi (fun w ew => ?_)
  replace h := h w ew
  refine g_bipush (v := 25) dX9_index_10 (by decide) ?_
  refine g_imul dX9_index_12 ?_
  refine g_iload_n dX9_index_13 rfl 3 rfl ?_
  refine g_iadd dX9_index_14 ?_
  refine g_iconst (v := 2) dX9_index_15 (by decide) ?_
  refine g_imul dX9_index_16 ?_
  refine g_iload dX9_index_17 4 rfl ?_
  refine g_iadd dX9_index_19 ?_
  refine g_topi (fun w_1 ew_1 => ?_)
  replace h := h w_1 ew_1
  exact g_iret rfl dX9_index_20 h
theorem eX9_index {G : GC} {Q : Option Value → PS → Prop} {X : String → Nat → PS → Prop} {b : Nat} {p0 : Int32} {p1 : Int32} {p2 : Int32} {p3 : Int32} {p4 : Int32} {σ : PS} (h : At G mX9_index 3 Q X b 0 [(0, .int p0), (1, .int p1), (2, .int p2), (3, .int p3), (4, .int p4)] [] σ) : Call G mX9_index 3 b [.int p0, .int p1, .int p2, .int p3, .int p4] σ Q X :=
  Call.of (by decide +kernel) wsX9_index rfl (Nat.le_of_ble_eq_true rfl) (At.sub (ls := [(0, .int p0), (1, .int p1), (2, .int p2), (3, .int p3), (4, .int p4)]) [0, 1, 2, 3, 4] rfl h)
set_option maxHeartbeats 4000000 in
theorem bX9_comes_0 {G : GC} {ad : Nat → Nat} {o : Nat} {σ0 : PS} {Q : MPost} {x1 : Int32} {F : Nat → Int32} {L : Nat → Int64} {I : Nat → Nat → Int32} {J : Nat → Nat → Int64} (h : CallM G mX9_falls 4 ad o [.ref o] F L I J (mqV (fun F1 L1 I1 J1 => (((F1 50) = 0) → AtM G mX9_comes 6 ad o σ0 Q 16 [(0, .ref o), (1, .int x1)] [] F1 L1 I1 J1) ∧ ((¬ (F1 50) = 0) → CallM G mX9_keepsBook 5 ad o [.ref o, .int x1] F1 L1 I1 J1 (mqV (fun F1_1 L1_2 I1_3 J1_4 => AtM G mX9_comes 6 ad o σ0 Q 16 [(0, .ref o), (1, .int x1)] [] F1_1 L1_2 I1_3 J1_4)))))) : AtM G mX9_comes 6 ad o σ0 Q 0 [(0, .ref o), (1, .int x1)] [] F L I J := by
  refine m_aload_n dX9_comes_0 rfl 0 rfl ?_
  refine m_callV (N := mX9_falls) (st := []) (As := []) dX9_comes_1 wsX9_falls (lw_V q2191 q2193 qs72 q116 q2194) rfl mokX9_falls rfl (by decide) (by decide) (Nat.zero_le _) h (fun _ F1 L1 I1 J1 hq => ?_)
  obtain ⟨rfl, h⟩ := hq
  refine AtM.stk (st' := []) rfl ?_
  refine m_aload_n dX9_comes_4 rfl 0 rfl ?_
  refine m_get (v := .int (F1 50)) 50 dX9_comes_5 (by decide) q1813 rfl ?_
  refine m_if_eq (tgt := 16) dX9_comes_8 (by decide) (fun c => ?_) (fun c => ?_)
  · replace h := h.1 c
    exact AtM.sub (ls := [(0, .ref o), (1, .int x1)]) [0, 1] rfl h
  · replace h := h.2 c
    refine m_aload_n dX9_comes_11 rfl 0 rfl ?_
    refine m_iload_n dX9_comes_12 rfl 1 rfl ?_
    refine m_callV (N := mX9_keepsBook) (st := []) (As := [.int x1]) dX9_comes_13 wsX9_keepsBook (lw_V q2208 q2210 qs76 q116 q2211) rfl mokX9_keepsBook rfl (by decide) (by decide) (Nat.zero_le _) h (fun _ F1_1 L1_2 I1_3 J1_4 hq => ?_)
    obtain ⟨rfl, h⟩ := hq
    refine AtM.stk (st' := []) rfl ?_
    exact AtM.sub (ls := [(0, .ref o), (1, .int x1)]) [0, 1] rfl h
set_option maxHeartbeats 4000000 in
theorem bX9_comes_16 {G : GC} {ad : Nat → Nat} {o : Nat} {σ0 : PS} {Q : MPost} {x1 : Int32} {F : Nat → Int32} {L : Nat → Int64} {I : Nat → Nat → Int32} {J : Nat → Nat → Int64} (h : vp_in x1 24 ∧ ((∀ I1 : Nat → Nat → Int32, I1 = aU I 56 4 ((I 15 x1.toNatClampNeg)) → CallMO G mX9_sinceOf 3 ad o [.ref o, .int x1] F L I1 J (pI (fun rx => (∀ I1_1 : Nat → Nat → Int32, I1_1 = aU I1 56 6 rx → CallMO G mX9_whichOf 3 ad o [.ref o, .int x1] F L I1_1 J (pI (fun rx_2 => (∀ I1_3 : Nat → Nat → Int32, I1_3 = aU I1_1 56 7 rx_2 → Q none F L I1_3 J))))))))) : AtM G mX9_comes 6 ad o σ0 Q 16 [(0, .ref o), (1, .int x1)] [] F L I J := by
  refine m_aload_n dX9_comes_16 rfl 0 rfl ?_
  refine m_get (v := .ref (ad 56)) 56 dX9_comes_17 (by decide) q1819 rfl ?_
  refine m_iconst (v := 4) dX9_comes_20 (by decide) ?_
  refine m_aload_n dX9_comes_21 rfl 0 rfl ?_
  refine m_get (v := .ref (ad 15)) 15 dX9_comes_22 (by decide) q1778 rfl ?_
  refine m_iload_n dX9_comes_25 rfl 1 rfl ?_
  obtain ⟨h1, h⟩ := h
  refine m_iald 15 dX9_comes_26 (by decide) rfl h1 ?_
  refine m_iast0 (j := 4) 56 dX9_comes_27 (by decide) rfl (by decide) rfl (Nat.le_of_ble_eq_true rfl) ?_
  refine m_topI (fun I1 eI1 => ?_)
  replace h := h I1 eI1
  refine m_aload_n dX9_comes_28 rfl 0 rfl ?_
  refine m_get (v := .ref (ad 56)) 56 dX9_comes_29 (by decide) q1819 rfl ?_
  refine m_bipush (v := 6) dX9_comes_32 (by decide) ?_
  refine m_aload_n dX9_comes_34 rfl 0 rfl ?_
  refine m_iload_n dX9_comes_35 rfl 1 rfl ?_
  refine m_callV (N := mX9_sinceOf) (st := [.int 6, .ref (ad 56)]) (As := [.int x1]) dX9_comes_36 wsX9_sinceOf (lw_V q2155 q2157 qs67 q116 q2158) rfl mokX9_sinceOf rfl (by decide) (by decide) (by simp [Value.category]) h (fun _ F9 L9 I9 J9 hq => ?_)
  obtain ⟨e1, e2, e3, e4, hq⟩ := hq
  refine AtM.re e1 e2 e3 e4 ?_
  obtain ⟨rx, rfl, h⟩ := hq
  refine AtM.stk (st' := [.int rx, .int 6, .ref (ad 56)]) rfl ?_
  refine m_iast0 (j := 6) 56 dX9_comes_39 (by decide) rfl (by decide) rfl (Nat.le_of_ble_eq_true rfl) ?_
  refine m_topI (fun I1_1 eI1_1 => ?_)
  replace h := h I1_1 eI1_1
  refine m_aload_n dX9_comes_40 rfl 0 rfl ?_
  refine m_get (v := .ref (ad 56)) 56 dX9_comes_41 (by decide) q1819 rfl ?_
  refine m_bipush (v := 7) dX9_comes_44 (by decide) ?_
  refine m_aload_n dX9_comes_46 rfl 0 rfl ?_
  refine m_iload_n dX9_comes_47 rfl 1 rfl ?_
  refine m_callV (N := mX9_whichOf) (st := [.int 7, .ref (ad 56)]) (As := [.int x1]) dX9_comes_48 wsX9_whichOf (lw_V q2151 q2153 qs66 q116 q2154) rfl mokX9_whichOf rfl (by decide) (by decide) (by simp [Value.category]) h (fun _ F9 L9 I9 J9 hq => ?_)
  obtain ⟨e1, e2, e3, e4, hq⟩ := hq
  refine AtM.re e1 e2 e3 e4 ?_
  obtain ⟨rx_2, rfl, h⟩ := hq
  refine AtM.stk (st' := [.int rx_2, .int 7, .ref (ad 56)]) rfl ?_
  refine m_iast0 (j := 7) 56 dX9_comes_51 (by decide) rfl (by decide) rfl (Nat.le_of_ble_eq_true rfl) ?_
  refine m_topI (fun I1_3 eI1_3 => ?_)
  replace h := h I1_3 eI1_3
  exact m_vret rfl dX9_comes_52 h
theorem eX9_comes {G : GC} {ad : Nat → Nat} {o : Nat} {Q : MPost} {p1 : Int32} {F : Nat → Int32} {L : Nat → Int64} {I : Nat → Nat → Int32} {J : Nat → Nat → Int64} (h : ∀ σ0, AtM G mX9_comes 6 ad o σ0 Q 0 [(0, .ref o), (1, .int p1)] [] F L I J) : CallM G mX9_comes 6 ad o [.ref o, .int p1] F L I J Q :=
  CallM.of (by decide +kernel) wsX9_comes rfl (Nat.le_of_ble_eq_true rfl) (fun σ0 => AtM.sub (ls := [(0, .ref o), (1, .int p1)]) [0, 1] rfl (h σ0))
set_option maxHeartbeats 4000000 in
theorem bX9_falls_0 {G : GC} {ad : Nat → Nat} {o : Nat} {σ0 : PS} {Q : MPost} {F : Nat → Int32} {L : Nat → Int64} {I : Nat → Nat → Int32} {J : Nat → Nat → Int64} (h : AtM G mX9_falls 4 ad o σ0 Q 2 [(0, .ref o), (1, .int 0)] [] F L I J) : AtM G mX9_falls 4 ad o σ0 Q 0 [(0, .ref o)] [] F L I J := by
  refine m_iconst (v := 0) dX9_falls_0 (by decide) ?_
  refine m_istore_n (ls1 := [(1, .int 0), (0, .ref o)]) dX9_falls_1 rfl (by decide) rfl ?_
  exact AtM.sub (ls := [(1, .int 0), (0, .ref o)]) [1, 0] rfl h
set_option maxHeartbeats 4000000 in
theorem bX9_falls_2 {G : GC} {ad : Nat → Nat} {o : Nat} {σ0 : PS} {Q : MPost} {x1 : Int32} {F : Nat → Int32} {L : Nat → Int64} {I : Nat → Nat → Int32} {J : Nat → Nat → Int64} (h : (((F 35) ≤ x1) → CallM G mX9_takesNext 3 ad o [.ref o] F L I J (mqV (fun F1 L1 I1 J1 => Q none F1 L1 I1 J1))) ∧ ((¬ (F 35) ≤ x1) → vp_in x1 16900 ∧ (∀ v2 : Int32, v2 = (I 33 x1.toNatClampNeg) → CallM G mX9_stateOf 3 ad o [.ref o, .int v2] F L I J (mqV (fun F1 L1 I1 J1 => vp_in v2 16900 ∧ (∀ w : Int64, w = ((J1 37 v2.toNatClampNeg) * (F1 43).toInt64) → ∀ v3 : Int64, v3 = (w / 16) → vp_in v2 16900 ∧ (∀ w_1 : Int64, w_1 = ((J1 37 v2.toNatClampNeg) - v3) → CallM G mX9_gives 3 ad o [.ref o, .int v2, .long w_1] F1 L1 I1 J1 (mqV (fun F1_2 L1_3 I1_4 J1_5 => CallP G mX9_index 3 [.int (F1_2 51), .int (F1_2 52), .int (1 - (F1_2 53)), .int (F1_2 54), .int (F1_2 55)] (pI (fun rx => CallM G mX9_gives 3 ad o [.ref o, .int rx, .long v3] F1_2 L1_3 I1_4 J1_5 (mqV (fun F1_6 L1_7 I1_8 J1_9 => ∀ v1 : Int32, v1 = x1 + 1 → AtM G mX9_falls 4 ad o σ0 Q 2 [(0, .ref o), (1, .int v1)] [] F1_6 L1_7 I1_8 J1_9))))))))))))) : AtM G mX9_falls 4 ad o σ0 Q 2 [(0, .ref o), (1, .int x1)] [] F L I J := by
  refine m_iload_n dX9_falls_2 rfl 1 rfl ?_
  refine m_aload_n dX9_falls_3 rfl 0 rfl ?_
  refine m_get (v := .int (F 35)) 35 dX9_falls_4 (by decide) q1798 rfl ?_
  refine m_icmp_ge (tgt := 88) dX9_falls_7 (by decide) (fun c => ?_) (fun c => ?_)
  · replace h := h.1 c
    refine m_aload_n dX9_falls_88 rfl 0 rfl ?_
    refine m_callV (N := mX9_takesNext) (st := []) (As := []) dX9_falls_89 wsX9_takesNext (lw_V q2204 q2206 qs75 q116 q2207) rfl mokX9_takesNext rfl (by decide) (by decide) (Nat.zero_le _) h (fun _ F1 L1 I1 J1 hq => ?_)
    obtain ⟨rfl, h⟩ := hq
    refine AtM.stk (st' := []) rfl ?_
    exact m_vret rfl dX9_falls_92 h
  · replace h := h.2 c
    refine m_aload_n dX9_falls_10 rfl 0 rfl ?_
    refine m_get (v := .ref (ad 33)) 33 dX9_falls_11 (by decide) q1796 rfl ?_
    refine m_iload_n dX9_falls_14 rfl 1 rfl ?_
    obtain ⟨h1, h⟩ := h
    refine m_iald 33 dX9_falls_15 (by decide) rfl h1 ?_
    refine m_topi (fun v2 ev2 => ?_)
    replace h := h v2 ev2
    refine m_istore_n (ls1 := [(2, .int v2), (0, .ref o), (1, .int x1)]) dX9_falls_16 rfl (by decide) rfl ?_
    refine m_aload_n dX9_falls_17 rfl 1 rfl ?_
    refine m_iload_n dX9_falls_18 rfl 0 rfl ?_
    refine m_callV (N := mX9_stateOf) (st := []) (As := [.int v2]) dX9_falls_19 wsX9_stateOf (lw_V q2195 q2197 qs73 q116 q2198) rfl mokX9_stateOf rfl (by decide) (by decide) (Nat.zero_le _) h (fun _ F1 L1 I1 J1 hq => ?_)
    obtain ⟨rfl, h⟩ := hq
    refine AtM.stk (st' := []) rfl ?_
    refine m_aload_n dX9_falls_22 rfl 1 rfl ?_
    refine m_get (v := .ref (ad 37)) 37 dX9_falls_23 (by decide) q1800 rfl ?_
    refine m_iload_n dX9_falls_26 rfl 0 rfl ?_
    obtain ⟨h1, h⟩ := h
    refine m_lald 37 dX9_falls_27 (by decide) rfl h1 ?_
    refine m_aload_n dX9_falls_28 rfl 1 rfl ?_
    refine m_get (v := .int (F1 43)) 43 dX9_falls_29 (by decide) q1806 rfl ?_
    refine m_i2l dX9_falls_32 ?_
    refine m_lmul dX9_falls_33 ?_
    refine m_topl (fun w ew => ?_)
    replace h := h w ew
    refine m_ldc2 dX9_falls_34 q2199 ?_
    refine m_ldiv dX9_falls_37 (by decide) ?_
    refine m_topl (fun v3 ev3 => ?_)
    replace h := h v3 ev3
    refine m_lstore_n (ls1 := [(3, .long v3), (2, .int v2), (0, .ref o), (1, .int x1)]) dX9_falls_38 rfl (by decide) rfl ?_
    refine m_aload_n dX9_falls_39 rfl 2 rfl ?_
    refine m_iload_n dX9_falls_40 rfl 1 rfl ?_
    refine m_aload_n dX9_falls_41 rfl 2 rfl ?_
    refine m_get (v := .ref (ad 37)) 37 dX9_falls_42 (by decide) q1800 rfl ?_
    refine m_iload_n dX9_falls_45 rfl 1 rfl ?_
    obtain ⟨h1, h⟩ := h
    refine m_lald 37 dX9_falls_46 (by decide) rfl h1 ?_
    refine m_lload_n dX9_falls_47 rfl 0 rfl ?_
    refine m_lsub dX9_falls_48 ?_
    refine m_topl (fun w_1 ew_1 => ?_)
    replace h := h w_1 ew_1
    refine m_callV (N := mX9_gives) (st := []) (As := [.int v2, .long w_1]) dX9_falls_49 wsX9_gives (lw_V q2200 q2202 qs74 q116 q2203) rfl mokX9_gives rfl (by decide) (by decide) (Nat.zero_le _) h (fun _ F1_2 L1_3 I1_4 J1_5 hq => ?_)
    obtain ⟨rfl, h⟩ := hq
    refine AtM.stk (st' := []) rfl ?_
    refine m_aload_n dX9_falls_52 rfl 2 rfl ?_
    refine m_aload_n dX9_falls_53 rfl 2 rfl ?_
    refine m_get (v := .int (F1_2 51)) 51 dX9_falls_54 (by decide) q1814 rfl ?_
    refine m_aload_n dX9_falls_57 rfl 2 rfl ?_
    refine m_get (v := .int (F1_2 52)) 52 dX9_falls_58 (by decide) q1815 rfl ?_
    refine m_iconst (v := 1) dX9_falls_61 (by decide) ?_
    refine m_aload_n dX9_falls_62 rfl 2 rfl ?_
    refine m_get (v := .int (F1_2 53)) 53 dX9_falls_63 (by decide) q1816 rfl ?_
    refine m_isub dX9_falls_66 ?_
    refine m_aload_n dX9_falls_67 rfl 2 rfl ?_
    refine m_get (v := .int (F1_2 54)) 54 dX9_falls_68 (by decide) q1817 rfl ?_
    refine m_aload_n dX9_falls_71 rfl 2 rfl ?_
    refine m_get (v := .int (F1_2 55)) 55 dX9_falls_72 (by decide) q1818 rfl ?_
    refine m_callP (N := mX9_index) (st := [.ref o]) (As := [.int (F1_2 51), .int (F1_2 52), .int (1 - (F1_2 53)), .int (F1_2 54), .int (F1_2 55)]) dX9_falls_75 wsX9_index (lw_S q2183 q2184 q116 q2185) mokX9_index rfl (by decide) (by decide) (by simp [Value.category]) h (fun _ hq => ?_)
    obtain ⟨rx, rfl, h⟩ := hq
    refine AtM.stk (st' := [.int rx, .ref o]) rfl ?_
    refine m_lload_n dX9_falls_78 rfl 0 rfl ?_
    refine m_callV (N := mX9_gives) (st := []) (As := [.int rx, .long v3]) dX9_falls_79 wsX9_gives (lw_V q2200 q2202 qs74 q116 q2203) rfl mokX9_gives rfl (by decide) (by decide) (Nat.zero_le _) h (fun _ F1_6 L1_7 I1_8 J1_9 hq => ?_)
    obtain ⟨rfl, h⟩ := hq
    refine AtM.stk (st' := []) rfl ?_
    obtain ⟨v1, ev1⟩ : ∃ z : Int32, z = x1 + 1 := ⟨_, rfl⟩
    refine m_iinc (v := v1) (ls1 := [(1, .int v1), (3, .long v3), (2, .int v2), (0, .ref o)]) dX9_falls_82 3 rfl (by rw [ev1]; rfl) (by decide) rfl ?_
    replace h := h v1 ev1
    refine m_goto (tgt := 2) dX9_falls_85 (by decide) ?_
    exact AtM.sub (ls := [(1, .int v1), (3, .long v3), (2, .int v2), (0, .ref o)]) [3, 0] rfl h
theorem eX9_falls {G : GC} {ad : Nat → Nat} {o : Nat} {Q : MPost} {F : Nat → Int32} {L : Nat → Int64} {I : Nat → Nat → Int32} {J : Nat → Nat → Int64} (h : ∀ σ0, AtM G mX9_falls 4 ad o σ0 Q 0 [(0, .ref o)] [] F L I J) : CallM G mX9_falls 4 ad o [.ref o] F L I J Q :=
  CallM.of (by decide +kernel) wsX9_falls rfl (Nat.le_of_ble_eq_true rfl) (fun σ0 => AtM.sub (ls := [(0, .ref o)]) [0] rfl (h σ0))
set_option maxHeartbeats 4000000 in
theorem bX9_stateOf_0 {G : GC} {ad : Nat → Nat} {o : Nat} {σ0 : PS} {Q : MPost} {x1 : Int32} {F : Nat → Int32} {L : Nat → Int64} {I : Nat → Nat → Int32} {J : Nat → Nat → Int64} (h : (∀ F1 : Nat → Int32, F1 = fU F 55 ((x1 - x1 / 2 * 2)) → ∀ w : Int32, w = ((x1 / 2) - (x1 / 2) / 25 * 25) → (∀ F1_1 : Nat → Int32, F1_1 = fU F1 54 w → ∀ w_2 : Int32, w_2 = ((x1 / 50) - (x1 / 50) / 2 * 2) → (∀ F1_3 : Nat → Int32, F1_3 = fU F1_1 53 w_2 → ∀ w_4 : Int32, w_4 = ((x1 / 100) - (x1 / 100) / 13 * 13) → (∀ F1_5 : Nat → Int32, F1_5 = fU F1_3 52 w_4 → (∀ F1_6 : Nat → Int32, F1_6 = fU F1_5 51 ((x1 / 1300)) → Q none F1_6 L I J)))))) : AtM G mX9_stateOf 3 ad o σ0 Q 0 [(0, .ref o), (1, .int x1)] [] F L I J := by
  refine m_aload_n dX9_stateOf_0 rfl 0 rfl ?_
  refine m_iload_n dX9_stateOf_1 rfl 1 rfl ?_
  refine m_iconst (v := 2) dX9_stateOf_2 (by decide) ?_
  refine m_irem dX9_stateOf_3 (by decide) ?_
  refine m_putI 55 dX9_stateOf_4 (by decide) q1818 rfl rfl rfl rfl ?_
  refine m_topF (fun F1 eF1 => ?_)
  replace h := h F1 eF1
  refine m_aload_n dX9_stateOf_7 rfl 0 rfl ?_
  refine m_iload_n dX9_stateOf_8 rfl 1 rfl ?_
  refine m_iconst (v := 2) dX9_stateOf_9 (by decide) ?_
  refine m_idiv dX9_stateOf_10 (by decide) ?_
  refine m_bipush (v := 25) dX9_stateOf_11 (by decide) ?_
  refine m_irem dX9_stateOf_13 (by decide) ?_
  refine m_topi (fun w ew => ?_)
  replace h := h w ew
  refine m_putI 54 dX9_stateOf_14 (by decide) q1817 rfl rfl rfl rfl ?_
  refine m_topF (fun F1_1 eF1_1 => ?_)
  replace h := h F1_1 eF1_1
  refine m_aload_n dX9_stateOf_17 rfl 0 rfl ?_
  refine m_iload_n dX9_stateOf_18 rfl 1 rfl ?_
  refine m_bipush (v := 50) dX9_stateOf_19 (by decide) ?_
  refine m_idiv dX9_stateOf_21 (by decide) ?_
  refine m_iconst (v := 2) dX9_stateOf_22 (by decide) ?_
  refine m_irem dX9_stateOf_23 (by decide) ?_
  refine m_topi (fun w_2 ew_2 => ?_)
  replace h := h w_2 ew_2
  refine m_putI 53 dX9_stateOf_24 (by decide) q1816 rfl rfl rfl rfl ?_
  refine m_topF (fun F1_3 eF1_3 => ?_)
  replace h := h F1_3 eF1_3
  refine m_aload_n dX9_stateOf_27 rfl 0 rfl ?_
  refine m_iload_n dX9_stateOf_28 rfl 1 rfl ?_
  refine m_bipush (v := 100) dX9_stateOf_29 (by decide) ?_
  refine m_idiv dX9_stateOf_31 (by decide) ?_
  refine m_bipush (v := 13) dX9_stateOf_32 (by decide) ?_
  refine m_irem dX9_stateOf_34 (by decide) ?_
  refine m_topi (fun w_4 ew_4 => ?_)
  replace h := h w_4 ew_4
  refine m_putI 52 dX9_stateOf_35 (by decide) q1815 rfl rfl rfl rfl ?_
  refine m_topF (fun F1_5 eF1_5 => ?_)
  replace h := h F1_5 eF1_5
  refine m_aload_n dX9_stateOf_38 rfl 0 rfl ?_
  refine m_iload_n dX9_stateOf_39 rfl 1 rfl ?_
  refine m_sipush (v := 1300) dX9_stateOf_40 (by decide) ?_
  refine m_idiv dX9_stateOf_43 (by decide) ?_
  refine m_putI 51 dX9_stateOf_44 (by decide) q1814 rfl rfl rfl rfl ?_
  refine m_topF (fun F1_6 eF1_6 => ?_)
  replace h := h F1_6 eF1_6
  exact m_vret rfl dX9_stateOf_47 h
theorem eX9_stateOf {G : GC} {ad : Nat → Nat} {o : Nat} {Q : MPost} {p1 : Int32} {F : Nat → Int32} {L : Nat → Int64} {I : Nat → Nat → Int32} {J : Nat → Nat → Int64} (h : ∀ σ0, AtM G mX9_stateOf 3 ad o σ0 Q 0 [(0, .ref o), (1, .int p1)] [] F L I J) : CallM G mX9_stateOf 3 ad o [.ref o, .int p1] F L I J Q :=
  CallM.of (by decide +kernel) wsX9_stateOf rfl (Nat.le_of_ble_eq_true rfl) (fun σ0 => AtM.sub (ls := [(0, .ref o), (1, .int p1)]) [0, 1] rfl (h σ0))
set_option maxHeartbeats 4000000 in
theorem bX9_gives_0 {G : GC} {ad : Nat → Nat} {o : Nat} {σ0 : PS} {Q : MPost} {x1 : Int32} {y2 : Int64} {F : Nat → Int32} {L : Nat → Int64} {I : Nat → Nat → Int32} {J : Nat → Nat → Int64} (h : ((¬ y2 = 0) → vp_in x1 16900 ∧ (((¬ (J 38 x1.toNatClampNeg) = 0) → vp_in x1 16900 ∧ (∀ w : Int64, w = ((J 38 x1.toNatClampNeg) + y2) → vp_in x1 16900 ∧ (∀ J1 : Nat → Nat → Int64, J1 = aU J 38 x1.toNatClampNeg w → Q none F L I J1))) ∧ (((J 38 x1.toNatClampNeg) = 0) → vp_in (F 36) 16900 ∧ (∀ I1 : Nat → Nat → Int32, I1 = aU I 34 (F 36).toNatClampNeg x1 → (∀ F1 : Nat → Int32, F1 = fU F 36 (((F 36) + 1)) → vp_in x1 16900 ∧ (∀ w : Int64, w = ((J 38 x1.toNatClampNeg) + y2) → vp_in x1 16900 ∧ (∀ J1 : Nat → Nat → Int64, J1 = aU J 38 x1.toNatClampNeg w → Q none F1 L I1 J1))))))) ∧ ((y2 = 0) → Q none F L I J)) : AtM G mX9_gives 3 ad o σ0 Q 0 [(0, .ref o), (1, .int x1), (2, .long y2)] [] F L I J := by
  refine m_lload_n dX9_gives_0 rfl 2 rfl ?_
  refine m_lconst (v := 0) dX9_gives_1 (by decide) ?_
  refine m_lcmp_ne (tgt := 7) dX9_gives_2 dX9_gives_3 (by decide) (fun c => ?_) (fun c => ?_)
  · replace h := h.1 c
    refine m_aload_n dX9_gives_7 rfl 0 rfl ?_
    refine m_get (v := .ref (ad 38)) 38 dX9_gives_8 (by decide) q1801 rfl ?_
    refine m_iload_n dX9_gives_11 rfl 1 rfl ?_
    obtain ⟨h1, h⟩ := h
    refine m_lald 38 dX9_gives_12 (by decide) rfl h1 ?_
    refine m_lconst (v := 0) dX9_gives_13 (by decide) ?_
    refine m_lcmp_ne (tgt := 38) dX9_gives_14 dX9_gives_15 (by decide) (fun c => ?_) (fun c => ?_)
    · replace h := h.1 c
      refine m_aload_n dX9_gives_38 rfl 0 rfl ?_
      refine m_get (v := .ref (ad 38)) 38 dX9_gives_39 (by decide) q1801 rfl ?_
      refine m_iload_n dX9_gives_42 rfl 1 rfl ?_
      refine m_dup2 dX9_gives_43 rfl rfl ?_
      obtain ⟨h1, h⟩ := h
      refine m_lald 38 dX9_gives_44 (by decide) rfl h1 ?_
      refine m_lload_n dX9_gives_45 rfl 2 rfl ?_
      refine m_ladd dX9_gives_46 ?_
      refine m_topl (fun w ew => ?_)
      replace h := h w ew
      obtain ⟨h1, h⟩ := h
      refine m_last 38 dX9_gives_47 (by decide) rfl h1 ?_
      refine m_topJ (fun J1 eJ1 => ?_)
      replace h := h J1 eJ1
      exact m_vret rfl dX9_gives_48 h
    · replace h := h.2 c
      refine m_aload_n dX9_gives_18 rfl 0 rfl ?_
      refine m_get (v := .ref (ad 34)) 34 dX9_gives_19 (by decide) q1797 rfl ?_
      refine m_aload_n dX9_gives_22 rfl 0 rfl ?_
      refine m_get (v := .int (F 36)) 36 dX9_gives_23 (by decide) q1799 rfl ?_
      refine m_iload_n dX9_gives_26 rfl 1 rfl ?_
      obtain ⟨h1, h⟩ := h
      refine m_iast 34 dX9_gives_27 (by decide) rfl h1 ?_
      refine m_topI (fun I1 eI1 => ?_)
      replace h := h I1 eI1
      refine m_aload_n dX9_gives_28 rfl 0 rfl ?_
      refine m_dup dX9_gives_29 rfl ?_
      refine m_get (v := .int (F 36)) 36 dX9_gives_30 (by decide) q1799 rfl ?_
      refine m_iconst (v := 1) dX9_gives_33 (by decide) ?_
      refine m_iadd dX9_gives_34 ?_
      refine m_putI 36 dX9_gives_35 (by decide) q1799 rfl rfl rfl rfl ?_
      refine m_topF (fun F1 eF1 => ?_)
      replace h := h F1 eF1
      refine m_aload_n dX9_gives_38 rfl 0 rfl ?_
      refine m_get (v := .ref (ad 38)) 38 dX9_gives_39 (by decide) q1801 rfl ?_
      refine m_iload_n dX9_gives_42 rfl 1 rfl ?_
      refine m_dup2 dX9_gives_43 rfl rfl ?_
      obtain ⟨h1, h⟩ := h
      refine m_lald 38 dX9_gives_44 (by decide) rfl h1 ?_
      refine m_lload_n dX9_gives_45 rfl 2 rfl ?_
      refine m_ladd dX9_gives_46 ?_
      refine m_topl (fun w ew => ?_)
      replace h := h w ew
      obtain ⟨h1, h⟩ := h
      refine m_last 38 dX9_gives_47 (by decide) rfl h1 ?_
      refine m_topJ (fun J1 eJ1 => ?_)
      replace h := h J1 eJ1
      exact m_vret rfl dX9_gives_48 h
  · replace h := h.2 c
    exact m_vret rfl dX9_gives_6 h
theorem eX9_gives {G : GC} {ad : Nat → Nat} {o : Nat} {Q : MPost} {p1 : Int32} {p2 : Int64} {F : Nat → Int32} {L : Nat → Int64} {I : Nat → Nat → Int32} {J : Nat → Nat → Int64} (h : ∀ σ0, AtM G mX9_gives 3 ad o σ0 Q 0 [(0, .ref o), (1, .int p1), (2, .long p2)] [] F L I J) : CallM G mX9_gives 3 ad o [.ref o, .int p1, .long p2] F L I J Q :=
  CallM.of (by decide +kernel) wsX9_gives rfl (Nat.le_of_ble_eq_true rfl) (fun σ0 => AtM.sub (ls := [(0, .ref o), (1, .int p1), (2, .long p2)]) [0, 1, 2] rfl (h σ0))
set_option maxHeartbeats 4000000 in
theorem bX9_takesNext_0 {G : GC} {ad : Nat → Nat} {o : Nat} {σ0 : PS} {Q : MPost} {F : Nat → Int32} {L : Nat → Int64} {I : Nat → Nat → Int32} {J : Nat → Nat → Int64} (h : AtM G mX9_takesNext 3 ad o σ0 Q 2 [(0, .ref o), (1, .int 0)] [] F L I J) : AtM G mX9_takesNext 3 ad o σ0 Q 0 [(0, .ref o)] [] F L I J := by
  refine m_iconst (v := 0) dX9_takesNext_0 (by decide) ?_
  refine m_istore_n (ls1 := [(1, .int 0), (0, .ref o)]) dX9_takesNext_1 rfl (by decide) rfl ?_
  exact AtM.sub (ls := [(1, .int 0), (0, .ref o)]) [1, 0] rfl h
set_option maxHeartbeats 4000000 in
theorem bX9_takesNext_2 {G : GC} {ad : Nat → Nat} {o : Nat} {σ0 : PS} {Q : MPost} {x1 : Int32} {F : Nat → Int32} {L : Nat → Int64} {I : Nat → Nat → Int32} {J : Nat → Nat → Int64} (h : (((F 35) ≤ x1) → AtM G mX9_takesNext 3 ad o σ0 Q 30 [(0, .ref o), (1, .int 0)] [] F L I J) ∧ ((¬ (F 35) ≤ x1) → vp_in x1 16900 ∧ (vp_in ((I 33 x1.toNatClampNeg)) 16900 ∧ (∀ J1 : Nat → Nat → Int64, J1 = aU J 37 ((I 33 x1.toNatClampNeg)).toNatClampNeg 0 → ∀ v1 : Int32, v1 = x1 + 1 → AtM G mX9_takesNext 3 ad o σ0 Q 2 [(0, .ref o), (1, .int v1)] [] F L I J1)))) : AtM G mX9_takesNext 3 ad o σ0 Q 2 [(0, .ref o), (1, .int x1)] [] F L I J := by
  refine m_iload_n dX9_takesNext_2 rfl 1 rfl ?_
  refine m_aload_n dX9_takesNext_3 rfl 0 rfl ?_
  refine m_get (v := .int (F 35)) 35 dX9_takesNext_4 (by decide) q1798 rfl ?_
  refine m_icmp_ge (tgt := 28) dX9_takesNext_7 (by decide) (fun c => ?_) (fun c => ?_)
  · replace h := h.1 c
    refine m_iconst (v := 0) dX9_takesNext_28 (by decide) ?_
    refine m_istore_n (ls1 := [(1, .int 0), (0, .ref o)]) dX9_takesNext_29 rfl (by decide) rfl ?_
    exact AtM.sub (ls := [(1, .int 0), (0, .ref o)]) [1, 0] rfl h
  · replace h := h.2 c
    refine m_aload_n dX9_takesNext_10 rfl 0 rfl ?_
    refine m_get (v := .ref (ad 37)) 37 dX9_takesNext_11 (by decide) q1800 rfl ?_
    refine m_aload_n dX9_takesNext_14 rfl 0 rfl ?_
    refine m_get (v := .ref (ad 33)) 33 dX9_takesNext_15 (by decide) q1796 rfl ?_
    refine m_iload_n dX9_takesNext_18 rfl 1 rfl ?_
    obtain ⟨h1, h⟩ := h
    refine m_iald 33 dX9_takesNext_19 (by decide) rfl h1 ?_
    refine m_lconst (v := 0) dX9_takesNext_20 (by decide) ?_
    obtain ⟨h1, h⟩ := h
    refine m_last 37 dX9_takesNext_21 (by decide) rfl h1 ?_
    refine m_topJ (fun J1 eJ1 => ?_)
    replace h := h J1 eJ1
    obtain ⟨v1, ev1⟩ : ∃ z : Int32, z = x1 + 1 := ⟨_, rfl⟩
    refine m_iinc (v := v1) (ls1 := [(1, .int v1), (0, .ref o)]) dX9_takesNext_22 1 rfl (by rw [ev1]; rfl) (by decide) rfl ?_
    replace h := h v1 ev1
    refine m_goto (tgt := 2) dX9_takesNext_25 (by decide) ?_
    exact AtM.sub (ls := [(1, .int v1), (0, .ref o)]) [1, 0] rfl h
set_option maxHeartbeats 4000000 in
theorem bX9_takesNext_30 {G : GC} {ad : Nat → Nat} {o : Nat} {σ0 : PS} {Q : MPost} {x1 : Int32} {F : Nat → Int32} {L : Nat → Int64} {I : Nat → Nat → Int32} {J : Nat → Nat → Int64} (h : (((F 36) ≤ x1) → (∀ F1 : Nat → Int32, F1 = fU F 35 (F 36) → (∀ F1_1 : Nat → Int32, F1_1 = fU F1 36 0 → Q none F1_1 L I J))) ∧ ((¬ (F 36) ≤ x1) → vp_in x1 16900 ∧ (vp_in x1 16900 ∧ (∀ I1 : Nat → Nat → Int32, I1 = aU I 33 x1.toNatClampNeg ((I 34 x1.toNatClampNeg)) → vp_in x1 16900 ∧ (vp_in x1 16900 ∧ (vp_in ((I1 33 x1.toNatClampNeg)) 16900 ∧ (vp_in ((I1 33 x1.toNatClampNeg)) 16900 ∧ (∀ J1 : Nat → Nat → Int64, J1 = aU J 37 ((I1 33 x1.toNatClampNeg)).toNatClampNeg ((J 38 ((I1 33 x1.toNatClampNeg)).toNatClampNeg)) → vp_in x1 16900 ∧ (vp_in ((I1 33 x1.toNatClampNeg)) 16900 ∧ (∀ J1_2 : Nat → Nat → Int64, J1_2 = aU J1 38 ((I1 33 x1.toNatClampNeg)).toNatClampNeg 0 → ∀ v1 : Int32, v1 = x1 + 1 → AtM G mX9_takesNext 3 ad o σ0 Q 30 [(0, .ref o), (1, .int v1)] [] F L I1 J1_2)))))))))) : AtM G mX9_takesNext 3 ad o σ0 Q 30 [(0, .ref o), (1, .int x1)] [] F L I J := by
  refine m_iload_n dX9_takesNext_30 rfl 1 rfl ?_
  refine m_aload_n dX9_takesNext_31 rfl 0 rfl ?_
  refine m_get (v := .int (F 36)) 36 dX9_takesNext_32 (by decide) q1799 rfl ?_
  refine m_icmp_ge (tgt := 90) dX9_takesNext_35 (by decide) (fun c => ?_) (fun c => ?_)
  · replace h := h.1 c
    refine m_aload_n dX9_takesNext_90 rfl 0 rfl ?_
    refine m_aload_n dX9_takesNext_91 rfl 0 rfl ?_
    refine m_get (v := .int (F 36)) 36 dX9_takesNext_92 (by decide) q1799 rfl ?_
    refine m_putI 35 dX9_takesNext_95 (by decide) q1798 rfl rfl rfl rfl ?_
    refine m_topF (fun F1 eF1 => ?_)
    replace h := h F1 eF1
    refine m_aload_n dX9_takesNext_98 rfl 0 rfl ?_
    refine m_iconst (v := 0) dX9_takesNext_99 (by decide) ?_
    refine m_putI 36 dX9_takesNext_100 (by decide) q1799 rfl rfl rfl rfl ?_
    refine m_topF (fun F1_1 eF1_1 => ?_)
    replace h := h F1_1 eF1_1
    exact m_vret rfl dX9_takesNext_103 h
  · replace h := h.2 c
    refine m_aload_n dX9_takesNext_38 rfl 0 rfl ?_
    refine m_get (v := .ref (ad 33)) 33 dX9_takesNext_39 (by decide) q1796 rfl ?_
    refine m_iload_n dX9_takesNext_42 rfl 1 rfl ?_
    refine m_aload_n dX9_takesNext_43 rfl 0 rfl ?_
    refine m_get (v := .ref (ad 34)) 34 dX9_takesNext_44 (by decide) q1797 rfl ?_
    refine m_iload_n dX9_takesNext_47 rfl 1 rfl ?_
    obtain ⟨h1, h⟩ := h
    refine m_iald 34 dX9_takesNext_48 (by decide) rfl h1 ?_
    obtain ⟨h1, h⟩ := h
    refine m_iast 33 dX9_takesNext_49 (by decide) rfl h1 ?_
    refine m_topI (fun I1 eI1 => ?_)
    replace h := h I1 eI1
    refine m_aload_n dX9_takesNext_50 rfl 0 rfl ?_
    refine m_get (v := .ref (ad 37)) 37 dX9_takesNext_51 (by decide) q1800 rfl ?_
    refine m_aload_n dX9_takesNext_54 rfl 0 rfl ?_
    refine m_get (v := .ref (ad 33)) 33 dX9_takesNext_55 (by decide) q1796 rfl ?_
    refine m_iload_n dX9_takesNext_58 rfl 1 rfl ?_
    obtain ⟨h1, h⟩ := h
    refine m_iald 33 dX9_takesNext_59 (by decide) rfl h1 ?_
    refine m_aload_n dX9_takesNext_60 rfl 0 rfl ?_
    refine m_get (v := .ref (ad 38)) 38 dX9_takesNext_61 (by decide) q1801 rfl ?_
    refine m_aload_n dX9_takesNext_64 rfl 0 rfl ?_
    refine m_get (v := .ref (ad 33)) 33 dX9_takesNext_65 (by decide) q1796 rfl ?_
    refine m_iload_n dX9_takesNext_68 rfl 1 rfl ?_
    obtain ⟨h1, h⟩ := h
    refine m_iald 33 dX9_takesNext_69 (by decide) rfl h1 ?_
    obtain ⟨h1, h⟩ := h
    refine m_lald 38 dX9_takesNext_70 (by decide) rfl h1 ?_
    obtain ⟨h1, h⟩ := h
    refine m_last 37 dX9_takesNext_71 (by decide) rfl h1 ?_
    refine m_topJ (fun J1 eJ1 => ?_)
    replace h := h J1 eJ1
    refine m_aload_n dX9_takesNext_72 rfl 0 rfl ?_
    refine m_get (v := .ref (ad 38)) 38 dX9_takesNext_73 (by decide) q1801 rfl ?_
    refine m_aload_n dX9_takesNext_76 rfl 0 rfl ?_
    refine m_get (v := .ref (ad 33)) 33 dX9_takesNext_77 (by decide) q1796 rfl ?_
    refine m_iload_n dX9_takesNext_80 rfl 1 rfl ?_
    obtain ⟨h1, h⟩ := h
    refine m_iald 33 dX9_takesNext_81 (by decide) rfl h1 ?_
    refine m_lconst (v := 0) dX9_takesNext_82 (by decide) ?_
    obtain ⟨h1, h⟩ := h
    refine m_last 38 dX9_takesNext_83 (by decide) rfl h1 ?_
    refine m_topJ (fun J1_2 eJ1_2 => ?_)
    replace h := h J1_2 eJ1_2
    obtain ⟨v1, ev1⟩ : ∃ z : Int32, z = x1 + 1 := ⟨_, rfl⟩
    refine m_iinc (v := v1) (ls1 := [(1, .int v1), (0, .ref o)]) dX9_takesNext_84 1 rfl (by rw [ev1]; rfl) (by decide) rfl ?_
    replace h := h v1 ev1
    refine m_goto (tgt := 30) dX9_takesNext_87 (by decide) ?_
    exact AtM.sub (ls := [(1, .int v1), (0, .ref o)]) [1, 0] rfl h
theorem eX9_takesNext {G : GC} {ad : Nat → Nat} {o : Nat} {Q : MPost} {F : Nat → Int32} {L : Nat → Int64} {I : Nat → Nat → Int32} {J : Nat → Nat → Int64} (h : ∀ σ0, AtM G mX9_takesNext 3 ad o σ0 Q 0 [(0, .ref o)] [] F L I J) : CallM G mX9_takesNext 3 ad o [.ref o] F L I J Q :=
  CallM.of (by decide +kernel) wsX9_takesNext rfl (Nat.le_of_ble_eq_true rfl) (fun σ0 => AtM.sub (ls := [(0, .ref o)]) [0] rfl (h σ0))
set_option maxHeartbeats 4000000 in
theorem bX9_keepsBook_0 {G : GC} {ad : Nat → Nat} {o : Nat} {σ0 : PS} {Q : MPost} {x1 : Int32} {F : Nat → Int32} {L : Nat → Int64} {I : Nat → Nat → Int32} {J : Nat → Nat → Int64} (h : AtM G mX9_keepsBook 5 ad o σ0 Q 2 [(0, .ref o), (1, .int x1), (2, .int 0)] [] F L I J) : AtM G mX9_keepsBook 5 ad o σ0 Q 0 [(0, .ref o), (1, .int x1)] [] F L I J := by
  refine m_iconst (v := 0) dX9_keepsBook_0 (by decide) ?_
  refine m_istore_n (ls1 := [(2, .int 0), (0, .ref o), (1, .int x1)]) dX9_keepsBook_1 rfl (by decide) rfl ?_
  exact AtM.sub (ls := [(2, .int 0), (0, .ref o), (1, .int x1)]) [1, 2, 0] rfl h
set_option maxHeartbeats 4000000 in
theorem bX9_keepsBook_2 {G : GC} {ad : Nat → Nat} {o : Nat} {σ0 : PS} {Q : MPost} {x1 : Int32} {x2 : Int32} {F : Nat → Int32} {L : Nat → Int64} {I : Nat → Nat → Int32} {J : Nat → Nat → Int64} (h : (((F 32) ≤ x2) → Q none F L I J) ∧ ((¬ (F 32) ≤ x2) → vp_in ((3 * x2)) 30 ∧ ((((I 31 ((3 * x2)).toNatClampNeg) = x1) → AtM G mX9_keepsBook 5 ad o σ0 Q 27 [(0, .ref o), (1, .int x1), (2, .int x2), (3, .int 0)] [] F L I J) ∧ ((¬ (I 31 ((3 * x2)).toNatClampNeg) = x1) → ∀ v2 : Int32, v2 = x2 + 1 → AtM G mX9_keepsBook 5 ad o σ0 Q 2 [(0, .ref o), (1, .int x1), (2, .int v2)] [] F L I J)))) : AtM G mX9_keepsBook 5 ad o σ0 Q 2 [(0, .ref o), (1, .int x1), (2, .int x2)] [] F L I J := by
  refine m_iload_n dX9_keepsBook_2 rfl 2 rfl ?_
  refine m_aload_n dX9_keepsBook_3 rfl 0 rfl ?_
  refine m_get (v := .int (F 32)) 32 dX9_keepsBook_4 (by decide) q1795 rfl ?_
  refine m_icmp_ge (tgt := 78) dX9_keepsBook_7 (by decide) (fun c => ?_) (fun c => ?_)
  · replace h := h.1 c
    exact m_vret rfl dX9_keepsBook_78 h
  · replace h := h.2 c
    refine m_aload_n dX9_keepsBook_10 rfl 0 rfl ?_
    refine m_get (v := .ref (ad 31)) 31 dX9_keepsBook_11 (by decide) q1794 rfl ?_
    refine m_iconst (v := 3) dX9_keepsBook_14 (by decide) ?_
    refine m_iload_n dX9_keepsBook_15 rfl 2 rfl ?_
    refine m_imul dX9_keepsBook_16 ?_
    obtain ⟨h1, h⟩ := h
    refine m_iald 31 dX9_keepsBook_17 (by decide) rfl h1 ?_
    refine m_iload_n dX9_keepsBook_18 rfl 1 rfl ?_
    refine m_icmp_eq (tgt := 25) dX9_keepsBook_19 (by decide) (fun c => ?_) (fun c => ?_)
    · replace h := h.1 c
      refine m_iconst (v := 0) dX9_keepsBook_25 (by decide) ?_
      refine m_istore_n (ls1 := [(3, .int 0), (0, .ref o), (1, .int x1), (2, .int x2)]) dX9_keepsBook_26 rfl (by decide) rfl ?_
      exact AtM.sub (ls := [(3, .int 0), (0, .ref o), (1, .int x1), (2, .int x2)]) [1, 2, 3, 0] rfl h
    · replace h := h.2 c
      refine m_goto (tgt := 72) dX9_keepsBook_22 (by decide) ?_
      obtain ⟨v2, ev2⟩ : ∃ z : Int32, z = x2 + 1 := ⟨_, rfl⟩
      refine m_iinc (v := v2) (ls1 := [(2, .int v2), (0, .ref o), (1, .int x1)]) dX9_keepsBook_72 2 rfl (by rw [ev2]; rfl) (by decide) rfl ?_
      replace h := h v2 ev2
      refine m_goto (tgt := 2) dX9_keepsBook_75 (by decide) ?_
      exact AtM.sub (ls := [(2, .int v2), (0, .ref o), (1, .int x1)]) [1, 2, 0] rfl h
set_option maxHeartbeats 4000000 in
theorem bX9_keepsBook_27 {G : GC} {ad : Nat → Nat} {o : Nat} {σ0 : PS} {Q : MPost} {x1 : Int32} {x2 : Int32} {x3 : Int32} {F : Nat → Int32} {L : Nat → Int64} {I : Nat → Nat → Int32} {J : Nat → Nat → Int64} (h : (((F 35) ≤ x3) → ∀ v2 : Int32, v2 = x2 + 1 → AtM G mX9_keepsBook 5 ad o σ0 Q 2 [(0, .ref o), (1, .int x1), (2, .int v2)] [] F L I J) ∧ ((¬ (F 35) ≤ x3) → vp_in x3 16900 ∧ (CallM G mX9_stateOf 3 ad o [.ref o, .int (I 33 x3.toNatClampNeg)] F L I J (mqV (fun F1 L1 I1 J1 => CallMO G mX9_isLine 4 ad o [.ref o, .int x2, .int x1] F1 L1 I1 J1 (pI (fun rx => ((¬ rx = 0) → ∀ v3 : Int32, v3 = x3 + 1 → AtM G mX9_keepsBook 5 ad o σ0 Q 27 [(0, .ref o), (1, .int x1), (2, .int x2), (3, .int v3)] [] F1 L1 I1 J1) ∧ ((rx = 0) → vp_in x3 16900 ∧ (vp_in ((I1 33 x3.toNatClampNeg)) 16900 ∧ (∀ J1_1 : Nat → Nat → Int64, J1_1 = aU J1 37 ((I1 33 x3.toNatClampNeg)).toNatClampNeg 0 → ∀ v3 : Int32, v3 = x3 + 1 → AtM G mX9_keepsBook 5 ad o σ0 Q 27 [(0, .ref o), (1, .int x1), (2, .int x2), (3, .int v3)] [] F1 L1 I1 J1_1)))))))))) : AtM G mX9_keepsBook 5 ad o σ0 Q 27 [(0, .ref o), (1, .int x1), (2, .int x2), (3, .int x3)] [] F L I J := by
  refine m_iload_n dX9_keepsBook_27 rfl 3 rfl ?_
  refine m_aload_n dX9_keepsBook_28 rfl 0 rfl ?_
  refine m_get (v := .int (F 35)) 35 dX9_keepsBook_29 (by decide) q1798 rfl ?_
  refine m_icmp_ge (tgt := 72) dX9_keepsBook_32 (by decide) (fun c => ?_) (fun c => ?_)
  · replace h := h.1 c
    obtain ⟨v2, ev2⟩ : ∃ z : Int32, z = x2 + 1 := ⟨_, rfl⟩
    refine m_iinc (v := v2) (ls1 := [(2, .int v2), (0, .ref o), (1, .int x1), (3, .int x3)]) dX9_keepsBook_72 2 rfl (by rw [ev2]; rfl) (by decide) rfl ?_
    replace h := h v2 ev2
    refine m_goto (tgt := 2) dX9_keepsBook_75 (by decide) ?_
    exact AtM.sub (ls := [(2, .int v2), (0, .ref o), (1, .int x1), (3, .int x3)]) [1, 2, 0] rfl h
  · replace h := h.2 c
    refine m_aload_n dX9_keepsBook_35 rfl 0 rfl ?_
    refine m_aload_n dX9_keepsBook_36 rfl 0 rfl ?_
    refine m_get (v := .ref (ad 33)) 33 dX9_keepsBook_37 (by decide) q1796 rfl ?_
    refine m_iload_n dX9_keepsBook_40 rfl 3 rfl ?_
    obtain ⟨h1, h⟩ := h
    refine m_iald 33 dX9_keepsBook_41 (by decide) rfl h1 ?_
    refine m_callV (N := mX9_stateOf) (st := []) (As := [.int (I 33 x3.toNatClampNeg)]) dX9_keepsBook_42 wsX9_stateOf (lw_V q2195 q2197 qs73 q116 q2198) rfl mokX9_stateOf rfl (by decide) (by decide) (Nat.zero_le _) h (fun _ F1 L1 I1 J1 hq => ?_)
    obtain ⟨rfl, h⟩ := hq
    refine AtM.stk (st' := []) rfl ?_
    refine m_aload_n dX9_keepsBook_45 rfl 0 rfl ?_
    refine m_iload_n dX9_keepsBook_46 rfl 2 rfl ?_
    refine m_iload_n dX9_keepsBook_47 rfl 1 rfl ?_
    refine m_callV (N := mX9_isLine) (st := []) (As := [.int x2, .int x1]) dX9_keepsBook_48 wsX9_isLine (lw_V q2212 q2214 qs77 q116 q2215) rfl mokX9_isLine rfl (by decide) (by decide) (Nat.zero_le _) h (fun _ F9 L9 I9 J9 hq => ?_)
    obtain ⟨e1, e2, e3, e4, hq⟩ := hq
    refine AtM.re e1 e2 e3 e4 ?_
    obtain ⟨rx, rfl, h⟩ := hq
    refine AtM.stk (st' := [.int rx]) rfl ?_
    refine m_if_ne (tgt := 66) dX9_keepsBook_51 (by decide) (fun c => ?_) (fun c => ?_)
    · replace h := h.1 c
      obtain ⟨v3, ev3⟩ : ∃ z : Int32, z = x3 + 1 := ⟨_, rfl⟩
      refine m_iinc (v := v3) (ls1 := [(3, .int v3), (0, .ref o), (1, .int x1), (2, .int x2)]) dX9_keepsBook_66 3 rfl (by rw [ev3]; rfl) (by decide) rfl ?_
      replace h := h v3 ev3
      refine m_goto (tgt := 27) dX9_keepsBook_69 (by decide) ?_
      exact AtM.sub (ls := [(3, .int v3), (0, .ref o), (1, .int x1), (2, .int x2)]) [1, 2, 3, 0] rfl h
    · replace h := h.2 c
      refine m_aload_n dX9_keepsBook_54 rfl 0 rfl ?_
      refine m_get (v := .ref (ad 37)) 37 dX9_keepsBook_55 (by decide) q1800 rfl ?_
      refine m_aload_n dX9_keepsBook_58 rfl 0 rfl ?_
      refine m_get (v := .ref (ad 33)) 33 dX9_keepsBook_59 (by decide) q1796 rfl ?_
      refine m_iload_n dX9_keepsBook_62 rfl 3 rfl ?_
      obtain ⟨h1, h⟩ := h
      refine m_iald 33 dX9_keepsBook_63 (by decide) rfl h1 ?_
      refine m_lconst (v := 0) dX9_keepsBook_64 (by decide) ?_
      obtain ⟨h1, h⟩ := h
      refine m_last 37 dX9_keepsBook_65 (by decide) rfl h1 ?_
      refine m_topJ (fun J1_1 eJ1_1 => ?_)
      replace h := h J1_1 eJ1_1
      obtain ⟨v3, ev3⟩ : ∃ z : Int32, z = x3 + 1 := ⟨_, rfl⟩
      refine m_iinc (v := v3) (ls1 := [(3, .int v3), (0, .ref o), (1, .int x1), (2, .int x2)]) dX9_keepsBook_66 3 rfl (by rw [ev3]; rfl) (by decide) rfl ?_
      replace h := h v3 ev3
      refine m_goto (tgt := 27) dX9_keepsBook_69 (by decide) ?_
      exact AtM.sub (ls := [(3, .int v3), (0, .ref o), (1, .int x1), (2, .int x2)]) [1, 2, 3, 0] rfl h
theorem eX9_keepsBook {G : GC} {ad : Nat → Nat} {o : Nat} {Q : MPost} {p1 : Int32} {F : Nat → Int32} {L : Nat → Int64} {I : Nat → Nat → Int32} {J : Nat → Nat → Int64} (h : ∀ σ0, AtM G mX9_keepsBook 5 ad o σ0 Q 0 [(0, .ref o), (1, .int p1)] [] F L I J) : CallM G mX9_keepsBook 5 ad o [.ref o, .int p1] F L I J Q :=
  CallM.of (by decide +kernel) wsX9_keepsBook rfl (Nat.le_of_ble_eq_true rfl) (fun σ0 => AtM.sub (ls := [(0, .ref o), (1, .int p1)]) [0, 1] rfl (h σ0))
set_option maxHeartbeats 4000000 in
theorem bX9_isLine_0 {G : GC} {ad : Nat → Nat} {o : Nat} {σ0 : PS} {Q : MPost} {x1 : Int32} {x2 : Int32} {F : Nat → Int32} {L : Nat → Int64} {I : Nat → Nat → Int32} {J : Nat → Nat → Int64} (h : vp_in (((3 * x1) + 1)) 30 ∧ (((¬ (I 31 (((3 * x1) + 1)).toNatClampNeg) = 0) → vp_in (((3 * x1) + 1)) 30 ∧ (((¬ (I 31 (((3 * x1) + 1)).toNatClampNeg) = 1) → AtM G mX9_isLine 4 ad o σ0 Q 59 [(0, .ref o), (1, .int x1)] [.int ((F 51) + (F 52))] F L I J) ∧ (((I 31 (((3 * x1) + 1)).toNatClampNeg) = 1) → CallMO G mX9_isWarm 3 ad o [.ref o, .int x2] F L I J (pI (fun rx => ((rx = 0) → AtM G mX9_isLine 4 ad o σ0 Q 59 [(0, .ref o), (1, .int x1)] [.int 0] F L I J) ∧ ((¬ rx = 0) → AtM G mX9_isLine 4 ad o σ0 Q 59 [(0, .ref o), (1, .int x1)] [.int 1] F L I J)))))) ∧ (((I 31 (((3 * x1) + 1)).toNatClampNeg) = 0) → AtM G mX9_isLine 4 ad o σ0 Q 59 [(0, .ref o), (1, .int x1)] [.int (F 53)] F L I J))) : AtM G mX9_isLine 4 ad o σ0 Q 0 [(0, .ref o), (1, .int x1), (2, .int x2)] [] F L I J := by
  refine m_aload_n dX9_isLine_0 rfl 0 rfl ?_
  refine m_get (v := .ref (ad 31)) 31 dX9_isLine_1 (by decide) q1794 rfl ?_
  refine m_iconst (v := 3) dX9_isLine_4 (by decide) ?_
  refine m_iload_n dX9_isLine_5 rfl 1 rfl ?_
  refine m_imul dX9_isLine_6 ?_
  refine m_iconst (v := 1) dX9_isLine_7 (by decide) ?_
  refine m_iadd dX9_isLine_8 ?_
  obtain ⟨h1, h⟩ := h
  refine m_iald 31 dX9_isLine_9 (by decide) rfl h1 ?_
  refine m_if_ne (tgt := 20) dX9_isLine_10 (by decide) (fun c => ?_) (fun c => ?_)
  · replace h := h.1 c
    refine m_aload_n dX9_isLine_20 rfl 0 rfl ?_
    refine m_get (v := .ref (ad 31)) 31 dX9_isLine_21 (by decide) q1794 rfl ?_
    refine m_iconst (v := 3) dX9_isLine_24 (by decide) ?_
    refine m_iload_n dX9_isLine_25 rfl 1 rfl ?_
    refine m_imul dX9_isLine_26 ?_
    refine m_iconst (v := 1) dX9_isLine_27 (by decide) ?_
    refine m_iadd dX9_isLine_28 ?_
    obtain ⟨h1, h⟩ := h
    refine m_iald 31 dX9_isLine_29 (by decide) rfl h1 ?_
    refine m_iconst (v := 1) dX9_isLine_30 (by decide) ?_
    refine m_icmp_ne (tgt := 50) dX9_isLine_31 (by decide) (fun c => ?_) (fun c => ?_)
    · replace h := h.1 c
      refine m_aload_n dX9_isLine_50 rfl 0 rfl ?_
      refine m_get (v := .int (F 51)) 51 dX9_isLine_51 (by decide) q1814 rfl ?_
      refine m_aload_n dX9_isLine_54 rfl 0 rfl ?_
      refine m_get (v := .int (F 52)) 52 dX9_isLine_55 (by decide) q1815 rfl ?_
      refine m_iadd dX9_isLine_58 ?_
      exact AtM.sub (ls := [(0, .ref o), (1, .int x1), (2, .int x2)]) [0, 1] rfl h
    · replace h := h.2 c
      refine m_aload_n dX9_isLine_34 rfl 0 rfl ?_
      refine m_iload_n dX9_isLine_35 rfl 2 rfl ?_
      refine m_callV (N := mX9_isWarm) (st := []) (As := [.int x2]) dX9_isLine_36 wsX9_isWarm (lw_V q2216 q2218 qs78 q116 q2219) rfl mokX9_isWarm rfl (by decide) (by decide) (Nat.zero_le _) h (fun _ F9 L9 I9 J9 hq => ?_)
      obtain ⟨e1, e2, e3, e4, hq⟩ := hq
      refine AtM.re e1 e2 e3 e4 ?_
      obtain ⟨rx, rfl, h⟩ := hq
      refine AtM.stk (st' := [.int rx]) rfl ?_
      refine m_if_eq (tgt := 46) dX9_isLine_39 (by decide) (fun c => ?_) (fun c => ?_)
      · replace h := h.1 c
        refine m_iconst (v := 0) dX9_isLine_46 (by decide) ?_
        refine m_goto (tgt := 59) dX9_isLine_47 (by decide) ?_
        exact AtM.sub (ls := [(0, .ref o), (1, .int x1), (2, .int x2)]) [0, 1] rfl h
      · replace h := h.2 c
        refine m_iconst (v := 1) dX9_isLine_42 (by decide) ?_
        refine m_goto (tgt := 59) dX9_isLine_43 (by decide) ?_
        exact AtM.sub (ls := [(0, .ref o), (1, .int x1), (2, .int x2)]) [0, 1] rfl h
  · replace h := h.2 c
    refine m_aload_n dX9_isLine_13 rfl 0 rfl ?_
    refine m_get (v := .int (F 53)) 53 dX9_isLine_14 (by decide) q1816 rfl ?_
    refine m_goto (tgt := 59) dX9_isLine_17 (by decide) ?_
    exact AtM.sub (ls := [(0, .ref o), (1, .int x1), (2, .int x2)]) [0, 1] rfl h
set_option maxHeartbeats 4000000 in
theorem bX9_isLine_59 {G : GC} {ad : Nat → Nat} {o : Nat} {σ0 : PS} {Q : MPost} {x1 : Int32} {sx0 : Int32} {F : Nat → Int32} {L : Nat → Int64} {I : Nat → Nat → Int32} {J : Nat → Nat → Int64} (h : vp_in (((3 * x1) + 2)) 30 ∧ (((¬ sx0 = (I 31 (((3 * x1) + 2)).toNatClampNeg)) → Q (some (.int 0)) F L I J) ∧ ((sx0 = (I 31 (((3 * x1) + 2)).toNatClampNeg)) → Q (some (.int 1)) F L I J))) : AtM G mX9_isLine 4 ad o σ0 Q 59 [(0, .ref o), (1, .int x1)] [.int sx0] F L I J := by
  refine m_istore_n (ls1 := [(3, .int sx0), (0, .ref o), (1, .int x1)]) dX9_isLine_59 rfl (by decide) rfl ?_
  refine m_iload_n dX9_isLine_60 rfl 0 rfl ?_
  refine m_aload_n dX9_isLine_61 rfl 1 rfl ?_
  refine m_get (v := .ref (ad 31)) 31 dX9_isLine_62 (by decide) q1794 rfl ?_
  refine m_iconst (v := 3) dX9_isLine_65 (by decide) ?_
  refine m_iload_n dX9_isLine_66 rfl 2 rfl ?_
  refine m_imul dX9_isLine_67 ?_
  refine m_iconst (v := 2) dX9_isLine_68 (by decide) ?_
  refine m_iadd dX9_isLine_69 ?_
  obtain ⟨h1, h⟩ := h
  refine m_iald 31 dX9_isLine_70 (by decide) rfl h1 ?_
  refine m_icmp_ne (tgt := 78) dX9_isLine_71 (by decide) (fun c => ?_) (fun c => ?_)
  · replace h := h.1 c
    refine m_iconst (v := 0) dX9_isLine_78 (by decide) ?_
    exact m_zret rfl rfl dX9_isLine_79 h
  · replace h := h.2 c
    refine m_iconst (v := 1) dX9_isLine_74 (by decide) ?_
    refine m_goto (tgt := 79) dX9_isLine_75 (by decide) ?_
    exact m_zret rfl rfl dX9_isLine_79 h
theorem eX9_isLine {G : GC} {ad : Nat → Nat} {o : Nat} {Q : MPost} {p1 : Int32} {p2 : Int32} {F : Nat → Int32} {L : Nat → Int64} {I : Nat → Nat → Int32} {J : Nat → Nat → Int64} (h : ∀ σ0, AtM G mX9_isLine 4 ad o σ0 Q 0 [(0, .ref o), (1, .int p1), (2, .int p2)] [] F L I J) : CallM G mX9_isLine 4 ad o [.ref o, .int p1, .int p2] F L I J Q :=
  CallM.of (by decide +kernel) wsX9_isLine rfl (Nat.le_of_ble_eq_true rfl) (fun σ0 => AtM.sub (ls := [(0, .ref o), (1, .int p1), (2, .int p2)]) [0, 1, 2] rfl (h σ0))
set_option maxHeartbeats 4000000 in
theorem bX9_isWarm_0 {G : GC} {ad : Nat → Nat} {o : Nat} {σ0 : PS} {Q : MPost} {x1 : Int32} {F : Nat → Int32} {L : Nat → Int64} {I : Nat → Nat → Int32} {J : Nat → Nat → Int64} (h : (((F 54) ≤ 0) → Q (some (.int 0)) F L I J) ∧ ((¬ (F 54) ≤ 0) → vp_in x1 24 ∧ (vp_in (((F 54) - 1)) 24 ∧ (∀ w : Int32, w = ((I 15 x1.toNatClampNeg) - (I 15 (((F 54) - 1)).toNatClampNeg)) → (((I 11 5) ≤ w) → Q (some (.int 0)) F L I J) ∧ ((¬ (I 11 5) ≤ w) → Q (some (.int 1)) F L I J))))) : AtM G mX9_isWarm 3 ad o σ0 Q 0 [(0, .ref o), (1, .int x1)] [] F L I J := by
  refine m_aload_n dX9_isWarm_0 rfl 0 rfl ?_
  refine m_get (v := .int (F 54)) 54 dX9_isWarm_1 (by decide) q1817 rfl ?_
  refine m_if_le (tgt := 38) dX9_isWarm_4 (by decide) (fun c => ?_) (fun c => ?_)
  · replace h := h.1 c
    refine m_iconst (v := 0) dX9_isWarm_38 (by decide) ?_
    exact m_zret rfl rfl dX9_isWarm_39 h
  · replace h := h.2 c
    refine m_aload_n dX9_isWarm_7 rfl 0 rfl ?_
    refine m_get (v := .ref (ad 15)) 15 dX9_isWarm_8 (by decide) q1778 rfl ?_
    refine m_iload_n dX9_isWarm_11 rfl 1 rfl ?_
    obtain ⟨h1, h⟩ := h
    refine m_iald 15 dX9_isWarm_12 (by decide) rfl h1 ?_
    refine m_aload_n dX9_isWarm_13 rfl 0 rfl ?_
    refine m_get (v := .ref (ad 15)) 15 dX9_isWarm_14 (by decide) q1778 rfl ?_
    refine m_aload_n dX9_isWarm_17 rfl 0 rfl ?_
    refine m_get (v := .int (F 54)) 54 dX9_isWarm_18 (by decide) q1817 rfl ?_
    refine m_iconst (v := 1) dX9_isWarm_21 (by decide) ?_
    refine m_isub dX9_isWarm_22 ?_
    obtain ⟨h1, h⟩ := h
    refine m_iald 15 dX9_isWarm_23 (by decide) rfl h1 ?_
    refine m_isub dX9_isWarm_24 ?_
    refine m_topi (fun w ew => ?_)
    replace h := h w ew
    refine m_aload_n dX9_isWarm_25 rfl 0 rfl ?_
    refine m_get (v := .ref (ad 11)) 11 dX9_isWarm_26 (by decide) q1774 rfl ?_
    refine m_iconst (v := 5) dX9_isWarm_29 (by decide) ?_
    refine m_iald0 (j := 5) 11 dX9_isWarm_30 (by decide) rfl (by decide) rfl (Nat.le_of_ble_eq_true rfl) ?_
    refine m_icmp_ge (tgt := 38) dX9_isWarm_31 (by decide) (fun c => ?_) (fun c => ?_)
    · replace h := h.1 c
      refine m_iconst (v := 0) dX9_isWarm_38 (by decide) ?_
      exact m_zret rfl rfl dX9_isWarm_39 h
    · replace h := h.2 c
      refine m_iconst (v := 1) dX9_isWarm_34 (by decide) ?_
      refine m_goto (tgt := 39) dX9_isWarm_35 (by decide) ?_
      exact m_zret rfl rfl dX9_isWarm_39 h
theorem eX9_isWarm {G : GC} {ad : Nat → Nat} {o : Nat} {Q : MPost} {p1 : Int32} {F : Nat → Int32} {L : Nat → Int64} {I : Nat → Nat → Int32} {J : Nat → Nat → Int64} (h : ∀ σ0, AtM G mX9_isWarm 3 ad o σ0 Q 0 [(0, .ref o), (1, .int p1)] [] F L I J) : CallM G mX9_isWarm 3 ad o [.ref o, .int p1] F L I J Q :=
  CallM.of (by decide +kernel) wsX9_isWarm rfl (Nat.le_of_ble_eq_true rfl) (fun σ0 => AtM.sub (ls := [(0, .ref o), (1, .int p1)]) [0, 1] rfl (h σ0))
