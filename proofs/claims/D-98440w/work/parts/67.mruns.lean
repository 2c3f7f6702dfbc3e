/-! Part B: the reference's goes -/
/-- nothing under way -/
def Idl (F : Nat → Int32) (L : Nat → Int64) (I : Nat → Nat → Int32) (J : Nat → Nat → Int64) : Prop := ∃ n lv P D wa lo, FlM F L I J n lv P (fun _ => 0) D wa lo
theorem FlM.idl {F : Nat → Int32} {L : Nat → Int64} {I : Nat → Nat → Int32} {J : Nat → Nat → Int64} {n : Nat} {lv P D : Nat → Nat} {wa lo : Nat} (h : FlM F L I J n lv P (fun _ => 0) D wa lo) : Idl F L I J := ⟨n, lv, P, D, wa, lo, h⟩
theorem w_mbegin {G : GC} {ad : Nat → Nat} {o : Nat} {F : Nat → Int32} {L : Nat → Int64} {I : Nat → Nat → Int32} {J : Nat → Nat → Int64} {Q : MPost} {O : Nat → Nat} {fw fm : (Nat → Int32)} {nn : Nat} (h : Idl F L I J) (hMC : MCx O fw fm nn I) (hcd : O 1 + O 2 ≤ 12) (hk : O 3 < 2)
    (k : ∀ F' L' I' J' n' lv', FlM F' L' I' J' n' lv' (fIni O).1 (fun _ => 0) (fIni O).2.1 (fIni O).2.2.1 (fIni O).2.2.2 → (∀ i, i < n' → gd 0 (lv' i)) → Fr9 F F' → Ir9 I I' → Q none F' L' I' J') : CallM G mX9_begin 4 ad o [.ref o] F L I J Q := by
  obtain ⟨n, lv, P, D, wa, lo, h⟩ := h
  obtain ⟨hr, hs, h35, hn⟩ := h.rw9
  have hx0 : gd 0 (cd 0 (O 1) (O 2) (O 3) 0) := gd_cd (Nat.le_refl _) hcd hk (by decide)
  have hlt := hx0.lt2 (show 0 ≤ 24 by omega)
  refine eX9_begin (fun σ0 => bX9_begin_0 ?_)
  have L3 : ∀ d i, i + d = 6 → ∀ F' I' J', FlM F' L I' J' 1 (fun _ => cd 0 (O 1) (O 2) (O 3) 0) (fIni O).1 (fun _ => 0) (fun p => if p < i then 0 else D p) wa lo → Fr9 F F' → Ir9 I I' → AtM G mX9_begin 4 ad o σ0 Q 78 [(0, .ref o), (1, .int (nI i))] [] F' L I' J' := by
    intro d
    induction d with
    | zero =>
      intro i hi F' I' J' hM hF hI
      have hi : i = 6 := by omega
      subst hi
      refine bX9_begin_78 ⟨fun _ L1 e1 L2 e2 => ?_, fun q => absurd (nI_le (a := 6) (Nat.le_refl _) (by decide)) q⟩
      subst e2
      subst e1
      refine k F' _ I' J' 1 _ (((hM.lw (wa' := 0) rfl).ll (lo' := 0) rfl).cong (fun _ _ => rfl) (fun _ _ => rfl) (fun p hp => ?_) rfl rfl) (fun _ _ => hx0) hF hI
      show (if p < 6 then 0 else D p) = 0
      rw [if_pos hp]
    | succ d ih =>
      intro i hi F' I' J' hM hF hI
      have p1 := vp_in_nI (show i < 6 by omega) (by decide)
      refine bX9_begin_78 ⟨fun q => absurd q (nI_ge (b := 6) (by omega) (by decide)), fun _ => ⟨p1, fun J1 e1 v1 h1 => ?_⟩⟩
      rw [nI_clamp (by omega)] at e1
      rw [h1, nI_1]
      subst e1
      refine ih (i + 1) (by omega) F' I' _ ?_ hF hI
      obtain ⟨⟨a1, a2, a3⟩, b, c, e⟩ := hM
      refine ⟨⟨a1, a2, fun p hp => ?_⟩, fun y hy => by rw [gU_ne (by decide)]; exact b y hy, fun y hy => by rw [gU_ne (by decide)]; exact c y hy, e⟩
      rw [gU_at]
      show _ = lN (if p < i + 1 then 0 else D p)
      by_cases q : p = i
      · rw [if_pos q, if_pos (by omega)]; rfl
      · rw [if_neg q, a3 p hp]
        dsimp only
        by_cases q2 : p < i
        · rw [if_pos q2, if_pos (by omega)]
        · rw [if_neg q2, if_neg (by omega)]
  have Lp : ∀ d i, i + d = n → ∀ J', J' 38 = J 38 → J' 39 = J 39 → (∀ x, x < 16900 → J' 37 (ix x) = lN (P x) ∨ J' 37 (ix x) = lN 0) → (∀ q, q < i → J' 37 (ix (lv q)) = lN 0) → AtM G mX9_begin 4 ad o σ0 Q 2 [(0, .ref o), (1, .int (nI i))] [] F L I J' := by
    intro d
    induction d with
    | zero =>
      intro i hi J' h1 h2 h4 h5
      have hi : i = n := by omega
      subst hi
      refine bX9_begin_2 ⟨fun _ F1 e1 => ?_, fun q => absurd (by rw [h35]; exact nI_le (Nat.le_refl _) (by omega)) q⟩
      rw [hMC.1 1 (by decide), hMC.1 2 (by decide), hMC.1 3 (by decide)]
      refine w_index (s := 0) (e := 0) ⟨_, rfl, fun I1 e2 => ?_⟩
      have eI : I1 33 0 = nI (ix (cd 0 (O 1) (O 2) (O 3) 0)) := by
        rw [e2, gU_at, if_pos rfl, ix_cd (by omega) (by omega) hk (by decide)]
      rw [eI, nI_clamp (show ix (cd 0 (O 1) (O 2) (O 3) 0) < 2 ^ 31 by have := ix_lt hlt; omega)]
      refine ⟨vp_in_nI (ix_lt hlt) (by decide), fun J1 e3 => ?_⟩
      have hz : ∀ x, x < 16900 → J' 37 (ix x) = lN 0 := by
        intro x hx
        by_cases z : P x = 0
        · rcases h4 x hx with y | y
          · rw [y, z]
          · exact y
        · obtain ⟨q, hq, e⟩ := hs x hx z
          rw [← e]
          exact h5 q hq
      obtain ⟨⟨a1, a2, a3⟩, b, c, d', m, lw, m1, m2, m3, m4, m5⟩ := h
      subst e1
      subst e3
      refine L3 6 0 (by omega) _ I1 _ ⟨⟨a1, a2, fun p hp => ?_⟩, fun x hx => ?_, fun x hx => ?_, ⟨fU_at, by omega, ⟨fun _ _ => hlt, fun i j hi hj _ => by omega⟩, fun i hi => ?_, fun x hx hne => ⟨0, by omega, ?_⟩⟩, m, lw, by rw [fU_ne (by decide)]; exact m1, m2, m3, fun i hi => by rw [e2, gU_ne (by decide)]; exact m4 i hi, m5⟩ (fun j j1 j2 j3 => fU_ne j1) (e2 ▸ fun a a1 a2 a3 a4 => gU_ne a1)
      · rw [gU_ne (by decide), h2]
        show _ = lN (if p < 0 then 0 else D p)
        rw [if_neg (by omega)]
        exact a3 p hp
      · rw [aU_ix hx hlt]
        show _ = lN (if x = _ then _ else _)
        by_cases q : x = cd 0 (O 1) (O 2) (O 3) 0
        · rw [if_pos q, if_pos q]; rfl
        · rw [if_neg q, if_neg q]; exact hz x hx
      · rw [gU_ne (by decide), h1]
        exact c x hx
      · rw [show i = 0 by omega, eI]
      · have hne : (if x = cd 0 (O 1) (O 2) (O 3) 0 then 2 ^ 40 else 0) ≠ 0 := hne
        apply Classical.byContradiction
        intro q
        rw [if_neg (fun y => q y.symm)] at hne
        exact hne rfl
    | succ d ih =>
      intro i hi J' h1 h2 h4 h5
      have hin : i < n := by omega
      obtain ⟨hy, e33⟩ := h.live hin
      have hq := ix_lt hy
      have p1 := vp_in_nI (show i < 16900 by omega) (by decide)
      have p2 := vp_in_nI hq (by decide)
      refine bX9_begin_2 ⟨fun q => absurd (by rw [h35] at q; exact q) (nI_ge hin (by omega)), fun _ => ⟨p1, ?_⟩⟩
      rw [nI_clamp (show i < 2 ^ 31 by omega), e33]
      refine ⟨p2, fun J1 hJ1 v1 hv1 => ?_⟩
      rw [nI_clamp (show ix (lv i) < 2 ^ 31 by omega)] at hJ1
      rw [hv1, nI_1]
      subst hJ1
      refine ih (i + 1) (by omega) _ (by rw [gU_ne (by decide)]; exact h1) (by rw [gU_ne (by decide)]; exact h2) (fun x hx => ?_) (fun q hq => ?_)
      · rw [aU_ix hx hy]
        split
        · exact Or.inr rfl
        · exact h4 x hx
      · rw [aU_ix (hr.1 q (by omega)) hy]
        split
        · rfl
        · rename_i z
          refine h5 q ?_
          by_cases y : q = i
          · subst y; exact absurd rfl z
          · omega
  exact Lp n 0 (by omega) J rfl rfl (fun x hx => Or.inl (h.2.1 x hx)) (fun q hq => absurd hq (by omega))
theorem w_habitOf {G : GC} {ad : Nat → Nat} {o : Nat} {F : Nat → Int32} {L : Nat → Int64} {I : Nat → Nat → Int32} {J : Nat → Nat → Int64} {p hb : Nat} {P : Option Value → Prop} (h : optH F p hb) (k : P (some (.int (nI hb)))) : CallMO G mX9_habitOf 3 ad o [.ref o, .int (nI p)] F L I J P := by
  obtain ⟨h1, h2⟩ := h
  refine eX9_habitOf (fun σ0 => bX9_habitOf_0 ⟨fun z => ⟨fun y => ⟨fun x => ⟨rfl, rfl, rfl, rfl, ?_⟩, fun x => ⟨rfl, rfl, rfl, rfl, ?_⟩⟩, fun y => ⟨rfl, rfl, rfl, rfl, ?_⟩⟩, fun z => ⟨rfl, rfl, rfl, rfl, ?_⟩⟩)
  · rw [((h1 z).1 y).1 x] at k; exact k
  · rw [((h1 z).1 y).2 x]; exact k
  · rw [(h1 z).2 y]; exact k
  · rw [h2 z] at k; exact k
theorem fEnd_1 (fill v : Nat) (S : FS) : (fEnd fill v S).1 = sc (endG fill v S.1) 16900 := rfl
theorem isB_1 (N W v u : Nat) (fm : Nat → Int32) (x : Nat) : isB 1 N W v fm x = isB 1 N W u fm x := by simp only [isB]
theorem qLik_1 (N W v u : Nat) (fm : Nat → Int32) (P : Nat → Nat) : qLik 1 N W v fm P = qLik 1 N W u fm P := sm_cong (fun x _ => by rw [isB_1 N W v u])
/-- the card true, by the runs to each visit -/
def TrA (O : Nat → Nat) (h : HW) (fw fm : Nat → Int32) (T : Nat) (J : Nat → Nat → Int64) : Prop := ∀ v, v < T → ¬ fw v = h.2.2.2.1 → J 40 v = lN (qLik 1 (O 0) (O 5) 0 fm (fRun O h fw fm (v + 1)).1)
set_option maxRecDepth 8000 in
set_option maxHeartbeats 2000000 in
theorem w_mgoes {G : GC} {ad : Nat → Nat} {o : Nat} {F : Nat → Int32} {L : Nat → Int64} {I : Nat → Nat → Int32} {J : Nat → Nat → Int64} {Q : MPost} {nn T : Nat} {O : Nat → Nat} {fw fm : (Nat → Int32)} {h : HW} {to : Int32} (hI0 : Idl F L I J) (hMC : MCx O fw fm nn I) (hOp : OpM F I h) (hnn : nn ≤ 24) (hwho : ∀ i, i < nn → ∃ p, p < 6 ∧ fw i = nI p) (hL : ∀ p, p < 6 → (∀ Z, Z ∈ h.2.2.2.2.1 p → stOK Z) ∧ (h.2.2.2.2.1 p).length ≤ 8) (hN : O 0 ≤ 12) (hcd : O 1 + O 2 ≤ 12) (hk : O 3 < 2) (hfa : h.1 ≤ 16) (hse : h.2.1 ≤ 16) (hfi : h.2.2.1 ≤ 12) (hT : T ≤ nn) (hto : ∀ i, i ≤ 24 → (to < nI i ↔ T ≤ i))
    (k : ∀ F' L' I' J' n' lv', FlM F' L' I' J' n' lv' (fRun O h fw fm T).1 (fun _ => 0) (fRun O h fw fm T).2.1 (fRun O h fw fm T).2.2.1 (fRun O h fw fm T).2.2.2 → (∀ i, i < n' → gd T (lv' i)) → Fr9 F F' → Ir9 I I' → TrA O h fw fm T J' → Q none F' L' I' J') : CallM G mX9_goes 7 ad o [.ref o, .int to] F L I J Q := by
  have hRok := fRun_ok (fm := fm) hN hcd hk hfa hse hnn hwho hL
  refine eX9_goes (fun σ0 => bX9_goes_0 ?_)
  have STP : ∀ i, i < T → ∀ pw hb, pw < 6 → fw i = nI pw → hb < 7 → ∀ (S : FS), GP (i + 1) S.1 → (∀ F' L' I' J' n' lv', FlM F' L' I' J' n' lv' (fEnd h.2.2.1 i ((h.2.2.2.2.1 pw).foldl (fStep O h.2.1 fw fm i) S)).1 (fun _ => 0) (fEnd h.2.2.1 i ((h.2.2.2.2.1 pw).foldl (fStep O h.2.1 fw fm i) S)).2.1 (fEnd h.2.2.1 i ((h.2.2.2.2.1 pw).foldl (fStep O h.2.1 fw fm i) S)).2.2.1 (fEnd h.2.2.1 i ((h.2.2.2.2.1 pw).foldl (fStep O h.2.1 fw fm i) S)).2.2.2 → (∀ j, j < n' → gd (i + 1) (lv' j)) → Fr9 F F' → Ir9 I I' → (∀ v, v < i → ¬ fw v = h.2.2.2.1 → J' 40 v = lN (qLik 1 (O 0) (O 5) 0 fm (fRun O h fw fm (v + 1)).1)) → J' 40 i = lN (qLik 1 (O 0) (O 5) 0 fm (fEnd h.2.2.1 i ((h.2.2.2.2.1 pw).foldl (fStep O h.2.1 fw fm i) S)).1) → AtM G mX9_goes 7 ad o σ0 Q 6 [(0, .ref o), (1, .int to), (2, .int (nI (i + 1)))] [] F' L' I' J') →
      ∀ D j, j + D = (h.2.2.2.2.1 pw).length → ∀ F' L' I' J' n' lv', FlM F' L' I' J' n' lv' (((h.2.2.2.2.1 pw).take j).foldl (fStep O h.2.1 fw fm i) S).1 (fun _ => 0) (((h.2.2.2.2.1 pw).take j).foldl (fStep O h.2.1 fw fm i) S).2.1 (((h.2.2.2.2.1 pw).take j).foldl (fStep O h.2.1 fw fm i) S).2.2.1 (((h.2.2.2.2.1 pw).take j).foldl (fStep O h.2.1 fw fm i) S).2.2.2 → (∀ j, j < n' → gd (i + 1) (lv' j)) → HabM I' hb (h.2.2.2.2.1 pw) → Fct fw fm i I' → Fr9 F F' → Ir9 I I' → (∀ v, v < i → ¬ fw v = h.2.2.2.1 → J' 40 v = lN (qLik 1 (O 0) (O 5) 0 fm (fRun O h fw fm (v + 1)).1)) → AtM G mX9_goes 7 ad o σ0 Q 46 [(0, .ref o), (1, .int to), (2, .int (nI i)), (3, .int (nI hb)), (4, .int (nI j))] [] F' L' I' J' := by
    intro i hi pw hb hp hpw hhb S hGS nxt D
    have hGf : ∀ (l : List StT) (S : FS), (∀ Z, Z ∈ l → stOK Z) → GP (i + 1) S.1 → GP (i + 1) (l.foldl (fStep O h.2.1 fw fm i) S).1 := by
      intro l
      induction l with
      | nil => exact fun S _ hS => hS
      | cons Z l ihl => exact fun S hZ hS => ihl _ (fun Z' h' => hZ Z' (List.mem_cons_of_mem _ h')) (step_GP hS hN (hZ Z List.mem_cons_self).2 hse (by omega))
    have pv := vp_in_nI (show i < 24 by omega) (by decide)
    have pb := vp_in_nI hhb (by decide)
    have cb := nI_clamp (show hb < 2 ^ 31 by omega)
    have hl8 := (hL pw hp).2
    induction D with
    | zero =>
      intro j hj F' L' I' J' n' lv' hM hg hH hfx hF hI hA
      have hj : j = (h.2.2.2.2.1 pw).length := by omega
      subst hj
      rw [List.take_length] at hM
      refine bX9_goes_46 ⟨pb, ?_⟩
      rw [cb, hH.1]
      refine ⟨fun _ => ?_, fun q => absurd (nI_le (Nat.le_refl _) (by omega)) q⟩
      have hG' := hGf _ S (hL pw hp).1 hGS
      have hMC' := hMC.keep hI
      refine w_mends hM hg hG' (by omega) (hOp.keep hF hI).2.2.1 hfi (fun F2 L2 I2 J2 n2 lv2 hM2 hg2 hF2 hI2 hJ2 => ⟨rfl, ?_⟩)
      refine w_mlikely (what := 1) (fw := fw) (fm := fm) (O := O) (nn := nn) (by decide) hM2 (fun e => by cases e) (hMC'.keep hI2) hN hnn (fun F3 hM3 hF3 => ⟨_, rfl, pv, fun J3 e3 v2 e2 => ?_⟩)
      rw [nI_clamp (show i < 2 ^ 31 by omega)] at e3
      rw [e2, nI_1]
      subst e3
      refine nxt F3 L2 I2 _ n2 lv2 (hM3.oth rfl rfl rfl rfl rfl rfl (gU_ne (by decide)) (gU_ne (by decide)) (gU_ne (by decide))) hg2 ((hF.tr hF2).tr (Fr9.o51 hF3)) (hI.tr hI2) (fun v hv hne => ?_) ?_
      · rw [gU_at, if_neg (by omega), hJ2]
        exact hA v hv hne
      · rw [gU_at, if_pos rfl, qLik_1 _ _ i 0, fEnd_1]
    | succ D ih =>
      intro j hj F' L' I' J' n' lv' hM hg hH hfx hF hI hA
      have hjl : j < (h.2.2.2.2.1 pw).length := by omega
      have t1 : ((h.2.2.2.2.1 pw).take (j + 1)).foldl (fStep O h.2.1 fw fm i) S = fStep O h.2.1 fw fm i (((h.2.2.2.2.1 pw).take j).foldl (fStep O h.2.1 fw fm i) S) (h.2.2.2.2.1 pw)[j] := by
        rw [List.take_succ_eq_append_getElem hjl, List.foldl_append]
        rfl
      have ih1 := ih (j + 1) (by omega)
      rw [t1] at ih1
      have hGj := hGf ((h.2.2.2.2.1 pw).take j) S (fun Z hZ => (hL pw hp).1 Z (List.mem_of_mem_take hZ)) hGS
      revert hM ih1 hGj
      generalize ((h.2.2.2.2.1 pw).take j).foldl (fStep O h.2.1 fw fm i) S = S2
      intro hM ih1 hGj
      have hMC' := hMC.keep hI
      refine bX9_goes_46 ⟨pb, ?_⟩
      rw [cb, hH.1]
      refine ⟨fun q => absurd q (nI_ge hjl (by omega)), fun _ => ?_⟩
      refine w_mstep hM hg hGj (show i < nn by omega) hnn hMC' hN (hOp.keep hF hI).2.1 hse hpw hp hH hhb (List.getElem?_eq_getElem hjl) hfx (fun F2 L2 I2 J2 n2 lv2 hM2 hg2 hF2 hI2 hfx2 hJ2 => ⟨rfl, fun v4 e4 => ?_⟩)
      rw [e4, nI_1]
      refine ih1 F2 L2 I2 J2 n2 lv2 (hM2.cong (fun _ _ => rfl) (fun _ _ => rfl) (fun x hx => ?_) rfl rfl) hg2 (hH.keep hI2) hfx2 (hF.tr hF2) (hI.tr hI2) (fun v hv hne => by rw [hJ2]; exact hA v hv hne)
      show S2.2.1 x + _ = S2.2.1 x + if nI x = fw i then _ else 0
      rw [hpw]
      by_cases q : x = pw
      · rw [if_pos q, if_pos (by rw [q])]
      · rw [if_neg q, if_neg (fun y => q ((nI_eq (by omega) (by omega)).mp y))]
  have Lp : ∀ D i, i + D = T → ∀ F' L' I' J' n' lv', FlM F' L' I' J' n' lv' (fRun O h fw fm i).1 (fun _ => 0) (fRun O h fw fm i).2.1 (fRun O h fw fm i).2.2.1 (fRun O h fw fm i).2.2.2 → (∀ j, j < n' → gd i (lv' j)) → Fr9 F F' → Ir9 I I' → TrA O h fw fm i J' → AtM G mX9_goes 7 ad o σ0 Q 6 [(0, .ref o), (1, .int to), (2, .int (nI i))] [] F' L' I' J' := by
    intro D
    induction D with
    | zero =>
      intro i hi F' L' I' J' n' lv' hM hg hF hI hA
      have hi : i = T := by omega
      subst hi
      exact bX9_goes_6 ⟨fun _ => k F' L' I' J' n' lv' hM hg hF hI hA, fun z => absurd ((hto i (by omega)).mpr (Nat.le_refl _)) z⟩
    | succ D ih =>
      intro i hi F' L' I' J' n' lv' hM hg hF hI hA
      have hin : i < nn := by omega
      obtain ⟨pw, hp, hpw⟩ := hwho i hin
      have pv := vp_in_nI (show i < 24 by omega) (by decide)
      have cv := nI_clamp (show i < 2 ^ 31 by omega)
      have hMC' := hMC.keep hI
      have hOp' := hOp.keep hF hI
      have ih1 := ih (i + 1) (by omega)
      refine bX9_goes_6 ⟨fun z => absurd ((hto i (by omega)).mp z) (by omega), fun _ => ⟨pv, ?_⟩⟩
      rw [cv, (hMC'.2 i hin).1, hOp'.2.2.2.1]
      refine ⟨fun hne => ?_, fun hne v2 e2 => ?_⟩
      · have hGi := (hRok i (by omega)).1
        have hcl : (fw i).toNatClampNeg = pw := by rw [hpw, nI_clamp (by omega)]
        simp only [fRun, if_neg hne] at ih1
        unfold fVis at ih1
        rw [hcl] at ih1
        refine w_mcomes hM hGi hMC' hOp' hin hnn hfa (fun F2 I2 J2 n2 lv2 hM2 hg2 hF2 hI2 hfx2 hJ2 => ⟨rfl, pv, ?_⟩)
        have hMC2 := hMC'.keep hI2
        have hOp2 := hOp'.keep hF2 hI2
        rw [(hMC2.2 i hin).1, hpw]
        obtain ⟨hb, hb7, hHb, hop⟩ := hOp2.2.2.2.2.2 pw hp
        refine w_habitOf hop ⟨_, rfl, ?_⟩
        refine STP i (by omega) pw hb hp hpw hb7 (fBeg O h fm i (fRun O h fw fm i)) ((book_GP (fall_GP hGi hfa (by omega))).mono (by omega)) (fun F3 L3 I3 J3 n3 lv3 hM3 hg3 hF3 hI3 hA3 hA4 => ih1 F3 L3 I3 J3 n3 lv3 hM3 hg3 hF3 hI3 (fun v hv hv2 => ?_)) (h.2.2.2.2.1 pw).length 0 (by omega) F2 L' I2 J2 n2 lv2 hM2 hg2 hHb hfx2 (hF.tr hF2) (hI.tr hI2) (fun v hv hne => by rw [hJ2]; exact hA v hv hne)
        by_cases q : v = i
        · subst q
          rw [hA4]
          simp only [fRun, if_neg hne]
          unfold fVis
          rw [hcl]
        · exact hA3 v (by omega) hv2
      · simp only [fRun, if_pos hne] at ih1
        rw [e2, nI_1]
        refine ih1 F' L' I' J' n' lv' hM (fun j hj => (hg j hj).mono (by omega)) hF hI (fun v hv hv2 => ?_)
        by_cases q : v = i
        · subst q; exact absurd hne hv2
        · exact hA v (by omega) hv2
  refine w_mbegin hI0 hMC hcd hk (fun F2 L2 I2 J2 n2 lv2 hM2 hg2 hF2 hI2 => ⟨rfl, Lp T 0 (by omega) F2 L2 I2 J2 n2 lv2 hM2 hg2 hF2 hI2 (fun v hv => absurd hv (by omega))⟩)
