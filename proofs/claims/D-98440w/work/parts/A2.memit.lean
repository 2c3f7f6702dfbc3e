/-! Part B: the reference's reader of habits: codes, opens, words -/
def Fc (F F' : Nat → Int32) : Prop := ∀ j, j ≠ 4 → j ≠ 5 → j ≠ 6 → j ≠ 7 → j ≠ 28 → F' j = F j
def Ic (I I' : Nat → Nat → Int32) : Prop := ∀ a, a ≠ 20 → a ≠ 21 → I' a = I a
theorem Fc.rf {F : Nat → Int32} : Fc F F := fun _ _ _ _ _ _ => rfl
theorem Ic.rf {I : Nat → Nat → Int32} : Ic I I := fun _ _ _ => rfl
theorem Fc.tr {F F' F'' : Nat → Int32} (h : Fc F F') (h2 : Fc F' F'') : Fc F F'' := fun j a b c d e => (h2 j a b c d e).trans (h j a b c d e)
theorem Ic.tr {I I' I'' : Nat → Nat → Int32} (h : Ic I I') (h2 : Ic I' I'') : Ic I I'' := fun a b c => (h2 a b c).trans (h a b c)
theorem F6.c {F F' : Nat → Int32} (h : F6 F F') : Fc F F' := fun j a b c _ _ => h j a b c
theorem F4.c {F F' : Nat → Int32} (h : F4 F F') : Fc F F' := h.six.c
/-- the codes so far -/
def EM (I : Nat → Nat → Int32) (l : CS) : Prop := ∀ i q, l[i]? = some q → I 20 i = nI q.1 ∧ I 21 i = q.2
def RC (F : Nat → Int32) (I : Nat → Nat → Int32) (t : Nat → Nat) (n a o : Nat) (l : CS) : Prop := RS F I t n a none ∧ F 7 = nI o ∧ F 28 = nI l.length ∧ EM I l ∧ l.length ≤ a
theorem RS.i {F : Nat → Int32} {I I' : Nat → Nat → Int32} {t : Nat → Nat} {n a : Nat} {e : Option (Nat × Nat)} (h : RS F I t n a e) (hI : I' 9 = I 9) : RS F I' t n a e := by
  obtain ⟨h1, h2, h3, h5, h6, h7⟩ := h
  exact ⟨h1, h2, h3, h5, fun i hi => by rw [hI]; exact h6 i hi, h7⟩
theorem RC.at {F F' : Nat → Int32} {I : Nat → Nat → Int32} {t : Nat → Nat} {n a a' o : Nat} {l : CS} (h : RC F I t n a o l) (f : F4 F F') (hR : RS F' I t n a' none) (ha : l.length ≤ a') : RC F' I t n a' o l := ⟨hR, (f 7 (by decide)).trans h.2.1, (f 28 (by decide)).trans h.2.2.1, h.2.2.2.1, ha⟩
theorem w_emit {G : GC} {ad : Nat → Nat} {o : Nat} {F : Nat → Int32} {L : Nat → Int64} {I : Nat → Nat → Int32} {J : Nat → Nat → Int64} {Q : MPost} {t : Nat → Nat} {n a x o9 : Nat} {z : Int32} {y : Int32} {l : CS} (h : RS F I t n a none) (h7 : F 7 = nI o9) (h28 : F 28 = nI l.length) (hE : EM I l) (hl : l.length < 150) (ha : l.length + 1 ≤ a) (hz : z = nI x) (k : ∀ F' I', RC F' I' t n a o9 (l ++ [(x, y)]) → Fc F F' → Ic I I' → Q none F' L I' J) : CallM G mX9_emit 4 ad o [.ref o, .int z, .int y] F L I J Q := by
  subst hz
  have cl := nI_clamp (show l.length < 2 ^ 31 by omega)
  have vin : vp_in (F 28) 150 := by
    rw [h28]
    exact vp_in_nI hl (by decide)
  refine eX9_emit (fun σ0 => bX9_emit_0 (w_fineY (h.2.2.1 rfl) ⟨_, rfl, fun _ => ⟨vin, fun I1 e1 => ⟨vin, fun I2 e2 F1 e3 => ?_⟩⟩, fun z => absurd z (by decide)⟩))
  rw [h28, cl] at e1 e2
  rw [h28, nI_1] at e3
  have i20 : ∀ i, I2 20 i = if i = l.length then nI x else I 20 i := fun i => by
    rw [e2, gU_ne (by decide), e1, gU_at]
  have i21 : ∀ i, I2 21 i = if i = l.length then y else I 21 i := fun i => by
    rw [e2, gU_at, e1, gU_ne (by decide)]
  have ne : ∀ a, a ≠ 20 → a ≠ 21 → I2 a = I a := fun a h1 h2 => by rw [e2, gU_ne h2, e1, gU_ne h1]
  have f28 : ∀ j, j ≠ 28 → F1 j = F j := fun j hj => by rw [e3, fU_ne hj]
  have el : (l ++ [(x, y)]).length = l.length + 1 := by simp
  obtain ⟨q1, q2, q3, q5, q6, q7, q8, q9⟩ := h
  refine k F1 I2 ⟨⟨(f28 3 (by decide)).trans q1, (f28 4 (by decide)).trans q2, fun z => (f28 5 (by decide)).trans (q3 z), (fun w p z => by cases z), (fun i hi => by rw [ne 9 (by decide) (by decide)]; exact q6 i hi), q7, q8, q9⟩, (f28 7 (by decide)).trans h7, by rw [e3, fU_at, el], fun i q hi => ?_, by rw [el]; exact ha⟩ (fun j _ _ _ _ z => f28 j z) ne
  by_cases z : i = l.length
  · rw [z, List.getElem?_append_right (Nat.le_refl _), Nat.sub_self] at hi
    have e9 : (x, y) = q := Option.some.inj hi
    rw [i20, i21, if_pos z, if_pos z, ← e9]
    exact ⟨rfl, rfl⟩
  · have il : i < l.length := by
      have := (List.getElem?_eq_some_iff.mp hi).1
      omega
    rw [List.getElem?_append_left il] at hi
    rw [i20, i21, if_neg z, if_neg z]
    exact hE i q hi
theorem w_emitN {G : GC} {ad : Nat → Nat} {o : Nat} {F : Nat → Int32} {L : Nat → Int64} {I : Nat → Nat → Int32} {J : Nat → Nat → Int64} {Q : MPost} {x y : Int32} (h : ¬ F 5 = -1) (k : Q none F L I J) : CallM G mX9_emit 4 ad o [.ref o, .int x, .int y] F L I J Q :=
  eX9_emit (fun σ0 => bX9_emit_0 (w_fineN h ⟨_, rfl, fun z => absurd rfl z, fun _ => k⟩))
theorem w_opens {G : GC} {ad : Nat → Nat} {o : Nat} {F : Nat → Int32} {L : Nat → Int64} {I : Nat → Nat → Int32} {J : Nat → Nat → Int64} {Q : MPost} {t : Nat → Nat} {n a b o9 : Nat} {x : Int32} (h : RS F I t n a none) (h7 : F 7 = nI o9) (ho : o9 ≤ 6) (hx : x = nI b) (hb : a + b ≤ n) (k : o9 ≠ 6 → ∀ F', RS F' I t n (a + b) none → F' 7 = nI (o9 + 1) → F' 28 = F 28 → Fc F F' → Q none F' L I J) (kx : o9 = 6 → ∀ F', RS F' I t n a (some (3, a)) → Fc F F' → Q none F' L I J) : CallM G mX9_opensOne 4 ad o [.ref o, .int x] F L I J Q := by
  subst hx
  have z6 : nI o9 = 6 ↔ o9 = 6 := nI_eq (b := 6) (by omega) (by decide)
  refine eX9_opensOne (fun σ0 => bX9_opensOne_0 (w_fineY (h.2.2.1 rfl) ⟨_, rfl, fun z => absurd z (by decide), fun _ => ⟨fun z => ?_, fun z => ?_⟩⟩))
  · rw [h7] at z
    have z1 : o9 ≠ 6 := fun w => z (z6.mpr w)
    refine bX9_opensOne_25 (w_fineY (h.2.2.1 rfl) ⟨_, rfl, fun z => absurd z (by decide), fun _ F1 e1 F2 e2 => ?_⟩)
    have f1 : F1 7 = nI o9 := by rw [e1, fU_ne (by decide), h7]
    rw [f1, nI_1] at e2
    rw [h.2.1, nI_add] at e1
    have ne : ∀ j, j ≠ 4 → j ≠ 7 → F2 j = F j := fun j h1 h2 => by rw [e2, fU_ne h2, e1, fU_ne h1]
    have f4 : F2 4 = nI (a + b) := by rw [e2, fU_ne (by decide), e1, fU_at]
    obtain ⟨q1, q2, q3, q5, q6, q7, q8, q9⟩ := h
    exact k z1 F2 ⟨(ne 3 (by decide) (by decide)).trans q1, f4, fun z => (ne 5 (by decide) (by decide)).trans (q3 z), (fun w p z => by cases z), q6, q7, q8, hb⟩ (by rw [e2, fU_at]) (ne 28 (by decide) (by decide)) (fun j a _ _ b _ => ne j a b)
  · rw [h7] at z
    have z1 := z6.mp z
    rw [h.2.1]
    refine w_wrong (w := 3) h rfl rfl h.2.2.2.2.2.2.2 (fun F1 hR hF h4 => ⟨rfl, bX9_opensOne_25 (w_fineN hR.bad ⟨_, rfl, fun _ F2 e2 => ?_, fun z => absurd rfl z⟩)⟩)
    have ne : ∀ j, j ≠ 7 → F2 j = F1 j := fun j h2 => by rw [e2, fU_ne h2]
    obtain ⟨q1, q2, q3, q5, q6, q7, q8, q9⟩ := hR
    exact kx z1 F2 ⟨(ne 3 (by decide)).trans q1, (ne 4 (by decide)).trans q2, (fun z => by cases z), fun w p z => ⟨(ne 5 (by decide)).trans (q5 w p z).1, (ne 6 (by decide)).trans (q5 w p z).2.1, (q5 w p z).2.2⟩, q6, q7, q8, q9⟩ (fun j a b c d _ => (ne j d).trans (hF j a b c))
theorem w_opensN {G : GC} {ad : Nat → Nat} {o : Nat} {F : Nat → Int32} {L : Nat → Int64} {I : Nat → Nat → Int32} {J : Nat → Nat → Int64} {Q : MPost} {x : Int32} {t : Nat → Nat} {n a : Nat} {e : Nat × Nat} (h : RS F I t n a (some e)) (k : ∀ F', RS F' I t n a (some e) → Fc F F' → Q none F' L I J) : CallM G mX9_opensOne 4 ad o [.ref o, .int x] F L I J Q := by
  refine eX9_opensOne (fun σ0 => bX9_opensOne_0 (w_fineN h.bad ⟨_, rfl, fun _ => bX9_opensOne_25 (w_fineN h.bad ⟨_, rfl, fun _ F2 e2 => ?_, fun z => absurd rfl z⟩), fun z => absurd rfl z⟩))
  have ne : ∀ j, j ≠ 7 → F2 j = F j := fun j h2 => by rw [e2, fU_ne h2]
  obtain ⟨q1, q2, q3, q5, q6, q7, q8, q9⟩ := h
  exact k F2 ⟨(ne 3 (by decide)).trans q1, (ne 4 (by decide)).trans q2, (fun z => by cases z), fun w p z => ⟨(ne 5 (by decide)).trans (q5 w p z).1, (ne 6 (by decide)).trans (q5 w p z).2.1, (q5 w p z).2.2⟩, q6, q7, q8, q9⟩ (fun j _ _ _ d _ => ne j d)
theorem RS.o7 {F : Nat → Int32} {I : Nat → Nat → Int32} {t : Nat → Nat} {n a : Nat} {e : Option (Nat × Nat)} {v : Int32} (h : RS F I t n a e) : RS (fU F 7 v) I t n a e ∧ Fc F (fU F 7 v) ∧ fU F 7 v 28 = F 28 := by
  obtain ⟨q1, q2, q3, q5, q6, q7, q8, q9⟩ := h
  exact ⟨⟨(fU_ne (by decide)).trans q1, (fU_ne (by decide)).trans q2, fun z => (fU_ne (by decide)).trans (q3 z), fun w p z => ⟨(fU_ne (by decide)).trans (q5 w p z).1, (fU_ne (by decide)).trans (q5 w p z).2.1, (q5 w p z).2.2⟩, q6, q7, q8, q9⟩, fun j _ _ _ d _ => fU_ne d, fU_ne (by decide)⟩
theorem wq {t : Nat → Nat} {n a : Nat} {w : List Nat} (hw : ∀ x, x ∈ w → small x) (h0 : 0 < w.length) (h6 : w.length ≤ 6) : nI (wv (wd t n a)) = nI (pkw w) ↔ wd t n a = w := by
  rw [nI_eq (by have := wv_lt (t := t) (n := n) (a := a); omega) (by have := pkw_lt hw h6; omega)]
  exact wv_eq hw h0 h6
theorem w_factOf {G : GC} {t : Nat → Nat} {n a : Nat} {P : Option Value → Prop} (k : P (some (.int (ix9 (idx (wd t n a) kwW 0))))) : CallP G mX9_factOf 8 [.int (nI (wv (wd t n a)))] P := by
  intro σ
  refine eX9_factOf (bX9_factOf_0 ?_)
  unfold kwW at k
  refine w_of (i := 35) (w := [99, 97, 114, 100]) rfl rfl (by decide) (by decide) ⟨_, rfl, ?_⟩ σ
  by_cases z : wd t n a = [99, 97, 114, 100]
  · rw [idx, if_pos z] at k
    exact ⟨fun y => absurd ((wq (by decide) (by decide) (by decide)).mpr z) y, fun _ => ⟨rfl, k⟩⟩
  rw [idx, if_neg z] at k
  refine ⟨fun _ => ?_, fun y => absurd ((wq (by decide) (by decide) (by decide)).mp y) z⟩
  refine w_of (i := 37) (w := [119, 97, 114, 109]) rfl rfl (by decide) (by decide) ⟨_, rfl, ?_⟩ σ
  by_cases z : wd t n a = [119, 97, 114, 109]
  · rw [idx, if_pos z] at k
    exact ⟨fun y => absurd ((wq (by decide) (by decide) (by decide)).mpr z) y, fun _ => ⟨rfl, k⟩⟩
  rw [idx, if_neg z] at k
  refine ⟨fun _ => ?_, fun y => absurd ((wq (by decide) (by decide) (by decide)).mp y) z⟩
  refine w_of (i := 53) (w := [105, 110]) rfl rfl (by decide) (by decide) ⟨_, rfl, ?_⟩ σ
  by_cases z : wd t n a = [105, 110]
  · rw [idx, if_pos z] at k
    exact ⟨fun y => absurd ((wq (by decide) (by decide) (by decide)).mpr z) y, fun _ => ⟨rfl, k⟩⟩
  rw [idx, if_neg z] at k
  refine ⟨fun _ => ?_, fun y => absurd ((wq (by decide) (by decide) (by decide)).mp y) z⟩
  refine w_of (i := 54) (w := [114, 111, 111, 109]) rfl rfl (by decide) (by decide) ⟨_, rfl, ?_⟩ σ
  by_cases z : wd t n a = [114, 111, 111, 109]
  · rw [idx, if_pos z] at k
    exact ⟨fun y => absurd ((wq (by decide) (by decide) (by decide)).mpr z) y, fun _ => ⟨rfl, k⟩⟩
  rw [idx, if_neg z] at k
  refine ⟨fun _ => ?_, fun y => absurd ((wq (by decide) (by decide) (by decide)).mp y) z⟩
  refine w_of (i := 55) (w := [109, 105, 110, 117, 116, 101]) rfl rfl (by decide) (by decide) ⟨_, rfl, ?_⟩ σ
  by_cases z : wd t n a = [109, 105, 110, 117, 116, 101]
  · rw [idx, if_pos z] at k
    exact ⟨fun y => absurd ((wq (by decide) (by decide) (by decide)).mpr z) y, fun _ => ⟨rfl, k⟩⟩
  rw [idx, if_neg z] at k
  refine ⟨fun _ => ?_, fun y => absurd ((wq (by decide) (by decide) (by decide)).mp y) z⟩
  refine w_of (i := 56) (w := [115, 101, 101, 110]) rfl rfl (by decide) (by decide) ⟨_, rfl, ?_⟩ σ
  by_cases z : wd t n a = [115, 101, 101, 110]
  · rw [idx, if_pos z] at k
    exact ⟨fun y => absurd ((wq (by decide) (by decide) (by decide)).mpr z) y, fun _ => ⟨rfl, k⟩⟩
  rw [idx, if_neg z] at k
  refine ⟨fun _ => ?_, fun y => absurd ((wq (by decide) (by decide) (by decide)).mp y) z⟩
  refine w_of (i := 57) (w := [108, 97, 115, 116]) rfl rfl (by decide) (by decide) ⟨_, rfl, ?_⟩ σ
  by_cases z : wd t n a = [108, 97, 115, 116]
  · rw [idx, if_pos z] at k
    exact ⟨fun y => absurd ((wq (by decide) (by decide) (by decide)).mpr z) y, fun _ => ⟨rfl, k⟩⟩
  rw [idx, if_neg z] at k
  refine ⟨fun _ => ?_, fun y => absurd ((wq (by decide) (by decide) (by decide)).mp y) z⟩
  refine w_of (i := 58) (w := [118, 105, 115, 105, 116]) rfl rfl (by decide) (by decide) ⟨_, rfl, ?_⟩ σ
  by_cases z : wd t n a = [118, 105, 115, 105, 116]
  · rw [idx, if_pos z] at k
    exact ⟨fun y => absurd ((wq (by decide) (by decide) (by decide)).mpr z) y, fun _ => ⟨rfl, k⟩⟩
  rw [idx, if_neg z] at k
  refine ⟨fun _ => ?_, fun y => absurd ((wq (by decide) (by decide) (by decide)).mp y) z⟩
  exact ⟨rfl, k⟩
theorem w_actOf {G : GC} {t : Nat → Nat} {n a : Nat} {P : Option Value → Prop} (k : P (some (.int (ix9 (idx (wd t n a) acW 0))))) : CallP G mX9_actOf 8 [.int (nI (wv (wd t n a)))] P := by
  intro σ
  refine eX9_actOf (bX9_actOf_0 ?_)
  unfold acW at k
  refine w_of (i := 42) (w := [112, 117, 116]) rfl rfl (by decide) (by decide) ⟨_, rfl, ?_⟩ σ
  by_cases z : wd t n a = [112, 117, 116]
  · rw [idx, if_pos z] at k
    exact ⟨fun y => absurd ((wq (by decide) (by decide) (by decide)).mpr z) y, fun _ => ⟨rfl, k⟩⟩
  rw [idx, if_neg z] at k
  refine ⟨fun _ => ?_, fun y => absurd ((wq (by decide) (by decide) (by decide)).mp y) z⟩
  refine w_of (i := 43) (w := [116, 97, 107, 101]) rfl rfl (by decide) (by decide) ⟨_, rfl, ?_⟩ σ
  by_cases z : wd t n a = [116, 97, 107, 101]
  · rw [idx, if_pos z] at k
    exact ⟨fun y => absurd ((wq (by decide) (by decide) (by decide)).mpr z) y, fun _ => ⟨rfl, k⟩⟩
  rw [idx, if_neg z] at k
  refine ⟨fun _ => ?_, fun y => absurd ((wq (by decide) (by decide) (by decide)).mp y) z⟩
  refine w_of (i := 44) (w := [108, 111, 111, 107]) rfl rfl (by decide) (by decide) ⟨_, rfl, ?_⟩ σ
  by_cases z : wd t n a = [108, 111, 111, 107]
  · rw [idx, if_pos z] at k
    exact ⟨fun y => absurd ((wq (by decide) (by decide) (by decide)).mpr z) y, fun _ => ⟨rfl, k⟩⟩
  rw [idx, if_neg z] at k
  refine ⟨fun _ => ?_, fun y => absurd ((wq (by decide) (by decide) (by decide)).mp y) z⟩
  refine w_of (i := 45) (w := [115, 116, 97, 114, 116]) rfl rfl (by decide) (by decide) ⟨_, rfl, ?_⟩ σ
  by_cases z : wd t n a = [115, 116, 97, 114, 116]
  · rw [idx, if_pos z] at k
    exact ⟨fun y => absurd ((wq (by decide) (by decide) (by decide)).mpr z) y, fun _ => ⟨rfl, k⟩⟩
  rw [idx, if_neg z] at k
  refine ⟨fun _ => ?_, fun y => absurd ((wq (by decide) (by decide) (by decide)).mp y) z⟩
  refine w_of (i := 46) (w := [101, 109, 112, 116, 121]) rfl rfl (by decide) (by decide) ⟨_, rfl, ?_⟩ σ
  by_cases z : wd t n a = [101, 109, 112, 116, 121]
  · rw [idx, if_pos z] at k
    exact ⟨fun y => absurd ((wq (by decide) (by decide) (by decide)).mpr z) y, fun _ => ⟨rfl, k⟩⟩
  rw [idx, if_neg z] at k
  refine ⟨fun _ => ?_, fun y => absurd ((wq (by decide) (by decide) (by decide)).mp y) z⟩
  refine w_of (i := 47) (w := [99, 108, 101, 97, 110]) rfl rfl (by decide) (by decide) ⟨_, rfl, ?_⟩ σ
  by_cases z : wd t n a = [99, 108, 101, 97, 110]
  · rw [idx, if_pos z] at k
    exact ⟨fun y => absurd ((wq (by decide) (by decide) (by decide)).mpr z) y, fun _ => ⟨rfl, k⟩⟩
  rw [idx, if_neg z] at k
  refine ⟨fun _ => ?_, fun y => absurd ((wq (by decide) (by decide) (by decide)).mp y) z⟩
  refine w_of (i := 48) (w := [100, 105, 114, 116, 121]) rfl rfl (by decide) (by decide) ⟨_, rfl, ?_⟩ σ
  by_cases z : wd t n a = [100, 105, 114, 116, 121]
  · rw [idx, if_pos z] at k
    exact ⟨fun y => absurd ((wq (by decide) (by decide) (by decide)).mpr z) y, fun _ => ⟨rfl, k⟩⟩
  rw [idx, if_neg z] at k
  refine ⟨fun _ => ?_, fun y => absurd ((wq (by decide) (by decide) (by decide)).mp y) z⟩
  refine w_of (i := 49) (w := [116, 117, 114, 110]) rfl rfl (by decide) (by decide) ⟨_, rfl, ?_⟩ σ
  by_cases z : wd t n a = [116, 117, 114, 110]
  · rw [idx, if_pos z] at k
    exact ⟨fun y => absurd ((wq (by decide) (by decide) (by decide)).mpr z) y, fun _ => ⟨rfl, k⟩⟩
  rw [idx, if_neg z] at k
  refine ⟨fun _ => ?_, fun y => absurd ((wq (by decide) (by decide) (by decide)).mp y) z⟩
  exact ⟨rfl, k⟩
