/-! Part B: the reference's reader of habits: sums -/
/-- the contract of a parser of terms in the reference -/
def PM (G : GC) (N : MD) (R n o : Nat) (t : Nat → Nat) (v : Nat → PR CS) : Prop := ∀ (ad : Nat → Nat) (o9 : Nat) (F : Nat → Int32) (L : Nat → Int64) (I : Nat → Nat → Int32) (J : Nat → Nat → Int64) (Q : MPost) (a : Nat) (l : CS), RC F I t n a o l → (∀ cs a', v a = .inr (cs, a') → ∀ F' I', RC F' I' t n a' o (l ++ cs) → Fc F F' → Ic I I' → Q none F' L I' J) → (∀ w p, v a = .inl (w, p) → ∀ F' I' a', RS F' I' t n a' (some (w, p)) → Fc F F' → Ic I I' → Q none F' L I' J) → CallM G N R ad o9 [.ref o9] F L I J Q
def LM (G : GC) (M : MD) (R n o f : Nat) (t : Nat → Nat) (v : Nat → PR CS) (op : Nat → Option (Nat × Nat)) : Prop := ∀ (ad : Nat → Nat) (o9 : Nat) (σ0 : PS) (F : Nat → Int32) (L : Nat → Int64) (I : Nat → Nat → Int32) (J : Nat → Nat → Int64) (Q : MPost) (a : Nat) (l c : CS), n + 1 ≤ f + a → RC F I t n a o (l ++ c) → (∀ cs a', lpS t n v op f c a = .inr (cs, a') → ∀ F' I', RC F' I' t n a' o (l ++ cs) → Fc F F' → Ic I I' → Q none F' L I' J) → (∀ w p, lpS t n v op f c a = .inl (w, p) → ∀ F' I' a', RS F' I' t n a' (some (w, p)) → Fc F F' → Ic I I' → Q none F' L I' J) → AtM G M R ad o9 σ0 Q 4 [(0, .ref o9)] [] F L I J
theorem lm_turn {G : GC} {ad : Nat → Nat} {o : Nat} {F : Nat → Int32} {L : Nat → Int64} {I : Nat → Nat → Int32} {J : Nat → Nat → Int64} {N : MD} {Rv R n o9 a1 x : Nat} {t : Nat → Nat} {tf : Bool} {v : Nat → PR CS} {l c : CS} {z : Int32} (K : (Nat → Int32) → (Nat → Int64) → (Nat → Nat → Int32) → (Nat → Nat → Int64) → Prop) (hn : n ≤ 150) (hP : PM G N Rv n o9 t v) (hv : Gd n tf v) (hR : Rv + 1 ≤ R) (hR5 : 5 ≤ R) (hz : z = nI x) (H : RC F I t n a1 o9 (l ++ c)) (hl : (l ++ c).length + 1 ≤ a1) (kK : ∀ c2 a2, v a1 = .inr (c2, a2) → ∀ F3 I3, RC F3 I3 t n a2 o9 (l ++ (c ++ c2 ++ [(x, 0)])) → Fc F F3 → Ic I I3 → K F3 L I3 J) (kF : ∀ w p, v a1 = .inl (w, p) → ∀ F3 I3 a', RS F3 I3 t n a' (some (w, p)) → Fc F F3 → Ic I I3 → K F3 L I3 J) :
    ∃ rc : Nat, rc + 1 ≤ R ∧ CallM G N rc ad o [.ref o] F L I J (mqV (fun F2 L2 I2 J2 => 4 + 1 ≤ R ∧ CallM G mX9_emit 4 ad o [.ref o, .int z, .int 0] F2 L2 I2 J2 (mqV (fun F3 L3 I3 J3 => K F3 L3 I3 J3)))) := by
  refine ⟨Rv, hR, hP _ _ _ _ _ _ _ _ _ H (fun c2 a2 h2 F2 I2 H2 f2 i2 => ⟨rfl, hR5, ?_⟩) (fun w p h2 F2 I2 a' hX f2 i2 => ⟨rfl, hR5, w_emitN hX.bad ⟨rfl, kF w p h2 F2 I2 a' hX f2 i2⟩⟩)⟩
  have g := hv a1 H.1.2.2.2.2.2.2.2 c2 a2 h2
  have el : (l ++ c ++ c2).length = (l ++ c).length + c2.length := by rw [List.length_append]
  refine w_emit H2.1 H2.2.1 H2.2.2.1 H2.2.2.2.1 (by omega) (by omega) hz (fun F3 I3 H3 f3 i3 => ⟨rfl, ?_⟩)
  have e : l ++ c ++ c2 ++ [(x, (0 : Int32))] = l ++ (c ++ c2 ++ [(x, 0)]) := by simp [List.append_assoc]
  rw [e] at H3
  exact kK c2 a2 h2 F3 I3 H3 (f2.tr f3) (i2.tr i3)
theorem lm_first {G : GC} {N M : MD} {Rv R n o : Nat} {t : Nat → Nat} {tf : Bool} {v : Nat → PR CS} {op : Nat → Option (Nat × Nat)} {ad : Nat → Nat} {o9 : Nat} {σ0 : PS} {F : Nat → Int32} {L : Nat → Int64} {I : Nat → Nat → Int32} {J : Nat → Nat → Int64} {Q : MPost} {a : Nat} {l : CS} (hP : PM G N Rv n o t v) (hv : Gd n tf v) (LL : LM G M R n o (n + 1) t v op) (hd : ∀ F' I', ¬ F' 5 = -1 → Q none F' L I' J → AtM G M R ad o9 σ0 Q 4 [(0, .ref o9)] [] F' L I' J) (hR : Rv + 1 ≤ R) (H : RC F I t n a o l) (ks : ∀ cs a', bnd (v a) (lpS t n v op (n + 1)) = .inr (cs, a') → ∀ F' I', RC F' I' t n a' o (l ++ cs) → Fc F F' → Ic I I' → Q none F' L I' J) (kx : ∀ w p, bnd (v a) (lpS t n v op (n + 1)) = .inl (w, p) → ∀ F' I' a', RS F' I' t n a' (some (w, p)) → Fc F F' → Ic I I' → Q none F' L I' J) :
    ∃ rc : Nat, rc + 1 ≤ R ∧ CallM G N rc ad o9 [.ref o9] F L I J (mqV (fun F1 L1 I1 J1 => AtM G M R ad o9 σ0 Q 4 [(0, .ref o9)] [] F1 L1 I1 J1)) := by
  refine ⟨Rv, hR, hP _ _ _ _ _ _ _ _ _ H (fun c1 a1 h1 F1 I1 H1 f1 i1 => ⟨rfl, ?_⟩) (fun w p h1 F1 I1 a' hX f1 i1 => ⟨rfl, hd F1 I1 hX.bad (kx w p (by rw [h1, bnd_l]) F1 I1 a' hX f1 i1)⟩)⟩
  rw [h1, bnd_r] at ks kx
  exact LL _ _ _ _ _ _ _ _ a1 l c1 (by omega) H1 (fun cs a' h2 F' I' y1 y2 y3 => ks cs a' h2 F' I' y1 (f1.tr y2) (i1.tr y3)) (fun w p h2 F' I' a' y1 y2 y3 => kx w p h2 F' I' a' y1 (f1.tr y2) (i1.tr y3))
theorem hd_product {G : GC} {R : Nat} {ad : Nat → Nat} {o9 : Nat} {σ0 : PS} {F : Nat → Int32} {L : Nat → Int64} {I : Nat → Nat → Int32} {J : Nat → Nat → Int64} {Q : MPost} (hR : 4 ≤ R) (h : ¬ F 5 = -1) (k : Q none F L I J) : AtM G mX9_readProduct R ad o9 σ0 Q 4 [(0, .ref o9)] [] F L I J := bX9_readProduct_4 ⟨hR, w_fineN h ⟨_, rfl, fun _ => k, fun z => absurd rfl z⟩⟩
theorem hd_sum {G : GC} {R : Nat} {ad : Nat → Nat} {o9 : Nat} {σ0 : PS} {F : Nat → Int32} {L : Nat → Int64} {I : Nat → Nat → Int32} {J : Nat → Nat → Int64} {Q : MPost} (hR : 4 ≤ R) (h : ¬ F 5 = -1) (k : Q none F L I J) : AtM G mX9_readSum R ad o9 σ0 Q 4 [(0, .ref o9)] [] F L I J := bX9_readSum_4 ⟨hR, w_fineN h ⟨_, rfl, fun _ => k, fun z => absurd rfl z⟩⟩
theorem hd_all {G : GC} {R : Nat} {ad : Nat → Nat} {o9 : Nat} {σ0 : PS} {F : Nat → Int32} {L : Nat → Int64} {I : Nat → Nat → Int32} {J : Nat → Nat → Int64} {Q : MPost} (hR : 4 ≤ R) (h : ¬ F 5 = -1) (k : Q none F L I J) : AtM G mX9_readAll R ad o9 σ0 Q 4 [(0, .ref o9)] [] F L I J := bX9_readAll_4 ⟨hR, w_fineN h ⟨_, rfl, fun _ => k, fun z => absurd rfl z⟩⟩
theorem hd_any {G : GC} {R : Nat} {ad : Nat → Nat} {o9 : Nat} {σ0 : PS} {F : Nat → Int32} {L : Nat → Int64} {I : Nat → Nat → Int32} {J : Nat → Nat → Int64} {Q : MPost} (hR : 4 ≤ R) (h : ¬ F 5 = -1) (k : Q none F L I J) : AtM G mX9_readAny R ad o9 σ0 Q 4 [(0, .ref o9)] [] F L I J := bX9_readAny_4 ⟨hR, w_fineN h ⟨_, rfl, fun _ => k, fun z => absurd rfl z⟩⟩
theorem hv_s {t : Nat → Nat} {n k c : Nat} {x : Int32} (ht : ∀ i, i < n → t i < 256) (hx : x = nI c) (hc : c < 256) (h0 : c ≠ 0) : nI (hv t n k) = x ↔ k < n ∧ t k = c := by
  rw [hx]
  exact hv_is ht hc h0
theorem RC.le {F : Nat → Int32} {I : Nat → Nat → Int32} {t : Nat → Nat} {n a o : Nat} {l : CS} (h : RC F I t n a o l) : a ≤ n := h.1.2.2.2.2.2.2.2
theorem RC.t8 {F : Nat → Int32} {I : Nat → Nat → Int32} {t : Nat → Nat} {n a o : Nat} {l : CS} (h : RC F I t n a o l) : ∀ i, i < n → t i < 256 := h.1.2.2.2.2.2.2.1
theorem RC.f5 {F : Nat → Int32} {I : Nat → Nat → Int32} {t : Nat → Nat} {n a o : Nat} {l : CS} (h : RC F I t n a o l) : F 5 = -1 := h.1.2.2.1 rfl
/-- here(), with the codes -/
theorem w_hereC {G : GC} {ad : Nat → Nat} {o : Nat} {F : Nat → Int32} {L : Nat → Int64} {I : Nat → Nat → Int32} {J : Nat → Nat → Int64} {Q : MPost} {t : Nat → Nat} {n a o9 : Nat} {l : CS} (h : RC F I t n a o9 l) (k : ∀ F', RC F' I t n (sk t n a) o9 l → F4 F F' → Q (some (.int (nI (hv t n (sk t n a))))) F' L I J) : CallM G mX9_here 3 ad o [.ref o] F L I J Q :=
  w_here h.1 (fun F' hR hF => k F' (h.at hF hR (by
    have := sk_b (t := t) h.le
    have := h.2.2.2.2
    omega)) hF)
theorem w_wordC {G : GC} {ad : Nat → Nat} {o : Nat} {F : Nat → Int32} {L : Nat → Int64} {I : Nat → Nat → Int32} {J : Nat → Nat → Int64} {Q : MPost} {t : Nat → Nat} {n a o9 : Nat} {l : CS} (h : RC F I t n a o9 l) (k : ∀ F', RC F' I t n (sk t n a) o9 l → F4 F F' → Q (some (.int (nI (wv (wd t n (sk t n a)))))) F' L I J) : CallM G mX9_word 4 ad o [.ref o] F L I J Q :=
  w_word h.1 (fun F' hR hF => k F' (h.at hF hR (by
    have := sk_b (t := t) h.le
    have := h.2.2.2.2
    omega)) hF)
/-- one byte on -/
theorem RC.on {F : Nat → Int32} {I : Nat → Nat → Int32} {t : Nat → Nat} {n a o b : Nat} {l : CS} {x : Int32} (h : RC F I t n a o l) (hx : x = nI (a + b)) (ha : a + b ≤ n) : RC (fU F 4 x) I t n (a + b) o l ∧ F4 F (fU F 4 x) := ⟨h.at F4.rf.u (h.1.at F4.rf.u (by rw [fU_at, hx]) ha) (by have := h.2.2.2.2; omega), F4.rf.u⟩
theorem m_productL {G : GC} {Rv n o : Nat} {t : Nat → Nat} {v : Nat → PR CS} (hn : n ≤ 150) (hv : Gd n false v) (hP : PM G mX9_readUnit Rv n o t v) (h7 : 8 ≤ Rv) : ∀ f, LM G mX9_readProduct (Rv + 1) n o f t v (opM t n) := by
  intro f
  induction f with
  | zero =>
    intro ad o9 σ0 F L I J Q a l c hf H
    have := H.le
    omega
  | succ f ih =>
    intro ad o9 σ0 F L I J Q a l c hf H ks kx
    have ha := H.le
    refine bX9_readProduct_4 ⟨by omega, w_fineY H.f5 ⟨_, rfl, fun z => absurd z (by decide), fun _ => ⟨by omega, w_hereC H (fun F1 H1 f1 => ⟨_, rfl, fun z => ?_, fun z F2 e2 => ?_⟩)⟩⟩⟩
    · have ns : ¬ sg t n 42 a := fun w => z ((hv_s H.t8 (c := 42) rfl (by decide) (by decide)).mpr w)
      exact ks c _ (lpS_n (opM_n ns)) F1 I H1 f1.c Ic.rf
    · have hs : sg t n 42 a := (hv_s H.t8 (c := 42) rfl (by decide) (by decide)).mp z
      rw [H1.1.2.1, nI_1] at e2
      obtain ⟨H2, f2⟩ := H1.on (b := 1) (x := nI (sk t n a + 1)) rfl hs.1
      rw [← e2] at H2 f2
      have e := opM_y hs
      have f12 := f1.c.tr f2.c
      rw [lpS_s e] at ks kx
      have hl := H1.2.2.2.2
      exact lm_turn (x := 4) (fun F3 L3 I3 J3 => AtM G mX9_readProduct (Rv + 1) ad o9 σ0 Q 4 [(0, .ref o9)] [] F3 L3 I3 J3) hn hP hv (Nat.le_refl _) (by omega) rfl H2 (by omega) (fun c2 a2 h2 F3 I3 H3 f3 i3 => by
        rw [h2, bnd_r] at ks kx
        have g := hv _ hs.1 c2 a2 h2
        have hs2 := sk_b (t := t) ha
        exact ih ad o9 σ0 F3 L I3 J Q a2 l _ (by omega) H3 (fun cs a' h4 F' I' y1 y2 y3 => ks cs a' h4 F' I' y1 ((f12.tr f3).tr y2) (i3.tr y3)) (fun w p h4 F' I' a' y1 y2 y3 => kx w p h4 F' I' a' y1 ((f12.tr f3).tr y2) (i3.tr y3))) (fun w p h2 F3 I3 a' hX f3 i3 => hd_product (by omega) hX.bad (kx w p (by rw [h2, bnd_l]) F3 I3 a' hX (f12.tr f3) i3))
theorem m_product {G : GC} {Rv n o : Nat} {t : Nat → Nat} {v : Nat → PR CS} (hn : n ≤ 150) (hv : Gd n false v) (hP : PM G mX9_readUnit Rv n o t v) (h7 : 8 ≤ Rv) : PM G mX9_readProduct (Rv + 1) n o t (prodOf t n v) := by
  intro ad o9 F L I J Q a l H ks kx
  exact eX9_readProduct (fun σ0 => bX9_readProduct_0 (lm_first hP hv (m_productL hn hv hP h7 _) (fun F' I' h k => hd_product (by omega) h k) (Nat.le_refl _) H ks kx))
theorem m_sumL {G : GC} {Rv n o : Nat} {t : Nat → Nat} {v : Nat → PR CS} (hn : n ≤ 150) (hg : Gd n false v) (hP : PM G mX9_readProduct Rv n o t v) (h7 : 8 ≤ Rv) : ∀ f, LM G mX9_readSum (Rv + 1) n o f t v (opP t n) := by
  intro f
  induction f with
  | zero =>
    intro ad o9 σ0 F L I J Q a l c hf H
    have := H.le
    omega
  | succ f ih =>
    intro ad o9 σ0 F L I J Q a l c hf H ks kx
    have ha := H.le
    have hs2 := sk_b (t := t) ha
    have z43 : nI (hv t n (sk t n a)) = 43 ↔ sg t n 43 a := hv_s H.t8 (c := 43) rfl (by decide) (by decide)
    have z45 : nI (hv t n (sk t n a)) = 45 ↔ sg t n 45 a := hv_s H.t8 (c := 45) rfl (by decide) (by decide)
    have T : ∀ x : Nat, ∀ z : Int32, z = nI x → opP t n a = some (x, sk t n a + 1) → ∀ F1, RC F1 I t n (sk t n a) o (l ++ c) → Fc F F1 → sk t n a < n → AtM G mX9_readSum (Rv + 1) ad o9 σ0 Q 43 [(0, .ref o9)] [.int z] F1 L I J := by
      intro x z hz e F1 H1 f1 hs
      refine bX9_readSum_43 (fun F2 e2 => ?_)
      rw [H1.1.2.1, nI_1] at e2
      obtain ⟨H2, f2⟩ := H1.on (b := 1) (x := nI (sk t n a + 1)) rfl hs
      rw [← e2] at H2 f2
      have f12 := f1.tr f2.c
      rw [lpS_s e] at ks kx
      have hl := H1.2.2.2.2
      exact lm_turn (x := x) (fun F3 L3 I3 J3 => AtM G mX9_readSum (Rv + 1) ad o9 σ0 Q 4 [(0, .ref o9)] [] F3 L3 I3 J3) hn hP hg (Nat.le_refl _) (by omega) hz H2 (by omega) (fun c2 a2 h2 F3 I3 H3 f3 i3 => by
        rw [h2, bnd_r] at ks kx
        have g := hg _ hs c2 a2 h2
        exact ih ad o9 σ0 F3 L I3 J Q a2 l _ (by omega) H3 (fun cs a' h4 F' I' y1 y2 y3 => ks cs a' h4 F' I' y1 ((f12.tr f3).tr y2) (i3.tr y3)) (fun w p h4 F' I' a' y1 y2 y3 => kx w p h4 F' I' a' y1 ((f12.tr f3).tr y2) (i3.tr y3))) (fun w p h2 F3 I3 a' hX f3 i3 => hd_sum (by omega) hX.bad (kx w p (by rw [h2, bnd_l]) F3 I3 a' hX (f12.tr f3) i3))
    refine bX9_readSum_4 ⟨by omega, w_fineY H.f5 ⟨_, rfl, fun z => absurd z (by decide), fun _ => ⟨by omega, w_hereC H (fun F1 H1 f1 => ⟨_, rfl, fun z => ?_, fun z => ?_⟩)⟩⟩⟩
    · have hs := z43.mp z
      refine ⟨by omega, w_hereC H1 (fun F2 H2 f2 => ⟨_, rfl, ?_⟩)⟩
      rw [sk_sk ha] at H2 ⊢
      exact ⟨fun y => absurd z y, fun _ => T 2 2 rfl (opP_y hs) F2 H2 (f1.tr f2).c hs.1⟩
    · have n43 : ¬ sg t n 43 a := fun w => z (z43.mpr w)
      refine ⟨by omega, w_hereC H1 (fun F2 H2 f2 => ⟨_, rfl, ?_⟩)⟩
      rw [sk_sk ha] at H2 ⊢
      refine ⟨fun y => ?_, fun y => ⟨by omega, w_hereC H2 (fun F3 H3 f3 => ⟨_, rfl, ?_⟩)⟩⟩
      · exact ks c _ (lpS_n (opP_n n43 (fun w => y (z45.mpr w)))) F2 I H2 (f1.tr f2).c Ic.rf
      · have hs := z45.mp y
        rw [sk_sk ha] at H3 ⊢
        exact ⟨fun _ => T 3 3 rfl (opP_m n43 hs) F3 H3 ((f1.tr f2).tr f3).c hs.1, fun w => absurd w z⟩
theorem m_sum {G : GC} {Rv n o : Nat} {t : Nat → Nat} {v : Nat → PR CS} (hn : n ≤ 150) (hv : Gd n false v) (hP : PM G mX9_readUnit Rv n o t v) (h7 : 8 ≤ Rv) : PM G mX9_readSum (Rv + 2) n o t (sumOf t n v) := by
  intro ad o9 F L I J Q a l H ks kx
  exact eX9_readSum (fun σ0 => bX9_readSum_0 (lm_first (m_product hn hv hP h7) (prod_gd hv) (m_sumL hn (prod_gd hv) (m_product hn hv hP h7) (by omega) _) (fun F' I' h k => hd_sum (by omega) h k) (Nat.le_refl _) H ks kx))
