/-! Part B: the reference's reader of habits: tests -/
theorem mf_one {G : GC} {ad : Nat → Nat} {o : Nat} {F : Nat → Int32} {L : Nat → Int64} {I : Nat → Nat → Int32} {J : Nat → Nat → Int64} {R : Nat} {Q : MPost} (hR : 4 ≤ R) (h : ¬ F 5 = -1) (k : Q none F L I J) : CallM G mX9_readOne R ad o [.ref o] F L I J Q := eX9_readOne (fun σ0 => bX9_readOne_0 ⟨hR, w_fineN h ⟨_, rfl, fun z => absurd rfl z, fun _ => k⟩⟩)
theorem mf_any {G : GC} {ad : Nat → Nat} {o : Nat} {F : Nat → Int32} {L : Nat → Int64} {I : Nat → Nat → Int32} {J : Nat → Nat → Int64} {R : Nat} {Q : MPost} (hR : 6 ≤ R) (h : ¬ F 5 = -1) (k : Q none F L I J) : CallM G mX9_readAny R ad o [.ref o] F L I J Q := eX9_readAny (fun σ0 => bX9_readAny_0 ⟨R - 1, by omega, eX9_readAll (fun σ1 => bX9_readAll_0 ⟨R - 2, by omega, mf_one (by omega) h ⟨rfl, hd_all (by omega) h ⟨rfl, hd_any (by omega) h k⟩⟩⟩)⟩)
/-- the other side of a comparison -/
theorem m_cmp2 {G : GC} {ad : Nat → Nat} {o : Nat} {F : Nat → Int32} {L : Nat → Int64} {I : Nat → Nat → Int32} {J : Nat → Nat → Int64} {σ0 : PS} {R n d a1 x o9 : Nat} {t : Nat → Nat} {l c : CS} {z : Int32} {Q : MPost} (hn : n ≤ 150) (ho : o9 + d = 6) (hR : 14 + 3 * d ≤ R) (H : RC F I t n (sk t n a1) o9 (l ++ c)) (hl1 : sk t n a1 < n) (hx : (z = 60 ∧ x = 5) ∨ (z ≠ 60 ∧ z = 62 ∧ x = 6) ∨ (z ≠ 60 ∧ z ≠ 62 ∧ x = 7)) (e : cmF t n d c a1 = bnd (sumOf t n (pVal t n d) (sk t n a1 + 1)) (fun c2 a2 => .inr (c ++ c2 ++ [(x, 0)], a2))) (ks : ∀ cs a', cmF t n d c a1 = .inr (cs, a') → ∀ F' I', RC F' I' t n a' o9 (l ++ cs) → Fc F F' → Ic I I' → Q none F' L I' J) (kx : ∀ w p, cmF t n d c a1 = .inl (w, p) → ∀ F' I' a', RS F' I' t n a' (some (w, p)) → Fc F F' → Ic I I' → Q none F' L I' J) : AtM G mX9_readOne R ad o σ0 Q 123 [(0, .ref o), (1, .int z)] [] F L I J := by
  refine bX9_readOne_123 ⟨by omega, w_fineY H.f5 ⟨_, rfl, fun _ F1 e1 => ?_, fun w => absurd w (by decide)⟩⟩
  rw [H.1.2.1, nI_1] at e1
  obtain ⟨H1, f1⟩ := H.on (b := 1) (x := nI (sk t n a1 + 1)) rfl hl1
  rw [← e1] at H1 f1
  have hl := H.2.2.2.2
  refine ⟨13 + 3 * d, by omega, m_sums hn ho _ _ _ _ _ _ _ _ _ H1 (fun c2 a2 h2 F2 I2 H2 f2 i2 => ⟨rfl, ?_⟩) (fun w p h2 F2 I2 a' H2 f2 i2 => ⟨rfl, ?_⟩)⟩
  · have g := sum_gd (val_gd d) _ hl1 c2 a2 h2
    have el : (l ++ c ++ c2).length = (l ++ c).length + c2.length := by rw [List.length_append]
    have e9 : l ++ c ++ c2 ++ [(x, (0 : Int32))] = l ++ (c ++ c2 ++ [(x, 0)]) := by simp [List.append_assoc]
    have em : ∀ z2 : Int32, z2 = nI x → CallM G mX9_emit 4 ad o [.ref o, .int z2, .int 0] F2 L I2 J (mqV (fun F3 L3 I3 J3 => Q none F3 L3 I3 J3)) := fun z2 hz2 =>
      w_emit H2.1 H2.2.1 H2.2.2.1 H2.2.2.2.1 (by omega) (by omega) hz2 (fun F3 I3 H3 f3 i3 => ⟨rfl, by
        rw [e9] at H3
        exact ks _ a2 (by rw [e, h2, bnd_r]) F3 I3 H3 ((f1.c.tr f2).tr f3) (i2.tr i3)⟩)
    refine ⟨fun w => ⟨fun w2 => ⟨by omega, em 7 ?_⟩, fun w2 => ⟨by omega, em 6 ?_⟩⟩, fun w => ⟨by omega, em 5 ?_⟩⟩
    · rcases hx with ⟨y1, -⟩ | ⟨-, y1, -⟩ | ⟨-, -, rfl⟩
      · exact absurd y1 w
      · exact absurd y1 w2
      · rfl
    · rcases hx with ⟨y1, -⟩ | ⟨-, -, rfl⟩ | ⟨-, y1, -⟩
      · exact absurd y1 w
      · rfl
      · exact absurd w2 y1
    · rcases hx with ⟨-, rfl⟩ | ⟨y1, -⟩ | ⟨y1, -⟩
      · rfl
      · exact absurd w y1
      · exact absurd w y1
  · have kk := kx w p (by rw [e, h2, bnd_l]) F2 I2 a' H2 (f1.c.tr f2) i2
    exact ⟨fun _ => ⟨fun _ => ⟨by omega, w_emitN H2.bad ⟨rfl, kk⟩⟩, fun _ => ⟨by omega, w_emitN H2.bad ⟨rfl, kk⟩⟩⟩, fun _ => ⟨by omega, w_emitN H2.bad ⟨rfl, kk⟩⟩⟩
theorem m_cmp {G : GC} {ad : Nat → Nat} {o : Nat} {F : Nat → Int32} {L : Nat → Int64} {I : Nat → Nat → Int32} {J : Nat → Nat → Int64} {σ0 : PS} {R n d a o9 : Nat} {t : Nat → Nat} {l : CS} {Q : MPost} (hn : n ≤ 150) (ho : o9 + d = 6) (hR : 14 + 3 * d ≤ R) (ha : a ≤ n) (H : RC F I t n (sk t n a) o9 l) (ks : ∀ cs a', cmpV t n d a = .inr (cs, a') → ∀ F' I', RC F' I' t n a' o9 (l ++ cs) → Fc F F' → Ic I I' → Q none F' L I' J) (kx : ∀ w p, cmpV t n d a = .inl (w, p) → ∀ F' I' a', RS F' I' t n a' (some (w, p)) → Fc F F' → Ic I I' → Q none F' L I' J) :
    ∃ rc : Nat, rc + 1 ≤ R ∧ CallM G mX9_readSum rc ad o [.ref o] F L I J (mqV (fun F1_8 L1_9 I1_10 J1_11 => 3 + 1 ≤ R ∧ CallM G mX9_here 3 ad o [.ref o] F1_8 L1_9 I1_10 J1_11 (mqI (fun rx_12 F1_13 L1_14 I1_15 J1_16 => ((rx_12 = 60) → AtM G mX9_readOne R ad o σ0 Q 123 [(0, .ref o), (1, .int rx_12)] [] F1_13 L1_14 I1_15 J1_16) ∧ ((¬ rx_12 = 60) → ((rx_12 = 62) → AtM G mX9_readOne R ad o σ0 Q 123 [(0, .ref o), (1, .int rx_12)] [] F1_13 L1_14 I1_15 J1_16) ∧ ((¬ rx_12 = 62) → ((rx_12 = 61) → AtM G mX9_readOne R ad o σ0 Q 123 [(0, .ref o), (1, .int rx_12)] [] F1_13 L1_14 I1_15 J1_16) ∧ ((¬ rx_12 = 61) → 3 + 1 ≤ R ∧ CallM G mX9_wrong 3 ad o [.ref o, .int 1, .int (F1_13 4)] F1_13 L1_14 I1_15 J1_16 (mqV (fun F1_17 L1_18 I1_19 J1_20 => AtM G mX9_readOne R ad o σ0 Q 123 [(0, .ref o), (1, .int rx_12)] [] F1_17 L1_18 I1_19 J1_20))))))))) := by
  rw [cmpV_e] at ks kx
  have e0 := sum_sk (t := t) (d := d) ha
  refine ⟨13 + 3 * d, by omega, m_sums hn ho _ _ _ _ _ _ _ _ _ H (fun c1 a1 h1 F1 I1 H1 f1 i1 => ⟨rfl, by omega, w_hereC H1 (fun F2 H2 f2 => ⟨_, rfl, ?_⟩)⟩) (fun w p h1 F1 I1 a' H1 f1 i1 => ⟨rfl, by omega, w_here H1 (fun F2 H2 f2 => ⟨_, rfl, ?_⟩)⟩)⟩
  · rw [e0] at h1
    rw [h1, bnd_r] at ks kx
    have ha1 := H1.le
    have t8 := H1.t8
    have f12 := f1.tr f2.c
    have z60 : nI (hv t n (sk t n a1)) = 60 ↔ sg t n 60 a1 := hv_s t8 (c := 60) rfl (by decide) (by decide)
    have z62 : nI (hv t n (sk t n a1)) = 62 ↔ sg t n 62 a1 := hv_s t8 (c := 62) rfl (by decide) (by decide)
    have z61 : nI (hv t n (sk t n a1)) = 61 ↔ sg t n 61 a1 := hv_s t8 (c := 61) rfl (by decide) (by decide)
    have go : ∀ x, ((nI (hv t n (sk t n a1)) = 60 ∧ x = 5) ∨ (nI (hv t n (sk t n a1)) ≠ 60 ∧ nI (hv t n (sk t n a1)) = 62 ∧ x = 6) ∨ (nI (hv t n (sk t n a1)) ≠ 60 ∧ nI (hv t n (sk t n a1)) ≠ 62 ∧ x = 7)) → sk t n a1 < n → cmF t n d c1 a1 = bnd (sumOf t n (pVal t n d) (sk t n a1 + 1)) (fun c2 a2 => .inr (c1 ++ c2 ++ [(x, 0)], a2)) → AtM G mX9_readOne R ad o σ0 Q 123 [(0, .ref o), (1, .int (nI (hv t n (sk t n a1))))] [] F2 L I1 J := fun x hx hl e => m_cmp2 hn ho hR H2 hl hx e (fun cs a' h4 F' I' y1 y2 y3 => ks cs a' h4 F' I' y1 (f12.tr y2) (i1.tr y3)) (fun w p h4 F' I' a' y1 y2 y3 => kx w p h4 F' I' a' y1 (f12.tr y2) (i1.tr y3))
    refine ⟨fun w => ?_, fun w => ⟨fun w2 => ?_, fun w2 => ⟨fun w3 => ?_, fun w3 => ⟨by omega, ?_⟩⟩⟩⟩
    · exact go 5 (Or.inl ⟨w, rfl⟩) (z60.mp w).1 (cmF_y (Or.inl ⟨z60.mp w, rfl⟩))
    · exact go 6 (Or.inr (Or.inl ⟨w, w2, rfl⟩)) (z62.mp w2).1 (cmF_y (Or.inr (Or.inl ⟨fun v => w (z60.mpr v), z62.mp w2, rfl⟩)))
    · exact go 7 (Or.inr (Or.inr ⟨w, w2, rfl⟩)) (z61.mp w3).1 (cmF_y (Or.inr (Or.inr ⟨fun v => w (z60.mpr v), fun v => w2 (z62.mpr v), z61.mp w3, rfl⟩)))
    · have e := cmF_n (d := d) (c := c1) (fun v => w (z60.mpr v)) (fun v => w2 (z62.mpr v)) (fun v => w3 (z61.mpr v))
      rw [H2.1.2.1]
      exact w_wrong (w := 1) H2.1 rfl rfl H2.le (fun F3 H3 f3 _ => ⟨rfl, bX9_readOne_123 ⟨by omega, w_fineN H3.bad ⟨_, rfl, fun v => absurd rfl v, fun _ => kx _ _ e F3 I1 _ H3 (f12.tr f3.c) i1⟩⟩⟩)
  · rw [e0] at h1
    have kk := fun F3 (f : F3 = F2) => kx w p (by rw [h1, bnd_l]) F2 I1 _ H2 (f1.tr f2.c) i1
    have end9 : ∀ z : Int32, AtM G mX9_readOne R ad o σ0 Q 123 [(0, .ref o), (1, .int z)] [] F2 L I1 J := fun z => bX9_readOne_123 ⟨by omega, w_fineN H2.bad ⟨_, rfl, fun v => absurd rfl v, fun _ => kk F2 rfl⟩⟩
    exact ⟨fun _ => end9 _, fun _ => ⟨fun _ => end9 _, fun _ => ⟨fun _ => end9 _, fun _ => ⟨by omega, w_wrongN H2.bad ⟨rfl, end9 _⟩⟩⟩⟩⟩
theorem m_allL {G : GC} {Rv n o : Nat} {t : Nat → Nat} {v : Nat → PR CS} (hn : n ≤ 150) (hg : Gd n true v) (hP : PM G mX9_readOne Rv n o t v) (h7 : 8 ≤ Rv) : ∀ f, LM G mX9_readAll (Rv + 1) n o f t v (opW t n [97, 110, 100] 9) := by
  intro f
  induction f with
  | zero =>
    intro ad o9 σ0 F L I J Q a l c hf H
    have := H.le
    omega
  | succ f ih =>
    intro ad o9 σ0 F L I J Q a l c hf H ks kx
    have ha := H.le
    have hs2 := sk_b (t := t) ha
    refine bX9_readAll_4 ⟨by omega, w_fineY H.f5 ⟨_, rfl, fun z => absurd z (by decide), fun _ => ⟨by omega, w_wordC H (fun F1 H1 f1 => ⟨_, rfl, by omega, w_of (i := 59) (w := [97, 110, 100]) rfl rfl (by decide) (by decide) ⟨_, rfl, fun z => ?_, fun z => ⟨by omega, w_pass H1.1 (fun F2 H2 f2 => ⟨rfl, ?_⟩)⟩⟩⟩)⟩⟩⟩
    · have ns : ¬ wd t n (sk t n a) = [97, 110, 100] := fun w => z ((wq (by decide) (by decide) (by decide)).mpr w)
      exact ks c _ (lpS_n (opW_n ns)) F1 I H1 f1.c Ic.rf
    · have hs := (wq (by decide) (by decide) (by decide)).mp z
      have e := opW_y (x := 9) hs
      have wl := wd_le (t := t) hs2.2.1
      rw [hs] at H2 wl
      have hl := H1.2.2.2.2
      have H2' : RC F2 I t n (sk t n a + ([97, 110, 100] : List Nat).length) o (l ++ c) := H1.at f2 H2 (by omega)
      have f12 := f1.c.tr f2.c
      rw [lpS_s e] at ks kx
      exact lm_turn (x := 9) (fun F3 L3 I3 J3 => AtM G mX9_readAll (Rv + 1) ad o9 σ0 Q 4 [(0, .ref o9)] [] F3 L3 I3 J3) hn hP hg (Nat.le_refl _) (by omega) rfl H2' (by show _ ≤ _ + 3; omega) (fun c2 a2 h2 F3 I3 H3 f3 i3 => by
        rw [h2, bnd_r] at ks kx
        have g := hg _ wl c2 a2 h2
        have l9 : ([97, 110, 100] : List Nat).length = 3 := rfl
        exact ih ad o9 σ0 F3 L I3 J Q a2 l _ (by omega) H3 (fun cs a' h4 F' I' y1 y2 y3 => ks cs a' h4 F' I' y1 ((f12.tr f3).tr y2) (i3.tr y3)) (fun w p h4 F' I' a' y1 y2 y3 => kx w p h4 F' I' a' y1 ((f12.tr f3).tr y2) (i3.tr y3))) (fun w p h2 F3 I3 a' hX f3 i3 => hd_all (by omega) hX.bad (kx w p (by rw [h2, bnd_l]) F3 I3 a' hX (f12.tr f3) i3))
theorem m_all {G : GC} {Rv n o : Nat} {t : Nat → Nat} {v : Nat → PR CS} (hn : n ≤ 150) (hg : Gd n true v) (hP : PM G mX9_readOne Rv n o t v) (h7 : 8 ≤ Rv) : PM G mX9_readAll (Rv + 1) n o t (allOf t n v) := by
  intro ad o9 F L I J Q a l H ks kx
  exact eX9_readAll (fun σ0 => bX9_readAll_0 (lm_first hP hg (m_allL hn hg hP h7 _) (fun F' I' h k => hd_all (by omega) h k) (Nat.le_refl _) H ks kx))
theorem m_anyL {G : GC} {Rv n o : Nat} {t : Nat → Nat} {v : Nat → PR CS} (hn : n ≤ 150) (hg : Gd n true v) (hP : PM G mX9_readAll Rv n o t v) (h7 : 8 ≤ Rv) {R : Nat} (hR : Rv + 1 ≤ R) : ∀ f, LM G mX9_readAny R n o f t v (opW t n [111, 114] 10) := by
  intro f
  induction f with
  | zero =>
    intro ad o9 σ0 F L I J Q a l c hf H
    have := H.le
    omega
  | succ f ih =>
    intro ad o9 σ0 F L I J Q a l c hf H ks kx
    have ha := H.le
    have hs2 := sk_b (t := t) ha
    refine bX9_readAny_4 ⟨by omega, w_fineY H.f5 ⟨_, rfl, fun z => absurd z (by decide), fun _ => ⟨by omega, w_wordC H (fun F1 H1 f1 => ⟨_, rfl, by omega, w_of (i := 60) (w := [111, 114]) rfl rfl (by decide) (by decide) ⟨_, rfl, fun z => ?_, fun z => ⟨by omega, w_pass H1.1 (fun F2 H2 f2 => ⟨rfl, ?_⟩)⟩⟩⟩)⟩⟩⟩
    · have ns : ¬ wd t n (sk t n a) = [111, 114] := fun w => z ((wq (by decide) (by decide) (by decide)).mpr w)
      exact ks c _ (lpS_n (opW_n ns)) F1 I H1 f1.c Ic.rf
    · have hs := (wq (by decide) (by decide) (by decide)).mp z
      have e := opW_y (x := 10) hs
      have wl := wd_le (t := t) hs2.2.1
      rw [hs] at H2 wl
      have hl := H1.2.2.2.2
      have H2' : RC F2 I t n (sk t n a + ([111, 114] : List Nat).length) o (l ++ c) := H1.at f2 H2 (by omega)
      have f12 := f1.c.tr f2.c
      rw [lpS_s e] at ks kx
      exact lm_turn (x := 10) (fun F3 L3 I3 J3 => AtM G mX9_readAny R ad o9 σ0 Q 4 [(0, .ref o9)] [] F3 L3 I3 J3) hn hP hg hR (by omega) rfl H2' (by show _ ≤ _ + 2; omega) (fun c2 a2 h2 F3 I3 H3 f3 i3 => by
        rw [h2, bnd_r] at ks kx
        have g := hg _ wl c2 a2 h2
        have l9 : ([111, 114] : List Nat).length = 2 := rfl
        exact ih ad o9 σ0 F3 L I3 J Q a2 l _ (by omega) H3 (fun cs a' h4 F' I' y1 y2 y3 => ks cs a' h4 F' I' y1 ((f12.tr f3).tr y2) (i3.tr y3)) (fun w p h4 F' I' a' y1 y2 y3 => kx w p h4 F' I' a' y1 ((f12.tr f3).tr y2) (i3.tr y3))) (fun w p h2 F3 I3 a' hX f3 i3 => hd_any (by omega) hX.bad (kx w p (by rw [h2, bnd_l]) F3 I3 a' hX (f12.tr f3) i3))
theorem m_any {G : GC} {Rv n o : Nat} {t : Nat → Nat} {v : Nat → PR CS} (hn : n ≤ 150) (hg : Gd n true v) (hP : PM G mX9_readOne Rv n o t v) (h7 : 8 ≤ Rv) {R : Nat} (hR : Rv + 2 ≤ R) : PM G mX9_readAny R n o t (anyOf t n v) := by
  intro ad o9 F L I J Q a l H ks kx
  exact eX9_readAny (fun σ0 => bX9_readAny_0 (lm_first (m_all hn hg hP h7) (all_gd hg) (m_anyL hn (all_gd hg) (m_all hn hg hP h7) (by omega) (by omega) _) (fun F' I' h k => hd_any (by omega) h k) (by omega) H ks kx))
theorem m_one {G : GC} {n o d : Nat} {t : Nat → Nat} (hn : n ≤ 150) (ho : o + d = 6) (ih : ∀ d', d = d' + 1 → PM G mX9_readOne (14 + 3 * d') n (o + 1) t (pOne t n d')) : PM G mX9_readOne (14 + 3 * d) n o t (pOne t n d) := by
  intro ad o9 F L I J Q a l H ks kx
  have ha := H.le
  have hs := sk_b (t := t) ha
  have t8 := H.t8
  have z91 : nI (hv t n (sk t n a)) = 91 ↔ sg t n 91 a := hv_s t8 (c := 91) rfl (by decide) (by decide)
  refine eX9_readOne (fun σ0 => bX9_readOne_0 ⟨by omega, w_fineY H.f5 ⟨_, rfl, fun _ => ⟨by omega, w_hereC H (fun F1 H1 f1 => ⟨_, rfl, fun z => ⟨by omega, w_wordC H1 (fun F2 H2 f2 => ⟨_, rfl, by omega, w_of (i := 52) (w := [110, 111, 116]) rfl rfl (by decide) (by decide) ?_⟩)⟩, fun z => ?_⟩)⟩, fun z => absurd z (by decide)⟩⟩)
  · have n91 : ¬ sg t n 91 a := fun w => z (z91.mpr w)
    rw [sk_sk ha] at H2 ⊢
    have f12 := f1.tr f2
    have hl := H2.2.2.2.2
    have zn : nI (wv (wd t n (sk t n a))) = nI (pkw [110, 111, 116]) ↔ wd t n (sk t n a) = [110, 111, 116] := wq (by decide) (by decide) (by decide)
    refine ⟨_, rfl, fun y => ?_, fun y => ?_⟩
    · rw [pOne_c (fun w => y (zn.mpr w)) n91] at ks kx
      exact m_cmp hn ho (Nat.le_refl _) ha H2 (fun cs a' h4 F' I' y1 y2 y3 => ks cs a' h4 F' I' y1 (f12.c.tr y2) y3) (fun w p h4 F' I' a' y1 y2 y3 => kx w p h4 F' I' a' y1 (f12.c.tr y2) y3)
    · have y1 := zn.mp y
      have wl := wd_le (t := t) hs.2.1
      rw [y1] at wl
      have wl3 : sk t n a + 3 ≤ n := wl
      refine ⟨by omega, w_opens (b := 3) H2.1 H2.2.1 (by omega) rfl wl3 (fun h6 F3 H3 h7 h28 f3 => ⟨rfl, ?_⟩) (fun h6 F3 H3 f3 => ⟨rfl, 4, by omega, mf_one (by omega) H3.bad ⟨rfl, fun F4' e4 => ?_⟩⟩)⟩
      · cases d with
        | zero => exact absurd ho (by omega)
        | succ d =>
          rw [pOne_n y1] at ks kx
          have H3' : RC F3 I t n (sk t n a + 3) (o + 1) l := ⟨H3, h7, h28.trans H2.2.2.1, H2.2.2.2.1, by omega⟩
          have f13 := f12.c.tr f3
          refine ⟨14 + 3 * d, by omega, ih d rfl _ _ _ _ _ _ _ _ _ H3' (fun cs a1 h1 F4' I4 H4 f4 i4 => ⟨rfl, fun F5 e5 => ⟨by omega, ?_⟩⟩) (fun w p h1 F4' I4 a' H4 f4 i4 => ⟨rfl, fun F5 e5 => ⟨by omega, ?_⟩⟩)⟩
          · obtain ⟨x1, x2⟩ := RC.o7 (o := o) (l := l ++ cs) H4.1 H4.2.1 H4.2.2.1 H4.2.2.2.1 H4.2.2.2.2
            rw [← e5] at x1 x2
            have g := one_gd d _ wl3 cs a1 h1
            have el : (l ++ cs).length = l.length + cs.length := by rw [List.length_append]
            have e9 : l ++ cs ++ [(8, (0 : Int32))] = l ++ (cs ++ [(8, 0)]) := by simp [List.append_assoc]
            refine w_emit (x := 8) x1.1 x1.2.1 x1.2.2.1 x1.2.2.2.1 (by omega) (by omega) rfl (fun F6' I6 H6 f6 i6 => ⟨rfl, ?_⟩)
            rw [e9] at H6
            exact ks _ a1 (by rw [h1, bnd_r]) F6' I6 H6 (((f13.tr f4).tr x2).tr f6) (i4.tr i6)
          · obtain ⟨x1, x2, -⟩ := H4.o7 (v := F4' 7 - 1)
            rw [← e5] at x1 x2
            exact w_emitN x1.bad ⟨rfl, kx w p (by rw [h1, bnd_l]) F5 I4 a' x1 ((f13.tr f4).tr x2) i4⟩
      · have d0 : d = 0 := by omega
        subst d0
        obtain ⟨x1, x2, -⟩ := H3.o7 (v := F3 7 - 1)
        rw [← e4] at x1 x2
        exact ⟨by omega, w_emitN x1.bad ⟨rfl, kx _ _ (pOne_0 (Or.inl y1)) F4' I _ x1 ((f12.c.tr f3).tr x2) Ic.rf⟩⟩
  · have h91 := z91.mp z
    have hl := H1.2.2.2.2
    have nn : ¬ wd t n (sk t n a) = [110, 111, 116] := fun w => by
      rw [wd_nil (fun u => by
        have := u.2.1
        have := h91.2
        omega)] at w
      cases w
    refine ⟨by omega, w_opens (b := 1) H1.1 H1.2.1 (by omega) rfl h91.1 (fun h6 F2 H2 h7 h28 f2 => ⟨rfl, ?_⟩) (fun h6 F2 H2 f2 => ⟨rfl, 6, by omega, mf_any (by omega) H2.bad ⟨rfl, by omega, w_signN H2.bad ⟨rfl, fun F3 e3 => ?_⟩⟩⟩)⟩
    · cases d with
      | zero => exact absurd ho (by omega)
      | succ d =>
        have hP := m_any (R := 14 + 3 * d + 2) hn (one_gd d) (ih d rfl) (by omega) (Nat.le_refl _)
        have vg := (any_gd (t := t) (one_gd (t := t) (n := n) d))
        rw [pOne_b nn h91] at ks kx
        have H2' : RC F2 I t n (sk t n a + 1) (o + 1) l := ⟨H2, h7, h28.trans H1.2.2.1, H1.2.2.2.1, by omega⟩
        have f12 := f1.c.tr f2
        refine ⟨14 + 3 * d + 2, by omega, hP _ _ _ _ _ _ _ _ _ H2' (fun cs a1 h1 F3 I3 H3 f3 i3 => ⟨rfl, by omega, ?_⟩) (fun w p h1 F3 I3 a' H3 f3 i3 => ⟨rfl, by omega, w_signN H3.bad ⟨rfl, fun F4' e4 => ?_⟩⟩)⟩
        · rw [h1, bnd_r] at ks kx
          have g := vg _ h91.1 cs a1 h1
          have hl3 := H3.2.2.2.2
          have hs1 := sk_b (t := t) H3.le
          refine w_sign (c := 93) H3.1 rfl (by decide) (by decide) (fun w F4' H4 f4 => ⟨rfl, fun F5 e5 => ?_⟩) (fun w F4' a' H4 f4 => ⟨rfl, fun F5 e5 => ?_⟩)
          · obtain ⟨y1, y2⟩ := RC.o7 (o := o) (l := l ++ cs) H4 ((f4 7 (by decide)).trans H3.2.1) ((f4 28 (by decide)).trans H3.2.2.1) H3.2.2.2.1 (by omega)
            rw [← e5] at y1 y2
            exact ks cs _ (by rw [sgU_y w, bnd_r]) F5 I3 y1 (((f12.tr f3).tr f4.c).tr y2) i3
          · obtain ⟨y1, y2, -⟩ := H4.o7 (v := F4' 7 - 1)
            rw [← e5] at y1 y2
            exact kx _ _ (by rw [sgU_n w, bnd_l]) F5 I3 a' y1 (((f12.tr f3).tr f4.c).tr y2) i3
        · obtain ⟨y1, y2, -⟩ := H3.o7 (v := F3 7 - 1)
          rw [← e4] at y1 y2
          exact kx w p (by rw [h1, bnd_l]) F4' I3 a' y1 ((f12.tr f3).tr y2) i3
    · have d0 : d = 0 := by omega
      subst d0
      obtain ⟨y1, y2, -⟩ := H2.o7 (v := F2 7 - 1)
      rw [← e3] at y1 y2
      exact kx _ _ (pOne_0 (Or.inr h91)) F3 I _ y1 ((f1.c.tr f2).tr y2) Ic.rf
theorem m_ones {G : GC} {n : Nat} {t : Nat → Nat} (hn : n ≤ 150) : ∀ d o, o + d = 6 → PM G mX9_readOne (14 + 3 * d) n o t (pOne t n d)
  | 0, o, h => m_one hn h (fun d' e => by omega)
  | d + 1, o, h => m_one hn h (fun d' e => by
    have e2 : d = d' := by omega
    subst e2
    exact m_ones hn d (o + 1) (by omega))
theorem m_anys {G : GC} {n : Nat} {t : Nat → Nat} (hn : n ≤ 150) : PM G mX9_readAny 150 n 0 t (pAny t n) := m_any hn (one_gd 6) (m_ones hn 6 0 rfl) (by decide) (by decide)
