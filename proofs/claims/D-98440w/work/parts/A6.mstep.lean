/-! Part B: the reference's reader of habits: steps -/
def Fh (F F' : Nat → Int32) : Prop := ∀ j, j ≠ 4 → j ≠ 5 → j ≠ 6 → j ≠ 7 → j ≠ 28 → j ≠ 29 → F' j = F j
def Ih (I I' : Nat → Nat → Int32) : Prop := ∀ a, a ≠ 20 → a ≠ 21 → a ≠ 22 → I' a = I a
theorem Fh.rf {F : Nat → Int32} : Fh F F := fun _ _ _ _ _ _ _ => rfl
theorem Ih.rf {I : Nat → Nat → Int32} : Ih I I := fun _ _ _ _ => rfl
theorem Fh.tr {F F' F'' : Nat → Int32} (h : Fh F F') (h2 : Fh F' F'') : Fh F F'' := fun j a b c d e f => (h2 j a b c d e f).trans (h j a b c d e f)
theorem Ih.tr {I I' I'' : Nat → Nat → Int32} (h : Ih I I') (h2 : Ih I' I'') : Ih I I'' := fun a b c d => (h2 a b c d).trans (h a b c d)
theorem Fc.h {F F' : Nat → Int32} (h : Fc F F') : Fh F F' := fun j a b c d e _ => h j a b c d e
theorem Ic.h {I I' : Nat → Nat → Int32} (h : Ic I I') : Ih I I' := fun a b c _ => h a b c
/-- the steps so far; their codes lie in l -/
def ST (I : Nat → Nat → Int32) (L : List StT) (l : CS) : Prop := ∃ fr : Nat → Nat, ∀ s S, L[s]? = some S → stOK S ∧ I 22 (4 * s) = nI S.1 ∧ I 22 (4 * s + 1) = nI S.2.1 ∧ I 22 (4 * s + 2) = nI (fr s) ∧ I 22 (4 * s + 3) = nI (fr s + S.2.2.length) ∧ fr s + S.2.2.length ≤ l.length ∧ (∀ i q, S.2.2[i]? = some q → l[fr s + i]? = some q) ∧ tOK S.2.2
theorem ST.app {I I' : Nat → Nat → Int32} {L : List StT} {l : CS} (h : ST I L l) (c : CS) (hI : I' 22 = I 22) : ST I' L (l ++ c) := by
  obtain ⟨fr, h⟩ := h
  refine ⟨fr, fun s S hs => ?_⟩
  obtain ⟨a1, a2, a3, a4, a5, a6, a7, a8⟩ := h s S hs
  refine ⟨a1, by rw [hI]; exact a2, by rw [hI]; exact a3, by rw [hI]; exact a4, by rw [hI]; exact a5, by rw [List.length_append]; omega, fun i q hq => ?_, a8⟩
  have hi := (List.getElem?_eq_some_iff.mp hq).1
  rw [List.getElem?_append_left (by omega)]
  exact a7 i q hq
def HS (F : Nat → Int32) (I : Nat → Nat → Int32) (t : Nat → Nat) (n a : Nat) (l : CS) (L : List StT) : Prop := RC F I t n a 0 l ∧ F 29 = nI L.length ∧ L.length ≤ 8 ∧ ST I L l
theorem mul4 (m k : Nat) : (4 : Int32) * nI m + nI k = nI (4 * m + k) := by
  rw [show (4 : Int32) = nI 4 from rfl, pk_mul, nI_add]
theorem mul4' (m : Nat) : (4 : Int32) * nI m = nI (4 * m) := by
  rw [show (4 : Int32) = nI 4 from rfl, pk_mul]
/-- the four numbers of a step -/
theorem m_115 {L : Nat → Int64} {I : Nat → Nat → Int32} {J : Nat → Nat → Int64} {Q : MPost} {m : Nat} {x1 x2 x3 : Int32} {F1 : Nat → Int32} (hm : m < 8) (h29 : F1 29 = nI m) (k : ∀ I4 : Nat → Nat → Int32, (∀ a, a ≠ 22 → I4 a = I a) → (∀ j, (j < 4 * m ∨ 4 * m + 4 ≤ j) → I4 22 j = I 22 j) → I4 22 (4 * m) = x1 → I4 22 (4 * m + 1) = x2 → I4 22 (4 * m + 2) = x3 → I4 22 (4 * m + 3) = F1 28 → Q none (fU F1 29 (nI (m + 1))) L I4 J) :
    vp_in ((4 * (F1 29))) 32 ∧ (∀ I1_1 : Nat → Nat → Int32, I1_1 = aU I 22 ((4 * (F1 29))).toNatClampNeg x1 → vp_in (((4 * (F1 29)) + 1)) 32 ∧ (∀ I1_2 : Nat → Nat → Int32, I1_2 = aU I1_1 22 (((4 * (F1 29)) + 1)).toNatClampNeg x2 → vp_in (((4 * (F1 29)) + 2)) 32 ∧ (∀ I1_3 : Nat → Nat → Int32, I1_3 = aU I1_2 22 (((4 * (F1 29)) + 2)).toNatClampNeg x3 → vp_in (((4 * (F1 29)) + 3)) 32 ∧ (∀ I1_4 : Nat → Nat → Int32, I1_4 = aU I1_3 22 (((4 * (F1 29)) + 3)).toNatClampNeg (F1 28) → (∀ F1_5 : Nat → Int32, F1_5 = fU F1 29 (((F1 29) + 1)) → Q none F1_5 L I1_4 J))))) := by
  rw [h29, mul4', nI_1, show (2 : Int32) = nI 2 from rfl, show (3 : Int32) = nI 3 from rfl, nI_add, nI_add, nI_1, nI_clamp (show 4 * m < 2 ^ 31 by omega), nI_clamp (show 4 * m + 1 < 2 ^ 31 by omega), nI_clamp (show 4 * m + 2 < 2 ^ 31 by omega), nI_clamp (show 4 * m + 3 < 2 ^ 31 by omega)]
  refine ⟨vp_in_nI (by omega) (by decide), fun I1 e1 => ⟨vp_in_nI (by omega) (by decide), fun I2 e2 => ⟨vp_in_nI (by omega) (by decide), fun I3 e3 => ⟨vp_in_nI (by omega) (by decide), fun I4 e4 F5 e5 => ?_⟩⟩⟩⟩
  rw [e5]
  have at9 : ∀ j, I4 22 j = if j = 4 * m + 3 then F1 28 else if j = 4 * m + 2 then x3 else if j = 4 * m + 1 then x2 else if j = 4 * m then x1 else I 22 j := fun j => by
    rw [e4, gU_at, e3, gU_at, e2, gU_at, e1, gU_at]
  refine k I4 (fun a ha => by rw [e4, gU_ne ha, e3, gU_ne ha, e2, gU_ne ha, e1, gU_ne ha]) (fun j hj => ?_) ?_ ?_ ?_ ?_
  · rw [at9, if_neg (by omega), if_neg (by omega), if_neg (by omega), if_neg (by omega)]
  · rw [at9, if_neg (by omega), if_neg (by omega), if_neg (by omega), if_pos rfl]
  · rw [at9, if_neg (by omega), if_neg (by omega), if_pos rfl]
  · rw [at9, if_neg (by omega), if_pos rfl]
  · rw [at9, if_pos rfl]
theorem RS.f29 {F : Nat → Int32} {I : Nat → Nat → Int32} {t : Nat → Nat} {n a : Nat} {e : Option (Nat × Nat)} {v : Int32} (h : RS F I t n a e) : RS (fU F 29 v) I t n a e := by
  obtain ⟨q1, q2, q3, q5, q6, q7, q8, q9⟩ := h
  exact ⟨(fU_ne (by decide)).trans q1, (fU_ne (by decide)).trans q2, fun z => (fU_ne (by decide)).trans (q3 z), fun w p z => ⟨(fU_ne (by decide)).trans (q5 w p z).1, (fU_ne (by decide)).trans (q5 w p z).2.1, (q5 w p z).2.2⟩, q6, q7, q8, q9⟩
/-- a step ends, though something is wrong -/
theorem m_115N {G : GC} {ad : Nat → Nat} {o : Nat} {F : Nat → Int32} {L : Nat → Int64} {I : Nat → Nat → Int32} {J : Nat → Nat → Int64} {σ0 : PS} {Q : MPost} {t : Nat → Nat} {n a m : Nat} {e : Nat × Nat} {x1 x2 x3 : Int32} (H : RS F I t n a (some e)) (hm : m < 8) (h29 : F 29 = nI m) (k : ∀ F' I', RS F' I' t n a (some e) → Fh F F' → Ih I I' → Q none F' L I' J) : AtM G mX9_readStep 151 ad o σ0 Q 115 [(0, .ref o), (1, .int x1), (2, .int x2), (3, .int x3)] [] F L I J := by
  refine bX9_readStep_115 (w_signN H.bad ⟨rfl, m_115 hm h29 (fun I4 n22 _ _ _ _ _ => ?_)⟩)
  exact k _ I4 (H.f29.i (n22 9 (by decide))) (fun j _ _ _ _ _ z => fU_ne z) (fun a _ _ z => n22 a z)
theorem m_115Y {G : GC} {ad : Nat → Nat} {o : Nat} {F : Nat → Int32} {L : Nat → Int64} {I : Nat → Nat → Int32} {J : Nat → Nat → Int64} {σ0 : PS} {Q : MPost} {t : Nat → Nat} {n a k w : Nat} {c l : CS} {LL : List StT} (H : RC F I t n a 0 (l ++ c)) (h29 : F 29 = nI LL.length) (hL : LL.length < 8) (hS : ST I LL l) (hk : k < 8) (hw : w ≤ 16) (hc : tOK c) (ks : sg t n 59 a → ∀ F' I', HS F' I' t n (sk t n a + 1) (l ++ c) (LL ++ [st9 k w c]) → Fh F F' → Ih I I' → Q none F' L I' J) (kx : ¬ sg t n 59 a → ∀ F' I' a', RS F' I' t n a' (some (1, sk t n a)) → Fh F F' → Ih I I' → Q none F' L I' J) : AtM G mX9_readStep 151 ad o σ0 Q 115 [(0, .ref o), (1, .int (nI k)), (2, .int (nI w)), (3, .int (nI l.length))] [] F L I J := by
  have hs := sk_b (t := t) H.le
  have hl := H.2.2.2.2
  refine bX9_readStep_115 (w_sign (c := 59) H.1 rfl (by decide) (by decide) (fun z F1 H1 f1 => ⟨rfl, m_115 hL ((f1 29 (by decide)).trans h29) (fun I4 n22 old q0 q1 q2 q3 => ?_)⟩) (fun z F1 a' H1 f1 => ⟨rfl, m_115 hL ((f1 29 (by decide) (by decide) (by decide)).trans h29) (fun I4 n22 _ _ _ _ _ => ?_)⟩))
  · have lk : (LL ++ [st9 k w c]).length = LL.length + 1 := by simp
    have e28 : F1 28 = nI (l.length + c.length) := by
      rw [f1 28 (by decide), H.2.2.1, List.length_append]
    obtain ⟨fr, hS⟩ := hS
    refine ks z _ I4 ⟨⟨H1.f29.i (n22 9 (by decide)), (fU_ne (by decide)).trans ((f1 7 (by decide)).trans H.2.1), (fU_ne (by decide)).trans ((f1 28 (by decide)).trans H.2.2.1), fun i q hi => ?_, by omega⟩, by rw [fU_at, lk], by omega, fun s => if s = LL.length then l.length else fr s, fun s S hs9 => ?_⟩ (fun j a b c d e f => (fU_ne f).trans (f1 j a)) (fun a _ _ z => n22 a z)
    · rw [n22 20 (by decide), n22 21 (by decide)]
      exact H.2.2.2.1 i q hi
    · by_cases y : s = LL.length
      · rw [y, List.getElem?_append_right (Nat.le_refl _), Nat.sub_self] at hs9
        have e9 : st9 k w c = S := Option.some.inj hs9
        rw [← e9, y]
        dsimp only
        rw [if_pos rfl]
        refine ⟨⟨by show k ≤ 7; omega, hw⟩, q0, q1, q2, q3.trans e28, by
          rw [List.length_append]
          exact Nat.le_refl _, fun i q hq => ?_, hc⟩
        rw [List.getElem?_append_right (by omega), show l.length + i - l.length = i by omega]
        exact hq
      · have il : s < LL.length := by
          have := (List.getElem?_eq_some_iff.mp hs9).1
          omega
        rw [List.getElem?_append_left il] at hs9
        obtain ⟨a1, a2, a3, a4, a5, a6, a7, a8⟩ := hS s S hs9
        dsimp only
        rw [if_neg y]
        refine ⟨a1, (old _ (by omega)).trans a2, (old _ (by omega)).trans a3, (old _ (by omega)).trans a4, (old _ (by omega)).trans a5, by rw [List.length_append]; omega, fun i q hq => ?_, a8⟩
        have hi := (List.getElem?_eq_some_iff.mp hq).1
        rw [List.getElem?_append_left (by omega)]
        exact a7 i q hq
  · exact kx z _ I4 a' (H1.f29.i (n22 9 (by decide))) (fun j a b c _ _ f => (fU_ne f).trans (f1 j a b c)) (fun a _ _ z => n22 a z)
/-- from a step's test on -/
theorem m_82 {G : GC} {ad : Nat → Nat} {o : Nat} {F : Nat → Int32} {L : Nat → Int64} {I : Nat → Nat → Int32} {J : Nat → Nat → Int64} {σ0 : PS} {Q : MPost} {t : Nat → Nat} {n a k w : Nat} {l : CS} {LL : List StT} (hn : n ≤ 150) (H : HS F I t n a l LL) (hL : LL.length ≠ 8) (hk : k < 8) (hw : w ≤ 16) (ks : ∀ S a', bnd (stF t n a) (fun c a2 => stE t n k w c a2) = .inr (S, a') → ∀ F' I' l', HS F' I' t n a' l' (LL ++ [S]) → Fh F F' → Ih I I' → Q none F' L I' J) (kx : ∀ x p, bnd (stF t n a) (fun c a2 => stE t n k w c a2) = .inl (x, p) → ∀ F' I' a', RS F' I' t n a' (some (x, p)) → Fh F F' → Ih I I' → Q none F' L I' J) : AtM G mX9_readStep 151 ad o σ0 Q 82 [(0, .ref o), (1, .int (nI k)), (2, .int (nI w))] [] F L I J := by
  obtain ⟨HC, h29, hL8, hS⟩ := H
  have ha := HC.le
  have hs := sk_b (t := t) ha
  have hl := HC.2.2.2.2
  refine bX9_readStep_82 (w_fineY HC.f5 ⟨_, rfl, fun z => absurd z (by decide), fun _ => w_wordC HC (fun F1 H1 f1 => ⟨_, rfl, w_of (i := 51) (w := [105, 102]) rfl rfl (by decide) (by decide) ⟨_, rfl, fun z => ?_, fun z => w_pass H1.1 (fun F2 H2 f2 => ⟨rfl, ?_⟩)⟩⟩)⟩)
  · have zn : ¬ wd t n (sk t n a) = [105, 102] := fun w => z ((wq (by decide) (by decide) (by decide)).mpr w)
    have e := stF_n zn
    rw [e, bnd_r] at ks kx
    rw [HC.2.2.1]
    have e0 : l ++ ([] : CS) = l := List.append_nil l
    have ee : sk t n (sk t n a) = sk t n a := sk_sk ha
    refine m_115Y (c := []) (by rw [e0]; exact H1) ((f1 29 (by decide)).trans h29) (by omega) hS hk hw (Or.inl rfl) (fun y F' I' x1 x2 x3 => ?_) (fun y F' I' a' x1 x2 x3 => ?_)
    · exact ks _ _ (stE_y y) F' I' _ x1 (f1.c.h.tr x2) x3
    · exact kx _ _ (stE_n y) F' I' a' x1 (f1.c.h.tr x2) x3
  · have zy := (wq (by decide) (by decide) (by decide)).mp z
    have e := stF_y zy
    have wl := wd_le (t := t) hs.2.1
    rw [zy] at H2 wl
    have wl2 : sk t n a + 2 ≤ n := wl
    rw [e] at ks kx
    have H2' : RC F2 I t n (sk t n a + 2) 0 l := H1.at f2 H2 (by omega)
    have f12 := (f1.c.tr f2.c)
    refine m_anys hn _ _ _ _ _ _ _ _ _ H2' (fun c a2 h2 F3 I3 H3 f3 i3 => ⟨rfl, ?_⟩) (fun x p h2 F3 I3 a' H3 f3 i3 => ⟨rfl, ?_⟩)
    · rw [h2, bnd_r] at ks kx
      have g := pAny_gd _ wl2 c a2 h2
      have f13 := f12.tr f3
      rw [HC.2.2.1]
      refine m_115Y (c := c) H3 ((f13 29 (by decide) (by decide) (by decide) (by decide) (by decide)).trans h29) (by omega) (by
        obtain ⟨fr, q⟩ := hS
        refine ⟨fr, ?_⟩
        rw [i3 22 (by decide) (by decide)]
        exact q) hk hw (Or.inr ⟨_, g.2.2⟩) (fun y F' I' x1 x2 x3 => ?_) (fun y F' I' a' x1 x2 x3 => ?_)
      · exact ks _ _ (stE_y y) F' I' _ x1 (f13.h.tr x2) (i3.h.tr x3)
      · exact kx _ _ (stE_n y) F' I' a' x1 (f13.h.tr x2) (i3.h.tr x3)
    · have f13 := f12.tr f3
      exact m_115N H3 (show LL.length < 8 by omega) ((f13 29 (by decide) (by decide) (by decide) (by decide) (by decide)).trans h29) (fun F' I' x1 x2 x3 => kx x p (by rw [h2, bnd_l]) F' I' _ x1 (f13.h.tr x2) (i3.h.tr x3))
theorem m_82N {G : GC} {ad : Nat → Nat} {o : Nat} {F : Nat → Int32} {L : Nat → Int64} {I : Nat → Nat → Int32} {J : Nat → Nat → Int64} {σ0 : PS} {Q : MPost} {t : Nat → Nat} {n a m : Nat} {e : Nat × Nat} {x1 x2 : Int32} (H : RS F I t n a (some e)) (hm : m < 8) (h29 : F 29 = nI m) (k : ∀ F' I', RS F' I' t n a (some e) → Fh F F' → Ih I I' → Q none F' L I' J) : AtM G mX9_readStep 151 ad o σ0 Q 82 [(0, .ref o), (1, .int x1), (2, .int x2)] [] F L I J :=
  bX9_readStep_82 (w_fineN H.bad ⟨_, rfl, fun _ => m_115N H hm h29 k, fun z => absurd rfl z⟩)
theorem HS.at {F F' : Nat → Int32} {I : Nat → Nat → Int32} {t : Nat → Nat} {n a a' : Nat} {l : CS} {LL : List StT} (H : HS F I t n a l LL) (f : F4 F F') (hR : RS F' I t n a' none) (ha : l.length ≤ a') : HS F' I t n a' l LL := ⟨H.1.at f hR ha, (f 29 (by decide)).trans H.2.1, H.2.2⟩
theorem m_step {G : GC} {ad : Nat → Nat} {o : Nat} {F : Nat → Int32} {L : Nat → Int64} {I : Nat → Nat → Int32} {J : Nat → Nat → Int64} {Q : MPost} {t : Nat → Nat} {n a : Nat} {l : CS} {LL : List StT} (hn : n ≤ 150) (H : HS F I t n a l LL) (ks : ∀ S a', pStep t n a LL.length = .inr (S, a') → ∀ F' I' l', HS F' I' t n a' l' (LL ++ [S]) → Fh F F' → Ih I I' → Q none F' L I' J) (kx : ∀ x p, pStep t n a LL.length = .inl (x, p) → ∀ F' I' a', RS F' I' t n a' (some (x, p)) → Fh F F' → Ih I I' → Q none F' L I' J) : CallM G mX9_readStep 151 ad o [.ref o] F L I J Q := by
  have ha := H.1.le
  have hs := sk_b (t := t) ha
  have hL8 := H.2.2.1
  refine eX9_readStep (fun σ0 => bX9_readStep_0 (w_wordC H.1 (fun F1 H1 f1 => ⟨_, rfl, w_actOf ⟨_, rfl, ?_⟩⟩)))
  have hl := H1.2.2.2.2
  have H1' : HS F1 I t n (sk t n a) l LL := H.at f1 H1.1 hl
  have bad : ∀ (w : Nat) (z : Int32), pStep t n a LL.length = .inl (w, sk t n a) → ∀ F2, RS F2 I t n (sk t n a) (some (w, sk t n a)) → F6 F1 F2 → AtM G mX9_readStep 151 ad o σ0 Q 43 [(0, .ref o), (1, .int z)] [] F2 L I J := fun w z e F2 H2 f2 => bX9_readStep_43 (w_fineN H2.bad ⟨_, rfl, fun y => absurd rfl y, fun _ => kx _ _ e F2 I _ H2 (f1.c.tr f2.c).h Ih.rf⟩)
  cases hi : idx (wd t n (sk t n a)) acW 0 with
  | none =>
    refine ⟨fun z => absurd rfl z, fun _ => ?_⟩
    rw [H1.1.2.1]
    exact w_wrong (w := 1) H1.1 rfl rfl hs.2.1 (fun F2 H2 f2 _ => ⟨rfl, bad 1 _ (pStep_n hi) F2 H2 f2⟩)
  | some k =>
    have hk : k < 8 := (idx_lt hi).1
    have lp := idx_pos acW_pos hi
    have wl := wd_le (t := t) hs.2.1
    refine ⟨fun _ => ⟨fun z => ?_, fun z => ?_⟩, fun z => absurd z (m1_nI (by omega))⟩
    · have hL : LL.length ≠ 8 := fun w => z (by rw [H1'.2.1, w]; rfl)
      rw [pStep_k hi hL] at ks kx
      refine bX9_readStep_43 (w_fineY H1.f5 ⟨_, rfl, fun _ => w_pass H1.1 (fun F2 H2 f2 => ⟨rfl, ?_⟩), fun y => absurd y (by decide)⟩)
      have H2' := H1'.at f2 H2 (by omega)
      obtain ⟨m, hm⟩ : ∃ m, m = sk t n a + (wd t n (sk t n a)).length := ⟨_, rfl⟩
      rw [← hm] at H2' ks kx wl
      have hsm := sk_b (t := t) wl
      have hl2 := H2'.1.2.2.2.2
      refine w_wordC H2'.1 (fun F3 H3 f3 => ⟨_, rfl, w_of (i := 50) (w := [98, 121]) rfl rfl (by decide) (by decide) ⟨_, rfl, fun y => ?_, fun y => w_pass H3.1 (fun F4' H4 f4 => ⟨rfl, ?_⟩)⟩⟩)
      · have zn : ¬ wd t n (sk t n m) = [98, 121] := fun w => y ((wq (by decide) (by decide) (by decide)).mpr w)
        have e := stB_n zn
        have e2 : stW t n k m = bnd (stF t n (sk t n m)) (fun c a2 => stE t n k 0 c a2) := by
          unfold stW
          rw [e, bnd_r]
        rw [e2] at ks kx
        have f13 := ((f1.c.tr f2.c).tr f3.c).h
        exact m_82 (w := 0) hn (H2'.at f3 H3.1 H3.2.2.2.2) hL hk (Nat.zero_le _) (fun S a' h4 F' I' l' x1 x2 x3 => ks S a' h4 F' I' l' x1 (f13.tr x2) x3) (fun x p h4 F' I' a' x1 x2 x3 => kx x p h4 F' I' a' x1 (f13.tr x2) x3)
      · have zy := (wq (by decide) (by decide) (by decide)).mp y
        have e := stB_y zy
        have wl9 := wd_le (t := t) hsm.2.1
        rw [zy] at H4 wl9
        have wl2 : sk t n m + 2 ≤ n := wl9
        have hl3 := H3.2.2.2.2
        have H4' : HS F4' I t n (sk t n m + 2) l LL := (H2'.at f3 H3.1 H3.2.2.2.2).at f4 H4 (by omega)
        have f14 := ((f1.c.tr f2.c).tr f3.c).tr f4.c
        have ssm := sk_b (t := t) wl2
        refine w_number (lo := 1) (hi := 17) H4'.1.1 rfl (by decide) (by decide) y16 (fun q a1 h1 F5 H5 f5 => ⟨_, rfl, ?_⟩) (fun x p h1 F5 a' H5 f5 => ⟨_, rfl, ?_⟩)
        · rw [← e] at h1
          have g := stB_ge wl q a1 h1
          have g2 := nm_gd wl2 (by rw [← e]; exact h1)
          have e2 : stW t n k m = bnd (stF t n a1) (fun c a2 => stE t n k q c a2) := by
            unfold stW
            rw [h1, bnd_r]
          rw [e2] at ks kx
          have f15 := (f14.tr f5.c).h
          have hl4 := H4'.1.2.2.2.2
          exact m_82 (w := q) hn (H4'.at f5 H5 (by omega)) hL hk g.2.2 (fun S a' h4 F' I' l' x1 x2 x3 => ks S a' h4 F' I' l' x1 (f15.tr x2) x3) (fun x p h4 F' I' a' x1 x2 x3 => kx x p h4 F' I' a' x1 (f15.tr x2) x3)
        · rw [← e] at h1
          have e2 : stW t n k m = .inl (x, p) := by
            unfold stW
            rw [h1, bnd_l]
          have f15 := (f14.tr f5.c).h
          exact m_82N H5 (show LL.length < 8 by omega) ((f5 29 (by decide) (by decide) (by decide)).trans H4'.2.1) (fun F' I' x1 x2 x3 => kx x p e2 F' I' _ x1 (f15.tr x2) x3)
    · have hL : LL.length = 8 := (nI_eq (b := 8) (by omega) (by decide)).mp (by rw [H1'.2.1] at z; exact z)
      have e : pStep t n a LL.length = .inl (3, sk t n a) := by
        rw [hL]
        exact pStep_8 hi
      rw [H1.1.2.1]
      exact w_wrong (w := 3) H1.1 rfl rfl hs.2.1 (fun F2 H2 f2 _ => ⟨rfl, bad 3 _ e F2 H2 f2⟩)
