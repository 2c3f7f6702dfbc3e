/-! Part B: the reference's reader of an office: a clause -/
def Fo (F F' : Nat → Int32) : Prop := ∀ j, j ≠ 4 → j ≠ 5 → j ≠ 6 → j ≠ 16 → j ≠ 17 → F' j = F j
def Io (I I' : Nat → Nat → Int32) : Prop := ∀ a, a ≠ 10 → a ≠ 12 → a ≠ 13 → I' a = I a
theorem Fo.rf {F : Nat → Int32} : Fo F F := fun _ _ _ _ _ _ => rfl
theorem Io.rf {I : Nat → Nat → Int32} : Io I I := fun _ _ _ _ => rfl
theorem Fo.tr {F F' F'' : Nat → Int32} (h : Fo F F') (h2 : Fo F' F'') : Fo F F'' := fun j a b c d e => (h2 j a b c d e).trans (h j a b c d e)
theorem Io.tr {I I' I'' : Nat → Nat → Int32} (h : Io I I') (h2 : Io I' I'') : Io I I'' := fun a b c d => (h2 a b c d).trans (h a b c d)
theorem F6.o {F F' : Nat → Int32} (h : F6 F F') : Fo F F' := fun j a b c _ _ => h j a b c
/-- an office read so far -/
def OS (F : Nat → Int32) (I : Nat → Nat → Int32) (t : Nat → Nat) (n a : Nat) (S : OF) : Prop := RS F I t n a none ∧ (∀ i, i < 12 → I 10 i = nI (S.1 i)) ∧ F 16 = nI S.2.1 ∧ F 17 = nI S.2.2.1 ∧ ∀ j, j < S.2.2.1 → I 12 j = S.2.2.2.1 j ∧ I 13 j = S.2.2.2.2 j
theorem OS.at {F F' : Nat → Int32} {I : Nat → Nat → Int32} {t : Nat → Nat} {n a a' : Nat} {S : OF} (H : OS F I t n a S) (f : F4 F F') (hR : RS F' I t n a' none) : OS F' I t n a' S := ⟨hR, H.2.1, (f 16 (by decide)).trans H.2.2.1, (f 17 (by decide)).trans H.2.2.2.1, H.2.2.2.2⟩
theorem OS.le {F : Nat → Int32} {I : Nat → Nat → Int32} {t : Nat → Nat} {n a : Nat} {S : OF} (H : OS F I t n a S) : a ≤ n := H.1.2.2.2.2.2.2.2
/-- a number of the office -/
theorem OS.st {F : Nat → Int32} {I I' : Nat → Nat → Int32} {t : Nat → Nat} {n a j v : Nat} {S : OF} (H : OS F I t n a S) (e : I' = aU I 10 j (nI v)) : OS F I' t n a (oU S.1 j v, S.2) ∧ Io I I' := by
  have ne : ∀ a, a ≠ 10 → I' a = I a := fun a ha => by rw [e, gU_ne ha]
  refine ⟨⟨H.1.i (ne 9 (by decide)), fun i hi => ?_, H.2.2.1, H.2.2.2.1, fun k hk => ?_⟩, fun a x _ _ => ne a x⟩
  · rw [e, gU_at]
    show _ = nI (oU S.1 j v i)
    by_cases z : i = j
    · rw [if_pos z, z, oU_at]
    · rw [if_neg z, oU_ne z]
      exact H.2.1 i hi
  · rw [ne 12 (by decide), ne 13 (by decide)]
    exact H.2.2.2.2 k hk
theorem w_field {G : GC} {ad : Nat → Nat} {o : Nat} {F : Nat → Int32} {L : Nat → Int64} {I : Nat → Nat → Int32} {J : Nat → Nat → Int64} {Q : MPost} {t : Nat → Nat} {n a lo hi j : Nat} {x y : Int32} {S : OF} (H : OS F I t n a S) (hx : x = nI lo) (hlo : lo ≤ 1000) (hhi : hi ≤ 1000) (hy : ∀ v, v < 2 ^ 30 → (nI v ≤ y ↔ v < hi)) {R : PR OF} (hR : R = bnd (nm t n lo hi a) (fun v a1 => .inr ((oU S.1 j v, S.2), a1))) (ks : ∀ S' a', R = .inr (S', a') → ∀ F' I', OS F' I' t n a' S' → Fo F F' → Io I I' → Q none F' L I' J) (kx : ∀ w p, R = .inl (w, p) → ∀ F' I' a', RS F' I' t n a' (some (w, p)) → Fo F F' → Io I I' → Q none F' L I' J) : CallM G mX9_readNumber 4 ad o [.ref o, .int x, .int y] F L I J (mqI (fun rx F1 L1 I1 J1 => ∀ I2 : Nat → Nat → Int32, I2 = aU I1 10 j rx → Q none F1 L1 I2 J1)) := by
  subst hR
  refine w_number H.1 hx hlo hhi hy (fun v a1 h1 F1 H1 f1 => ⟨_, rfl, fun I2 e2 => ?_⟩) (fun w p h1 F1 a' H1 f1 => ⟨_, rfl, fun I2 e2 => ?_⟩)
  · obtain ⟨y1, y2⟩ := (H.at f1 H1).st e2
    exact ks _ a1 (by rw [h1, bnd_r]) F1 I2 y1 f1.six.o y2
  · exact kx w p (by rw [h1, bnd_l]) F1 I2 a' (H1.i (by rw [e2, gU_ne (by decide)])) f1.o (fun a x _ _ => by rw [e2, gU_ne x])
/-- five numbers -/
theorem m_193N {G : GC} {ad : Nat → Nat} {o : Nat} {F : Nat → Int32} {L : Nat → Int64} {I : Nat → Nat → Int32} {J : Nat → Nat → Int64} {σ0 : PS} {Q : MPost} {t : Nat → Nat} {n a : Nat} {e : Nat × Nat} (H : RS F I t n a (some e)) (k : ∀ I', RS F I' t n a (some e) → Io I I' → Q none F L I' J) : ∀ d i I', i + d = 5 → RS F I' t n a (some e) → Io I I' → AtM G mX9_readClause 8 ad o σ0 Q 193 [(0, .ref o), (2, .int (nI i))] [] F L I' J := by
  intro d
  induction d with
  | zero =>
    intro i I' hi H' io
    have hi : i = 5 := by omega
    subst hi
    exact bX9_readClause_193 ⟨fun _ => k I' H' io, fun z => absurd (by decide) z⟩
  | succ d ih =>
    intro i I' hi H' io
    refine bX9_readClause_193 ⟨fun z => absurd z (nI_ge (b := 5) (by omega) (by decide)), fun _ => w_numberN H'.bad ⟨_, rfl, ?_⟩⟩
    rw [show (7 : Int32) = nI 7 from rfl, nI_add]
    refine ⟨vp_in_nI (by omega) (by decide), fun I2 e2 v2 ev => ?_⟩
    rw [ev, nI_1]
    exact ih (i + 1) I2 (by omega) (H'.i (by rw [e2, gU_ne (by decide)])) (io.tr (fun a x _ _ => by rw [e2, gU_ne x]))
theorem m_193 {G : GC} {ad : Nat → Nat} {o : Nat} {L : Nat → Int64} {J : Nat → Nat → Int64} {σ0 : PS} {Q : MPost} {t : Nat → Nat} {n : Nat} : ∀ d i a S F I, i + d = 5 → OS F I t n a S → (∀ O a', pCost t n d (7 + i) S.1 a = .inr (O, a') → ∀ F' I', OS F' I' t n a' (O, S.2) → Fo F F' → Io I I' → Q none F' L I' J) → (∀ w p, pCost t n d (7 + i) S.1 a = .inl (w, p) → ∀ F' I' a', RS F' I' t n a' (some (w, p)) → Fo F F' → Io I I' → Q none F' L I' J) → AtM G mX9_readClause 8 ad o σ0 Q 193 [(0, .ref o), (2, .int (nI i))] [] F L I J := by
  intro d
  induction d with
  | zero =>
    intro i a S F I hi H ks kx
    have hi : i = 5 := by omega
    subst hi
    exact bX9_readClause_193 ⟨fun _ => ks S.1 a rfl F I H Fo.rf Io.rf, fun z => absurd (by decide) z⟩
  | succ d ih =>
    intro i a S F I hi H ks kx
    have e0 : pCost t n (d + 1) (7 + i) S.1 a = bnd (nm t n 0 100 a) (fun v a1 => pCost t n d (7 + i + 1) (oU S.1 (7 + i) v) a1) := rfl
    rw [e0] at ks kx
    refine bX9_readClause_193 ⟨fun z => absurd z (nI_ge (b := 5) (by omega) (by decide)), fun _ => w_number (lo := 0) (hi := 100) H.1 rfl (by decide) (by decide) y99 (fun v a1 h1 F1 H1 f1 => ⟨_, rfl, ?_⟩) (fun w p h1 F1 a' H1 f1 => ⟨_, rfl, ?_⟩)⟩
    · rw [show (7 : Int32) = nI 7 from rfl, nI_add, nI_clamp (show 7 + i < 2 ^ 31 by omega)]
      refine ⟨vp_in_nI (by omega) (by decide), fun I2 e2 v2 ev => ?_⟩
      rw [ev, nI_1]
      obtain ⟨y1, y2⟩ := (H.at f1 H1).st e2
      rw [h1, bnd_r] at ks kx
      exact ih (i + 1) a1 (oU S.1 (7 + i) v, S.2) F1 I2 (by omega) y1 (fun O a' h2 F' I' x1 x2 x3 => ks O a' h2 F' I' x1 (f1.six.o.tr x2) (y2.tr x3)) (fun w p h2 F' I' a' x1 x2 x3 => kx w p h2 F' I' a' x1 (f1.six.o.tr x2) (y2.tr x3))
    · rw [show (7 : Int32) = nI 7 from rfl, nI_add, nI_clamp (show 7 + i < 2 ^ 31 by omega)]
      refine ⟨vp_in_nI (by omega) (by decide), fun I2 e2 v2 ev => ?_⟩
      rw [ev, nI_1]
      have n2 : ∀ a, a ≠ 10 → I2 a = I a := fun a ha => by rw [e2, gU_ne ha]
      exact m_193N (H1.i (n2 9 (by decide))) (fun I' x1 x2 => kx w p (by rw [h1, bnd_l]) F1 I' a' x1 f1.o ((show Io I I2 from fun a x _ _ => n2 a x).tr x2)) d (i + 1) I2 (by omega) (H1.i (n2 9 (by decide))) Io.rf
set_option maxHeartbeats 1000000 in
theorem m_readClause {G : GC} {ad : Nat → Nat} {o : Nat} {F : Nat → Int32} {L : Nat → Int64} {I : Nat → Nat → Int32} {J : Nat → Nat → Int64} {Q : MPost} {t : Nat → Nat} {n a k m : Nat} {S : OF} (H : OS F I t n a S) (hS : ofOK m S) (hk : k < 9) (h3 : ¬ full k m S) (ks : ∀ S' a', pArg t n k S a = .inr (S', a') → ∀ F' I', OS F' I' t n a' S' → Fo F F' → Io I I' → Q none F' L I' J) (kx : ∀ w p, pArg t n k S a = .inl (w, p) → ∀ F' I' a', RS F' I' t n a' (some (w, p)) → Fo F F' → Io I I' → Q none F' L I' J) : CallM G mX9_readClause 8 ad o [.ref o, .int (cv k)] F L I J Q := by
  have hP6 := hS.2.1
  have hO12 := hS.1.1
  have hC24 := hS.2.2.1.1
  have ha := H.le
  refine eX9_readClause (fun σ0 => bX9_readClause_0 ?_)
  match k, hk, h3, ks, kx with
  | 0, _, h3, ks, kx =>
    exact ⟨fun z => absurd (by decide) z, fun _ => w_field (j := 0) (lo := 1) (hi := 13) H rfl (by decide) (by decide) y12 rfl ks kx⟩
  | 1, _, h3, ks, kx =>
    refine ⟨fun _ => w_of (i := 34) (w := [99, 117, 112, 115]) rfl rfl (by decide) (by decide) ⟨_, rfl, fun _ => w_of (i := 35) (w := [99, 97, 114, 100]) rfl rfl (by decide) (by decide) ⟨_, rfl, fun _ => w_of (i := 36) (w := [102, 97, 108, 108]) rfl rfl (by decide) (by decide) ⟨_, rfl, fun _ => w_of (i := 37) (w := [119, 97, 114, 109]) rfl rfl (by decide) (by decide) ⟨_, rfl, fun _ => w_of (i := 38) (w := [115, 101, 101]) rfl rfl (by decide) (by decide) ⟨_, rfl, fun _ => w_of (i := 39) (w := [99, 111, 115, 116]) rfl rfl (by decide) (by decide) ⟨_, rfl, fun _ => w_of (i := 40) (w := [112, 101, 114, 115, 111, 110]) rfl rfl (by decide) (by decide) ⟨_, rfl, fun z => absurd (by decide) z, fun _ => fun F1 e1 => ?_⟩, fun z => absurd z (by decide)⟩, fun z => absurd z (by decide)⟩, fun z => absurd z (by decide)⟩, fun z => absurd z (by decide)⟩, fun z => absurd z (by decide)⟩, fun z => absurd z (by decide)⟩, fun z => absurd z (by decide)⟩
    rw [H.2.2.1, nI_1] at e1
    have ne : ∀ j, j ≠ 16 → F1 j = F j := fun j hj => by rw [e1, fU_ne hj]
    obtain ⟨q1, q2, q3, q5, q6⟩ := H.1
    exact ks _ a rfl F1 I ⟨⟨(ne 3 (by decide)).trans q1, (ne 4 (by decide)).trans q2, fun z => (ne 5 (by decide)).trans (q3 z), (fun w p z => by cases z), q6⟩, H.2.1, by rw [e1, fU_at], (ne 17 (by decide)).trans H.2.2.2.1, H.2.2.2.2⟩ (fun j _ _ _ x _ => ne j x) Io.rf
  | 2, _, h3, ks, kx =>
    refine ⟨fun _ => w_of (i := 34) (w := [99, 117, 112, 115]) rfl rfl (by decide) (by decide) ⟨_, rfl, fun _ => w_of (i := 35) (w := [99, 97, 114, 100]) rfl rfl (by decide) (by decide) ⟨_, rfl, fun _ => w_of (i := 36) (w := [102, 97, 108, 108]) rfl rfl (by decide) (by decide) ⟨_, rfl, fun _ => w_of (i := 37) (w := [119, 97, 114, 109]) rfl rfl (by decide) (by decide) ⟨_, rfl, fun _ => w_of (i := 38) (w := [115, 101, 101]) rfl rfl (by decide) (by decide) ⟨_, rfl, fun _ => w_of (i := 39) (w := [99, 111, 115, 116]) rfl rfl (by decide) (by decide) ⟨_, rfl, fun _ => w_of (i := 40) (w := [112, 101, 114, 115, 111, 110]) rfl rfl (by decide) (by decide) ⟨_, rfl, fun _ => ?_, fun z => absurd z (by decide)⟩, fun z => absurd z (by decide)⟩, fun z => absurd z (by decide)⟩, fun z => absurd z (by decide)⟩, fun z => absurd z (by decide)⟩, fun z => absurd z (by decide)⟩, fun z => absurd z (by decide)⟩, fun z => absurd z (by decide)⟩
    rw [H.2.2.1]
    have h24 : ¬ S.2.2.1 = 24 := fun w => h3 (Or.inr (Or.inr ⟨rfl, w⟩))
    have ek : pArg t n 2 S a = bnd (nm t n 0 S.2.1 a) (fun p a1 => bnd (nm t n 0 481 a1) (fun mi a2 => .inr ((S.1, S.2.1, cmC S.2.2 (nI p) (nI mi)), a2))) := rfl
    rw [ek] at ks kx
    refine w_number (lo := 0) (hi := S.2.1) H.1 rfl (by decide) (by omega) (yP (by omega)) (fun p a1 h1 F1 H1 f1 => ⟨_, rfl, ?_⟩) (fun w p h1 F1 a' H1 f1 => ⟨_, rfl, ?_⟩)
    · rw [h1, bnd_r] at ks kx
      refine w_number (lo := 0) (hi := 481) H1 rfl (by decide) (by decide) y480 (fun mi a2 h2 F2 H2 f2 => ⟨_, rfl, ?_⟩) (fun w p h2 F2 a' H2 f2 => ⟨_, rfl, ?_⟩)
      · rw [h2, bnd_r] at ks
        refine w_fineY (H2.2.2.1 rfl) ⟨_, rfl, fun _ => ?_, fun z => absurd z (by decide)⟩
        obtain ⟨H3, O3, P3, V3, C3⟩ := (H.at f1 H1).at f2 H2
        rw [V3]
        refine w_putsN (by omega) (fun I' i1 i2 i3 => ⟨_, rfl, fun F3 e3 => ?_⟩)
        rw [V3, nI_1] at e3
        have cc := co_cong (p := nI p) (m := nI mi) (n := S.2.2.1) S.2.2.1 S.2.2.2.1 S.2.2.2.2 (I 12) (I 13) (Nat.le_refl _) (fun j hj hj2 => C3 j (by omega))
        have nf : ∀ j, j ≠ 17 → F3 j = F2 j := fun j hj => by rw [e3, fU_ne hj]
        obtain ⟨q1, q2, q3, q5, q6⟩ := H3.i (i1 9 (by decide) (by decide))
        refine ks _ a2 rfl F3 I' ⟨⟨(nf 3 (by decide)).trans q1, (nf 4 (by decide)).trans q2, fun z => (nf 5 (by decide)).trans (q3 z), (fun w p z => by cases z), q6⟩, fun i hi => by rw [i1 10 (by decide) (by decide)]; exact O3 i hi, (nf 16 (by decide)).trans P3, by rw [e3, fU_at]; rfl, fun j hj => ?_⟩ ((f1.six.o.tr f2.six.o).tr (fun j _ _ _ _ x => nf j x)) (fun a _ x y => i1 a x y)
        rw [i2, i3]
        exact cc.2 j hj
      · exact w_fineN H2.bad ⟨_, rfl, fun z => absurd rfl z, fun _ => kx w p (by rw [h2, bnd_l]) F2 I a' H2 (f1.six.o.tr f2.o) Io.rf⟩
    · exact w_numberN H1.bad ⟨_, rfl, w_fineN H1.bad ⟨_, rfl, fun z => absurd rfl z, fun _ => kx w p (by rw [h1, bnd_l]) F1 I a' H1 f1.o Io.rf⟩⟩
  | 3, _, h3, ks, kx =>
    refine ⟨fun _ => w_of (i := 34) (w := [99, 117, 112, 115]) rfl rfl (by decide) (by decide) ⟨_, rfl, fun z => absurd (by decide) z, fun _ => ?_⟩, fun z => absurd z (by decide)⟩
    rw [H.2.1 0 (by decide)]
    have ek : pArg t n 3 S a = bnd (nm t n 0 (S.1 0 + 1) a) (fun c a1 => bnd (nm t n 0 (S.1 0 - c + 1) a1) (fun d a2 => .inr ((oU (oU S.1 1 c) 2 d, S.2), a2))) := rfl
    rw [ek] at ks kx
    refine w_number (lo := 0) (hi := S.1 0 + 1) H.1 rfl (by decide) (by omega) (yN (by omega)) (fun c a1 h1 F1 H1 f1 => ⟨_, rfl, ?_⟩) (fun w p h1 F1 a' H1 f1 => ⟨_, rfl, ?_⟩)
    · have gc := nm_gd ha h1
      rw [h1, bnd_r] at ks kx
      dsimp only
      rw [H.2.1 0 (by decide), pk_sub (show c ≤ S.1 0 by omega)]
      refine w_number (lo := 0) (hi := S.1 0 - c + 1) H1 rfl (by decide) (by omega) (yN (by omega)) (fun d a2 h2 F2 H2 f2 => ⟨_, rfl, ?_⟩) (fun w p h2 F2 a' H2 f2 => ⟨_, rfl, ?_⟩)
      · refine w_fineY (H2.2.2.1 rfl) ⟨_, rfl, fun _ I1 i1 I2 i2 => ?_, fun z => absurd z (by decide)⟩
        obtain ⟨y1, y2⟩ := ((H.at f1 H1).at f2 H2).st i1
        obtain ⟨y3, y4⟩ := y1.st i2
        rw [h2, bnd_r] at ks
        exact ks _ a2 rfl F2 I2 y3 (f1.six.o.tr f2.six.o) (y2.tr y4)
      · exact w_fineN H2.bad ⟨_, rfl, fun z => absurd rfl z, fun _ => kx w p (by rw [h2, bnd_l]) F2 I a' H2 (f1.six.o.tr f2.o) Io.rf⟩
    · exact w_numberN H1.bad ⟨_, rfl, w_fineN H1.bad ⟨_, rfl, fun z => absurd rfl z, fun _ => kx w p (by rw [h1, bnd_l]) F1 I a' H1 f1.o Io.rf⟩⟩
  | 4, _, h3, ks, kx =>
    exact ⟨fun _ => w_of (i := 34) (w := [99, 117, 112, 115]) rfl rfl (by decide) (by decide) ⟨_, rfl, fun _ => w_of (i := 35) (w := [99, 97, 114, 100]) rfl rfl (by decide) (by decide) ⟨_, rfl, fun z => absurd (by decide) z, fun _ => w_field (j := 3) (lo := 0) (hi := 2) H rfl (by decide) (by decide) y1 rfl ks kx⟩, fun z => absurd z (by decide)⟩, fun z => absurd z (by decide)⟩
  | 5, _, h3, ks, kx =>
    exact ⟨fun _ => w_of (i := 34) (w := [99, 117, 112, 115]) rfl rfl (by decide) (by decide) ⟨_, rfl, fun _ => w_of (i := 35) (w := [99, 97, 114, 100]) rfl rfl (by decide) (by decide) ⟨_, rfl, fun _ => w_of (i := 36) (w := [102, 97, 108, 108]) rfl rfl (by decide) (by decide) ⟨_, rfl, fun z => absurd (by decide) z, fun _ => w_field (j := 4) (lo := 0) (hi := 17) H rfl (by decide) (by decide) y16 rfl ks kx⟩, fun z => absurd z (by decide)⟩, fun z => absurd z (by decide)⟩, fun z => absurd z (by decide)⟩
  | 6, _, h3, ks, kx =>
    exact ⟨fun _ => w_of (i := 34) (w := [99, 117, 112, 115]) rfl rfl (by decide) (by decide) ⟨_, rfl, fun _ => w_of (i := 35) (w := [99, 97, 114, 100]) rfl rfl (by decide) (by decide) ⟨_, rfl, fun _ => w_of (i := 36) (w := [102, 97, 108, 108]) rfl rfl (by decide) (by decide) ⟨_, rfl, fun _ => w_of (i := 37) (w := [119, 97, 114, 109]) rfl rfl (by decide) (by decide) ⟨_, rfl, fun z => absurd (by decide) z, fun _ => w_field (j := 5) (lo := 1) (hi := 100) H rfl (by decide) (by decide) y99 rfl ks kx⟩, fun z => absurd z (by decide)⟩, fun z => absurd z (by decide)⟩, fun z => absurd z (by decide)⟩, fun z => absurd z (by decide)⟩
  | 7, _, h3, ks, kx =>
    exact ⟨fun _ => w_of (i := 34) (w := [99, 117, 112, 115]) rfl rfl (by decide) (by decide) ⟨_, rfl, fun _ => w_of (i := 35) (w := [99, 97, 114, 100]) rfl rfl (by decide) (by decide) ⟨_, rfl, fun _ => w_of (i := 36) (w := [102, 97, 108, 108]) rfl rfl (by decide) (by decide) ⟨_, rfl, fun _ => w_of (i := 37) (w := [119, 97, 114, 109]) rfl rfl (by decide) (by decide) ⟨_, rfl, fun _ => w_of (i := 38) (w := [115, 101, 101]) rfl rfl (by decide) (by decide) ⟨_, rfl, fun z => absurd (by decide) z, fun _ => w_field (j := 6) (lo := 0) (hi := 17) H rfl (by decide) (by decide) y16 rfl ks kx⟩, fun z => absurd z (by decide)⟩, fun z => absurd z (by decide)⟩, fun z => absurd z (by decide)⟩, fun z => absurd z (by decide)⟩, fun z => absurd z (by decide)⟩
  | 8, _, h3, ks, kx =>
    refine ⟨fun _ => w_of (i := 34) (w := [99, 117, 112, 115]) rfl rfl (by decide) (by decide) ⟨_, rfl, fun _ => w_of (i := 35) (w := [99, 97, 114, 100]) rfl rfl (by decide) (by decide) ⟨_, rfl, fun _ => w_of (i := 36) (w := [102, 97, 108, 108]) rfl rfl (by decide) (by decide) ⟨_, rfl, fun _ => w_of (i := 37) (w := [119, 97, 114, 109]) rfl rfl (by decide) (by decide) ⟨_, rfl, fun _ => w_of (i := 38) (w := [115, 101, 101]) rfl rfl (by decide) (by decide) ⟨_, rfl, fun _ => w_of (i := 39) (w := [99, 111, 115, 116]) rfl rfl (by decide) (by decide) ⟨_, rfl, fun z => absurd (by decide) z, fun _ => ?_⟩, fun z => absurd z (by decide)⟩, fun z => absurd z (by decide)⟩, fun z => absurd z (by decide)⟩, fun z => absurd z (by decide)⟩, fun z => absurd z (by decide)⟩, fun z => absurd z (by decide)⟩
    refine m_193 5 0 a S F I rfl H (fun O a' h F' I' x1 x2 x3 => ks _ a' ?_ F' I' x1 x2 x3) (fun w p h F' I' a' x1 x2 x3 => kx w p ?_ F' I' a' x1 x2 x3)
    · show bnd (pCost t n 5 7 S.1 a) _ = _
      rw [show pCost t n 5 7 S.1 a = _ from h, bnd_r]
    · show bnd (pCost t n 5 7 S.1 a) _ = _
      rw [show pCost t n 5 7 S.1 a = _ from h, bnd_l]
