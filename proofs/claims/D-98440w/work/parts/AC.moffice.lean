/-! Part B: the reference's office -/
def Fq9 (F F' : Nat → Int32) : Prop := ∀ j, (j = 0 ∨ j = 35 ∨ j = 36 ∨ j = 18 ∨ j = 19 ∨ j = 32 ∨ j = 62 ∨ j = 64) → F' j = F j
theorem Fo.q {F F' : Nat → Int32} (h : Fo F F') : Fq9 F F' := fun j hj => h j (by omega) (by omega) (by omega) (by omega) (by omega)
theorem F6.q {F F' : Nat → Int32} (h : F6 F F') : Fq9 F F' := h.o.q
theorem F4.q {F F' : Nat → Int32} (h : F4 F F') : Fq9 F F' := h.six.o.q
theorem Fq9.tr {F F' F'' : Nat → Int32} (h : Fq9 F F') (h2 : Fq9 F' F'') : Fq9 F F'' := fun j hj => (h2 j hj).trans (h j hj)
/-- what an office's reading ends in -/
def OfE (Q : MPost) (F0 : Nat → Int32) (L : Nat → Int64) (I0 : Nat → Nat → Int32) (J : Nat → Nat → Int64) (R : PR OF) : Prop :=
  (∀ S a', R = .inr (S, a') → ∀ F' I', F' 0 = F0 0 → F' 35 = F0 35 → F' 36 = F0 36 → F' 2 = 0 → F' 8 = -1 → F' 18 = nI S.2.1 → F' 19 = nI S.2.2.1 → F' 32 = 0 → F' 62 = 0 → F' 64 = 0 → (∀ a, a ≠ 10 → a ≠ 12 → a ≠ 13 → a ≠ 11 → a ≠ 14 → a ≠ 15 → a ≠ 27 → I' a = I0 a) → (∀ i, i < 12 → I' 11 i = nI (S.1 i)) → (∀ j, j < S.2.2.1 → I' 14 j = S.2.2.2.1 j ∧ I' 15 j = S.2.2.2.2 j) → (∀ p, p < 7 → I' 27 p = 0) → Q (some (.int (nI S.2.2.1))) F' L I' J) ∧
  (∀ w u, R = .inl (w, u) → ∀ F' I', Fq9 F0 F' → F' 2 = 0 → F' 8 = nI u → Io I0 I' → Q (some (.int (nI w - 10))) F' L I' J)
theorem m_184N {G : GC} {ad : Nat → Nat} {o : Nat} {F : Nat → Int32} {L : Nat → Int64} {I : Nat → Nat → Int32} {J : Nat → Nat → Int64} {σ0 : PS} {Q : MPost} {t : Nat → Nat} {n a w u : Nat} {F0 : Nat → Int32} {I0 : Nat → Nat → Int32} {R : PR OF} (hE : OfE Q F0 L I0 J R) (e : R = .inl (w, u)) (H : RS F I t n a (some (w, u))) (f : Fq9 F0 F) (f2 : F 2 = 0) (i : Io I0 I) : AtM G mX9_office 9 ad o σ0 Q 184 [(0, .ref o)] [] F L I J :=
  bX9_office_184 (w_resultN H ⟨_, rfl, fun _ => hE.2 w u e _ I (fun j hj => (fU_ne (by omega)).trans (f j hj)) ((fU_ne (by decide)).trans f2) fU_at i, fun z => absurd ((fU_ne (by decide)).symm.trans z) H.bad⟩)
theorem m_153N {G : GC} {ad : Nat → Nat} {o : Nat} {F : Nat → Int32} {L : Nat → Int64} {I : Nat → Nat → Int32} {J : Nat → Nat → Int64} {σ0 : PS} {Q : MPost} {t : Nat → Nat} {n a w u : Nat} {F0 : Nat → Int32} {I0 : Nat → Nat → Int32} {R : PR OF} {x y : Int32} (hE : OfE Q F0 L I0 J R) (e : R = .inl (w, u)) (H : RS F I t n a (some (w, u))) (f : Fq9 F0 F) (f2 : F 2 = 0) (i : Io I0 I) : AtM G mX9_office 9 ad o σ0 Q 153 [(0, .ref o), (2, .int x), (3, .int y)] [] F L I J :=
  bX9_office_153 (w_fineN H.bad ⟨_, rfl, fun z => absurd rfl z, fun _ => m_184N hE e H f f2 i⟩)
theorem m_officeL {G : GC} {ad : Nat → Nat} {o : Nat} {L : Nat → Int64} {J : Nat → Nat → Int64} {σ0 : PS} {Q : MPost} {t : Nat → Nat} {n : Nat} {F0 : Nat → Int32} {I0 : Nat → Nat → Int32} : ∀ f a m (S : OF) F I, n + 1 ≤ f + a → OS F I t n a S → ofOK m S → m ≤ 60 → Fq9 F0 F → F 2 = 0 → Io I0 I → OfE Q F0 L I0 J (pOff t n f m S a) → AtM G mX9_office 9 ad o σ0 Q 44 [(0, .ref o), (2, .int (nI m))] [] F L I J := by
  intro f
  induction f with
  | zero =>
    intro a m S F I hf H
    have := H.le
    omega
  | succ f ih =>
    intro a m S F I hf H hS hm fq f2 io hE
    have ha := H.le
    have hs := sk_b (t := t) ha
    have hP6 := hS.2.1
    have hC24 := hS.2.2.1.1
    have zm : nI m = 60 ↔ m = 60 := nI_eq (b := 60) (by omega) (by decide)
    refine bX9_office_44 (w_fineY (H.1.2.2.1 rfl) ⟨_, rfl, fun z => absurd z (by decide), fun _ => w_isMore H.1 (fun hl1 F1 H1 f1 => ⟨_, rfl, fun z => absurd z (by decide), fun _ => ?_⟩) (fun hl1 F1 H1 f1 => ⟨_, rfl, fun _ => ?_, fun z => absurd rfl z⟩)⟩)
    · rw [pOff_s hl1] at hE
      have O1 := H.at f1 H1
      refine w_clauseHere H1 (fun k hk9 F2 H2 f2' => ⟨_, rfl, ?_⟩) (fun hn9 F2 H2 f2' => ⟨_, rfl, fun z => absurd rfl z, fun _ => ?_⟩)
      · rw [sk_sk ha] at hk9 H2
        have O2 := O1.at f2' H2
        have hk : k < 9 := (idx_lt hk9).1
        obtain ⟨c1, c2, c3, c4⟩ := cv_all k hk
        have fq2 := (fq.tr f1.q).tr f2'.q
        have g2 : F2 2 = 0 := (f2' 2 (by decide)).trans ((f1 2 (by decide)).trans f2)
        have bad : ∀ (w : Nat) (z : Int32), z = nI w → pClause t n a m S = .inl (w, sk t n a) → CallM G mX9_wrong 3 ad o [.ref o, .int z, .int (F2 4)] F2 L I J (mqV (fun F3 L3 I3 J3 => AtM G mX9_office 9 ad o σ0 Q 153 [(0, .ref o), (2, .int (nI m)), (3, .int (cv k))] [] F3 L3 I3 J3)) := fun w z hz e => by
          rw [e, bnd_l] at hE
          rw [H2.2.1]
          exact w_wrong (w := w) H2 hz rfl hs.2.1 (fun F3 H3 f3 _ => ⟨rfl, m_153N hE rfl H3 (fq2.tr f3.q) ((f3 2 (by decide) (by decide) (by decide)).trans g2) io⟩)
        have go : ¬ full k m S → ¬ (k = 0 ∧ 0 < m) → AtM G mX9_office 9 ad o σ0 Q 153 [(0, .ref o), (2, .int (nI m)), (3, .int (cv k))] [] F2 L I J := fun h3 h4 => by
          have e := pCl_k hk9 h3 h4
          rw [e] at hE
          have wl := wd_le (t := t) hs.2.1
          have lp := idx_pos ofW_pos hk9
          refine bX9_office_153 (w_fineY (H2.2.2.1 rfl) ⟨_, rfl, fun _ => w_pass H2 (fun F3 H3 f3 => ⟨rfl, ?_⟩), fun z => absurd z (by decide)⟩)
          have O3 := O2.at f3 H3
          have fq3 := fq2.tr f3.q
          have g3 : F3 2 = 0 := (f3 2 (by decide)).trans g2
          refine m_readClause O3 hS hk h3 (fun S' a1 h5 F4' I4 O4 f4 i4 => ⟨rfl, ?_⟩) (fun w p h5 F4' I4 a' O4 f4 i4 => ⟨rfl, ?_⟩)
          · rw [h5, bnd_r] at hE
            have ok := pArg_ok wl hk hS h3 h4 h5
            have hs1 := sk_b (t := t) O4.le
            have fq4 := fq3.tr f4.q
            have g4 : F4' 2 = 0 := (f4 2 (by decide) (by decide) (by decide) (by decide) (by decide)).trans g3
            refine w_sign (c := 59) O4.1 rfl (by decide) (by decide) (fun y F5 H5 f5 => ⟨rfl, fun v2 ev => ?_⟩) (fun y F5 a' H5 f5 => ⟨rfl, fun v2 ev => ?_⟩)
            · rw [pEnd_y y, bnd_r] at hE
              have m60 : ¬ m = 60 := fun w => h3 (Or.inl w)
              rw [ev, nI_1]
              exact ih _ (m + 1) S' F5 I4 (by omega) (O4.at f5 H5) ok.2.2 (by omega) (fq4.tr f5.q) ((f5 2 (by decide)).trans g4) (io.tr i4) hE
            · rw [pEnd_n y, bnd_l] at hE
              exact bX9_office_44 (w_fineN H5.bad ⟨_, rfl, fun _ => m_184N hE rfl H5 (fq4.tr f5.q) ((f5 2 (by decide) (by decide) (by decide)).trans g4) (io.tr i4), fun z => absurd rfl z⟩)
          · rw [h5, bnd_l, bnd_l] at hE
            have fq4 := fq3.tr f4.q
            have g4 : F4' 2 = 0 := (f4 2 (by decide) (by decide) (by decide) (by decide) (by decide)).trans g3
            exact w_signN O4.bad ⟨rfl, fun v2 ev => bX9_office_44 (w_fineN O4.bad ⟨_, rfl, fun _ => m_184N hE rfl O4 fq4 g4 (io.tr i4), fun z => absurd rfl z⟩)⟩
        have t4 : ¬ full k m S → (¬ cv k = -7 → AtM G mX9_office 9 ad o σ0 Q 153 [(0, .ref o), (2, .int (nI m)), (3, .int (cv k))] [] F2 L I J) ∧ (cv k = -7 → (nI m ≤ 0 → AtM G mX9_office 9 ad o σ0 Q 153 [(0, .ref o), (2, .int (nI m)), (3, .int (cv k))] [] F2 L I J) ∧ (¬ nI m ≤ 0 → CallM G mX9_wrong 3 ad o [.ref o, .int 4, .int (F2 4)] F2 L I J (mqV (fun F3 L3 I3 J3 => AtM G mX9_office 9 ad o σ0 Q 153 [(0, .ref o), (2, .int (nI m)), (3, .int (cv k))] [] F3 L3 I3 J3)))) := fun h3 => by
          have mle : nI m ≤ 0 ↔ m = 0 := by
            rw [show (0 : Int32) = nI 0 from rfl, nI_leI (by omega) (by decide)]
            omega
          refine ⟨fun z => go h3 (fun w => z (c4.mpr w.1)), fun z => ⟨fun y => go h3 (fun w => by
            have := mle.mp y
            omega), fun y => bad 4 4 rfl (pCl_4 hk9 h3 ⟨c4.mp z, ?_⟩)⟩⟩
          have : ¬ m = 0 := fun w => y (mle.mpr w)
          omega
        have B104 : ¬ m = 60 → ¬ (k = 1 ∧ S.2.1 = 6) → AtM G mX9_office 9 ad o σ0 Q 104 [(0, .ref o), (2, .int (nI m)), (3, .int (cv k))] [] F2 L I J := fun n1 n2 => by
          refine bX9_office_104 (w_of (i := 41) (w := [99, 111, 109, 101, 115]) rfl rfl (by decide) (by decide) ⟨_, rfl, fun y => ?_, fun y => ?_⟩)
          · exact t4 (fun w => w.elim n1 (fun w => w.elim n2 (fun w => y (c3.mpr w.1))))
          · rw [O2.2.2.2.1]
            refine ⟨fun w => t4 (fun w2 => w2.elim n1 (fun w2 => w2.elim n2 (fun w2 => w (by rw [w2.2]; rfl)))), fun w => bad 3 3 rfl (pCl_3 hk9 (Or.inr (Or.inr ⟨c3.mp y, (nI_eq (b := 24) (by omega) (by decide)).mp w⟩)))⟩
        refine ⟨fun _ => ⟨fun y => bad 3 3 rfl (pCl_3 hk9 (Or.inl (zm.mp y))), fun y => w_of (i := 40) (w := [112, 101, 114, 115, 111, 110]) rfl rfl (by decide) (by decide) ⟨_, rfl, fun w => ?_, fun w => ⟨fun v => ?_, fun v => ?_⟩⟩⟩, fun z => absurd z c1⟩
        · exact B104 (fun w2 => y (zm.mpr w2)) (fun w2 => w (c2.mpr w2.1))
        · rw [O2.2.2.1] at v
          exact bad 3 3 rfl (pCl_3 hk9 (Or.inr (Or.inl ⟨c2.mp w, (nI_eq (b := 6) (by omega) (by decide)).mp v⟩)))
        · rw [O2.2.2.1] at v
          exact B104 (fun w2 => y (zm.mpr w2)) (fun w2 => v (by rw [w2.2]; rfl))
      · rw [sk_sk ha] at hn9 H2
        have fq2 := (fq.tr f1.q).tr f2'.q
        have g2 : F2 2 = 0 := (f2' 2 (by decide)).trans ((f1 2 (by decide)).trans f2)
        rw [pCl_n hn9, bnd_l] at hE
        rw [H2.2.1]
        exact w_wrong (w := 1) H2 rfl rfl hs.2.1 (fun F3 H3 f3 _ => ⟨rfl, m_153N hE rfl H3 (fq2.tr f3.q) ((f3 2 (by decide) (by decide) (by decide)).trans g2) io⟩)
    · rw [pOff_e hl1] at hE
      have O1 := H.at f1 H1
      have f5 := H1.2.2.1 rfl
      have fq1 := fq.tr f1.q
      have g2 := (f1 2 (by decide)).trans f2
      refine bX9_office_184 (w_resultY f5 ⟨_, rfl, fun z => absurd ((fU_ne (by decide)).trans f5) z, fun _ => w_sets (fun F2 I2 nf n18 n19 n32 n62 n64 ni m11 m14 m27 => ⟨rfl, ?_⟩)⟩)
      have e8 : ∀ j, j ≠ 8 → fU F1 8 (-1) j = F1 j := fun j hj => fU_ne hj
      rw [O1.2.2.2.1]
      refine hE.1 S _ rfl F2 I2 ((nf 0 (by decide) (by decide) (by decide) (by decide) (by decide)).trans ((e8 0 (by decide)).trans (fq1 0 (by decide)))) ((nf 35 (by decide) (by decide) (by decide) (by decide) (by decide)).trans ((e8 35 (by decide)).trans (fq1 35 (by decide)))) ((nf 36 (by decide) (by decide) (by decide) (by decide) (by decide)).trans ((e8 36 (by decide)).trans (fq1 36 (by decide)))) ((nf 2 (by decide) (by decide) (by decide) (by decide) (by decide)).trans ((e8 2 (by decide)).trans g2)) ((nf 8 (by decide) (by decide) (by decide) (by decide) (by decide)).trans fU_at) (n18.trans ((e8 16 (by decide)).trans O1.2.2.1)) (n19.trans ((e8 17 (by decide)).trans O1.2.2.2.1)) n32 n62 n64 (fun a x1 x2 x3 x4 x5 x6 x7 => (ni a x4 x5 x6 x7).trans (io a x1 x2 x3)) (fun i hi => (m11 i hi).trans (O1.2.1 i hi)) (fun j hj => ?_) m27
      have mm := m14 j (by omega)
      have cc := O1.2.2.2.2 j hj
      exact ⟨mm.1.trans cc.1, mm.2.trans cc.2⟩
theorem MI.ofc {F F' : Nat → Int32} {L : Nat → Int64} {I I' : Nat → Nat → Int32} {J : Nat → Nat → Int64} {T : TS} {S : OF} {C : CL} {m : Nat} (h : MI F L I J T) (hs : sameC S.2.2 C) (so : ofOK m S) (f35 : F' 35 = F 35) (f36 : F' 36 = F 36) (f2 : F' 2 = 0) (f8 : F' 8 = -1) (f18 : F' 18 = nI S.2.1) (f19 : F' 19 = nI S.2.2.1) (f32 : F' 32 = 0) (f62 : F' 62 = 0) (f64 : F' 64 = 0) (hI : ∀ a, (a = 1 ∨ a = 33 ∨ a = 34) → I' a = I a) (i11 : ∀ i, i < 12 → I' 11 i = nI (S.1 i)) (i14 : ∀ j, j < S.2.2.1 → I' 14 j = S.2.2.2.1 j ∧ I' 15 j = S.2.2.2.2 j) (i27 : ∀ p, p < 7 → I' 27 p = 0) : MI F' L I' J (tsOf T S.1 S.2.1 C) := by
  have hC24 := so.2.2.1.1
  refine h.put (T' := tsOf T S.1 S.2.1 C) f35 f36 (hI 33 (by decide)) (hI 34 (by decide)) (hI 1 (by decide)) ⟨i11, fun j hj => ?_⟩ ⟨f18, ?_⟩ (fun p hp => ⟨(i27 p hp).trans rfl, by show ([] : List StT).length ≤ 8; decide, fun _ => 0, fun s Z hs => absurd (show ([] : List StT)[s]? = some Z from hs) (by simp)⟩) ⟨f32.trans rfl, by show ([] : BK).length ≤ 10; decide, fun i q hi => absurd (show ([] : BK)[i]? = some q from hi) (by simp)⟩ ⟨f2, fun i hi => absurd hi (Nat.not_lt_zero i), f8⟩ ⟨f62, fun k hk => absurd hk (Nat.not_lt_zero k)⟩ ⟨f64, fun i hi => absurd hi (Nat.not_lt_zero i)⟩ rfl rfl (tsOf_ok h.ok so.1 so.2.1 (hs.ok so.2.2.1))
  · have e : tsK (tsOf T S.1 S.2.1 C) 0 = C := show kUp (tsK T) 0 C 0 = C from kUp_at
    rw [e] at hj ⊢
    rw [hs.1] at hj
    have r := i14 j hj
    have r2 := hs.2 j (by omega)
    exact ⟨r.1.trans r2.1.symm, r.2.trans r2.2.symm⟩
  · have e : tsK (tsOf T S.1 S.2.1 C) 0 = C := show kUp (tsK T) 0 C 0 = C from kUp_at
    rw [e, hs.1]
    exact f19
theorem m_office {G : GC} {ad : Nat → Nat} {o : Nat} {F : Nat → Int32} {L : Nat → Int64} {I : Nat → Nat → Int32} {J : Nat → Nat → Int64} {Q : MPost} {T : TS} {x : Int32} {C : CL} (hM : MI F L I J T) (hs : ∀ n, n < tsF T + 1 → x = nI n → ∀ S a', ofR T n = .inr (S, a') → sameC S.2.2 C)
    (kq : ∀ n, n < tsF T + 1 → x = nI n → ∀ S a', ofR T n = .inr (S, a') → ∀ F' L9 I' J', MI F' L9 I' J' (tsOf T S.1 S.2.1 C) → F' 0 = 0 → Q (some (.int (nI S.2.2.1))) F' L9 I' J')
    (kw : ∀ n, n < tsF T + 1 → x = nI n → ∀ w u, ofR T n = .inl (w, u) → ∀ F' L9 I' J', MI F' L9 I' J' (txS T (nI u)) → F' 0 = 0 → Q (some (.int (nI w - 10))) F' L9 I' J')
    (k1 : ¬ inN x (tsF T + 1) → ∀ F' L' I' J', MI F' L' I' J' (bu1 T) → F' 0 = 1 → Q (some (.int 0)) F' L' I' J') : CallM G mX9_office 9 ad o [.ref o, .int x] F L I J Q := by
  have M0 : MI (fU F 0 0) L I J T := hM.th
  have hF6 := hM.ok.2.2.2.2.1
  have g2 : fU F 0 0 2 = nI (tsF T) := M0.2.2.2.2.2.1.1
  refine eX9_office (fun σ0 => bX9_office_0 (fun F1 e1 => ?_))
  subst e1
  have no : ¬ inN x (tsF T + 1) → AtM G mX9_office 9 ad o σ0 Q 22 [(0, .ref o), (1, .int x)] [.ref o] (fU F 0 0) L I J := fun h => bX9_office_22 (w_may1 M0 fU_at (by decide) (fun F' I' q1 q2 => ⟨_, rfl, fun z => absurd rfl z, fun _ => k1 h F' L I' J q1 q2⟩))
  refine ⟨fun z => no (fun ⟨j, hj, e⟩ => ?_), fun z => ⟨fun y => no (fun ⟨j, hj, e⟩ => ?_), fun y => ?_⟩⟩
  · rw [e] at z
    exact nI_pos (by omega) z
  · rw [e, g2] at y
    have := (nI_ltI (by omega) (by omega)).mp y
    omega
  · obtain ⟨n, hn, rfl⟩ := nI_of z
    rw [g2] at y
    have hn2 : n < tsF T + 1 := by
      have : ¬ tsF T < n := fun u => y ((nI_ltI (by omega) (by omega)).mpr u)
      omega
    obtain ⟨t1, t2, t3⟩ := M0.tape (n := n) (by omega)
    refine w_mayY fU_at ⟨_, rfl, fun _ => w_begins t1 t2 t3 (fun F1 H1 h7 h2 h8' fz => ⟨rfl, w_clears (fun F2 I2 nf n16 n17 ni i10 => ⟨rfl, ?_⟩)⟩), fun w => absurd w (by decide)⟩
    have O : OS F2 I2 (tsT T) n 0 of0 := by
      obtain ⟨q1, q2, q3, q5, q6⟩ := H1.i (ni 9 (by decide))
      exact ⟨⟨(nf 3 (by decide) (by decide)).trans q1, (nf 4 (by decide) (by decide)).trans q2, fun z => (nf 5 (by decide) (by decide)).trans (q3 z), (fun w p z => by cases z), q6⟩, i10, n16, n17, fun j hj => absurd hj (Nat.not_lt_zero j)⟩
    have fq : Fq9 (fU F 0 0) F2 := fun j hj => (nf j (by omega) (by omega)).trans (fz j (by omega) (by omega) (by omega) (by omega) (by omega) (by omega))
    refine m_officeL (F0 := fU F 0 0) (I0 := I) (n + 1) 0 0 of0 F2 I2 (by omega) O of0_ok (by decide) fq ((nf 2 (by decide) (by decide)).trans h2) (fun a x _ _ => ni a x) ⟨fun S a' h1 F' I' x0 x1 x2 x3 x4 x5 x6 x7 x8 x9 y1 y2 y3 y4 => ?_, fun w u h1 F' I' ff z2 z8 io => ?_⟩
    · obtain ⟨-, -, m9, so⟩ := pOff_ok _ _ _ _ (Nat.zero_le _) of0_ok _ _ h1
      exact kq n hn2 rfl S a' h1 F' L I' J (M0.ofc (hs n hn2 rfl S a' h1) so x1 x2 x3 x4 x5 x6 x7 x8 x9 (fun a ha => y1 a (by omega) (by omega) (by omega) (by omega) (by omega) (by omega) (by omega)) y2 y3 y4) (x0.trans fU_at)
    · exact kw n hn2 rfl w u h1 F' L I' J (M0.tx (fun j hj => ff j (by omega)) (fun a ha => io a (by omega) (by omega) (by omega)) z2 z8) ((ff 0 (by decide)).trans fU_at)
