/-! Part B: the reference's book -/
theorem w_copies {G : GC} {ad : Nat → Nat} {o : Nat} {F : Nat → Int32} {L : Nat → Int64} {I : Nat → Nat → Int32} {J : Nat → Nat → Int64} {Q : MPost} {k1 k2 m : Nat} (hk1 : k1 < 65 ∧ mKind k1 = 2) (hk2 : k2 < 65 ∧ mKind k2 = 2) (h12 : k1 ≠ k2) (m1 : m ≤ mLen k1) (m2 : m ≤ mLen k2) (l1 : mLen k1 < 2 ^ 31) (l2 : mLen k2 < 2 ^ 31) (k : ∀ I', (∀ a, a ≠ k2 → I' a = I a) → (∀ j, j < m → I' k2 j = I k1 j) → (∀ j, m ≤ j → I' k2 j = I k2 j) → Q none F L I' J) : CallM G mX9_copies 3 ad o [.ref o, .ref (ad k1), .ref (ad k2), .int (nI m)] F L I J Q := by
  refine eX9_copies (fun σ0 => bX9_copies_0 hk1 hk2 ?_)
  have Lp : ∀ d i I', i + d = m → (∀ a, a ≠ k2 → I' a = I a) → (∀ j, j < i → I' k2 j = I k1 j) → (∀ j, i ≤ j → I' k2 j = I k2 j) → AtM G mX9_copies 3 ad o σ0 Q 3 [(1, .ref (ad k1)), (2, .ref (ad k2)), (3, .int (nI m)), (4, .int (nI i))] [] F L I' J := by
    intro d
    induction d with
    | zero =>
      intro i I' hi h1 h2 h3
      have hi : i = m := by omega
      subst hi
      exact bX9_copies_3 hk1 hk2 ⟨fun _ => k I' h1 h2 h3, fun z => absurd (nI_le (Nat.le_refl _) (by omega)) z⟩
    | succ d ih =>
      intro i I' hi h1 h2 h3
      refine bX9_copies_3 hk1 hk2 ⟨fun z => absurd z (nI_ge (by omega) (by omega)), fun _ => ⟨vp_in_nI (by omega) l1, vp_in_nI (by omega) l2, fun I1 e1 v4 e4 => ?_⟩⟩
      rw [nI_clamp (show i < 2 ^ 31 by omega), h1 k1 h12] at e1
      rw [e4, nI_1]
      have g : ∀ x, I1 k2 x = if x = i then I k1 i else I' k2 x := fun x => by rw [e1, gU_at]
      refine ih (i + 1) I1 (by omega) (fun a ha => by rw [e1, gU_ne ha, h1 a ha]) (fun j hj => ?_) (fun j hj => ?_)
      · rw [g]
        by_cases z : j = i
        · rw [if_pos z, z]
        · rw [if_neg z]
          exact h2 j (by omega)
      · rw [g, if_neg (by omega)]
        exact h3 j (by omega)
  exact Lp m 0 I (by omega) (fun _ _ => rfl) (fun j hj => absurd hj (Nat.not_lt_zero j)) (fun _ _ => rfl)
/-- lines read so far -/
def BL (I : Nat → Nat → Int32) (B : BK) : Prop := ∀ i q, B[i]? = some q → I 30 (3 * i) = nI q.1 ∧ I 30 (3 * i + 1) = nI q.2.1 ∧ I 30 (3 * i + 2) = nI q.2.2 ∧ q.1 < 24 ∧ q.2.1 < 3 ∧ q.2.2 ≤ 12
def F8 (F F' : Nat → Int32) : Prop := ∀ j, j ≠ 2 → j ≠ 3 → j ≠ 4 → j ≠ 5 → j ≠ 6 → j ≠ 7 → j ≠ 8 → F' j = F j
theorem F8.rf {F : Nat → Int32} : F8 F F := fun _ _ _ _ _ _ _ _ => rfl
theorem F8.tr {F F' F'' : Nat → Int32} (h : F8 F F') (h2 : F8 F' F'') : F8 F F'' := fun j a b c d e f g => (h2 j a b c d e f g).trans (h j a b c d e f g)
theorem F6.e {F F' : Nat → Int32} (h : F6 F F') : F8 F F' := fun j _ _ c d e _ _ => h j c d e
/-- what the book's reading ends in -/
def BkE (Q : MPost) (F0 : Nat → Int32) (L : Nat → Int64) (I0 : Nat → Nat → Int32) (J : Nat → Nat → Int64) (R : PR BK) : Prop :=
  (∀ B' a', R = .inr (B', a') → ∀ F' I', (∀ j, j ≠ 2 → j ≠ 3 → j ≠ 4 → j ≠ 5 → j ≠ 6 → j ≠ 7 → j ≠ 8 → j ≠ 32 → F' j = F0 j) → F' 2 = 0 → F' 8 = -1 → BkM F' I' B' → (∀ a, a ≠ 30 → a ≠ 31 → I' a = I0 a) → Q (some (.int (nI B'.length))) F' L I' J) ∧
  (∀ w u, R = .inl (w, u) → ∀ F' I', F8 F0 F' → F' 2 = 0 → F' 8 = nI u → (∀ a, a ≠ 30 → I' a = I0 a) → Q (some (.int (nI w - 10))) F' L I' J)
theorem m_231N {G : GC} {ad : Nat → Nat} {o : Nat} {F : Nat → Int32} {L : Nat → Int64} {I : Nat → Nat → Int32} {J : Nat → Nat → Int64} {σ0 : PS} {Q : MPost} {t : Nat → Nat} {n a w u : Nat} {F0 : Nat → Int32} {I0 : Nat → Nat → Int32} {x : Int32} {R : PR BK} (hE : BkE Q F0 L I0 J R) (e : R = .inl (w, u)) (H : RS F I t n a (some (w, u))) (f : F8 F0 F) (f2 : F 2 = 0) (i : ∀ a, a ≠ 30 → I a = I0 a) : AtM G mX9_book 8 ad o σ0 Q 231 [(0, .ref o), (2, .int x)] [] F L I J := by
  refine bX9_book_231 (w_resultN H ⟨_, rfl, fun z => absurd ((fU_ne (by decide)).symm.trans z) H.bad, fun _ => hE.2 w u e _ I (fun j a b c d e' f' g => (fU_ne g).trans (f j a b c d e' f' g)) ((fU_ne (by decide)).trans f2) fU_at i⟩)
theorem m_75N {G : GC} {ad : Nat → Nat} {o : Nat} {F : Nat → Int32} {L : Nat → Int64} {I : Nat → Nat → Int32} {J : Nat → Nat → Int64} {σ0 : PS} {Q : MPost} {t : Nat → Nat} {n a w u : Nat} {F0 : Nat → Int32} {I0 : Nat → Nat → Int32} {x y : Int32} {R : PR BK} (hE : BkE Q F0 L I0 J R) (e : R = .inl (w, u)) (H : RS F I t n a (some (w, u))) (f : F8 F0 F) (f2 : F 2 = 0) (i : ∀ a, a ≠ 30 → I a = I0 a) : AtM G mX9_book 8 ad o σ0 Q 75 [(0, .ref o), (2, .int x), (4, .int y)] [] F L I J := by
  refine bX9_book_75 (w_word H (fun F1 H1 f1 => ⟨_, rfl, ?_⟩))
  have fe : F8 F0 F1 := f.tr f1.six.e
  have g2 : F1 2 = 0 := (f1 2 (by decide)).trans f2
  have go : ∀ s : Int32, AtM G mX9_book 8 ad o σ0 Q 125 [(0, .ref o), (2, .int x), (4, .int y)] [.int s] F1 L I J := fun s => by
    have e142 : AtM G mX9_book 8 ad o σ0 Q 142 [(0, .ref o), (2, .int x), (4, .int y), (6, .int s)] [] F1 L I J := bX9_book_142 (w_fineN H1.bad ⟨_, rfl, fun z => absurd rfl z, fun _ => m_231N hE e H1 fe g2 i⟩)
    exact bX9_book_125 ⟨fun _ => e142, fun _ => w_wrongN H1.bad ⟨rfl, e142⟩⟩
  refine w_of (i := 35) (w := [99, 97, 114, 100]) rfl rfl (by decide) (by decide) ⟨_, rfl, fun _ => ?_, fun _ => go 0⟩
  refine w_of (i := 37) (w := [119, 97, 114, 109]) rfl rfl (by decide) (by decide) ⟨_, rfl, fun _ => ?_, fun _ => go 1⟩
  exact w_of (i := 53) (w := [105, 110]) rfl rfl (by decide) (by decide) ⟨_, rfl, fun _ => go (-1), fun _ => go 2⟩
theorem mul3 (m k : Nat) : (3 : Int32) * nI m + nI k = nI (3 * m + k) := by
  rw [show (3 : Int32) = nI 3 from rfl, pk_mul, nI_add]
theorem mul3' (m : Nat) : (3 : Int32) * nI m = nI (3 * m) := by
  rw [show (3 : Int32) = nI 3 from rfl, pk_mul]
theorem m_bookL {G : GC} {ad : Nat → Nat} {o : Nat} {L : Nat → Int64} {J : Nat → Nat → Int64} {σ0 : PS} {Q : MPost} {t : Nat → Nat} {n : Nat} {F0 : Nat → Int32} {I0 : Nat → Nat → Int32} : ∀ f a (B : BK) F I, n + 1 ≤ f + a → RS F I t n a none → BL I B → B.length ≤ 10 → F8 F0 F → F 2 = 0 → (∀ a, a ≠ 30 → I a = I0 a) → BkE Q F0 L I0 J (pBook t n f B a) → AtM G mX9_book 8 ad o σ0 Q 28 [(0, .ref o), (2, .int (nI B.length))] [] F L I J := by
  intro f
  induction f with
  | zero =>
    intro a B F I hf H
    have := H.2.2.2.2.2.2.2
    omega
  | succ f ih =>
    intro a B F I hf H hB hl f8 f2 i0 hE
    have ha := H.2.2.2.2.2.2.2
    have hs := sk_b (t := t) ha
    have z10 : nI B.length = 10 ↔ B.length = 10 := nI_eq (b := 10) (by omega) (by decide)
    refine bX9_book_28 (w_fineY (H.2.2.1 rfl) ⟨_, rfl, fun z => absurd z (by decide), fun _ => w_isMore H (fun hl1 F1 H1 f1 => ⟨_, rfl, fun z => absurd z (by decide), fun _ => ?_⟩) (fun hl1 F1 H1 f1 => ⟨_, rfl, fun _ => ?_, fun z => absurd rfl z⟩)⟩)
    · have e0 := pBook_s (f := f) (l := B) hl1
      rw [e0] at hE
      have fe := f8.tr f1.six.e
      have g2 := (f1 2 (by decide)).trans f2
      refine w_number (lo := 0) (hi := 24) H1 rfl (by decide) (by decide) y23 (fun v a1 h1 F2 H2 f12 => ⟨_, rfl, ?_⟩) (fun w u h1 F2 a' H2 f12 => ⟨_, rfl, ?_⟩)
      · rw [nm_sk ha] at h1
        have gv := nm_gd ha h1
        refine w_fineY (H2.2.2.1 rfl) ⟨_, rfl, fun z => absurd z (by decide), fun _ => ⟨fun z => ?_, fun z => ?_⟩⟩
        · have hm : B.length ≠ 10 := fun w => z (z10.mpr w)
          have e1 := pLine_k h1 hm
          rw [e1] at hE
          have hs1 := sk_b (t := t) gv.2.1
          refine bX9_book_75 (w_word H2 (fun F3 H3 f3 => ⟨_, rfl, ?_⟩))
          have fe3 := (fe.tr f12.six.e).tr f3.six.e
          have g3 : F3 2 = 0 := (f3 2 (by decide)).trans ((f12 2 (by decide)).trans g2)
          have go : ∀ k (hi : Nat) (y : Int32), idx (wd t n (sk t n a1)) bkW 0 = some k → k < 3 → hi = (if k = 2 then 13 else 2) → (∀ v, v < 2 ^ 30 → (nI v ≤ y ↔ v < hi)) → ∀ F4', RS F4' I t n (sk t n a1 + (wd t n (sk t n a1)).length) none → F4 F3 F4' → AtM G mX9_book 8 ad o σ0 Q 170 [(0, .ref o), (2, .int (nI B.length)), (4, .int (nI v)), (6, .int (nI k))] [.int y, .int 0, .ref o] F4' L I J := by
            intro k hi y hk k3 hhi hy F4' H4 f4
            have fe4 := fe3.tr f4.six.e
            have g4 : F4' 2 = 0 := (f4 2 (by decide)).trans g3
            have el : lnW t n v a1 = bnd (lnM t n k (sk t n a1 + (wd t n (sk t n a1)).length)) (fun u a3 => .inr ((v, k, u), a3)) := by
              unfold lnW
              rw [hk]
            rw [el] at hE
            have hwl := wd_le (t := t) hs1.2.1
            refine bX9_book_170 (w_number (lo := 0) (hi := hi) H4 rfl (by decide) (by rw [hhi]; split <;> decide) hy (fun u a2 h5 F5 H5 f5 => ⟨_, rfl, ?_⟩) (fun w p h5 F5 a' H5 f5 => ⟨_, rfl, ?_⟩))
            · rw [hhi] at h5
              have gu := nm_gd hwl h5
              have u12 : u ≤ 12 := by
                have := gu.2.2.2
                split at this <;> omega
              have fe5 := fe4.tr f5.six.e
              have g5 : F5 2 = 0 := (f5 2 (by decide)).trans g4
              have hs2 := sk_b (t := t) gu.2.1
              have hs3 := sk_b (t := t) hwl
              refine w_sign (c := 59) H5 rfl (by decide) (by decide) (fun z9 F6' H6 f6 => ⟨rfl, w_fineY (H6.2.2.1 rfl) ⟨_, rfl, fun _ => ?_, fun w => absurd w (by decide)⟩⟩) (fun z9 F6' a' H6 f6 => ⟨rfl, w_fineN H6.bad ⟨_, rfl, fun w => absurd rfl w, fun _ => ?_⟩⟩)
              · rw [mul3', nI_1, show (2 : Int32) = nI 2 from rfl, nI_add, nI_clamp (show 3 * B.length < 2 ^ 31 by omega), nI_clamp (show 3 * B.length + 1 < 2 ^ 31 by omega), nI_clamp (show 3 * B.length + 2 < 2 ^ 31 by omega)]
                refine ⟨vp_in_nI (by omega) (by decide), fun I1 e1 => ⟨vp_in_nI (by omega) (by decide), fun I2 e2 => ⟨vp_in_nI (by omega) (by decide), fun I3 e3 v2 ev => ?_⟩⟩⟩
                have at9 : ∀ j, I3 30 j = if j = 3 * B.length + 2 then nI u else if j = 3 * B.length + 1 then nI k else if j = 3 * B.length then nI v else I 30 j := fun j => by
                  rw [e3, gU_at, e2, gU_at, e1, gU_at]
                have n30 : ∀ a, a ≠ 30 → I3 a = I a := fun a ha => by rw [e3, gU_ne ha, e2, gU_ne ha, e1, gU_ne ha]
                have lk : (B ++ [((v, k, u) : Nat × Nat × Nat)]).length = B.length + 1 := by simp
                have em : lnM t n k (sk t n a1 + (wd t n (sk t n a1)).length) = .inr (u, sk t n a2 + 1) := by
                  unfold lnM
                  rw [h5, bnd_r, sgU_y z9, bnd_r]
                rw [em, bnd_r, bnd_r] at hE
                rw [ev, nI_1, ← lk]
                refine ih (sk t n a2 + 1) (B ++ [(v, k, u)]) F6' I3 (by omega) (H6.i (n30 9 (by decide))) (fun i q hi => ?_) (by omega) (fe5.tr f6.six.e) ((f6 2 (by decide)).trans g5) (fun a ha => (n30 a ha).trans (i0 a ha)) hE
                by_cases y9 : i = B.length
                · rw [y9, List.getElem?_append_right (Nat.le_refl _), Nat.sub_self] at hi
                  have e9 : (v, k, u) = q := Option.some.inj hi
                  rw [← e9, y9, at9, at9, at9, if_pos rfl, if_neg (by omega), if_pos rfl, if_neg (by omega), if_neg (by omega), if_pos rfl]
                  exact ⟨rfl, rfl, rfl, gv.2.2.2, k3, u12⟩
                · have il : i < B.length := by
                    have := (List.getElem?_eq_some_iff.mp hi).1
                    omega
                  rw [List.getElem?_append_left il] at hi
                  rw [at9, at9, at9, if_neg (by omega), if_neg (by omega), if_neg (by omega), if_neg (by omega), if_neg (by omega), if_neg (by omega), if_neg (by omega), if_neg (by omega), if_neg (by omega)]
                  exact hB i q hi
              · have em : lnM t n k (sk t n a1 + (wd t n (sk t n a1)).length) = .inl (1, sk t n a2) := by
                  unfold lnM
                  rw [h5, bnd_r, sgU_n z9, bnd_l]
                rw [em, bnd_l, bnd_l] at hE
                exact m_231N hE rfl H6 (fe5.tr f6.e) ((f6 2 (by decide) (by decide) (by decide)).trans g5) i0
            · rw [hhi] at h5
              have em : lnM t n k (sk t n a1 + (wd t n (sk t n a1)).length) = .inl (w, p) := by
                unfold lnM
                rw [h5, bnd_l]
              rw [em, bnd_l, bnd_l] at hE
              exact w_signN H5.bad ⟨rfl, w_fineN H5.bad ⟨_, rfl, fun w => absurd rfl w, fun _ => m_231N hE rfl H5 (fe4.tr f5.e) ((f5 2 (by decide) (by decide) (by decide)).trans g4) i0⟩⟩
          have go2 : ∀ k, idx (wd t n (sk t n a1)) bkW 0 = some k → k < 3 → AtM G mX9_book 8 ad o σ0 Q 125 [(0, .ref o), (2, .int (nI B.length)), (4, .int (nI v))] [.int (nI k)] F3 L I J := by
            intro k hk k3
            have z2 : nI k = 2 ↔ k = 2 := nI_eq (b := 2) (by omega) (by decide)
            refine bX9_book_125 ⟨fun _ => bX9_book_142 (w_fineY (H3.2.2.1 rfl) ⟨_, rfl, fun _ => w_pass H3 (fun F4' H4 f4 => ⟨rfl, fun y => ?_, fun y => ?_⟩), fun w => absurd w (by decide)⟩), fun w => absurd w (m1_nI (by omega))⟩
            · exact go k 2 1 hk k3 (by rw [if_neg (fun w => y (z2.mpr w))]) y1 F4' H4 f4
            · exact go k 13 12 hk k3 (by rw [if_pos (z2.mp y)]) y12 F4' H4 f4
          refine w_of (i := 35) (w := [99, 97, 114, 100]) rfl rfl (by decide) (by decide) ⟨_, rfl, fun y0 => ?_, fun y0 => go2 0 (by rw [(wq (by decide) (by decide) (by decide)).mp y0]; rfl) (by decide)⟩
          refine w_of (i := 37) (w := [119, 97, 114, 109]) rfl rfl (by decide) (by decide) ⟨_, rfl, fun y1' => ?_, fun y1' => go2 1 (by rw [(wq (by decide) (by decide) (by decide)).mp y1']; rfl) (by decide)⟩
          refine w_of (i := 53) (w := [105, 110]) rfl rfl (by decide) (by decide) ⟨_, rfl, fun y2' => ?_, fun y2' => go2 2 (by rw [(wq (by decide) (by decide) (by decide)).mp y2']; rfl) (by decide)⟩
          have en : idx (wd t n (sk t n a1)) bkW 0 = none := by
            show idx _ [_, _, _] 0 = none
            rw [idx3, if_neg (fun w => y0 ((wq (by decide) (by decide) (by decide)).mpr w)), if_neg (fun w => y1' ((wq (by decide) (by decide) (by decide)).mpr w)), if_neg (fun w => y2' ((wq (by decide) (by decide) (by decide)).mpr w))]
          have el : lnW t n v a1 = .inl (1, sk t n a1) := by
            unfold lnW
            rw [en]
          rw [el, bnd_l] at hE
          refine bX9_book_125 ⟨fun w => absurd rfl w, fun _ => ?_⟩
          rw [H3.2.1]
          exact w_wrong (w := 1) H3 rfl rfl hs1.2.1 (fun F4' H4 f4 _ => ⟨rfl, bX9_book_142 (w_fineN H4.bad ⟨_, rfl, fun w => absurd rfl w, fun _ => m_231N hE rfl H4 (fe3.tr f4.e) ((f4 2 (by decide) (by decide) (by decide)).trans g3) i0⟩)⟩)
        · have hm := z10.mp z
          have e1 : pLine t n a B.length = .inl (3, sk t n a) := by
            unfold pLine
            rw [h1, bnd_r, if_pos hm]
          rw [e1, bnd_l] at hE
          rw [H1.2.1]
          exact w_wrong (w := 3) H2 rfl rfl hs.2.1 (fun F3 H3 f3 _ => ⟨rfl, m_75N hE rfl H3 ((fe.tr f12.six.e).tr f3.e) ((f3 2 (by decide) (by decide) (by decide)).trans ((f12 2 (by decide)).trans g2)) i0⟩)
      · rw [nm_sk ha] at h1
        have e1 : pLine t n a B.length = .inl (w, u) := by
          unfold pLine
          rw [h1, bnd_l]
        rw [e1, bnd_l] at hE
        exact w_fineN H2.bad ⟨_, rfl, fun _ => m_75N hE rfl H2 (fe.tr f12.e) ((f12 2 (by decide) (by decide) (by decide)).trans g2) i0, fun z => absurd rfl z⟩
    · rw [pBook_e hl1] at hE
      have f5 := H1.2.2.1 rfl
      refine bX9_book_231 (w_resultY f5 ⟨_, rfl, fun _ F2 e2 => ?_, fun z => absurd ((fU_ne (by decide)).trans f5) z⟩)
      rw [mul3']
      refine w_copies (m := 3 * B.length) ⟨by decide, rfl⟩ ⟨by decide, rfl⟩ (by decide) (show 3 * B.length ≤ 30 by omega) (show 3 * B.length ≤ 30 by omega) (by decide) (by decide) (fun I' h1 h2 h3 => ⟨rfl, ?_⟩)
      have nf : ∀ j, j ≠ 8 → j ≠ 32 → F2 j = F1 j := fun j a b => by rw [e2, fU_ne b, fU_ne a]
      refine hE.1 B _ rfl F2 I' (fun j a b c d e' f' g h => (nf j g h).trans ((f1 j c).trans (f8 j a b c d e' f' g))) ((nf 2 (by decide) (by decide)).trans ((f1 2 (by decide)).trans f2)) (by rw [e2, fU_ne (by decide), fU_at]) ⟨by rw [e2, fU_at], hl, fun i q hi => ?_⟩ (fun a ha hb => (h1 a hb).trans (i0 a ha))
      have hil := (List.getElem?_eq_some_iff.mp hi).1
      obtain ⟨b1, b2, b3, b4⟩ := hB i q hi
      exact ⟨(h2 _ (by omega)).trans b1, (h2 _ (by omega)).trans b2, (h2 _ (by omega)).trans b3, b4⟩
/-- a book is another one -/
theorem MI.bok {F F' : Nat → Int32} {L : Nat → Int64} {I I' : Nat → Nat → Int32} {J : Nat → Nat → Int64} {T : TS} {B : BK} (h : MI F L I J T) (hF : ∀ j, (j = 18 ∨ j = 19 ∨ j = 35 ∨ j = 36 ∨ j = 62 ∨ j = 64) → F' j = F j) (hI : ∀ a, (a = 1 ∨ a = 11 ∨ a = 14 ∨ a = 15 ∨ a = 24 ∨ a = 25 ∨ a = 26 ∨ a = 27 ∨ a = 33 ∨ a = 34 ∨ a = 61 ∨ a = 63) → I' a = I a) (f2 : F' 2 = 0) (f8 : F' 8 = -1) (hB : BkM F' I' B) : MI F' L I' J (tsBk (txS T (-1)) B) := by
  obtain ⟨a, ⟨b1, b2⟩, c, d, e0, -, ⟨p1, p2⟩, ⟨q1, q2⟩, -, ok⟩ := id h
  refine h.put (T' := tsBk (txS T (-1)) B) (hF 35 (by decide)) (hF 36 (by decide)) (hI 33 (by decide)) (hI 34 (by decide)) (hI 1 (by decide)) ⟨fun j hj => ?_, fun j hj => ?_⟩ ⟨(hF 18 (by decide)).trans b1, (hF 19 (by decide)).trans b2⟩ (fun p hp => (c p hp).cong (hI 27 (by decide)) (hI 26 (by decide)) (hI 24 (by decide)) (hI 25 (by decide))) hB ⟨f2, fun i hi => absurd hi (Nat.not_lt_zero i), f8⟩ ⟨(hF 62 (by decide)).trans p1, fun k hk => ?_⟩ ⟨(hF 64 (by decide)).trans q1, fun i hi => ?_⟩ rfl rfl (tsBk_ok (txS_ok ok))
  · rw [hI 11 (by decide)]
    exact a.1 j hj
  · rw [hI 14 (by decide), hI 15 (by decide)]
    exact a.2 j hj
  · have q := p2 k hk
    unfold pastR at *
    rw [hI 61 (by decide)]
    exact q
  · have q := q2 i hi
    unfold imgR at *
    rw [hI 63 (by decide)]
    exact q
theorem m_book {G : GC} {ad : Nat → Nat} {o : Nat} {F : Nat → Int32} {L : Nat → Int64} {I : Nat → Nat → Int32} {J : Nat → Nat → Int64} {Q : MPost} {T : TS} {x : Int32} (hM : MI F L I J T)
    (kq : ∀ n, n < min (tsF T) 150 + 1 → x = nI n → ∀ B a', bkR T n = .inr (B, a') → ∀ F' L9 I' J', MI F' L9 I' J' (tsBk (txS T (-1)) B) → F' 0 = 0 → Q (some (.int (nI B.length))) F' L9 I' J')
    (kw : ∀ n, n < min (tsF T) 150 + 1 → x = nI n → ∀ w u, bkR T n = .inl (w, u) → ∀ F' L9 I' J', MI F' L9 I' J' (txS T (nI u)) → F' 0 = 0 → Q (some (.int (nI w - 10))) F' L9 I' J')
    (k1 : ¬ inN x (min (tsF T) 150 + 1) → ∀ F' L' I' J', MI F' L' I' J' (bu1 T) → F' 0 = 1 → Q (some (.int 0)) F' L' I' J') : CallM G mX9_book 8 ad o [.ref o, .int x] F L I J Q := by
  have M0 : MI (fU F 0 0) L I J T := hM.th
  refine eX9_book (fun σ0 => bX9_book_0 (fun F1 e1 => ?_))
  subst e1
  refine w_isTold M0 (fun n hn hy => ⟨_, rfl, w_mayY fU_at ⟨_, rfl, fun _ => ?_, fun z => absurd z (by decide)⟩⟩) (fun h => ⟨_, rfl, w_may1 M0 fU_at (by decide) (fun F' I' q1 q2 => ⟨_, rfl, fun z => absurd rfl z, fun _ => k1 h F' L I' J q1 q2⟩)⟩)
  obtain ⟨t1, t2, t3⟩ := M0.tape (n := n) (by omega)
  subst hy
  refine w_begins t1 t2 t3 (fun F1 H1 h7 h2 h8' fz => ⟨rfl, ?_⟩)
  refine m_bookL (F0 := fU F 0 0) (I0 := I) (n + 1) 0 [] F1 I (by omega) H1 (fun i q hi => by simp at hi) (by decide) (fun j a b c d e f g => fz j a b c d f g) h2 (fun _ _ => rfl) ⟨fun B' a' h1 F' I' ff z2 z8 hB hI => ?_, fun w u h1 F' I' ff z2 z8 hI => ?_⟩
  · refine kq n hn rfl B' a' h1 F' L I' J (M0.bok (fun j hj => ff j (by omega) (by omega) (by omega) (by omega) (by omega) (by omega) (by omega) (by omega)) (fun a ha => hI a (by omega) (by omega)) z2 z8 hB) ?_
    exact (ff 0 (by decide) (by decide) (by decide) (by decide) (by decide) (by decide) (by decide) (by decide)).trans fU_at
  · refine kw n hn rfl w u h1 F' L I' J (M0.tx (fun j hj => ff j (by omega) (by omega) (by omega) (by omega) (by omega) (by omega) (by omega)) (fun a ha => hI a (by omega)) z2 z8) ?_
    exact (ff 0 (by decide) (by decide) (by decide) (by decide) (by decide) (by decide) (by decide)).trans fU_at
