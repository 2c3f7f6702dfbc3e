/-! Part B: the reference's undo, images -/
theorem m_undo {G : GC} {ad : Nat → Nat} {o : Nat} {F : Nat → Int32} {L : Nat → Int64} {I : Nat → Nat → Int32} {J : Nat → Nat → Int64} {Q : MPost} {T : TS} {C : CL} (hM : MI F L I J T) (hs : sameC (tsK T (1 + (tsC T - 1))) C) (kq : tsC T ≠ 0 → ∀ F' L' I' J', MI F' L' I' J' (unS T C) → F' 0 = 0 → Q (some (.int (nI (tsC T - 1)))) F' L' I' J') (kn : tsC T = 0 → ∀ F' L' I' J', MI F' L' I' J' T → F' 0 = 0 → Q (some (.int (-1))) F' L' I' J') : CallM G mX9_undo 3 ad o [.ref o] F L I J Q := by
  have hc := hM.ok.2.2.2.2.2.2.1
  have M0 : MI (fU F 0 0) L I J T := hM.th
  have z0 : nI (tsC T) = 0 ↔ tsC T = 0 := nI_eq (b := 0) (by omega) (by decide)
  refine eX9_undo (fun σ0 => bX9_undo_0 (fun F1 e1 => ?_))
  subst e1
  rw [M0.2.2.2.2.2.2.1.1]
  refine ⟨fun z F1 e1 => ?_, fun z => kn (z0.mp z) _ L I J M0 fU_at⟩
  have z1 : tsC T ≠ 0 := fun e => z (z0.mpr e)
  obtain ⟨c, ec⟩ : ∃ c, tsC T = c + 1 := ⟨tsC T - 1, by omega⟩
  have ec1 : tsC T - 1 = c := by omega
  rw [ec1] at hs kq
  rw [ec, nI_pred] at e1
  subst e1
  obtain ⟨p1, p2⟩ := M0.2.2.2.2.2.2.1.2 c (by omega)
  have hcl := hM.ok.2.2.1 (1 + c) (by omega)
  have f62 : fU (fU F 0 0) 62 (nI c) 62 = nI c := fU_at
  have Lp : ∀ d i, i + d = 24 → ∀ I', (∀ a, a ≠ 14 → a ≠ 15 → I' a = I a) → (∀ j, j < i → I' 14 j = I 61 (49 * c + j) ∧ I' 15 j = I 61 (49 * c + 24 + j)) → AtM G mX9_undo 3 ad o σ0 Q 26 [(0, .ref o), (1, .int (nI i))] [] (fU (fU F 0 0) 62 (nI c)) L I' J := by
    intro d
    induction d with
    | zero =>
      intro i hi I' h1 h2
      have hi : i = 24 := by omega
      subst hi
      refine bX9_undo_26 ⟨fun _ => ?_, fun z => absurd (nI_le (a := 24) (Nat.le_refl _) (by decide)) z⟩
      rw [f62, show (49 : Int32) = nI 49 from rfl, pk_mul, show (48 : Int32) = nI 48 from rfl, nI_add, nI_clamp (by omega), h1 61 (by decide) (by decide), p1]
      refine ⟨vp_in_nI (by omega) (by decide), fun F2 e2 => ?_⟩
      subst e2
      rw [fU_ne (by decide), f62]
      refine kq z1 _ L I' J ?_ ?_
      · have k0 : kUp (tsK T) 0 C 0 = C := kUp_at
        have w := hM.ok
        refine M0.w (K := kUp (tsK T) 0 C) (t := tsT T) (f := tsF T) (l := tsL T) (c := tsC T - 1) (i := tsI T) (q := tsQ T) (fun j a b c d e f => by rw [fU_ne d, fU_ne e]) (fun a b c d e f => h1 a c d) ?_ (fun j hj => ?_) ⟨?_, fun j hj => ?_, ?_⟩ ⟨?_, fun i hi => ?_⟩ ⟨?_, fun i hi => ?_⟩ (tsN_ok hM.ok (fun i hi => ?_) (by omega) w.2.2.2.2.2.2.2.1 w.2.2.2.2.2.2.2.2)
        · rw [fU_at, k0, hs.1]
        · rw [k0] at hj ⊢
          rw [hs.1] at hj
          have hj24 : j < 24 := Nat.lt_of_lt_of_le hj hcl.1
          have a1 := h2 j hj24
          have a2 := p2 j hj
          have a3 := hs.2 j hj24
          exact ⟨a1.1.trans (a2.1.trans a3.1.symm), a1.2.trans (a2.2.trans a3.2.symm)⟩
        · exact M0.2.2.2.2.2.1.1
        · rw [h1 9 (by decide) (by decide)]
          exact M0.2.2.2.2.2.1.2.1 j hj
        · exact M0.2.2.2.2.2.1.2.2
        · rw [ec1]
          exact f62
        · rw [kUp_ne (by omega)]
          have q := M0.2.2.2.2.2.2.1.2 i (by omega)
          unfold pastR at *
          rw [h1 61 (by decide) (by decide)]
          exact q
        · exact M0.2.2.2.2.2.2.2.1.1
        · have q := M0.2.2.2.2.2.2.2.1.2 i hi
          unfold imgR at *
          rw [h1 63 (by decide) (by decide), kUp_ne (by omega)]
          refine ⟨q.1, q.2.1, q.2.2.1, fun x hx => ?_⟩
          rw [kUp_ne (by omega)]
          exact q.2.2.2 x hx
        · by_cases y : i = 0
          · subst y
            rw [kUp_at]
            exact hs.ok hcl
          · rw [kUp_ne y]
            exact hM.ok.2.2.1 i hi
      · rw [fU_ne (by decide), fU_ne (by decide), fU_at]
    | succ d ih =>
      intro i hi I' h1 h2
      refine bX9_undo_26 ⟨fun z => absurd z (nI_ge (b := 24) (by omega) (by decide)), fun _ => ?_⟩
      rw [f62, show (49 : Int32) = nI 49 from rfl, pk_mul, show (24 : Int32) = nI 24 from rfl, nI_add, nI_add, nI_add, nI_clamp (show i < 2 ^ 31 by omega), nI_clamp (show 49 * c + i < 2 ^ 31 by omega)]
      refine ⟨vp_in_nI (by omega) (by decide), vp_in_nI (by omega) (by decide), fun I1 e1 w ew => ?_⟩
      subst ew
      rw [nI_clamp (by omega)]
      refine ⟨vp_in_nI (by omega) (by decide), vp_in_nI (by omega) (by decide), fun I2 e2 v1 e3 => ?_⟩
      rw [e3, nI_1]
      subst e1
      subst e2
      refine ih (i + 1) (by omega) _ (fun a h4 h5 => (gU_ne h5).trans ((gU_ne h4).trans (h1 a h4 h5))) (fun j hj => ⟨?_, ?_⟩)
      · rw [gU_ne (by decide), gU_at]
        by_cases y : j = i
        · subst y
          rw [if_pos rfl, h1 61 (by decide) (by decide)]
        · rw [if_neg y]
          exact (h2 j (by omega)).1
      · rw [gU_at]
        by_cases y : j = i
        · subst y
          rw [if_pos rfl, gU_ne (by decide), h1 61 (by decide) (by decide)]
        · rw [if_neg y, gU_ne (by decide)]
          exact (h2 j (by omega)).2
  exact Lp 24 0 (by omega) I (fun _ _ _ => rfl) (fun j hj => absurd hj (by omega))
/-- a row kept -/
theorem w_keepsRow1 {G : GC} {ad : Nat → Nat} {o : Nat} {F : Nat → Int32} {L : Nat → Int64} {I : Nat → Nat → Int32} {J : Nat → Nat → Int64} {Q : MPost} {q n k2 : Nat} (hk2 : k2 < 65 ∧ mKind k2 = 2) (hn : mLen k2 = n) (h63 : k2 ≠ 63) (hq : q + n ≤ 3090) (k : ∀ I', (∀ a, a ≠ 63 → I' a = I a) → (∀ j, j < n → I' 63 (q + j) = I k2 j) → (∀ x, (x < q ∨ q + n ≤ x) → I' 63 x = I 63 x) → Q (some (.int (nI (q + n)))) F L I' J) : CallM G mX9_keepsRow 3 ad o [.ref o, .int (nI q), .ref (ad k2), .int (nI n), .int 1] F L I J Q := by
  refine eX9_keepsRow (fun σ0 => bX9_keepsRow_0 hk2 ?_)
  have Lp : ∀ d i, i + d = n → ∀ I', (∀ a, a ≠ 63 → I' a = I a) → (∀ j, j < i → I' 63 (q + j) = I k2 j) → (∀ x, (x < q ∨ q + i ≤ x) → I' 63 x = I 63 x) → AtM G mX9_keepsRow 3 ad o σ0 Q 3 [(0, .ref o), (1, .int (nI q)), (2, .ref (ad k2)), (3, .int (nI n)), (4, .int 1), (5, .int (nI i))] [] F L I' J := by
    intro d
    induction d with
    | zero =>
      intro i hi I' h1 h2 h3
      have hi : i = n := by omega
      subst hi
      refine bX9_keepsRow_3 hk2 ⟨fun _ => ?_, fun z => absurd (nI_le (Nat.le_refl _) (by omega)) z⟩
      rw [nI_add]
      exact k I' h1 h2 h3
    | succ d ih =>
      intro i hi I' h1 h2 h3
      refine bX9_keepsRow_3 hk2 ⟨fun z => absurd z (nI_ge (by omega) (by omega)), fun _ => ⟨fun z => absurd z (by decide), fun _ => ?_⟩⟩
      rw [nI_add, hn, nI_clamp (show i < 2 ^ 31 by omega), nI_clamp (show q + i < 2 ^ 31 by omega)]
      refine ⟨vp_in_nI (by omega) (by omega), vp_in_nI (by omega) (by decide), fun I1 e1 v1 e3 => ?_⟩
      rw [e3, nI_1]
      subst e1
      refine ih (i + 1) (by omega) _ (fun a ha => (gU_ne ha).trans (h1 a ha)) (fun j hj => ?_) (fun x hx => ?_)
      · rw [gU_at]
        by_cases y : j = i
        · subst y
          rw [if_pos rfl, h1 k2 h63]
        · rw [if_neg (by omega)]
          exact h2 j (by omega)
      · rw [gU_at, if_neg (by omega)]
        exact h3 x (by omega)
  exact Lp n 0 (by omega) I (fun _ _ => rfl) (fun j hj => absurd hj (by omega)) (fun _ _ => rfl)
theorem w_keepsRow0 {G : GC} {ad : Nat → Nat} {o : Nat} {F : Nat → Int32} {L : Nat → Int64} {I : Nat → Nat → Int32} {J : Nat → Nat → Int64} {Q : MPost} {q n k2 : Nat} (hk2 : k2 < 65 ∧ mKind k2 = 2) (hn : mLen k2 = n) (h63 : k2 ≠ 63) (hq : q + n ≤ 3090) (k : ∀ I', (∀ a, a ≠ k2 → I' a = I a) → (∀ j, j < n → I' k2 j = I 63 (q + j)) → Q (some (.int (nI (q + n)))) F L I' J) : CallM G mX9_keepsRow 3 ad o [.ref o, .int (nI q), .ref (ad k2), .int (nI n), .int 0] F L I J Q := by
  refine eX9_keepsRow (fun σ0 => bX9_keepsRow_0 hk2 ?_)
  have Lp : ∀ d i, i + d = n → ∀ I', (∀ a, a ≠ k2 → I' a = I a) → (∀ j, j < i → I' k2 j = I 63 (q + j)) → AtM G mX9_keepsRow 3 ad o σ0 Q 3 [(0, .ref o), (1, .int (nI q)), (2, .ref (ad k2)), (3, .int (nI n)), (4, .int 0), (5, .int (nI i))] [] F L I' J := by
    intro d
    induction d with
    | zero =>
      intro i hi I' h1 h2
      have hi : i = n := by omega
      subst hi
      refine bX9_keepsRow_3 hk2 ⟨fun _ => ?_, fun z => absurd (nI_le (Nat.le_refl _) (by omega)) z⟩
      rw [nI_add]
      exact k I' h1 h2
    | succ d ih =>
      intro i hi I' h1 h2
      refine bX9_keepsRow_3 hk2 ⟨fun z => absurd z (nI_ge (by omega) (by omega)), fun _ => ⟨fun _ => ?_, fun z => absurd rfl z⟩⟩
      rw [nI_add, hn, nI_clamp (show i < 2 ^ 31 by omega), nI_clamp (show q + i < 2 ^ 31 by omega)]
      refine ⟨vp_in_nI (by omega) (by decide), vp_in_nI (by omega) (by omega), fun I1 e1 v1 e3 => ?_⟩
      rw [e3, nI_1]
      subst e1
      refine ih (i + 1) (by omega) _ (fun a ha => (gU_ne ha).trans (h1 a ha)) (fun j hj => ?_)
      rw [gU_at]
      by_cases y : j = i
      · subst y
        rw [if_pos rfl, h1 63 (fun e => h63 e.symm)]
      · rw [if_neg y]
        exact h2 j (by omega)
  exact Lp n 0 (by omega) I (fun _ _ => rfl) (fun j hj => absurd hj (by omega))
