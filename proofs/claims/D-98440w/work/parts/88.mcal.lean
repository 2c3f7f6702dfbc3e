/-! Part B: the reference's visits change -/
theorem w_keepsVisits {G : GC} {ad : Nat → Nat} {o : Nat} {F : Nat → Int32} {L : Nat → Int64} {I : Nat → Nat → Int32} {J : Nat → Nat → Int64} {Q : MPost} {c : Nat} (h62 : F 62 = nI c) (hc : c < 20) (k : ∀ I', (∀ a, a ≠ 61 → I' a = I a) → (∀ x, x < 49 * c → I' 61 x = I 61 x) → (∀ j, j < 24 → I' 61 (49 * c + j) = I 14 j ∧ I' 61 (49 * c + 24 + j) = I 15 j) → I' 61 (49 * c + 48) = F 19 → Q none (fU F 62 (nI (c + 1))) L I' J) : CallM G mX9_keepsVisits 3 ad o [.ref o] F L I J Q := by
  refine eX9_keepsVisits (fun σ0 => bX9_keepsVisits_0 ?_)
  have Lp : ∀ d i, i + d = 24 → ∀ I', (∀ a, a ≠ 61 → I' a = I a) → (∀ x, x < 49 * c → I' 61 x = I 61 x) → (∀ j, j < i → I' 61 (49 * c + j) = I 14 j ∧ I' 61 (49 * c + 24 + j) = I 15 j) → AtM G mX9_keepsVisits 3 ad o σ0 Q 2 [(0, .ref o), (1, .int (nI i))] [] F L I' J := by
    intro d
    induction d with
    | zero =>
      intro i hi I' h1 h2 h3
      have hi : i = 24 := by omega
      subst hi
      refine bX9_keepsVisits_2 ⟨fun _ => ?_, fun z => absurd (nI_le (a := 24) (Nat.le_refl _) (by decide)) z⟩
      rw [h62, show (49 : Int32) = nI 49 from rfl, pk_mul, show (48 : Int32) = nI 48 from rfl, nI_add, nI_1]
      refine ⟨vp_in_nI (by omega) (by decide), fun I1 e1 F1 e2 => ?_⟩
      rw [nI_clamp (by omega)] at e1
      subst e1
      subst e2
      refine k _ (fun a ha => (gU_ne ha).trans (h1 a ha)) (fun x hx => ?_) (fun j hj => ⟨?_, ?_⟩) ?_
      · rw [gU_at, if_neg (by omega)]
        exact h2 x hx
      · rw [gU_at, if_neg (by omega)]
        exact (h3 j hj).1
      · rw [gU_at, if_neg (by omega)]
        exact (h3 j hj).2
      · rw [gU_at, if_pos rfl]
    | succ d ih =>
      intro i hi I' h1 h2 h3
      refine bX9_keepsVisits_2 ⟨fun z => absurd z (nI_ge (b := 24) (by omega) (by decide)), fun _ => ⟨vp_in_nI (by omega) (by decide), ?_⟩⟩
      rw [h62, show (49 : Int32) = nI 49 from rfl, pk_mul, show (24 : Int32) = nI 24 from rfl, nI_add, nI_add, nI_add, nI_clamp (show i < 2 ^ 31 by omega), nI_clamp (show 49 * c + i < 2 ^ 31 by omega)]
      refine ⟨vp_in_nI (by omega) (by decide), fun I1 e1 w ew => ⟨vp_in_nI (by omega) (by decide), ?_⟩⟩
      subst ew
      rw [nI_clamp (by omega)]
      refine ⟨vp_in_nI (by omega) (by decide), fun I2 e2 v1 e3 => ?_⟩
      rw [e3, nI_1]
      subst e1
      subst e2
      refine ih (i + 1) (by omega) _ (fun a ha => (gU_ne ha).trans ((gU_ne ha).trans (h1 a ha))) (fun x hx => ?_) (fun j hj => ⟨?_, ?_⟩)
      · rw [gU_at, if_neg (by omega), gU_at, if_neg (by omega)]
        exact h2 x hx
      · rw [gU_at, if_neg (by omega), gU_at]
        by_cases y : j = i
        · subst y
          rw [if_pos rfl, h1 14 (by decide)]
        · rw [if_neg (by omega)]
          exact (h3 j (by omega)).1
      · rw [gU_at]
        by_cases y : j = i
        · subst y
          rw [if_pos rfl, gU_ne (by decide), h1 15 (by decide)]
        · rw [if_neg (by omega), gU_at, if_neg (by omega)]
          exact (h3 j (by omega)).2
  exact Lp 24 0 (by omega) I (fun _ _ => rfl) (fun _ _ => rfl) (fun j hj => absurd hj (by omega))
theorem m_keeps {G : GC} {ad : Nat → Nat} {o : Nat} {F : Nat → Int32} {L : Nat → Int64} {I : Nat → Nat → Int32} {J : Nat → Nat → Int64} {Q : MPost} {T : TS} {C : CL} (hM : MI F L I J T) (hc : tsC T < 20) (hs : sameC (tsK T 0) C) (k : ∀ F' I', MI F' L I' J (tsN T (kUp (tsK T) (1 + tsC T) C) (tsC T + 1) (tsI T) (tsQ T)) → F' 0 = F 0 → Q none F' L I' J) : CallM G mX9_keepsVisits 3 ad o [.ref o] F L I J Q := by
  have hn := n24 hM.ok
  have hi := hM.ok.2.2.2.2.2.2.2.1
  refine w_keepsVisits hM.2.2.2.2.2.2.1.1 hc (fun I' h1 h2 h3 h4 => k _ I' ?_ (fU_ne (by decide)))
  have k0 : kUp (tsK T) (1 + tsC T) C 0 = tsK T 0 := kUp_ne (by omega)
  refine hM.w (fun j a b c d e f => fU_ne e) (fun a b c d e f => h1 a e) ?_ (fun j hj => ?_) ⟨?_, fun j hj => ?_, ?_⟩ ⟨fU_at, fun i hi => ?_⟩ ⟨?_, fun i hi => ?_⟩ (tsN_ok hM.ok (fun i hi => ?_) (by omega) hi hM.ok.2.2.2.2.2.2.2.2)
  · rw [k0]
    exact hM.2.1.2
  · rw [k0] at hj ⊢
    rw [h1 14 (by decide), h1 15 (by decide)]
    exact hM.1.2 j hj
  · exact hM.2.2.2.2.2.1.1
  · rw [h1 9 (by decide)]
    exact hM.2.2.2.2.2.1.2.1 j hj
  · exact hM.2.2.2.2.2.1.2.2
  · by_cases y : i = tsC T
    · subst y
      rw [kUp_at]
      refine ⟨by rw [h4, hs.1]; exact hM.2.1.2, fun j hj => ?_⟩
      rw [hs.1] at hj
      have a1 := h3 j (by omega)
      have a2 := hM.1.2 j hj
      have a3 := hs.2 j (by omega)
      exact ⟨a1.1.trans (a2.1.trans a3.1.symm), a1.2.trans (a2.2.trans a3.2.symm)⟩
    · rw [kUp_ne (by omega)]
      obtain ⟨p1, p2⟩ := hM.2.2.2.2.2.2.1.2 i (by omega)
      have hcl := (hM.ok.2.2.1 (1 + i) (by omega)).1
      refine ⟨by rw [h2 _ (by omega)]; exact p1, fun j hj => ?_⟩
      rw [h2 _ (by omega), h2 _ (by omega)]
      exact p2 j hj
  · exact hM.2.2.2.2.2.2.2.1.1
  · have q := hM.2.2.2.2.2.2.2.1.2 i hi
    have hq := hM.ok.2.2.2.2.2.2.2.2 i hi
    unfold imgR at *
    rw [h1 63 (by decide), kUp_ne (by omega)]
    refine ⟨q.1, q.2.1, q.2.2.1, fun x hx => ?_⟩
    rw [kUp_ne (by omega)]
    exact q.2.2.2 x hx
  · by_cases y : i = 1 + tsC T
    · subst y
      rw [kUp_at]
      exact hs.ok (hM.ok.2.2.1 0 (by decide))
    · rw [kUp_ne y]
      exact hM.ok.2.2.1 i hi
theorem MI.now {F F' : Nat → Int32} {L : Nat → Int64} {I I' : Nat → Nat → Int32} {J : Nat → Nat → Int64} {T : TS} {D : CL} (h : MI F L I J T) (hF : ∀ j, j ≠ 19 → F' j = F j) (hI : ∀ a, a ≠ 14 → a ≠ 15 → I' a = I a) (f19 : F' 19 = nI D.1) (who : ∀ j, j < D.1 → I' 14 j = D.2.1 j ∧ I' 15 j = D.2.2 j) (ok : clOK D) : MI F' L I' J (tsN T (kUp (tsK T) 0 D) (tsC T) (tsI T) (tsQ T)) := by
  have k0 : kUp (tsK T) 0 D 0 = D := kUp_at
  refine h.w (fun j a b c d e f => hF j d) (fun a b c d e f => hI a c d) (by rw [k0]; exact f19) (by rw [k0]; exact who) ⟨(hF 2 (by decide)).trans h.2.2.2.2.2.1.1, fun j hj => ?_, (hF 8 (by decide)).trans h.2.2.2.2.2.1.2.2⟩ ⟨(hF 62 (by decide)).trans h.2.2.2.2.2.2.1.1, fun i hi => ?_⟩ ⟨(hF 64 (by decide)).trans h.2.2.2.2.2.2.2.1.1, fun i hi => ?_⟩ (tsN_ok h.ok (fun i hi => ?_) h.ok.2.2.2.2.2.2.1 h.ok.2.2.2.2.2.2.2.1 h.ok.2.2.2.2.2.2.2.2)
  · rw [hI 9 (by decide) (by decide)]
    exact h.2.2.2.2.2.1.2.1 j hj
  · rw [kUp_ne (by omega)]
    have q := h.2.2.2.2.2.2.1.2 i hi
    unfold pastR at *
    rw [hI 61 (by decide) (by decide)]
    exact q
  · have q := h.2.2.2.2.2.2.2.1.2 i hi
    unfold imgR at *
    rw [hI 63 (by decide) (by decide), kUp_ne (by omega)]
    refine ⟨q.1, q.2.1, q.2.2.1, fun x hx => ?_⟩
    rw [kUp_ne (by omega)]
    exact q.2.2.2 x hx
  · by_cases y : i = 0
    · subst y
      rw [kUp_at]
      exact ok
    · rw [kUp_ne y]
      exact h.ok.2.2.1 i hi
theorem w_leaves {G : GC} {ad : Nat → Nat} {o : Nat} {F : Nat → Int32} {L : Nat → Int64} {I : Nat → Nat → Int32} {J : Nat → Nat → Int64} {Q : MPost} {n v : Nat} (h19 : F 19 = nI (n + 1)) (hn : n < 24) (hv : v ≤ n) (k : ∀ I', (∀ a, a ≠ 14 → a ≠ 15 → I' a = I a) → (∀ j, I' 14 j = if v ≤ j ∧ j < n then I 14 (j + 1) else I 14 j) → (∀ j, I' 15 j = if v ≤ j ∧ j < n then I 15 (j + 1) else I 15 j) → Q none (fU F 19 (nI n)) L I' J) : CallM G mX9_leaves 3 ad o [.ref o, .int (nI v)] F L I J Q := by
  refine eX9_leaves (fun σ0 => bX9_leaves_0 (fun F1 e1 => ?_))
  rw [h19, nI_pred] at e1
  subst e1
  have Lp : ∀ d i, i + d = n → v ≤ i → ∀ I', (∀ a, a ≠ 14 → a ≠ 15 → I' a = I a) → (∀ j, I' 14 j = if v ≤ j ∧ j < i then I 14 (j + 1) else I 14 j) → (∀ j, I' 15 j = if v ≤ j ∧ j < i then I 15 (j + 1) else I 15 j) → AtM G mX9_leaves 3 ad o σ0 Q 12 [(0, .ref o), (2, .int (nI i))] [] (fU F 19 (nI n)) L I' J := by
    intro d
    induction d with
    | zero =>
      intro i hi hvi I' h1 h2 h3
      have hi : i = n := by omega
      subst hi
      exact bX9_leaves_12 ⟨fun _ => k I' h1 h2 h3, fun z => absurd (by rw [fU_at]; exact nI_le (Nat.le_refl _) (by omega)) z⟩
    | succ d ih =>
      intro i hi hvi I' h1 h2 h3
      refine bX9_leaves_12 ⟨fun z => absurd (by rw [fU_at] at z; exact z) (nI_ge (by omega) (by omega)), fun _ => ?_⟩
      rw [nI_1]
      refine ⟨vp_in_nI (by omega) (by decide), vp_in_nI (by omega) (by decide), fun I1 e1 => ⟨vp_in_nI (by omega) (by decide), vp_in_nI (by omega) (by decide), fun I2 e2 v2 e3 => ?_⟩⟩
      rw [nI_clamp (show i < 2 ^ 31 by omega), nI_clamp (show i + 1 < 2 ^ 31 by omega)] at e1 e2
      rw [e3]
      subst e1
      subst e2
      refine ih (i + 1) (by omega) (by omega) _ (fun a h4 h5 => (gU_ne h5).trans ((gU_ne h4).trans (h1 a h4 h5))) (fun j => ?_) (fun j => ?_)
      · rw [gU_ne (by decide), gU_at]
        by_cases y : j = i
        · subst y
          rw [if_pos rfl, if_pos (by omega), h2, if_neg (by omega)]
        · rw [if_neg y, h2]
          by_cases z : v ≤ j ∧ j < i
          · rw [if_pos z, if_pos (by omega)]
          · rw [if_neg z, if_neg (by omega)]
      · rw [gU_at, gU_ne (by decide)]
        by_cases y : j = i
        · subst y
          rw [if_pos rfl, if_pos (by omega), h3, if_neg (by omega)]
        · rw [if_neg y, h3]
          by_cases z : v ≤ j ∧ j < i
          · rw [if_pos z, if_pos (by omega)]
          · rw [if_neg z, if_neg (by omega)]
  exact Lp (n - v) v (by omega) (Nat.le_refl _) I (fun _ _ _ => rfl) (fun j => by rw [if_neg (by omega)]) (fun j => by rw [if_neg (by omega)])
