/-! Part B: the reference's images -/
theorem w_keepsAll1 {G : GC} {ad : Nat → Nat} {o : Nat} {F : Nat → Int32} {L : Nat → Int64} {I : Nat → Nat → Int32} {J : Nat → Nat → Int64} {Q : MPost} {i : Nat} (hi : i < 3) (k : ∀ I', (∀ a, a ≠ 63 → I' a = I a) → (∀ x, x < 1030 * i → I' 63 x = I 63 x) → (∀ j, j < 24 → I' 63 (1030 * i + j) = I 14 j ∧ I' 63 (1030 * i + 24 + j) = I 15 j) → (∀ j, j < 980 → I' 63 (1030 * i + 48 + j) = I 61 j) → I' 63 (1030 * i + 1028) = F 19 → I' 63 (1030 * i + 1029) = F 62 → Q none F L I' J) : CallM G mX9_keepsAll 4 ad o [.ref o, .int (nI i), .int 1] F L I J Q := by
  refine eX9_keepsAll (fun σ0 => bX9_keepsAll_0 ?_)
  rw [show (1030 : Int32) = nI 1030 from rfl, pk_mul, show (24 : Int32) = nI 24 from rfl, show (980 : Int32) = nI 980 from rfl]
  refine w_keepsRow1 (n := 24) (k2 := 14) (by decide) (by decide) (by decide) (by omega) (fun I1 a1 a2 a3 => ⟨_, rfl, w_keepsRow1 (n := 24) (k2 := 15) (by decide) (by decide) (by decide) (by omega) (fun I2 b1 b2 b3 => ⟨_, rfl, w_keepsRow1 (n := 980) (k2 := 61) (by decide) (by decide) (by decide) (by omega) (fun I3 c1 c2 c3 => ⟨_, rfl, fun z => absurd z (by decide), fun _ => ?_⟩)⟩)⟩)
  rw [nI_1]
  refine ⟨vp_in_nI (by omega) (by decide), fun I4 e4 => ⟨vp_in_nI (by omega) (by decide), fun I5 e5 => ?_⟩⟩
  rw [nI_clamp (by omega)] at e4 e5
  subst e4
  subst e5
  have g : ∀ x, x ≠ 1030 * i + 24 + 24 + 980 → x ≠ 1030 * i + 24 + 24 + 980 + 1 → aU (aU I3 63 (1030 * i + 24 + 24 + 980) (F 19)) 63 (1030 * i + 24 + 24 + 980 + 1) (F 62) 63 x = I3 63 x := fun x h1 h2 => by
    rw [gU_at, if_neg h2, gU_at, if_neg h1]
  refine k _ (fun a ha => (gU_ne ha).trans ((gU_ne ha).trans ((c1 a ha).trans ((b1 a ha).trans (a1 a ha))))) (fun x hx => ?_) (fun j hj => ⟨?_, ?_⟩) (fun j hj => ?_) ?_ ?_
  · rw [g _ (by omega) (by omega), c3 _ (by omega), b3 _ (by omega), a3 _ (by omega)]
  · rw [g _ (by omega) (by omega), c3 _ (by omega), b3 _ (by omega), a2 j hj]
  · rw [g _ (by omega) (by omega), c3 _ (by omega), b2 j hj, a1 15 (by decide)]
  · rw [g _ (by omega) (by omega), show 1030 * i + 48 + j = 1030 * i + 24 + 24 + j by omega, c2 j hj, b1 61 (by decide), a1 61 (by decide)]
  · rw [gU_at, if_neg (by omega), gU_at, if_pos (by omega)]
  · rw [gU_at, if_pos (by omega)]
theorem w_keepsAll0 {G : GC} {ad : Nat → Nat} {o : Nat} {F : Nat → Int32} {L : Nat → Int64} {I : Nat → Nat → Int32} {J : Nat → Nat → Int64} {Q : MPost} {i : Nat} (hi : i < 3) (k : ∀ I', (∀ a, a ≠ 14 → a ≠ 15 → a ≠ 61 → I' a = I a) → (∀ j, j < 24 → I' 14 j = I 63 (1030 * i + j) ∧ I' 15 j = I 63 (1030 * i + 24 + j)) → (∀ j, j < 980 → I' 61 j = I 63 (1030 * i + 48 + j)) → Q none (fU (fU F 19 (I 63 (1030 * i + 1028))) 62 (I 63 (1030 * i + 1029))) L I' J) : CallM G mX9_keepsAll 4 ad o [.ref o, .int (nI i), .int 0] F L I J Q := by
  refine eX9_keepsAll (fun σ0 => bX9_keepsAll_0 ?_)
  rw [show (1030 : Int32) = nI 1030 from rfl, pk_mul, show (24 : Int32) = nI 24 from rfl, show (980 : Int32) = nI 980 from rfl]
  refine w_keepsRow0 (n := 24) (k2 := 14) (by decide) (by decide) (by decide) (by omega) (fun I1 a1 a2 => ⟨_, rfl, w_keepsRow0 (n := 24) (k2 := 15) (by decide) (by decide) (by decide) (by omega) (fun I2 b1 b2 => ⟨_, rfl, w_keepsRow0 (n := 980) (k2 := 61) (by decide) (by decide) (by decide) (by omega) (fun I3 c1 c2 => ⟨_, rfl, fun _ => ?_, fun z => absurd rfl z⟩)⟩)⟩)
  have e63 : I3 63 = I 63 := by rw [c1 63 (by decide), b1 63 (by decide), a1 63 (by decide)]
  rw [nI_1]
  refine ⟨vp_in_nI (by omega) (by decide), fun F4 e4 => ⟨vp_in_nI (by omega) (by decide), fun F5 e5 => ?_⟩⟩
  rw [nI_clamp (by omega), e63] at e4 e5
  subst e4
  subst e5
  refine k I3 (fun a h1 h2 h3 => (c1 a h3).trans ((b1 a h2).trans (a1 a h1))) (fun j hj => ⟨?_, ?_⟩) (fun j hj => ?_)
  · rw [c1 14 (by decide), b1 14 (by decide), a2 j hj]
  · rw [c1 15 (by decide), b2 j hj, a1 63 (by decide)]
  · rw [c2 j hj, b1 63 (by decide), a1 63 (by decide), show 1030 * i + 24 + 24 + j = 1030 * i + 48 + j by omega]
theorem m_image {G : GC} {ad : Nat → Nat} {o : Nat} {F : Nat → Int32} {L : Nat → Int64} {I : Nat → Nat → Int32} {J : Nat → Nat → Int64} {Q : MPost} {T : TS} {K : Nat → CL} {C : CL} (hM : MI F L I J T) (hR : imR T K (tsC T)) (hs : sameC (tsK T 0) C) (kq : tsI T ≠ 3 → ∀ F' L' I' J', MI F' L' I' J' (imS T K C) → F' 0 = 0 → Q (some (.int (nI (tsI T + 1)))) F' L' I' J') (kn : tsI T = 3 → ∀ F' L' I' J', MI F' L' I' J' T → F' 0 = 0 → Q (some (.int (-1))) F' L' I' J') : CallM G mX9_image 5 ad o [.ref o] F L I J Q := by
  have hc := hM.ok.2.2.2.2.2.2.1
  have hi := hM.ok.2.2.2.2.2.2.2.1
  have M0 : MI (fU F 0 0) L I J T := hM.th
  have z0 : nI (tsI T) = 3 ↔ tsI T = 3 := nI_eq (b := 3) (by omega) (by decide)
  refine eX9_image (fun σ0 => bX9_image_0 (fun F1 e1 => ?_))
  subst e1
  rw [M0.2.2.2.2.2.2.2.1.1]
  refine ⟨fun z => ?_, fun z => kn (z0.mp z) _ L I J M0 fU_at⟩
  have z1 : tsI T ≠ 3 := fun e => z (z0.mpr e)
  refine w_keepsAll1 (show tsI T < 3 by omega) (fun I' h1 h2 h3 h4 h5 h6 => ⟨rfl, fun F1 e1 => ?_⟩)
  rw [M0.2.2.2.2.2.2.2.1.1, nI_1] at e1
  subst e1
  rw [fU_at]
  have hn := n24 hM.ok
  have k0 : kUp K (21 + 21 * tsI T + 20) C 0 = tsK T 0 := (kUp_ne (by omega)).trans (hR.2 0 (by omega))
  have kx : ∀ x, x < 21 + 21 * tsI T → kUp K (21 + 21 * tsI T + 20) C x = tsK T x := fun x hx => (kUp_ne (by omega)).trans (hR.2 x (by omega))
  refine kq z1 _ L I' J ?_ (by rw [fU_ne (by decide), fU_at])
  refine M0.w (K := kUp K (21 + 21 * tsI T + 20) C) (t := tsT T) (f := tsF T) (l := tsL T) (c := tsC T) (i := tsI T + 1) (q := fun j => if j = tsI T then tsC T else tsQ T j) (fun j a b c d e f => fU_ne f) (fun a b c d e f => h1 a f) ?_ (fun j hj => ?_) ⟨?_, fun j hj => ?_, ?_⟩ ⟨?_, fun i hi => ?_⟩ ⟨?_, fun i hi => ?_⟩ (tsN_ok hM.ok (fun i hi => ?_) hc (by omega) (fun j hj => ?_))
  · rw [k0, fU_ne (by decide)]
    exact M0.2.1.2
  · rw [k0] at hj ⊢
    rw [h1 14 (by decide), h1 15 (by decide)]
    exact hM.1.2 j hj
  · exact M0.2.2.2.2.2.1.1
  · rw [h1 9 (by decide)]
    exact M0.2.2.2.2.2.1.2.1 j hj
  · exact M0.2.2.2.2.2.1.2.2
  · exact M0.2.2.2.2.2.2.1.1
  · rw [kx _ (by omega)]
    have q := M0.2.2.2.2.2.2.1.2 i hi
    unfold pastR at *
    rw [h1 61 (by decide)]
    exact q
  · exact fU_at
  · by_cases y : i = tsI T
    · subst y
      have e20 : kUp K (21 + 21 * tsI T + 20) C (21 + 21 * tsI T + 20) = C := kUp_at
      unfold imgR
      rw [e20, h5, h6, if_pos rfl, hs.1]
      refine ⟨M0.2.1.2, M0.2.2.2.2.2.2.1.1, fun j hj => ?_, fun k hk => ?_⟩
      · have a1 := h3 j (by omega)
        have a2 := hM.1.2 j hj
        have a3 := hs.2 j (by omega)
        exact ⟨a1.1.trans (a2.1.trans a3.1.symm), a1.2.trans (a2.2.trans a3.2.symm)⟩
      · rw [kUp_ne (by omega)]
        have r := hR.1 k hk
        obtain ⟨p1, p2⟩ := M0.2.2.2.2.2.2.1.2 k hk
        have hcl := (hM.ok.2.2.1 (1 + k) (by omega)).1
        refine ⟨?_, fun j hj => ?_⟩
        · rw [h4 _ (by omega), p1, r.1]
        · rw [r.1] at hj
          have a3 := r.2 j (by omega)
          rw [h4 _ (by omega), h4 _ (by omega), a3.1, a3.2]
          exact p2 j hj
    · have hi2 : i < tsI T := by omega
      have q := M0.2.2.2.2.2.2.2.1.2 i hi2
      have hq := hM.ok.2.2.2.2.2.2.2.2 i hi2
      have hcl := fun x (hx : x < 84) => (hM.ok.2.2.1 x hx).1
      unfold imgR at *
      rw [if_neg y, kx _ (by omega)]
      refine ⟨by rw [h2 _ (by omega)]; exact q.1, by rw [h2 _ (by omega)]; exact q.2.1, fun j hj => ?_, fun k hk => ?_⟩
      · have := hcl (21 + 21 * i + 20) (by omega)
        rw [h2 _ (by omega), h2 _ (by omega)]
        exact q.2.2.1 j hj
      · have := hcl (21 + 21 * i + k) (by omega)
        rw [kx _ (by omega)]
        obtain ⟨p1, p2⟩ := q.2.2.2 k hk
        refine ⟨by rw [h2 _ (by omega)]; exact p1, fun j hj => ?_⟩
        rw [h2 _ (by omega), h2 _ (by omega)]
        exact p2 j hj
  · by_cases y : i = 21 + 21 * tsI T + 20
    · subst y
      rw [kUp_at]
      exact hs.ok (hM.ok.2.2.1 0 (by decide))
    · rw [kUp_ne y]
      by_cases w : 21 + 21 * tsI T ≤ i ∧ i < 21 + 21 * tsI T + tsC T
      · have r := hR.1 (i - (21 + 21 * tsI T)) (by omega)
        rw [show 21 + 21 * tsI T + (i - (21 + 21 * tsI T)) = i by omega] at r
        exact r.ok (hM.ok.2.2.1 _ (by omega))
      · rw [hR.2 i (by omega)]
        exact hM.ok.2.2.1 i hi
  · show (if j = tsI T then tsC T else tsQ T j) ≤ 20
    split
    · exact hc
    · exact hM.ok.2.2.2.2.2.2.2.2 j (by omega)
theorem m_restore {G : GC} {ad : Nat → Nat} {o : Nat} {F : Nat → Int32} {L : Nat → Int64} {I : Nat → Nat → Int32} {J : Nat → Nat → Int64} {Q : MPost} {T : TS} {K : Nat → CL} {C : CL} (hM : MI F L I J T) (hR : tsI T ≠ 0 → reR T K (tsQ T (tsI T - 1)) ∧ sameC (tsK T (21 + 21 * (tsI T - 1) + 20)) C) (kq : tsI T ≠ 0 → ∀ F' L' I' J', MI F' L' I' J' (reS T K C) → F' 0 = 0 → Q (some (.int (nI (tsI T - 1)))) F' L' I' J') (kn : tsI T = 0 → ∀ F' L' I' J', MI F' L' I' J' T → F' 0 = 0 → Q (some (.int (-1))) F' L' I' J') : CallM G mX9_restore 5 ad o [.ref o] F L I J Q := by
  have hc := hM.ok.2.2.2.2.2.2.1
  have hi := hM.ok.2.2.2.2.2.2.2.1
  have M0 : MI (fU F 0 0) L I J T := hM.th
  have z0 : nI (tsI T) = 0 ↔ tsI T = 0 := nI_eq (b := 0) (by omega) (by decide)
  refine eX9_restore (fun σ0 => bX9_restore_0 (fun F1 e1 => ?_))
  subst e1
  rw [M0.2.2.2.2.2.2.2.1.1]
  refine ⟨fun z F1 e1 => ?_, fun z => kn (z0.mp z) _ L I J M0 fU_at⟩
  have z1 : tsI T ≠ 0 := fun e => z (z0.mpr e)
  obtain ⟨hR, hs⟩ := hR z1
  obtain ⟨i, ei⟩ : ∃ i, tsI T = i + 1 := ⟨tsI T - 1, by omega⟩
  have ei1 : tsI T - 1 = i := by omega
  have kk := kq z1
  unfold reS at kk
  unfold reR at hR
  rw [ei1] at hR hs kk
  rw [ei, nI_pred] at e1
  subst e1
  have q := M0.2.2.2.2.2.2.2.1.2 i (by omega)
  have hq := hM.ok.2.2.2.2.2.2.2.2 i (by omega)
  have hcl := fun x (hx : x < 84) => (hM.ok.2.2.1 x hx).1
  have c20 := hcl (21 + 21 * i + 20) (by omega)
  have f64 : fU (fU F 0 0) 64 (nI i) 64 = nI i := fU_at
  rw [f64]
  refine w_keepsAll0 (show i < 3 by omega) (fun I' h1 h2 h3 => ⟨rfl, ?_⟩)
  unfold imgR at q
  dsimp only
  rw [q.1, q.2.1, fU_ne (by decide), fU_ne (by decide), f64]
  refine kk _ L I' J ?_ (by rw [fU_ne (by decide), fU_ne (by decide), fU_ne (by decide), fU_at])
  have k0 : kUp K 0 C 0 = C := kUp_at
  refine M0.w (K := kUp K 0 C) (t := tsT T) (f := tsF T) (l := tsL T) (c := tsQ T i) (i := i) (q := tsQ T) (fun j a b c d e f => by rw [fU_ne e, fU_ne d, fU_ne f]) (fun a b c d e f => h1 a c d e) ?_ (fun j hj => ?_) ⟨?_, fun j hj => ?_, ?_⟩ ⟨?_, fun k hk => ?_⟩ ⟨?_, fun j hj => ?_⟩ (tsN_ok hM.ok (fun x hx => ?_) hq (by omega) (fun j hj => hM.ok.2.2.2.2.2.2.2.2 j (by omega)))
  · rw [fU_ne (by decide), fU_at, k0, hs.1]
  · rw [k0] at hj ⊢
    rw [hs.1] at hj
    have a1 := h2 j (by omega)
    have a2 := q.2.2.1 j hj
    have a3 := hs.2 j (by omega)
    exact ⟨a1.1.trans (a2.1.trans a3.1.symm), a1.2.trans (a2.2.trans a3.2.symm)⟩
  · exact M0.2.2.2.2.2.1.1
  · rw [h1 9 (by decide) (by decide) (by decide)]
    exact M0.2.2.2.2.2.1.2.1 j hj
  · exact M0.2.2.2.2.2.1.2.2
  · exact fU_at
  · rw [kUp_ne (by omega)]
    have r := hR.1 k hk
    obtain ⟨p1, p2⟩ := q.2.2.2 k hk
    have := hcl (21 + 21 * i + k) (by omega)
    refine ⟨?_, fun j hj => ?_⟩
    · rw [h3 _ (by omega), p1, r.1]
    · rw [r.1] at hj
      have a3 := r.2 j (by omega)
      rw [h3 _ (by omega), h3 _ (by omega), a3.1, a3.2]
      exact p2 j hj
  · rw [fU_ne (by decide), fU_ne (by decide), f64]
  · have q := M0.2.2.2.2.2.2.2.1.2 j (by omega)
    have hqj := hM.ok.2.2.2.2.2.2.2.2 j (by omega)
    unfold imgR at *
    rw [h1 63 (by decide) (by decide) (by decide), kUp_ne (by omega), hR.2 _ (by omega)]
    refine ⟨q.1, q.2.1, q.2.2.1, fun x hx => ?_⟩
    rw [kUp_ne (by omega), hR.2 _ (by omega)]
    exact q.2.2.2 x hx
  · by_cases y : x = 0
    · subst y
      rw [kUp_at]
      exact hs.ok (hM.ok.2.2.1 _ (by omega))
    · rw [kUp_ne y]
      by_cases w : x < 1 + tsQ T i
      · have r := hR.1 (x - 1) (by omega)
        rw [show 1 + (x - 1) = x by omega] at r
        exact r.ok (hM.ok.2.2.1 _ (by omega))
      · rw [hR.2 x (by omega)]
        exact hM.ok.2.2.1 x hx
