/-! Part B: the component's reader of an office: clauses -/
theorem bnd_as {α β γ : Type} {x : PR α} {f : α → Nat → PR β} {g : β → Nat → PR γ} : bnd (bnd x f) g = bnd x (fun v a => bnd (f v a) g) := by
  cases x with
  | inl e => rfl
  | inr p => rfl
theorem ORO.m {G : GC} {σ : PS} {Z : Nat → Nat} {t : Nat → Nat} {n a m m' : Nat} {S : OF} {x : Int32} (H : ORO G σ Z t n a m S) (e : x = nI m') : ORO G (up σ 10 (Z 0) (.inl [.ref (Z 1), .ref (Z 2), .ref (Z 3), .ref (Z 5), .int x])) Z t n a m' S ∧ KpD (DO Z) σ (up σ 10 (Z 0) (.inl [.ref (Z 1), .ref (Z 2), .ref (Z 3), .ref (Z 5), .int x])) := by
  obtain ⟨h1, ⟨fw, h2, h2'⟩, h3, ⟨h4, fp, h5, h6⟩, ⟨h7, h8, h9, h10⟩, h11⟩ := H
  rw [e]
  exact ⟨⟨up_eq, ⟨fw, (up_k (by decide)).trans h2, h2'⟩, h3.u100 (by decide) (by decide), ⟨(up_k (by decide)).trans h4, fp, (up_k (by decide)).trans h5, h6⟩, ⟨(up_k (by decide)).trans h7, (up_k (by decide)).trans h8, (up_k (by decide)).trans h9, h10⟩, h11⟩, KpD.rf.up (Or.inl ⟨rfl, rfl⟩)⟩
theorem CalD_DO {Z : Nat → Nat} : ∀ κ x, CalD (Z 5) (Z 6) (Z 7) κ x → DO Z κ x := fun κ x d => by
  rcases d with d | ⟨d1, d2⟩
  · exact Or.inr (Or.inr (Or.inr (Or.inr d)))
  · exact Or.inr (Or.inr (Or.inr (Or.inl ⟨d1, Or.inr d2⟩)))
set_option maxHeartbeats 1000000 in
theorem k_c109 {G : GC} {σ : PS} {Q : Option Value → PS → Prop} {X : String → Nat → PS → Prop} {b n a m k : Nat} {Z : Nat → Nat} {t : Nat → Nat} {S : OF} (H : ORO G σ Z t n a m S) (hS : ofOK m S) (hk : k < 9) (h3 : ¬ full k m S) {R : PR OF} (hR : R = bnd (pArg t n k S (a + (wd t n a).length)) (pEnd t n)) (hb : (∃ e, R = .inl e) → 1 ≤ b) (ks : ∀ S' a', R = .inr (S', a') → ∀ τ, ORO G τ Z t n a' (m + 1) S' → KpD (DO Z) σ τ → Q none τ) (kx : ∀ w p, R = .inl (w, p) → ThrD X (DO Z) σ w p) : At G mX10_clause 11 Q X b 109 [(0, .ref (Z 0)), (2, .int (nI k))] [] σ := by
  have lt : ∀ j, j < 9 → (nI k = nI j ↔ k = j) := fun j hj => nI_eq (by omega) (by omega)
  have ti : (nI k).toInt = (k : Int) := nI_toInt (by omega)
  refine bX10_clause_109 ⟨Z 2, H.fg, ⟨_, H.in.1⟩, k_skipsWord H.in (fun τ hO hF => ⟨rfl, ?_⟩)⟩
  have H0 := H.rd hF.kp hO
  refine ⟨nI m, ⟨_, H0.1, rfl⟩, _, H0.1, by simp, fun s1 e1 => ?_⟩
  obtain ⟨H1, k1⟩ := H0.m (nI_1 m)
  replace e1 : s1 = up τ 10 (Z 0) (.inl [.ref (Z 1), .ref (Z 2), .ref (Z 3), .ref (Z 5), .int (nI m + 1)]) := e1
  rw [← e1] at H1 k1
  have kk := (hF.kp.mono rdDO).tr k1
  have hP6 := hS.2.1
  have hO12 := hS.1.1
  have ks1 : ∀ S' a', R = .inr (S', a') → ∀ τ, ORO G τ Z t n a' (m + 1) S' → KpD (DO Z) s1 τ → Q none τ := fun S' a' h2 τ2 y1 y2 => ks S' a' h2 τ2 y1 (kk.tr y2)
  have kx1 : ∀ w p, R = .inl (w, p) → ThrD X (DO Z) s1 w p := fun w p h2 => (kx w p h2).ant kk
  refine ⟨fun z => ?_, fun z => ?_, fun z => ?_, fun z => ?_, fun z => ?_, fun z => ?_, fun z => ?_, fun z => ?_, fun z => ?_⟩
  · have hk8 : k = 8 := by
      rw [ti] at z
      omega
    subst hk8
    have e : R = bnd (pCost t n 5 (7 + 0) S.1 (a + (wd t n a).length)) (fun O a1 => pEnd t n (O, S.2) a1) := by
      rw [hR]
      show bnd (bnd _ _) _ = _
      cases pCost t n 5 7 S.1 (a + (wd t n a).length) with
      | inl e => rfl
      | inr p => rfl
    rw [e] at hb ks1 kx1
    exact k_c385 5 0 _ b S s1 rfl H1 hb ks1 kx1
  · have hk0 := (lt 0 (by decide)).mp z
    subst hk0
    exact k_field (j := 0) (lo := 1) (hi := 13) H1 (by decide) (by decide) (by decide) y12 hR hb ks1 kx1
  · have hk0 := (lt 1 (by decide)).mp z
    subst hk0
    refine ⟨Z 3, H1.of, nI S.2.1, ⟨_, H1.ol, rfl⟩, _, H1.ol, by rw [offL_len]; decide, fun s8 e8 => ?_⟩
    rw [nI_1] at e8
    have e : R = pEnd t n (S.1, S.2.1 + 1, S.2.2) (a + (wd t n a).length) := hR
    obtain ⟨g1, ⟨fw, g2, g2'⟩, g3, ⟨g4, fp, g5, g6⟩, ⟨g7, g8, g9, g10⟩, g11⟩ := H1
    have H2 : ORO G s8 Z t n (a + (wd t n a).length) (m + 1) (S.1, S.2.1 + 1, S.2.2) := by
      rw [e8]
      exact ⟨(up_k (by decide)).trans g1, ⟨fw, (up_k (by decide)).trans g2, g2'⟩, g3.u100 (by decide) (by decide), ⟨up_eq, fp, (up_k (by decide)).trans g5, g6⟩, ⟨(up_k (by decide)).trans g7, (up_k (by decide)).trans g8, (up_k (by decide)).trans g9, g10⟩, g11⟩
    have k2 : KpD (DO Z) s1 s8 := by
      rw [e8]
      exact KpD.rf.up (Or.inr (Or.inr (Or.inl ⟨rfl, rfl⟩)))
    rw [e] at hb ks1 kx1
    exact k_c422 H2 hb (fun S' a' h2 τ2 y1 y2 => ks1 S' a' h2 τ2 y1 (k2.tr y2)) (fun w p h2 => (kx1 w p h2).ant k2)
  · have hk0 := (lt 2 (by decide)).mp z
    subst hk0
    have h24 : ¬ S.2.2.1 = 24 := fun w => h3 (Or.inr (Or.inr ⟨rfl, w⟩))
    have hC24 := hS.2.2.1.1
    have e : R = bnd (nm t n 0 S.2.1 (a + (wd t n a).length)) (fun p a1 => bnd (nm t n 0 481 a1) (fun mi a2 => pEnd t n (S.1, S.2.1, cmC S.2.2 (nI p) (nI mi)) a2)) := by
      rw [hR]
      show bnd (bnd _ _) _ = _
      rw [bnd_as]
      congr 1
      funext p a1
      exact bnd_as
    rw [e] at hb ks1 kx1
    refine ⟨Z 2, H1.fg, Z 3, H1.of, nI S.2.1, ⟨_, H1.ol, rfl⟩, k_numB (lo := 0) (hi := S.2.1) H1.in (fun ⟨e, he⟩ => hb ⟨e, by rw [he, bnd_l]⟩) (by decide) (by omega) (yP (by omega)) (fun p a1 h1 τ2 hO2 k2 => ?_) (fun w p h1 => (kx1 w p (by rw [h1, bnd_l])).to)⟩
    rw [h1, bnd_r] at hb ks1 kx1
    have H2 := H1.rd k2 hO2
    refine ⟨Z 5, ⟨_, H2.1, rfl⟩, Z 2, H2.fg, k_numB (lo := 0) (hi := 481) H2.in (fun ⟨e, he⟩ => by
      have := hb ⟨e, by rw [he, bnd_l]⟩
      omega) (by decide) (by decide) y480 (fun mi a2 h2 τ3 hO3 k3 => ?_) (fun w p h2 => ((kx1 w p (by rw [h2, bnd_l])).ant (k2.mono rdDO)).to)⟩
    rw [h2, bnd_r] at hb ks1 kx1
    have H3 := H2.rd k3 hO3
    obtain ⟨g1, ⟨fw, g2, g2'⟩, g3, ⟨g4, fp, g5, g6⟩, gc, g11, g12⟩ := H3
    refine ⟨⟨_, gc.1⟩, k_comes gc (by omega) (fun τ4 hc4 f4 => ⟨_, rfl, ?_⟩)⟩
    have kp : ∀ κ x e, κ ≠ 2 → (κ ≠ 100 ∨ (x ≠ Z 6 ∧ x ≠ Z 7)) → τ3 κ x = some e → τ4 κ x = some e := fun κ x e z1 z2 hh => (f4 κ x (fun w => by
      unfold CalD at w
      omega)).trans hh
    have H4 : ORO G τ4 Z t n a2 (m + 1) (S.1, S.2.1, cmC S.2.2 (nI p) (nI mi)) := ⟨kp _ _ _ (by decide) (Or.inl (by decide)) g1, ⟨fw, kp _ _ _ (by decide) (Or.inl (by decide)) g2, g2'⟩, g3.a2 (fun κ x e zz hh => kp κ x e (by omega) (Or.inl (by omega)) hh), ⟨kp _ _ _ (by decide) (Or.inl (by decide)) g4, fp, kp _ _ _ (by decide) (Or.inr ⟨g11, g12⟩) g5, g6⟩, hc4, g11, g12⟩
    have k4 := ((k2.mono rdDO).tr (k3.mono rdDO)).tr (f4.kp.mono CalD_DO)
    exact k_c422 H4 (fun w => by
      have := hb w
      omega) (fun S' a' h5 τ5 y1 y2 => ks1 S' a' h5 τ5 y1 (k4.tr y2)) (fun w p h5 => (kx1 w p h5).ant k4)
  · have hk0 := (lt 3 (by decide)).mp z
    subst hk0
    have e : R = bnd (nm t n 0 (S.1 0 + 1) (a + (wd t n a).length)) (fun c a1 => bnd (nm t n 0 (S.1 0 - c + 1) a1) (fun d a2 => pEnd t n (oU (oU S.1 1 c) 2 d, S.2) a2)) := by
      rw [hR]
      show bnd (bnd _ _) _ = _
      rw [bnd_as]
      congr 1
      funext p a1
      exact bnd_as
    rw [e] at hb ks1 kx1
    refine ⟨Z 3, H1.of, Z 2, H1.fg, Z 3, H1.of, nI (S.1 0), ⟨_, H1.ol, rfl⟩, k_numB (lo := 0) (hi := S.1 0 + 1) H1.in (fun ⟨e, he⟩ => hb ⟨e, by rw [he, bnd_l]⟩) (by decide) (by omega) (yN (by omega)) (fun c a1 h1 τ2 hO2 k2 => ?_) (fun w p h1 => (kx1 w p (by rw [h1, bnd_l])).to)⟩
    rw [h1, bnd_r] at hb ks1 kx1
    have hl := wd_le (t := t) H.in.2.2.2.2.1
    have gc := nm_gd hl h1
    have H2 := H1.rd k2 hO2
    refine ⟨_, H2.ol, by rw [offL_len]; decide, fun s24 e24 => ?_⟩
    obtain ⟨H3, k3⟩ := H2.st (j := 1) (v := c) (by decide)
    rw [← e24] at H3 k3
    have v0 : oU S.1 1 c 0 = S.1 0 := oU_ne (by decide)
    refine ⟨Z 3, H3.of, Z 2, H3.fg, Z 3, H3.of, nI (S.1 0), ⟨_, H3.ol, rfl⟩, Z 3, H3.of, nI c, ⟨_, H3.ol, rfl⟩, ?_⟩
    rw [pk_sub (show c ≤ S.1 0 by omega)]
    have k23 := (k2.mono rdDO).tr k3
    refine k_numB (lo := 0) (hi := S.1 0 - c + 1) H3.in (fun ⟨e, he⟩ => by
      have := hb ⟨e, by rw [he, bnd_l]⟩
      omega) (by decide) (by omega) (yN (by omega)) (fun d a2 h2 τ4 hO4 k4 => ?_) (fun w p h2 => ((kx1 w p (by rw [h2, bnd_l])).ant k23).to)
    rw [h2, bnd_r] at hb ks1 kx1
    have H4 := H3.rd k4 hO4
    refine ⟨_, H4.ol, by rw [offL_len]; decide, fun s34 e34 => ?_⟩
    obtain ⟨H5, k5⟩ := H4.st (j := 2) (v := d) (by decide)
    rw [← e34] at H5 k5
    have k6 := (k23.tr (k4.mono rdDO)).tr k5
    exact k_c422 H5 (fun w => by
      have := hb w
      omega) (fun S' a' h5 τ5 y1 y2 => ks1 S' a' h5 τ5 y1 (k6.tr y2)) (fun w p h5 => (kx1 w p h5).ant k6)
  · have hk0 := (lt 4 (by decide)).mp z
    subst hk0
    exact k_field (j := 3) (lo := 0) (hi := 2) H1 (by decide) (by decide) (by decide) y1 hR hb ks1 kx1
  · have hk0 := (lt 5 (by decide)).mp z
    subst hk0
    exact k_field (j := 4) (lo := 0) (hi := 17) H1 (by decide) (by decide) (by decide) y16 hR hb ks1 kx1
  · have hk0 := (lt 6 (by decide)).mp z
    subst hk0
    exact k_field (j := 5) (lo := 1) (hi := 100) H1 (by decide) (by decide) (by decide) y99 hR hb ks1 kx1
  · have hk0 := (lt 7 (by decide)).mp z
    subst hk0
    exact k_field (j := 6) (lo := 0) (hi := 17) H1 (by decide) (by decide) (by decide) y16 hR hb ks1 kx1
theorem k_clause {G : GC} {σ : PS} {Q : Option Value → PS → Prop} {X : String → Nat → PS → Prop} {b n a m : Nat} {Z : Nat → Nat} {t : Nat → Nat} {S : OF} (H : ORO G σ Z t n a m S) (hS : ofOK m S) (hm : m ≤ 60) (hb : (∃ e, pClause t n a m S = .inl e) → 1 ≤ b) (ks : ∀ S' a', pClause t n a m S = .inr (S', a') → ∀ τ, ORO G τ Z t n a' (m + 1) S' → KpD (DO Z) σ τ → Q none τ) (kx : ∀ w p, pClause t n a m S = .inl (w, p) → ThrD X (DO Z) σ w p) : Call G mX10_clause 11 b [.ref (Z 0)] σ Q X := by
  have ha := H.in.2.2.2.2.1
  have hs := sk_b (t := t) ha
  refine eX10_clause (bX10_clause_0 ⟨Z 2, H.fg, ⟨_, H.in.1⟩, k_place H.in (fun τ hO hF => ⟨_, rfl, ?_⟩)⟩)
  have H1 := H.rd hF.kp hO
  refine ⟨Z 2, H1.fg, Z 1, ⟨_, H1.1, rfl⟩, ⟨_, hO.1⟩, k_which hO ofT H1.2.1 (by decide) (by decide) (fun τ2 hO2 hF2 => ⟨_, rfl, ?_⟩)⟩
  rw [sk_sk ha] at hO2 ⊢
  have k2 := hF.kp.tr hF2.kp
  have H2 := H.rd k2 hO2
  have zm : nI m = 60 ↔ m = 60 := nI_eq (b := 60) (by omega) (by decide)
  cases hi : idx (wd t n (sk t n a)) ofW 0 with
  | none =>
    have e := pCl_n (m := m) (S := S) hi
    refine ⟨fun z => absurd rfl z, fun _ => ⟨hb ⟨_, e⟩, fun q hq s1 e1 => ?_⟩⟩
    subst e1
    exact k_thr (why := 1) rfl rfl hq k2 (kx _ _ e).to
  | some k =>
    have hk : k < 9 := (idx_lt hi).1
    have zk : ∀ j, j < 9 → (nI k = nI j ↔ k = j) := fun j hj => nI_eq (by omega) (by omega)
    have hP6 := hS.2.1
    have hC24 := hS.2.2.1.1
    have t3 : full k m S → 1 ≤ b ∧ ∀ q : Nat, (∀ κ, τ2 κ q = none) → ∀ s1 : PS, s1 = up τ2 12 q (.inl [.null, .null, .null, .null, .null, .int 0, .int 0, .int 0]) → Call G mX12_init 6 0 [.ref q, .int 3, .int (nI (sk t n a))] s1 (qV (fun s1_5 => ∃ fs : List Value, Ob s1_5 12 q fs ∧ X "CardCups$Wrong" q s1_5)) X := fun h3 => by
      have e := pCl_3 hi h3
      refine ⟨hb ⟨_, e⟩, fun q hq s1 e1 => ?_⟩
      subst e1
      exact k_thr (why := 3) rfl rfl hq k2 (kx _ _ e).to
    have go : ¬ full k m S → ¬ (k = 0 ∧ 0 < m) → At G mX10_clause 11 Q X b 109 [(0, .ref (Z 0)), (2, .int (nI k))] [] τ2 := fun h3 h4 => by
      have e := pCl_k hi h3 h4
      exact k_c109 H2 hS hk h3 e hb (fun S' a' h5 τ3 y1 y2 => ks S' a' h5 τ3 y1 ((k2.mono rdDO).tr y2)) (fun w p h5 => (kx w p h5).ant (k2.mono rdDO))
    have z0 : nI k = 0 ↔ k = 0 := zk 0 (by decide)
    have z1 : nI k = 1 ↔ k = 1 := zk 1 (by decide)
    have z2 : nI k = 2 ↔ k = 2 := zk 2 (by decide)
    have mle : nI m ≤ 0 ↔ m = 0 := by
      rw [show (0 : Int32) = nI 0 from rfl, nI_leI (by omega) (by decide)]
      omega
    have t4 : ¬ full k m S → (¬ nI k = 0 → At G mX10_clause 11 Q X b 109 [(0, .ref (Z 0)), (2, .int (nI k))] [] τ2) ∧ (nI k = 0 → ∃ x_clauses : Int32, Fg τ2 10 (Z 0) 4 (.int x_clauses) ∧ (((x_clauses ≤ 0) → At G mX10_clause 11 Q X b 109 [(0, .ref (Z 0)), (2, .int (nI k))] [] τ2) ∧ ((¬ x_clauses ≤ 0) → 1 ≤ b ∧ (∀ q : Nat, (∀ κ, τ2 κ q = none) → (∀ s1 : PS, s1 = up τ2 12 q (.inl [.null, .null, .null, .null, .null, .int 0, .int 0, .int 0]) → Call G mX12_init 6 0 [.ref q, .int 4, .int (nI (sk t n a))] s1 (qV (fun s1_1 => ∃ fs : List Value, Ob s1_1 12 q fs ∧ X "CardCups$Wrong" q s1_1)) X))))) := fun h3 => by
      refine ⟨fun z => go h3 (fun w => z (z0.mpr w.1)), fun z => ⟨nI m, ⟨_, H2.1, rfl⟩, fun y => go h3 (fun w => by
        have := mle.mp y
        omega), fun y => ?_⟩⟩
      have e := pCl_4 hi h3 ⟨z0.mp z, by
        have : ¬ m = 0 := fun w => y (mle.mpr w)
        omega⟩
      refine ⟨hb ⟨_, e⟩, fun q hq s1 e1 => ?_⟩
      subst e1
      exact k_thr (why := 4) rfl rfl hq k2 (kx _ _ e).to
    have B61 : ¬ m = 60 → ¬ (k = 1 ∧ S.2.1 = 6) → At G mX10_clause 11 Q X b 61 [(0, .ref (Z 0)), (1, .int (nI (sk t n a))), (2, .int (nI k))] [] τ2 := fun n1 n2 => by
      refine bX10_clause_61 ⟨fun y => ?_, fun y => ⟨Z 5, ⟨_, H2.1, rfl⟩, nI S.2.2.1, ⟨_, H2.2.2.2.2.1.1, rfl⟩, fun w => ?_, fun w => ?_⟩⟩
      · exact t4 (fun w => w.elim n1 (fun w => w.elim n2 (fun w => y (z2.mpr w.1))))
      · exact t4 (fun w2 => w2.elim n1 (fun w2 => w2.elim n2 (fun w2 => w (by rw [w2.2]; rfl))))
      · exact t3 (Or.inr (Or.inr ⟨z2.mp y, (nI_eq (b := 24) (by omega) (by decide)).mp w⟩))
    refine ⟨fun _ => ⟨nI m, ⟨_, H2.1, rfl⟩, fun y => t3 (Or.inl (zm.mp y)), fun y => ⟨fun w => ?_, fun w => ⟨Z 3, H2.of, nI S.2.1, ⟨_, H2.ol, rfl⟩, fun v => ?_, fun v => ?_⟩⟩⟩, fun z => absurd z (m1_nI (by omega))⟩
    · exact B61 (fun w2 => y (zm.mpr w2)) (fun w2 => w (z1.mpr w2.1))
    · exact t3 (Or.inr (Or.inl ⟨z1.mp w, (nI_eq (b := 6) (by omega) (by decide)).mp v⟩))
    · exact B61 (fun w2 => y (zm.mpr w2)) (fun w2 => v (by rw [w2.2]; rfl))
