/-! Part B: the component's reader of an office: a clause -/
def offL (p : Nat) (O : Nat → Nat) (P : Nat) : List Value := [.ref p, .int (nI (O 0)), .int (nI (O 1)), .int (nI (O 2)), .int (nI (O 3)), .int (nI (O 4)), .int (nI (O 5)), .int (nI (O 6)), .int (nI P)]
theorem offL_len {p : Nat} {O : Nat → Nat} {P : Nat} : (offL p O P).length = 9 := rfl
theorem offL_st {p : Nat} {O : Nat → Nat} {P j v : Nat} (hj : j < 7) : (offL p O P).set (j + 1) (.int (nI v)) = offL p (oU O j v) P := by
  match j, hj with
  | 0, _ => rfl
  | 1, _ => rfl
  | 2, _ => rfl
  | 3, _ => rfl
  | 4, _ => rfl
  | 5, _ => rfl
  | 6, _ => rfl
/-- Z: reader, words, tape's reader, office, prices, calendar, its two rows, tape -/
def ORO (G : GC) (σ : PS) (Z : Nat → Nat) (t : Nat → Nat) (n a m : Nat) (S : OF) : Prop := σ 10 (Z 0) = some (.inl [.ref (Z 1), .ref (Z 2), .ref (Z 3), .ref (Z 5), .int (nI m)]) ∧ WsO G σ (Z 1) 0 9 ∧ RdO σ (Z 2) (Z 8) t n a 0 ∧ OffO σ (Z 3) (Z 4) S.1 S.2.1 ∧ CalO σ (Z 5) (Z 6) (Z 7) S.2.2.1 S.2.2.2.1 S.2.2.2.2 ∧ Z 4 ≠ Z 6 ∧ Z 4 ≠ Z 7
def DO (Z : Nat → Nat) (κ x : Nat) : Prop := (κ = 10 ∧ x = Z 0) ∨ (κ = 11 ∧ x = Z 2) ∨ (κ = 7 ∧ x = Z 3) ∨ (κ = 100 ∧ (x = Z 4 ∨ x = Z 6 ∨ x = Z 7)) ∨ (κ = 2 ∧ x = Z 5)
theorem rdDO {Z : Nat → Nat} : ∀ κ x, RdD (Z 2) κ x → DO Z κ x := fun κ x d => Or.inr (Or.inl d)
theorem ThrD.to {X : String → Nat → PS → Prop} {Z : Nat → Nat} {σ : PS} {w p : Nat} (h : ThrD X (DO Z) σ w p) : Thr X (Z 2) σ w p := fun q υ z kk => h q υ z (kk.mono rdDO)
theorem ORO.in {G : GC} {σ : PS} {Z : Nat → Nat} {t : Nat → Nat} {n a m : Nat} {S : OF} (H : ORO G σ Z t n a m S) : RdO σ (Z 2) (Z 8) t n a 0 := H.2.2.1
theorem ORO.rd {G : GC} {σ τ : PS} {Z : Nat → Nat} {t : Nat → Nat} {n a a' m : Nat} {S : OF} (H : ORO G σ Z t n a m S) (k : KpD (RdD (Z 2)) σ τ) (hO : RdO τ (Z 2) (Z 8) t n a' 0) : ORO G τ Z t n a' m S := by
  obtain ⟨h1, h2, h3, ⟨h4, fp, h5, h6⟩, ⟨h7, h8, h9, h10⟩, h11⟩ := H
  exact ⟨k _ _ _ h1 (fun w => absurd w.1 (by decide)), h2.kp k, hO, ⟨k _ _ _ h4 (fun w => absurd w.1 (by decide)), fp, k _ _ _ h5 (fun w => absurd w.1 (by decide)), h6⟩, ⟨k _ _ _ h7 (fun w => absurd w.1 (by decide)), k _ _ _ h8 (fun w => absurd w.1 (by decide)), k _ _ _ h9 (fun w => absurd w.1 (by decide)), h10⟩, h11⟩
theorem ORO.fg {G : GC} {σ : PS} {Z : Nat → Nat} {t : Nat → Nat} {n a m : Nat} {S : OF} (H : ORO G σ Z t n a m S) : Fg σ 10 (Z 0) 1 (.ref (Z 2)) := ⟨_, H.1, rfl⟩
theorem ORO.of {G : GC} {σ : PS} {Z : Nat → Nat} {t : Nat → Nat} {n a m : Nat} {S : OF} (H : ORO G σ Z t n a m S) : Fg σ 10 (Z 0) 2 (.ref (Z 3)) := ⟨_, H.1, rfl⟩
theorem ORO.ol {G : GC} {σ : PS} {Z : Nat → Nat} {t : Nat → Nat} {n a m : Nat} {S : OF} (H : ORO G σ Z t n a m S) : σ 7 (Z 3) = some (.inl (offL (Z 4) S.1 S.2.1)) := H.2.2.2.1.1
/-- an office's field -/
theorem ORO.st {G : GC} {σ : PS} {Z : Nat → Nat} {t : Nat → Nat} {n a m j v : Nat} {S : OF} (H : ORO G σ Z t n a m S) (hj : j < 7) : ORO G (up σ 7 (Z 3) (.inl ((offL (Z 4) S.1 S.2.1).set (j + 1) (.int (nI v))))) Z t n a m (oU S.1 j v, S.2) ∧ KpD (DO Z) σ (up σ 7 (Z 3) (.inl ((offL (Z 4) S.1 S.2.1).set (j + 1) (.int (nI v))))) := by
  obtain ⟨h1, ⟨fw, h2, h2'⟩, h3, ⟨h4, fp, h5, h6⟩, ⟨h7, h8, h9, h10⟩, h11⟩ := H
  rw [offL_st hj]
  exact ⟨⟨(up_k (by decide)).trans h1, ⟨fw, (up_k (by decide)).trans h2, h2'⟩, h3.u100 (by decide) (by decide), ⟨up_eq, fp, (up_k (by decide)).trans h5, fun i hi => (h6 i hi).trans (by
    show nI (S.1 (7 + i)) = nI (oU S.1 j v (7 + i))
    rw [oU_ne (show 7 + i ≠ j by omega)])⟩, ⟨(up_k (by decide)).trans h7, (up_k (by decide)).trans h8, (up_k (by decide)).trans h9, h10⟩, h11⟩, KpD.rf.up (Or.inr (Or.inr (Or.inl ⟨rfl, rfl⟩)))⟩
/-- a number, a sign: no room but where it is wrong -/
theorem k_numB {G : GC} {σ : PS} {X : String → Nat → PS → Prop} {b r tb n a o lo hi : Nat} {t : Nat → Nat} {y : Int32} {K : Nat → Int32 → PS → Prop} (hO : RdO σ r tb t n a o) (hb : (∃ e, nm t n lo hi a = .inl e) → 1 ≤ b) (hlo : lo ≤ 1000) (hhi : hi ≤ 1000) (hy : ∀ v, v < 2 ^ 30 → (nI v ≤ y ↔ v < hi)) (k : ∀ v a', nm t n lo hi a = .inr (v, a') → ∀ τ, RdO τ r tb t n a' o → KpD (RdD r) σ τ → K 0 (nI v) τ) (kx : ∀ w p, nm t n lo hi a = .inl (w, p) → Thr X r σ w p) :
    ∃ bc : Nat, bc ≤ b ∧ (∃ fs : List Value, Ob σ 11 r fs) ∧ Call G mX11_number 10 bc [.ref r, .int (nI lo), .int y] σ (qI (fun rx s1 => K bc rx s1)) X := by
  by_cases he : ∃ e, nm t n lo hi a = .inl e
  · refine ⟨1, hb he, ⟨_, hO.1⟩, k_number hO (fun _ => Nat.le_refl _) hlo hhi hy (fun v a' h1 => ?_) kx⟩
    obtain ⟨e, h2⟩ := he
    rw [h1] at h2
    cases h2
  · exact ⟨0, Nat.zero_le _, ⟨_, hO.1⟩, k_number hO (fun w => absurd w he) hlo hhi hy (fun v a' h1 τ hO1 hF => ⟨_, rfl, k v a' h1 τ hO1 hF.kp⟩) kx⟩
theorem k_signB {G : GC} {σ : PS} {X : String → Nat → PS → Prop} {b r tb n a o c : Nat} {t : Nat → Nat} {K : Nat → PS → Prop} (hO : RdO σ r tb t n a o) (hb : ¬ sg t n c a → 1 ≤ b) (hc : c < 256) (k : sg t n c a → ∀ τ, RdO τ r tb t n (sk t n a + 1) o → KpD (RdD r) σ τ → K 0 τ) (kx : ¬ sg t n c a → Thr X r σ 1 (sk t n a)) :
    ∃ bc : Nat, bc ≤ b ∧ (∃ fs : List Value, Ob σ 11 r fs) ∧ Call G mX11_sign 10 bc [.ref r, .int (nI c)] σ (qV (fun s1 => K bc s1)) X := by
  by_cases he : sg t n c a
  · exact ⟨0, Nat.zero_le _, ⟨_, hO.1⟩, k_sign hO (fun w => absurd he w) hc (fun z τ hO1 hF => ⟨rfl, k z τ hO1 hF.kp⟩) kx⟩
  · exact ⟨1, hb he, ⟨_, hO.1⟩, k_sign hO (fun _ => Nat.le_refl _) hc (fun z => absurd z he) kx⟩
theorem k_c422 {G : GC} {σ : PS} {Q : Option Value → PS → Prop} {X : String → Nat → PS → Prop} {b n a m : Nat} {Z : Nat → Nat} {t : Nat → Nat} {S : OF} (H : ORO G σ Z t n a m S) (hb : (∃ e, pEnd t n S a = .inl e) → 1 ≤ b) (ks : ∀ S' a', pEnd t n S a = .inr (S', a') → ∀ τ, ORO G τ Z t n a' m S' → KpD (DO Z) σ τ → Q none τ) (kx : ∀ w p, pEnd t n S a = .inl (w, p) → ThrD X (DO Z) σ w p) : At G mX10_clause 11 Q X b 422 [(0, .ref (Z 0))] [] σ := by
  refine bX10_clause_422 ⟨Z 2, H.fg, k_signB (c := 59) (K := fun _ s1 => Q none s1) H.in (fun z => hb ⟨_, pEnd_n z⟩) (by decide) (fun z τ hO k => ?_) (fun z => (kx _ _ (pEnd_n z)).to)⟩
  exact ks _ _ (pEnd_y z) τ (H.rd k hO) (k.mono rdDO)
/-- one number into a field of the office -/
theorem k_field {G : GC} {σ : PS} {Q : Option Value → PS → Prop} {X : String → Nat → PS → Prop} {b n a m lo hi j : Nat} {Z : Nat → Nat} {t : Nat → Nat} {S : OF} {y : Int32} (H : ORO G σ Z t n a m S) (hj : j < 7) (hlo : lo ≤ 1000) (hhi : hi ≤ 1000) (hy : ∀ v, v < 2 ^ 30 → (nI v ≤ y ↔ v < hi)) {R : PR OF} (hR : R = bnd (bnd (nm t n lo hi a) (fun v a1 => .inr ((oU S.1 j v, S.2), a1))) (pEnd t n)) (hb : (∃ e, R = .inl e) → 1 ≤ b) (ks : ∀ S' a', R = .inr (S', a') → ∀ τ, ORO G τ Z t n a' m S' → KpD (DO Z) σ τ → Q none τ) (kx : ∀ w p, R = .inl (w, p) → ThrD X (DO Z) σ w p) :
    ∃ a_office : Nat, Fg σ 10 (Z 0) 2 (.ref a_office) ∧ (∃ a_in_2 : Nat, Fg σ 10 (Z 0) 1 (.ref a_in_2) ∧ (∃ bc : Nat, bc ≤ b ∧ (∃ fs_6 : List Value, Ob σ 11 a_in_2 fs_6) ∧ Call G mX11_number 10 bc [.ref a_in_2, .int (nI lo), .int y] σ (qI (fun rx s1_3 => ∃ fs_4 : List Value, Ob s1_3 7 a_office fs_4 ∧ j + 1 < fs_4.length ∧ (∀ s1_5 : PS, s1_5 = up s1_3 7 a_office (.inl (fs_4.set (j + 1) (.int rx))) → At G mX10_clause 11 Q X (b - bc) 422 [(0, .ref (Z 0))] [] s1_5))) X)) := by
  subst hR
  refine ⟨Z 3, H.of, Z 2, H.fg, k_numB H.in (fun ⟨e, he⟩ => hb ⟨e, by rw [he, bnd_l, bnd_l]⟩) hlo hhi hy (fun v a1 h1 τ hO k => ?_) (fun w p h1 => (kx w p (by rw [h1, bnd_l, bnd_l])).to)⟩
  have H1 := H.rd k hO
  refine ⟨_, H1.ol, by rw [offL_len]; omega, fun s5 e5 => ?_⟩
  obtain ⟨H2, k2⟩ := H1.st (v := v) hj
  rw [← e5] at H2 k2
  rw [h1, bnd_r, bnd_r] at hb ks kx
  have kk := (k.mono rdDO).tr k2
  exact k_c422 H2 hb (fun S' a' h2 τ2 y1 y2 => ks S' a' h2 τ2 y1 (kk.tr y2)) (fun w p h2 => (kx w p h2).ant kk)
theorem y99 : ∀ v, v < 2 ^ 30 → (nI v ≤ (99 : Int32) ↔ v < 100) := fun v hv => by
  rw [show (99 : Int32) = nI 99 from rfl, nI_leI (by omega) (by decide)]
  omega
theorem y480 : ∀ v, v < 2 ^ 30 → (nI v ≤ (480 : Int32) ↔ v < 481) := fun v hv => by
  rw [show (480 : Int32) = nI 480 from rfl, nI_leI (by omega) (by decide)]
  omega
theorem yN {N : Nat} (hN : N < 2 ^ 30) : ∀ v, v < 2 ^ 30 → (nI v ≤ nI N ↔ v < N + 1) := fun v hv => by
  rw [nI_leI (by omega) (by omega)]
  omega
theorem yP {N : Nat} (hN : N < 2 ^ 30) : ∀ v, v < 2 ^ 30 → (nI v ≤ nI N - 1 ↔ v < N) := fun v hv => by
  cases N with
  | zero =>
    have e : ¬ nI v ≤ nI 0 - 1 := fun w => by
      rw [fa_le9] at w
      have e1 : (nI 0 - 1 : Int32).toInt = -1 := by decide
      rw [nI_toInt (by omega)] at w
      omega
    exact ⟨fun w => absurd w e, fun w => absurd w (Nat.not_lt_zero v)⟩
  | succ N =>
    rw [nI_pred, nI_leI (by omega) (by omega)]
    omega
/-- the prices -/
theorem k_c385 {Q : Option Value → PS → Prop} {X : String → Nat → PS → Prop} {G : GC} {n m : Nat} {Z : Nat → Nat} {t : Nat → Nat} : ∀ (j i a b : Nat) (S : OF) (σ : PS), i + j = 5 → ORO G σ Z t n a m S → ((∃ e, bnd (pCost t n j (7 + i) S.1 a) (fun O a1 => pEnd t n (O, S.2) a1) = .inl e) → 1 ≤ b) → (∀ S' a', bnd (pCost t n j (7 + i) S.1 a) (fun O a1 => pEnd t n (O, S.2) a1) = .inr (S', a') → ∀ τ, ORO G τ Z t n a' m S' → KpD (DO Z) σ τ → Q none τ) → (∀ w p, bnd (pCost t n j (7 + i) S.1 a) (fun O a1 => pEnd t n (O, S.2) a1) = .inl (w, p) → ThrD X (DO Z) σ w p) → At G mX10_clause 11 Q X b 385 [(0, .ref (Z 0)), (3, .int (nI i))] [] σ := by
  intro j
  induction j with
  | zero =>
    intro i a b S σ hij H hb ks kx
    obtain ⟨h4, fp, h5, h6⟩ := H.2.2.2.1
    have hi : i = 5 := by omega
    subst hi
    refine bX10_clause_385 ⟨Z 3, H.of, Z 4, ⟨_, H.ol, rfl⟩, 5, _, h5, fun _ => ?_, fun z => absurd (nI_le (Nat.le_refl 5) (by decide)) z⟩
    exact k_c422 H hb ks kx
  | succ j ih =>
    intro i a b S σ hij H hb ks kx
    obtain ⟨h4, fp, h5, h6⟩ := H.2.2.2.1
    have e0 : pCost t n (j + 1) (7 + i) S.1 a = bnd (nm t n 0 100 a) (fun v a1 => pCost t n j (7 + i + 1) (oU S.1 (7 + i) v) a1) := rfl
    rw [e0] at hb ks kx
    refine bX10_clause_385 ⟨Z 3, H.of, Z 4, ⟨_, H.ol, rfl⟩, 5, _, h5, fun z => absurd z (nI_ge (by omega) (by decide)), fun _ => ⟨Z 3, H.of, Z 4, ⟨_, H.ol, rfl⟩, Z 2, H.fg, k_numB (lo := 0) (hi := 100) H.in (fun ⟨e, he⟩ => hb ⟨e, by rw [he, bnd_l, bnd_l]⟩) (by decide) (by decide) y99 (fun v a1 h1 τ hO k => ?_) (fun w p h1 => (kx w p (by rw [h1, bnd_l, bnd_l])).to)⟩⟩
    have H1 := H.rd k hO
    obtain ⟨g1, ⟨fw, g2, g2'⟩, g3, ⟨g4, fp1, g5, g6⟩, ⟨g7, g8, g9, g10⟩, g11, g12⟩ := H1
    refine ⟨5, fp1, g5, vp_in_nI (by omega) (by decide), fun s4 e4 v3 e3 => ?_⟩
    rw [nI_clamp (by omega)] at e4
    rw [nI_1] at e3
    have H2 : ORO G s4 Z t n a1 m (oU S.1 (7 + i) v, S.2) := by
      rw [e4]
      refine ⟨(up_k (by decide)).trans g1, ⟨fw, (up_k (by decide)).trans g2, g2'⟩, g3.u100 (by decide) (by decide), ⟨(up_k (by decide)).trans ?_, _, up_eq, fun x hx => ?_⟩, ⟨(up_k (by decide)).trans g7, (up_a g11.symm).trans g8, (up_a g12.symm).trans g9, g10⟩, g11, g12⟩
      · rw [g4]
        have q : ∀ y, y < 7 → oU S.1 (7 + i) v y = S.1 y := fun y hy => oU_ne (by omega)
        show _ = some (Sum.inl [_, Value.int (nI (oU S.1 (7 + i) v 0)), Value.int (nI (oU S.1 (7 + i) v 1)), Value.int (nI (oU S.1 (7 + i) v 2)), Value.int (nI (oU S.1 (7 + i) v 3)), Value.int (nI (oU S.1 (7 + i) v 4)), Value.int (nI (oU S.1 (7 + i) v 5)), Value.int (nI (oU S.1 (7 + i) v 6)), _])
        rw [q 0 (by decide), q 1 (by decide), q 2 (by decide), q 3 (by decide), q 4 (by decide), q 5 (by decide), q 6 (by decide)]
      · by_cases z : x = i
        · rw [z, pk_us]
          show nI v = nI (oU S.1 (7 + i) v (7 + i))
          rw [oU_at]
        · rw [pk_un z, g6 x hx]
          show nI (S.1 (7 + x)) = nI (oU S.1 (7 + i) v (7 + x))
          rw [oU_ne (by omega)]
    have k2 : KpD (DO Z) σ s4 := by
      rw [e4]
      exact (k.mono rdDO).up (Or.inr (Or.inr (Or.inr (Or.inl ⟨rfl, Or.inl rfl⟩))))
    rw [h1, bnd_r] at hb ks kx
    rw [e3]
    exact ih (i + 1) a1 _ (oU S.1 (7 + i) v, S.2) s4 (by omega) H2 hb (fun S' a' h2 τ2 y1 y2 => ks S' a' h2 τ2 y1 (k2.tr y2)) (fun w p h2 => (kx w p h2).ant k2)
