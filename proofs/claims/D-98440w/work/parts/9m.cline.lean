/-! Part B: the component's book: a line -/
def bkW : List (List Nat) := [[99, 97, 114, 100], [119, 97, 114, 109], [105, 110]]
/-- how much, and the line's end -/
def lnM (t : Nat → Nat) (n k a : Nat) : PR Nat := bnd (nm t n 0 (if k = 2 then 13 else 2) a) (fun u a2 => bnd (sgU t n 59 a2) (fun _ a3 => .inr (u, a3)))
def lnW (t : Nat → Nat) (n v a1 : Nat) : PR (Nat × Nat × Nat) := match idx (wd t n (sk t n a1)) bkW 0 with
  | none => .inl (1, sk t n a1)
  | some k => bnd (lnM t n k (sk t n a1 + (wd t n (sk t n a1)).length)) (fun u a3 => .inr ((v, k, u), a3))
def pLine (t : Nat → Nat) (n a m : Nat) : PR (Nat × Nat × Nat) := bnd (nm t n 0 24 a) (fun v a1 => if m = 10 then .inl (3, sk t n a) else lnW t n v a1)
def pBook (t : Nat → Nat) (n : Nat) : Nat → BK → Nat → PR BK
  | 0, l, a => .inr (l, a)
  | f + 1, l, a => if sk t n a < n then bnd (pLine t n a l.length) (fun q a1 => pBook t n f (l ++ [q]) a1) else .inr (l, sk t n a)
def DB (r bk va wa ma κ x : Nat) : Prop := (κ = 11 ∧ x = r) ∨ (κ = 8 ∧ x = bk) ∨ (κ = 100 ∧ (x = va ∨ x = wa ∨ x = ma))
def ThrD (X : String → Nat → PS → Prop) (D : Nat → Nat → Prop) (σ : PS) (why where9 : Nat) : Prop := ∀ q τ, WrO τ q why where9 → KpD D σ τ → X "CardCups$Wrong" q τ
theorem ThrD.ant {X : String → Nat → PS → Prop} {D : Nat → Nat → Prop} {σ τ : PS} {w p : Nat} (h : ThrD X D σ w p) (k : KpD D σ τ) : ThrD X D τ w p := fun q υ z kk => h q υ z (k.tr kk)
theorem ThrD.thr {X : String → Nat → PS → Prop} {r bk va wa ma : Nat} {σ : PS} {w p : Nat} (h : ThrD X (DB r bk va wa ma) σ w p) : Thr X r σ w p := fun q υ z kk => h q υ z (kk.mono (fun κ a d => Or.inl d))
def BkL (σ : PS) (bk va wa ma m : Nat) (f g h : Nat → Int32) : Prop := σ 8 bk = some (.inl [.ref va, .ref wa, .ref ma, .int (nI m)]) ∧ σ 100 va = some (.inr (10, .inl f)) ∧ σ 100 wa = some (.inr (10, .inl g)) ∧ σ 100 ma = some (.inr (10, .inl h))
theorem BkL.kp {σ τ : PS} {bk va wa ma m r : Nat} {f g h : Nat → Int32} (H : BkL σ bk va wa ma m f g h) (k : KpD (RdD r) σ τ) : BkL τ bk va wa ma m f g h := by
  obtain ⟨h1, h2, h3, h4⟩ := H
  exact ⟨k _ _ _ h1 (fun w => absurd w.1 (by decide)), k _ _ _ h2 (fun w => absurd w.1 (by decide)), k _ _ _ h3 (fun w => absurd w.1 (by decide)), k _ _ _ h4 (fun w => absurd w.1 (by decide))⟩
theorem RdO.u100 {σ : PS} {r b n a o κ0 q : Nat} {t : Nat → Nat} {e : aE} (h : RdO σ r b t n a o) (h1 : κ0 ≠ 11) (h2 : κ0 ≠ 102) : RdO (up σ κ0 q e) r b t n a o := h.a2 (fun κ a e' z hh => (up_k (by omega)).trans hh)
theorem k_lineM {G : GC} {σ : PS} {Q : Option Value → PS → Prop} {X : String → Nat → PS → Prop} {b r tb n a o bk va wa ma m k hi : Nat} {t : Nat → Nat} {f g h : Nat → Int32} {y : Int32} (hO : RdO σ r tb t n a o) (hB : BkL σ bk va wa ma m f g h) (hne : va ≠ wa ∧ va ≠ ma ∧ wa ≠ ma) (hm : m < 10) (hhi : hi = if k = 2 then 13 else 2) (hy : ∀ v, v < 2 ^ 30 → (nI v ≤ y ↔ v < hi)) (hb : (∃ e, lnM t n k a = .inl e) → 1 ≤ b)
    (ks : ∀ u a3, lnM t n k a = .inr (u, a3) → ∀ τ, RdO τ r tb t n a3 o → BkL τ bk va wa ma (m + 1) f g (upd h m (nI u)) → KpD (DB r bk va wa ma) σ τ → Q none τ) (kx : ∀ w p, lnM t n k a = .inl (w, p) → ThrD X (DB r bk va wa ma) σ w p) :
    ∃ bc : Nat, bc ≤ b ∧ (∃ fs_8 : List Value, Ob σ 11 r fs_8) ∧ Call G mX11_number 10 bc [.ref r, .int 0, .int y] σ (qI (fun rx s1 => ∃ (n_1 : Nat) (f_2 : Nat → Int32), Ia s1 100 ma n_1 f_2 ∧ vp_in (nI m) n_1 ∧ (∀ s1_3 : PS, s1_3 = up s1 100 ma (.inr (n_1, .inl (upd f_2 (nI m).toNatClampNeg rx))) → ∃ bc_4 : Nat, bc_4 ≤ b - bc ∧ (∃ fs_7 : List Value, Ob s1_3 11 r fs_7) ∧ Call G mX11_sign 10 bc_4 [.ref r, .int 59] s1_3 (qV (fun s1_5 => ∃ x_lines : Int32, Fg s1_5 8 bk 3 (.int x_lines) ∧ (∃ fs : List Value, Ob s1_5 8 bk fs ∧ 3 < fs.length ∧ (∀ s1_6 : PS, s1_6 = up s1_5 8 bk (.inl (fs.set 3 (.int (x_lines + 1)))) → Q none s1_6)))) X))) X := by
  unfold lnM at hb ks kx
  rw [← hhi] at hb ks kx
  have hi2 : hi ≤ 1000 := by
    rw [hhi]
    split <;> decide
  have rd : ∀ κ x, RdD r κ x → DB r bk va wa ma κ x := fun κ x d => Or.inl d
  have dw : DB r bk va wa ma 100 ma := Or.inr (Or.inr ⟨rfl, Or.inr (Or.inr rfl)⟩)
  have d8 : DB r bk va wa ma 8 bk := Or.inr (Or.inl ⟨rfl, rfl⟩)
  cases hn : nm t n 0 hi a with
  | inl e =>
    rw [hn, bnd_l] at hb kx
    exact ⟨1, hb ⟨_, rfl⟩, ⟨_, hO.1⟩, k_number (lo := 0) hO (fun _ => Nat.le_refl _) (by decide) hi2 hy (fun v a' h1 => by rw [hn] at h1; cases h1) (fun w p h1 => by
      rw [hn] at h1
      exact (kx w p (by cases h1; rfl)).thr)⟩
  | inr p =>
    obtain ⟨u, a2⟩ := p
    rw [hn, bnd_r] at hb ks kx
    refine ⟨0, Nat.zero_le _, ⟨_, hO.1⟩, k_number (lo := 0) hO (fun w => by
      obtain ⟨e, h1⟩ := w
      rw [hn] at h1
      cases h1) (by decide) hi2 hy (fun v a' h1 τ hO1 hF => ⟨_, rfl, ?_⟩) (fun w p h1 => by rw [hn] at h1; cases h1)⟩
    rw [hn] at h1
    cases h1
    have hB1 := hB.kp hF.kp
    obtain ⟨q1, q2, q3, q4⟩ := hB1
    refine ⟨10, h, q4, vp_in_nI hm (by decide), fun s3 e3 => ?_⟩
    rw [nI_clamp (by omega)] at e3
    have hO3 : RdO s3 r tb t n a2 o := by
      rw [e3]
      exact hO1.u100 (by decide) (by decide)
    have hB3 : BkL s3 bk va wa ma m f g (upd h m (nI u)) := by
      rw [e3]
      exact ⟨(up_k (by decide)).trans q1, (up_a hne.2.1).trans q2, (up_a hne.2.2).trans q3, up_eq⟩
    have k3 : KpD (DB r bk va wa ma) σ s3 := by
      rw [e3]
      exact (hF.kp.mono rd).up dw
    by_cases hs : sg t n 59 a2
    · refine ⟨0, Nat.zero_le _, ⟨_, hO3.1⟩, k_sign (c := 59) hO3 (fun w => absurd hs w) (by decide) (fun _ τ4 hO4 hF4 => ⟨rfl, ?_⟩) (fun w => absurd hs w)⟩
      obtain ⟨q1, q2, q3, q4⟩ := hB3.kp hF4.kp
      refine ⟨_, ⟨_, q1, rfl⟩, _, q1, by simp, fun s6 e6 => ?_⟩
      rw [nI_1] at e6
      refine ks u _ (by rw [sgU_y hs, bnd_r]) s6 ?_ ?_ ?_
      · rw [e6]
        exact hO4.u100 (by decide) (by decide)
      · rw [e6]
        exact ⟨up_eq, (up_k (by decide)).trans q2, (up_k (by decide)).trans q3, (up_k (by decide)).trans q4⟩
      · rw [e6]
        exact (k3.tr (hF4.kp.mono rd)).up d8
    · rw [sgU_n hs, bnd_l] at hb kx
      exact ⟨1, by
        have := hb ⟨_, rfl⟩
        omega, ⟨_, hO3.1⟩, k_sign (c := 59) hO3 (fun _ => Nat.le_refl _) (by decide) (fun w => absurd w hs) (fun _ => ((kx _ _ rfl).ant k3).thr)⟩
theorem y1 : ∀ v, v < 2 ^ 30 → (nI v ≤ (1 : Int32) ↔ v < 2) := fun v hv => by
  rw [show (1 : Int32) = nI 1 from rfl, nI_leI (by omega) (by decide)]
  omega
theorem y12 : ∀ v, v < 2 ^ 30 → (nI v ≤ (12 : Int32) ↔ v < 13) := fun v hv => by
  rw [show (12 : Int32) = nI 12 from rfl, nI_leI (by omega) (by decide)]
  omega
theorem y23 : ∀ v, v < 2 ^ 30 → (nI v ≤ (23 : Int32) ↔ v < 24) := fun v hv => by
  rw [show (23 : Int32) = nI 23 from rfl, nI_leI (by omega) (by decide)]
  omega
theorem k_line113 {G : GC} {σ : PS} {Q : Option Value → PS → Prop} {X : String → Nat → PS → Prop} {b r tb n a o bk va wa ma m k : Nat} {t : Nat → Nat} {f g h : Nat → Int32} (hO : RdO σ r tb t n a o) (hB : BkL σ bk va wa ma m f g h) (hne : va ≠ wa ∧ va ≠ ma ∧ wa ≠ ma) (hm : m < 10) (hk : k < 3) (hg : g m = nI k) (hb : (∃ e, lnM t n k a = .inl e) → 1 ≤ b)
    (ks : ∀ u a3, lnM t n k a = .inr (u, a3) → ∀ τ, RdO τ r tb t n a3 o → BkL τ bk va wa ma (m + 1) f g (upd h m (nI u)) → KpD (DB r bk va wa ma) σ τ → Q none τ) (kx : ∀ w p, lnM t n k a = .inl (w, p) → ThrD X (DB r bk va wa ma) σ w p) : At G mX1_line 11 Q X b 113 [(1, .ref r), (2, .ref bk), (5, .int (nI m))] [] σ := by
  have cm := nI_clamp (show m < 2 ^ 31 by omega)
  have z2 : nI k = 2 ↔ k = 2 := nI_eq (b := 2) (by omega) (by decide)
  refine bX1_line_113 ⟨ma, ⟨_, hB.1, rfl⟩, wa, ⟨_, hB.1, rfl⟩, 10, g, hB.2.2.1, vp_in_nI hm (by decide), fun z => ?_, fun z => ?_⟩
  · rw [cm, hg] at z
    exact k_lineM (hi := 2) hO hB hne hm (by rw [if_neg (fun w => z (z2.mpr w))]) y1 hb ks kx
  · rw [cm, hg] at z
    exact k_lineM (hi := 13) hO hB hne hm (by rw [if_pos (z2.mp z)]) y12 hb ks kx
theorem bkT (j : Nat) (w : List Nat) (h : bkW[j]? = some w) : ∃ q, strTab[30 + j]? = some q ∧ q.2.2.2 = w.map nI ∧ (∀ x, x ∈ w → x < 256) ∧ w.length ≤ 20 ∧ 0 < w.length := by
  match j, h with
  | 0, h => cases h; exact ⟨_, rfl, rfl, by decide, by decide, by decide⟩
  | 1, h => cases h; exact ⟨_, rfl, rfl, by decide, by decide, by decide⟩
  | 2, h => cases h; exact ⟨_, rfl, rfl, by decide, by decide, by decide⟩
theorem idx3 {w a b c : List Nat} : idx w [a, b, c] 0 = if w = a then some 0 else if w = b then some 1 else if w = c then some 2 else none := rfl
theorem k_line79 {G : GC} {σ : PS} {Q : Option Value → PS → Prop} {X : String → Nat → PS → Prop} {b r tb n a1 o bk va wa ma m k : Nat} {t : Nat → Nat} {f g h : Nat → Int32} {v : Nat} (hB : BkL σ bk va wa ma m f g h) (hne : va ≠ wa ∧ va ≠ ma ∧ wa ≠ ma) (hm : m < 10) (ha : a1 ≤ n)
    (hc : (k < 2 ∧ idx (wd t n (sk t n a1)) bkW 0 = some k ∧ RdO σ r tb t n (sk t n a1 + (wd t n (sk t n a1)).length) o) ∨ (k = 2 ∧ (idx (wd t n (sk t n a1)) bkW 0 = some 2 ∨ idx (wd t n (sk t n a1)) bkW 0 = none) ∧ RdO σ r tb t n (sk t n a1) o)) (hb : (∃ e, lnW t n v a1 = .inl e) → 1 ≤ b)
    (ks : ∀ k u a3, lnW t n v a1 = .inr ((v, k, u), a3) → ∀ τ, RdO τ r tb t n a3 o → BkL τ bk va wa ma (m + 1) f (upd g m (nI k)) (upd h m (nI u)) → KpD (DB r bk va wa ma) σ τ → Q none τ) (kx : ∀ w p, lnW t n v a1 = .inl (w, p) → ThrD X (DB r bk va wa ma) σ w p) : At G mX1_line 11 Q X b 79 [(1, .ref r), (2, .ref bk), (5, .int (nI m))] [.int (nI k), .int (nI m), .ref wa] σ := by
  have cm := nI_clamp (show m < 2 ^ 31 by omega)
  have k3 : k < 3 := by omega
  have z2 : nI k = 2 ↔ k = 2 := nI_eq (b := 2) (by omega) (by decide)
  have rd : ∀ κ x, RdD r κ x → DB r bk va wa ma κ x := fun κ x d => Or.inl d
  have dw : DB r bk va wa ma 100 wa := Or.inr (Or.inr ⟨rfl, Or.inr (Or.inl rfl)⟩)
  obtain ⟨q1, q2, q3, q4⟩ := hB
  refine bX1_line_79 ⟨10, g, q3, vp_in_nI hm (by decide), fun s1 e1 => ?_⟩
  rw [cm] at e1
  have b1 : BkL s1 bk va wa ma m f (upd g m (nI k)) h := by
    rw [e1]
    exact ⟨(up_k (by decide)).trans q1, (up_a hne.1).trans q2, up_eq, (up_a hne.2.2.symm).trans q4⟩
  have kd : KpD (DB r bk va wa ma) σ s1 := by
    rw [e1]
    exact KpD.rf.up dw
  have rs : ∀ a, RdO σ r tb t n a o → RdO s1 r tb t n a o := fun a hh => by
    rw [e1]
    exact hh.u100 (by decide) (by decide)
  have go : ∀ k' τ, k' = k → idx (wd t n (sk t n a1)) bkW 0 = some k' → RdO τ r tb t n (sk t n a1 + (wd t n (sk t n a1)).length) o → BkL τ bk va wa ma m f (upd g m (nI k)) h → KpD (DB r bk va wa ma) σ τ → At G mX1_line 11 Q X b 113 [(1, .ref r), (2, .ref bk), (5, .int (nI m))] [] τ := by
    intro k' τ ek hi hO hB2 kk
    subst ek
    have e : lnW t n v a1 = bnd (lnM t n k' (sk t n a1 + (wd t n (sk t n a1)).length)) (fun u a3 => .inr ((v, k', u), a3)) := by
      unfold lnW
      rw [hi]
    exact k_line113 hO hB2 hne hm k3 pk_us (fun ⟨e9, h9⟩ => hb ⟨e9, by rw [e, h9, bnd_l]⟩) (fun u a3 h9 τ2 y1 y2 y3 => ks k' u a3 (by rw [e, h9, bnd_r]) τ2 y1 y2 (kk.tr y3)) (fun w p h9 => (kx w p (by rw [e, h9, bnd_l])).ant kk)
  refine ⟨wa, ⟨_, b1.1, rfl⟩, 10, _, b1.2.2.1, vp_in_nI hm (by decide), fun z => ?_, fun z => ?_⟩
  · rw [cm, pk_us] at z
    rcases hc with ⟨h1, h2, h3⟩ | ⟨h1, h2, h3⟩
    · exact go k s1 rfl h2 (rs _ h3) b1 kd
    · exact absurd (z2.mpr h1) z
  · rw [cm, pk_us] at z
    have hk2 := z2.mp z
    rcases hc with ⟨h1, h2, h3⟩ | ⟨h1, h2, h3⟩
    · omega
    · have h3' := rs _ h3
      have i3 : ∀ i, idx (wd t n (sk t n a1)) bkW 0 = some i → i = 2 → wd t n (sk t n a1) = [105, 110] := fun i hi e2 => by
        have r := (idx_lt hi).2
        rw [e2] at r
        exact (Option.some.inj r).symm
      refine ⟨⟨_, h3'.1⟩, k_takes (i := 32) (w := [105, 110]) h3' rfl rfl (by decide) (by decide) (by decide) (fun hw τ hO hF => ⟨_, rfl, fun _ => ?_, fun y => absurd y (by decide)⟩) (fun hw τ hO hF => ⟨_, rfl, fun y => absurd rfl y, fun _ => ?_⟩)⟩
      · rw [sk_sk ha] at hw hO
        have h2' : idx (wd t n (sk t n a1)) bkW 0 = some 2 := by
          rw [hw]
          rfl
        refine go 2 τ hk2.symm h2' ?_ (b1.kp hF.kp) (kd.tr (hF.kp.mono rd))
        rw [hw]
        exact hO
      · rw [sk_sk ha] at hw hO
        have h2' : idx (wd t n (sk t n a1)) bkW 0 = none := h2.elim (fun w => absurd (i3 2 w rfl) hw) id
        have e : lnW t n v a1 = .inl (1, sk t n a1) := by
          unfold lnW
          rw [h2']
        refine ⟨hb ⟨_, e⟩, fun q hq s4 e4 => ?_⟩
        subst e4
        have hOq := hO.al (nw_al (κ0 := 12) (e0 := .inl [.null, .null, .null, .null, .null, .int 0, .int 0, .int 0]) hq)
        refine ⟨⟨_, hOq.1⟩, k_place hOq (fun τ5 hO5 hF5 => ⟨_, rfl, ?_⟩)⟩
        rw [sk_sk ha]
        have h12 : τ5 12 q = some (.inl [.null, .null, .null, .null, .null, .int 0, .int 0, .int 0]) := (hF5 12 q (fun w => absurd w.1 (by decide))).trans up_eq
        refine k_wrong (why := 1) h12 (fun υ w ff => ⟨rfl, ?_⟩)
        obtain ⟨v0, v1, v2, v3, v4, v5, w1⟩ := id w
        exact ⟨_, w1, (kx _ _ e) q υ w ((kd.tr (hF.kp.mono rd)).tr ((nw_kp hq hF5.kp ff).mono rd))⟩
