/-! Part B: the component's reader of habits: tests -/
theorem leaf_sk {t : Nat → Nat} {n a : Nat} (ha : a ≤ n) : leafV t n (sk t n a) = leafV t n a := by
  unfold leafV
  rw [nm_sk ha, sk_sk ha]
theorem val_sk {t : Nat → Nat} {n d a : Nat} (ha : a ≤ n) : pVal t n d (sk t n a) = pVal t n d a := by
  by_cases q : sg t n 40 a
  · have q2 := (sgN ha).mpr q
    cases d with
    | zero => rw [pVal_0 q2, pVal_0 q, sk_sk ha]
    | succ d => rw [pVal_s q2, pVal_s q, sk_sk ha]
  · rw [pVal_n (fun w => q ((sgN ha).mp w)), pVal_n q, leaf_sk ha]
theorem sum_sk {t : Nat → Nat} {n d a : Nat} (ha : a ≤ n) : sumOf t n (pVal t n d) (sk t n a) = sumOf t n (pVal t n d) a := by
  unfold sumOf prodOf
  rw [val_sk ha]
theorem pOne_0 {t : Nat → Nat} {n a : Nat} (h : wd t n (sk t n a) = [110, 111, 116] ∨ sg t n 91 a) : pOne t n 0 a = .inl (3, sk t n a) := by rw [pOne, if_pos h]
theorem pOne_c {t : Nat → Nat} {n d a : Nat} (h0 : ¬ wd t n (sk t n a) = [110, 111, 116]) (h1 : ¬ sg t n 91 a) : pOne t n d a = cmpV t n d a := by
  cases d with
  | zero => rw [pOne, if_neg (fun w => w.elim h0 h1)]
  | succ d => rw [pOne, if_neg h0, if_neg h1]
theorem pOne_n {t : Nat → Nat} {n d a : Nat} (h : wd t n (sk t n a) = [110, 111, 116]) : pOne t n (d + 1) a = bnd (pOne t n d (sk t n a + 3)) (fun c a1 => .inr (c ++ [(8, 0)], a1)) := by rw [pOne, if_pos h]
theorem pOne_b {t : Nat → Nat} {n d a : Nat} (h0 : ¬ wd t n (sk t n a) = [110, 111, 116]) (h : sg t n 91 a) : pOne t n (d + 1) a = bnd (anyOf t n (pOne t n d) (sk t n a + 1)) (fun c a1 => bnd (sgU t n 93 a1) (fun _ a2 => .inr (c, a2))) := by rw [pOne, if_neg h0, if_pos h]
def cmF (t : Nat → Nat) (n d : Nat) (c : CS) (a1 : Nat) : PR CS := if sg t n 60 a1 ∨ sg t n 62 a1 ∨ sg t n 61 a1 then bnd (sumOf t n (pVal t n d) (sk t n a1 + 1)) (fun c2 a2 => .inr (c ++ c2 ++ [((if sg t n 60 a1 then 5 else if sg t n 62 a1 then 6 else 7), 0)], a2)) else .inl (1, sk t n a1)
theorem cmpV_e {t : Nat → Nat} {n d a : Nat} : cmpV t n d a = bnd (sumOf t n (pVal t n d) a) (cmF t n d) := rfl
theorem cmF_y {t : Nat → Nat} {n d a1 x : Nat} {c : CS} (h : (sg t n 60 a1 ∧ x = 5) ∨ (¬ sg t n 60 a1 ∧ sg t n 62 a1 ∧ x = 6) ∨ (¬ sg t n 60 a1 ∧ ¬ sg t n 62 a1 ∧ sg t n 61 a1 ∧ x = 7)) : cmF t n d c a1 = bnd (sumOf t n (pVal t n d) (sk t n a1 + 1)) (fun c2 a2 => .inr (c ++ c2 ++ [(x, 0)], a2)) := by
  unfold cmF
  rcases h with ⟨h1, rfl⟩ | ⟨h0, h1, rfl⟩ | ⟨h0, h00, h1, rfl⟩
  · rw [if_pos (Or.inl h1), if_pos h1]
  · rw [if_pos (Or.inr (Or.inl h1)), if_neg h0, if_pos h1]
  · rw [if_pos (Or.inr (Or.inr h1)), if_neg h0, if_neg h00]
theorem cmF_n {t : Nat → Nat} {n d a1 : Nat} {c : CS} (h0 : ¬ sg t n 60 a1) (h1 : ¬ sg t n 62 a1) (h2 : ¬ sg t n 61 a1) : cmF t n d c a1 = .inl (1, sk t n a1) := if_neg (fun w => w.elim h0 (fun w => w.elim h1 h2))
/-- the other side of a comparison -/
theorem k_cmp2 {G : GC} {σ : PS} {Q : Option Value → PS → Prop} {X : String → Nat → PS → Prop} {R n o d h r tb a1 x q b : Nat} {t : Nat → Nat} {c : CS} (ho : o + d = 6) (hR : 14 + 3 * d ≤ R) (hH : HRO G σ h r) (hO : RdO σ r tb t n (sk t n a1 + 1) o) (hT : TermAt c.length σ q c) (hx : x = 5 ∨ x = 6 ∨ x = 7) (e : cmF t n d c a1 = bnd (sumOf t n (pVal t n d) (sk t n a1 + 1)) (fun c2 a2 => .inr (c ++ c2 ++ [(x, 0)], a2))) (hb : 1 + bud n (sk t n a1 + 1) (sumOf t n (pVal t n d) (sk t n a1 + 1)) ≤ b)
    (ks : ∀ cs a', cmF t n d c a1 = .inr (cs, a') → ∀ q τ, RdO τ r tb t n a' o → TermAt cs.length τ q cs → KpD (RdD r) σ τ → Q (some (.ref q)) τ) (kx : ∀ w p, cmF t n d c a1 = .inl (w, p) → Thr X r σ w p) :
    1 ≤ b ∧ (∀ q9 : Nat, (∀ κ, σ κ q9 = none) → (∀ s1 : PS, s1 = up σ 18 q9 (.inl [.int 0, .null, .null]) → ∃ rc : Nat, rc + 1 ≤ R ∧ ∃ bc : Nat, bc ≤ b - 1 ∧ (∃ fs : List Value, Ob s1 13 h fs) ∧ Call G mX13_sum rc bc [.ref h] s1 (qR (fun ra s2 => 4 + 1 ≤ R ∧ Call G mX18_init 4 0 [.ref q9, .int (nI (sgn x)), .ref q, .ref ra] s2 (qV (fun s3 => Q (some (.ref q9)) s3)) X)) X)) := by
  refine lp_step (x := x) (fun _ q9 s => Q (some (.ref q9)) s) (k_sums ho) (by omega) (by omega) hH hO hT ?_ hb (fun c2 a2 h2 q9 τ y1 y2 y3 => ks _ _ (by rw [e, h2, bnd_r]) q9 τ y1 y2 y3) (fun w p h2 => kx w p (by rw [e, h2, bnd_l]))
  rcases hx with rfl | rfl | rfl
  · exact Or.inr (Or.inr (Or.inr (Or.inl rfl)))
  · exact Or.inr (Or.inr (Or.inr (Or.inr (Or.inl rfl))))
  · exact Or.inr (Or.inr (Or.inr (Or.inr (Or.inr (Or.inl rfl)))))
theorem cmF_ge {t : Nat → Nat} {n d a1 : Nat} {c : CS} (ha : a1 ≤ n) : ∀ cs a', cmF t n d c a1 = .inr (cs, a') → a1 ≤ a' := by
  intro cs a' h
  unfold cmF at h
  have y := sk_b (t := t) ha
  split at h
  · rename_i q
    have ql : sk t n a1 < n := by rcases q with q | q | q <;> exact q.1
    obtain ⟨c2, a3, h3, h4⟩ := bnd_ok h
    cases h4
    have := (sum_gd (val_gd d)).ge _ ql _ _ h3
    omega
  · cases h
theorem k_cmp {G : GC} {σ : PS} {Q : Option Value → PS → Prop} {X : String → Nat → PS → Prop} {R n o d h r tb a b : Nat} {t : Nat → Nat} (ho : o + d = 6) (hR : 14 + 3 * d ≤ R) (hH : HRO G σ h r) (hO : RdO σ r tb t n (sk t n a) o) (ha : a ≤ n) (hb : bud n a (cmpV t n d a) ≤ b) (ks : ∀ cs a', cmpV t n d a = .inr (cs, a') → ∀ q τ, RdO τ r tb t n a' o → TermAt cs.length τ q cs → KpD (RdD r) σ τ → Q (some (.ref q)) τ) (kx : ∀ w p, cmpV t n d a = .inl (w, p) → Thr X r σ w p) :
    ∃ rc : Nat, rc + 1 ≤ R ∧ ∃ bc : Nat, bc ≤ b ∧ (∃ fs_12 : List Value, Ob σ 13 h fs_12) ∧ Call G mX13_sum rc bc [.ref h] σ (qR (fun ra s1_4 => ∃ a_in_5 : Nat, Fg s1_4 13 h 2 (.ref a_in_5) ∧ (5 + 1 ≤ R ∧ (∃ fs_11 : List Value, Ob s1_4 11 a_in_5 fs_11) ∧ Call G mX11_takesSign 5 0 [.ref a_in_5, .int 60] s1_4 (qI (fun rx_7 s1_6 => ((rx_7 = 0) → ∃ a_in_8 : Nat, Fg s1_6 13 h 2 (.ref a_in_8) ∧ (5 + 1 ≤ R ∧ (∃ fs : List Value, Ob s1_6 11 a_in_8 fs) ∧ Call G mX11_takesSign 5 0 [.ref a_in_8, .int 62] s1_6 (qI (fun rx_10 s1_9 => ((rx_10 = 0) → At G mX13_one R Q X (b - bc) 139 [(0, .ref h), (1, .ref ra)] [.int 61] s1_9) ∧ ((¬ rx_10 = 0) → At G mX13_one R Q X (b - bc) 139 [(0, .ref h), (1, .ref ra)] [.int 62] s1_9))) X)) ∧ ((¬ rx_7 = 0) → At G mX13_one R Q X (b - bc) 139 [(0, .ref h), (1, .ref ra)] [.int 60] s1_6))) X))) X := by
  rw [cmpV_e] at hb ks kx
  have vg := (sum_gd (t := t) (val_gd (t := t) (n := n) d)).ge
  obtain ⟨B1, B2⟩ := bud_b (n := n) (a := a) (x := sumOf t n (pVal t n d) a) (f := cmF t n d) (vg a ha) (fun c1 a1 h1 c2 a2 h2 => cmF_ge (vg a ha _ _ h1).2 _ _ h2)
  have hs := sk_b (t := t) ha
  have e0 := sum_sk (t := t) (d := d) ha
  have B0 : bud n (sk t n a) (sumOf t n (pVal t n d) a) ≤ bud n a (sumOf t n (pVal t n d) a) := by
    cases h9 : sumOf t n (pVal t n d) a with
    | inl e =>
      rw [bud_l, bud_l]
      omega
    | inr p =>
      obtain ⟨c1, a1⟩ := p
      rw [bud_r, bud_r]
      omega
  refine ⟨13 + 3 * d, by omega, bud n a (sumOf t n (pVal t n d) a), by omega, hH.ob, ?_⟩
  refine k_sums ho _ _ _ _ _ _ _ _ hH hO (by rw [e0]; exact B0) (fun c1 a1 h1 q τ hO1 hT1 hK1 => ⟨_, rfl, ?_⟩) (fun w p e => kx w p (by rw [← e0, e, bnd_l]))
  rw [e0] at h1
  have g := vg a ha c1 a1 h1
  have hs1 := sk_b (t := t) g.2
  have B3 := B2 c1 a1 h1
  have B5 : bud n a (sumOf t n (pVal t n d) a) = a1 - a := by rw [h1, bud_r]
  rw [h1, bnd_r] at ks kx
  have hH1 := hH.kp hK1
  have BY : ∀ x, cmF t n d c1 a1 = bnd (sumOf t n (pVal t n d) (sk t n a1 + 1)) (fun c2 a2 => .inr (c1 ++ c2 ++ [(x, 0)], a2)) → sk t n a1 < n → 1 + bud n (sk t n a1 + 1) (sumOf t n (pVal t n d) (sk t n a1 + 1)) ≤ b - bud n a (sumOf t n (pVal t n d) a) := by
    intro x e hl
    rw [e, bud_map] at B3
    have := bud_sh (n := n) (a := a1) (a' := sk t n a1 + 1) (x := sumOf t n (pVal t n d) (sk t n a1 + 1)) (by omega) hl (fun v a2 h2 => (vg _ hl _ _ h2).1)
    omega
  refine ⟨r, hH1.fg, by omega, ⟨_, hO1.1⟩, k_takesSign (c := 60) hO1 (by decide) (fun s6 τ2 hO2 hF2 => ⟨_, rfl, fun z => absurd z (by decide), fun _ => ?_⟩) (fun s6 τ2 hO2 hF2 => ⟨_, rfl, fun _ => ?_, fun z => absurd rfl z⟩)⟩
  · have e := cmF_y (t := t) (n := n) (d := d) (a1 := a1) (c := c1) (x := 5) (Or.inl ⟨s6, rfl⟩)
    have kk := hK1.tr hF2.kp
    refine bX13_one_139 ⟨fun _ => ?_, fun z => absurd z (by decide)⟩
    exact k_cmp2 (x := 5) ho hR (hH.kp kk) hO2 (hT1.kp hF2.kp) (Or.inl rfl) e (BY 5 e s6.1) (fun cs a' e2 q' υ y1 y2 y3 => ks cs a' e2 q' υ y1 y2 (kk.tr y3)) (fun w p e2 => (kx w p e2).ant kk)
  · have hH2 := hH1.kp hF2.kp
    refine ⟨r, hH2.fg, by omega, ⟨_, hO2.1⟩, k_takesSign (c := 62) hO2 (by decide) (fun s7 τ3 hO3 hF3 => ⟨_, rfl, fun z => absurd z (by decide), fun _ => ?_⟩) (fun s7 τ3 hO3 hF3 => ⟨_, rfl, fun _ => ?_, fun z => absurd rfl z⟩)⟩
    · have s7' := (sgN g.2).mp s7
      rw [sk_sk g.2] at hO3
      have e := cmF_y (t := t) (n := n) (d := d) (a1 := a1) (c := c1) (x := 6) (Or.inr (Or.inl ⟨s6, s7', rfl⟩))
      have kk := (hK1.tr hF2.kp).tr hF3.kp
      refine bX13_one_139 ⟨fun _ => ?_, fun z => absurd z (by decide)⟩
      exact k_cmp2 (x := 6) ho hR (hH.kp kk) hO3 (hT1.kp (hF2.kp.tr hF3.kp)) (Or.inr (Or.inl rfl)) e (BY 6 e s7'.1) (fun cs a' e2 q' υ y1 y2 y3 => ks cs a' e2 q' υ y1 y2 (kk.tr y3)) (fun w p e2 => (kx w p e2).ant kk)
    · have s7' : ¬ sg t n 62 a1 := fun w => s7 ((sgN g.2).mpr w)
      rw [sk_sk g.2] at hO3
      have kk := (hK1.tr hF2.kp).tr hF3.kp
      have hH3 := hH.kp kk
      have s8 : sg t n 61 (sk t n a1) ↔ sg t n 61 a1 := sgN g.2
      refine bX13_one_139 ⟨fun z => absurd rfl z, fun _ => ⟨r, hH3.fg, by omega, ?_⟩⟩
      by_cases u : sg t n 61 a1
      · have e := cmF_y (t := t) (n := n) (d := d) (a1 := a1) (c := c1) (x := 7) (Or.inr (Or.inr ⟨s6, s7', u, rfl⟩))
        refine ⟨0, Nat.zero_le _, ⟨_, hO3.1⟩, k_sign (c := 61) hO3 (fun w => absurd (s8.mpr u) w) (by decide) (fun _ τ4 hO4 hF4 => ⟨rfl, ?_⟩) (fun w => absurd (s8.mpr u) w)⟩
        rw [sk_sk g.2] at hO4
        have k4 := kk.tr hF4.kp
        exact k_cmp2 (x := 7) ho hR (hH.kp k4) hO4 (hT1.kp ((hF2.kp.tr hF3.kp).tr hF4.kp)) (Or.inr (Or.inr rfl)) e (by have := BY 7 e u.1; omega) (fun cs a' e2 q' υ y1 y2 y3 => ks cs a' e2 q' υ y1 y2 (k4.tr y3)) (fun w p e2 => (kx w p e2).ant k4)
      · have e := cmF_n (d := d) (c := c1) s6 s7' u
        rw [e, bud_l] at B3
        refine ⟨1, by omega, ⟨_, hO3.1⟩, k_sign (c := 61) hO3 (fun _ => Nat.le_refl _) (by decide) (fun w => absurd (s8.mp w) u) (fun _ => ?_)⟩
        rw [sk_sk g.2]
        exact (kx _ _ e).ant kk
