/-! Part B: the component's office read: all -/
theorem c_office {G : GC} {σ : PS} {Q : Option Value → PS → Prop} {X : String → Nat → PS → Prop} {b : Nat} {A : Nat → Nat} {CA : Nat → Nat × Nat × Nat} {E : Nat × Nat × Option Nat × Nat × Nat × Nat × Nat} {T : TS} {x : Int32} (hC : CI σ A CA E T) (hb : 30 ≤ b)
    (kq : ∀ n, n < tsF T + 1 → x = nI n → ∀ S a', ofR T n = .inr (S, a') → ∀ τ E' C, sameC S.2.2 C → CI τ A CA E' (tsOf T S.1 S.2.1 C) → KpD (own A CA) σ τ → Q (some (.int (nI S.2.2.1))) τ)
    (kw : ∀ n, n < tsF T + 1 → x = nI n → ∀ w u, ofR T n = .inl (w, u) → ∀ τ, CI τ A CA E (txS T (nI u)) → KpD (own A CA) σ τ → Q (some (.int (nI w - 10))) τ)
    (k1 : ¬ inN x (tsF T + 1) → ∀ τ q, CI τ A CA E (bu1 T) → KpD (own A CA) σ τ → X "java/lang/IllegalArgumentException" q τ) : Call G mX1_office 13 b [.ref (A 0), .int x] σ Q X := by
  have hF6 := hC.2.2.2.2.2.2.1
  refine eX1_office (bX1_office_0 ⟨_, ⟨_, hC.1.x, rfl⟩, 1, by omega, ⟨_, hC.1.x⟩, c_in (n := tsF T) hC (Nat.le_refl _) (by omega) rfl (fun n hn hy => ⟨rfl, by omega, fun q hq s1 e1 => ?_⟩) k1⟩)
  subst hy
  obtain ⟨t1, t2, t3⟩ := hC.tape (n := n) (by omega)
  have al := nw_al (κ0 := 10) (e0 := .inl [.null, .null, .null, .null, .int 0]) hq
  have kn : KpD (D1 A) σ (up σ 10 q (.inl [.null, .null, .null, .null, .int 0])) := KpD.nw hq
  rw [← e1] at al kn
  have q10 : s1 10 q = some (.inl [.null, .null, .null, .null, .int 0]) := by rw [e1, up_eq]
  have xx := al _ _ _ hC.fx
  refine ⟨1, by omega, ⟨_, xx⟩, k_reader (Nat.le_refl _) xx (by
    obtain ⟨ft, d1, d2⟩ := t1
    exact ⟨ft, al _ _ _ d1, d2⟩) t2 t3 (fun τ r x5 hO hr kr => ⟨_, rfl, 6, by omega, ?_⟩)⟩
  have fz : ∀ υ v, KpD (D1 A) σ υ → (∃ e, υ 1 (A 0) = some e) → (∀ κ, υ κ v = none) → ∀ κ, σ κ v = none := fun υ v kk h1 hv κ => by
    cases e : σ κ v with
    | none => rfl
    | some y =>
      by_cases z : D1 A κ v
      · obtain ⟨e9, h9⟩ := h1
        rw [← z.2, hv] at h9
        cases h9
      · have := kk κ v y e z
        rw [hv] at this
        cases this
  have kτ := kn.tr kr
  have hr0 := fz s1 r kn ⟨_, xx⟩ hr
  have q10' := kr _ _ _ q10 (fun w => absurd w.1 (by decide))
  refine k_orinit (Nat.le_refl _) q10' hO (fun τ2 wa of p cal w m H z3 z4 z5 z6 z7 ko => ⟨rfl, 1, by omega, ⟨_, H.1⟩, ?_⟩)
  have k2 : KpD (D1 A) σ τ2 := kτ.fd ko (fun κ a d => Or.inr (by rw [d.2]; exact hq κ))
  have x6 := ko _ _ _ x5 (fun w => absurd w.1 (by decide))
  have w3 := fz τ of kτ ⟨_, x5⟩ z3
  have w4 := fz τ p kτ ⟨_, x5⟩ z4
  have w5 := fz τ cal kτ ⟨_, x5⟩ z5
  have w6 := fz τ w kτ ⟨_, x5⟩ z6
  have w7 := fz τ m kτ ⟨_, x5⟩ z7
  have dead : ∀ κ a, DO (zz q wa r of p cal w m (A 1)) κ a → D1 A κ a ∨ σ κ a = none := fun κ a d => by
    rcases d with ⟨-, d⟩ | ⟨-, d⟩ | ⟨-, d⟩ | ⟨-, d | d | d⟩ | ⟨-, d⟩
    · exact Or.inr (by rw [d]; exact hq κ)
    · exact Or.inr (by rw [d]; exact hr0 κ)
    · exact Or.inr (by rw [d]; exact w3 κ)
    · exact Or.inr (by rw [d]; exact w4 κ)
    · exact Or.inr (by rw [d]; exact w6 κ)
    · exact Or.inr (by rw [d]; exact w7 κ)
    · exact Or.inr (by rw [d]; exact w5 κ)
  have stay : ∀ υ, KpD (DO (zz q wa r of p cal w m (A 1))) τ2 υ → υ 1 (A 0) = some (.inl (cx A CA E 0 (-1) (nI (tsC T)) (nI (tsI T)))) ∧ KpD (D1 A) σ υ := fun υ kk => ⟨kk _ _ _ x6 (fun w => by
    unfold DO at w
    omega), k2.fd kk dead⟩
  have f8 : zz q wa r of p cal w m (A 1) 0 = q := rfl
  refine eX10_reads (k_readsO (Z := zz q wa r of p cal w m (A 1)) (n + 1) 0 0 1 of0 τ2 (by omega) H of0_ok (by decide) (Nat.le_refl _) (fun S a' h1 τ3 m' H3 k3 => ⟨rfl, ?_⟩) (fun w9 u h1 q9 τ3 hw k3 => ?_))
  · obtain ⟨x7, k7⟩ := stay τ3 k3
    obtain ⟨-, -, m9, so⟩ := pOff_ok _ _ _ _ (Nat.zero_le _) of0_ok _ _ h1
    refine ⟨of, H3.of, _, x7, by simp [cx], fun s8 e8 => ?_⟩
    have x8 : s8 1 (A 0) = some (.inl [.ref (A 1), .ref (CA 0).1, .ref (A 2), .ref (A 3), .ref (A 7), .ref (A 8), .ref (A 9), .ref (A 10), .ref (A 15), .ref (A 17), .ref of, va_rf E.2.2.1, .ref E.2.2.2.1, .int 0, .int (-1), .int (nI (tsC T)), .int (nI (tsI T))]) := by
      rw [e8, up_eq]
      rfl
    have n8 : ∀ κ a, κ ≠ 1 → s8 κ a = τ3 κ a := fun κ a hn => by rw [e8, up_k hn]
    have k8 : KpD (D1 A) σ s8 := by
      rw [e8]
      exact k7.up ⟨rfl, rfl⟩
    obtain ⟨H3a, -, -, ⟨o1, fp, o2, o3⟩, ⟨c1, c2, c3, c4⟩, -⟩ := H3
    have hx8 : s8 10 q = _ := (n8 10 q (by decide)).trans H3a
    have C0 : CalO s8 (CA 0).1 (CA 0).2.1 (CA 0).2.2 (tsK T 0).1 (tsK T 0).2.1 (tsK T 0).2.2 := hC.cal2 (k8.mono (fun κ a d => D1_2 d)) 0 (by decide)
    have hcal := (hC.1.cal (i := 0) (by decide))
    have n5 : cal ≠ (CA 0).1 := fun w => by
      have := w5 2
      rw [w, hcal.1] at this
      cases this
    have n7 : m ≠ (CA 0).2.1 := fun w => by
      have := w7 100
      rw [w, hcal.2.1] at this
      cases this
    refine ⟨(CA 0).1, ⟨_, x8, rfl⟩, cal, ⟨_, hx8, rfl⟩, ⟨_, C0.1⟩, k_as C0 ⟨(n8 2 cal (by decide)).trans c1, (n8 _ _ (by decide)).trans c2, (n8 _ _ (by decide)).trans c3, c4⟩ n5 n7 (fun τ9 hw hm9 hc9 e2 e3 f9 => ⟨_, rfl, ?_⟩)⟩
    have k9 : KpD (D9 A CA) σ τ9 := (k8.mono (fun κ a d => D2_9 (D1_2 d))).tr (f9.kp.mono (fun κ a d => Or.inr (Or.inr d)))
    have f1 : ∀ κ a, κ ≠ 2 → κ ≠ 100 → τ9 κ a = s8 κ a := fun κ a y1 y2 => f9 κ a (fun w => by
      unfold CalD at w
      omega)
    have f100 : ∀ a, (∀ κ, σ κ a = none) → τ9 100 a = s8 100 a := fun a ha => f9 100 a (fun w => by
      rcases w with w | ⟨-, w | w⟩
      · exact absurd w.1 (by decide)
      · have := ha 100
        rw [w, hcal.2.1] at this
        cases this
      · have := ha 100
        rw [w, hcal.2.2.1] at this
        cases this)
    obtain ⟨hf, b1, b2, b3⟩ := hC.1.2.2.2.1
    have x9 := (f1 1 (A 0) (by decide) (by decide)).trans x8
    have h9 : τ9 105 (A 9) = some (.inr (6, .inr (.inr hf))) := (f1 105 (A 9) (by decide) (by decide)).trans ((n8 _ _ (by decide)).trans (k7 _ _ _ b1 (fun w => absurd w.1 (by decide))))
    refine k_off59 (A := A) hc9.1 x9 (fun τ10 bk va wa2 ma hf2 y1 y2 y3 y4 hB u2 u3 u4 k10 => ?_) 6 0 _ τ9 hf rfl (by omega) KpD.rf ⟨hf, h9, fun j _ => rfl⟩ h9 (fun j hj => absurd hj (Nat.not_lt_zero j))
    have K : KpD (D9 A CA) σ τ10 := k9.tr (k10.mono (fun κ a d => D2_9 d))
    have fr9 : ∀ v, (∀ κ, τ9 κ v = none) → ∀ κ, σ κ v = none := fun v hv κ => by
      cases e : σ κ v with
      | none => rfl
      | some y =>
        by_cases z : D9 A CA κ v
        · rcases z with ⟨z1, z2⟩ | ⟨z1, z2⟩ | ⟨z1, z2⟩ | ⟨z1, z2⟩
          · rw [← z2, hv] at x9
            cases x9
          · rw [← z2, hv] at h9
            cases h9
          · have := hc9.1
            rw [← z2, hv] at this
            cases this
          · rcases z2 with z2 | z2
            · have := hc9.2.1
              rw [← z2, hv] at this
              cases this
            · have := hc9.2.2.1
              rw [← z2, hv] at this
              cases this
        · have := k9 κ v y e z
          rw [hv] at this
          cases this
    have kd : ∀ κ a e, κ ≠ 1 → κ ≠ 105 → τ9 κ a = some e → τ10 κ a = some e := fun κ a e y1 y2 hh => k10 κ a e hh (fun w => by
      unfold D2 at w
      omega)
    have same : sameC S.2.2 (S.2.2.1, hw, hm9) := ⟨rfl, fun j hj => ⟨e2 j hj, e3 j hj⟩⟩
    have ok := tsOf_ok (T := T) (C := (S.2.2.1, hw, hm9)) hC.2.2 so.1 so.2.1 (same.ok so.2.2.1)
    have hh : ∀ i y, hf2 i = some y → ∃ vs, τ10 14 y = some (.inl vs) := fun i y hy => by
      obtain ⟨j, rfl, h6, g, g1, g2⟩ := y4 i y hy
      rw [h9] at g1
      cases g1
      exact k9_14 K (b3 j y g2)
    have hcl : ∀ i, i < 84 → CalO τ10 (CA i).1 (CA i).2.1 (CA i).2.2 (tsK (tsOf T S.1 S.2.1 (S.2.2.1, hw, hm9)) i).1 (tsK (tsOf T S.1 S.2.1 (S.2.2.1, hw, hm9)) i).2.1 (tsK (tsOf T S.1 S.2.1 (S.2.2.1, hw, hm9)) i).2.2 := fun i hi => by
      show CalO τ10 (CA i).1 (CA i).2.1 (CA i).2.2 (kUp (tsK T) 0 (S.2.2.1, hw, hm9) i).1 (kUp (tsK T) 0 (S.2.2.1, hw, hm9) i).2.1 (kUp (tsK T) 0 (S.2.2.1, hw, hm9) i).2.2
      by_cases z : i = 0
      · rw [z, kUp_at]
        exact ⟨kd _ _ _ (by decide) (by decide) hc9.1, kd _ _ _ (by decide) (by decide) hc9.2.1, kd _ _ _ (by decide) (by decide) hc9.2.2.1, hc9.2.2.2⟩
      · rw [kUp_ne z]
        exact hC.cal9 K i (by omega) hi
    obtain ⟨C2, K2⟩ := hC.put (τ := τ10) (E' := eO (zz q wa r of p cal w m (A 1)) bk va wa2 ma) (T' := tsOf T S.1 S.2.1 (S.2.2.1, hw, hm9)) K y1 ⟨⟨kd _ _ _ (by decide) (by decide) ((f1 7 of (by decide) (by decide)).trans ((n8 _ _ (by decide)).trans o1)), fp, kd _ _ _ (by decide) (by decide) ((f100 p w4).trans ((n8 _ _ (by decide)).trans o2)), o3⟩, hC.nown w4⟩ ⟨Or.inl ⟨rfl, rfl⟩, fun y hy => by cases hy⟩ ⟨hf2, y2, fun p hp => Or.inl ⟨y3 p hp, rfl⟩, hh⟩ ⟨hB, hC.nown (fr9 va u2), hC.nown (fr9 wa2 u3), hC.nown (fr9 ma u4)⟩ hcl rfl (Nat.zero_le _) (Nat.zero_le _) rfl rfl rfl ok
    exact kq n hn rfl S a' h1 τ10 _ _ same C2 K2
  · obtain ⟨x7, k7⟩ := stay τ3 k3
    refine AtX.catch [] ⟨23, 27, 30, 106⟩ [] rfl (fun z hz => absurd hz (by simp)) rfl (by decide) q832 q1046 (At.sub [1] rfl (bX1_office_30 ⟨⟨_, x7⟩, k_faulty x7 hw (fun τ4 x8 kf => ⟨_, rfl, ?_⟩)⟩))
    obtain ⟨C2, K2⟩ := hC.bad (k7.tr kf) x8
    exact kw n hn rfl w9 u h1 τ4 C2 K2
