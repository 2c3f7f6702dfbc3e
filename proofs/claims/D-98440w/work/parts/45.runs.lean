/-! Part B: Day.runs -/
def DayW (a st κ x : Nat) : Prop := DayD a st κ x ∨ κ = 26
theorem Fr.kpW {a st κ : Nat} {σ τ : PS} (f : Fr (DayW a st) σ τ) (h4 : κ ≠ 4) (h5 : κ ≠ 5) (h6 : κ ≠ 26) : Kp κ σ τ := by
  intro x e h
  rw [f κ x ?_]
  · exact h
  · rintro ((⟨q, _⟩ | ⟨q, _⟩) | q)
    · exact h5 q
    · exact h4 q
    · exact h6 q
theorem OffO.kept {σ τ : PS} {o p P : Nat} {O : Nat → Nat} (f7 : Kp 7 σ τ) (f1 : Kp 100 σ τ) (h : OffO σ o p O P) : OffO τ o p O P := by
  obtain ⟨h1, f, h2, h3⟩ := h
  exact ⟨f7 _ _ h1, f, f1 _ _ h2, h3⟩
theorem CalO.kept {σ τ : PS} {c w m n : Nat} {fw fm : (Nat → Int32)} (f2 : Kp 2 σ τ) (f1 : Kp 100 σ τ) (h : CalO σ c w m n fw fm) : CalO τ c w m n fw fm := by
  obtain ⟨e1, e2, e3, ne, ne'⟩ := h
  exact ⟨f2 _ _ e1, f1 _ _ e2, f1 _ _ e3, ne, ne'⟩
theorem DayO.bump {σ : PS} {a st o v v' : Nat} {y : DY} (h : DayO σ a st o v y) : ∃ fs, σ 5 a = some (.inl fs) ∧ fs.length = 7 ∧ DayO (up σ 5 a (.inl (fs.set 3 (.int (nI v'))))) a st o v' y := by
  obtain ⟨l, dr, wa, lo, s, c, d, k, e⟩ := y
  exact ⟨_, h.1, rfl, up_eq, (up_k (by decide)).trans h.2⟩
theorem k_days {G : GC} {σ : PS} {Q : Option Value → PS → Prop} {X : String → Nat → PS → Prop} {b a st o p P' cl w m n hb T : Nat} {O : Nat → Nat} {fw fm : (Nat → Int32)} {hf : Nat → Option Nat} {H : Nat → List StT} {seed to : Int32} {l5 : List Value} {v1 v2 v3 v4 v5 v6 : Value} (hO : OffO σ o p O P') (hC : CalO σ cl w m n fw fm) (hn : n ≤ 24) (hw : ∀ i, i < n → ∃ p, p < 6 ∧ fw i = nI p)
    (hH : σ 105 hb = some (.inr (6, .inr (.inr hf)))) (hL : ∀ p, p < 6 → HabQ σ (hf p) (H p)) (e5 : σ 5 a = some (.inl [.ref st, v1, v2, v3, v4, v5, v6])) (e4 : σ 4 st = some (.inl l5)) (hl5 : l5.length = 5) (hN : O 0 ≤ 12) (hcd : O 1 + O 2 ≤ 12) (hk : O 3 < 2) (hfa : O 4 ≤ 16) (hse : O 6 ≤ 16) (hbud : T ≤ b) (hT : T ≤ n) (hto : ∀ i, i ≤ 24 → (to < nI i ↔ T ≤ i))
    (h : ∀ τ, DayO τ a st o T (runDay O fw fm H seed T) → Fr (DayW a st) σ τ → Q (some (.ref a)) τ) : Call G mX5_runs 202 b [.ref a, .ref o, .ref cl, .ref hb, .int seed, .int to] σ Q X := by
  -- one visit's steps
  have S : ∀ (i : Nat) (hi : i < T) (b' : Nat) (q pw : Nat) (hp : pw < 6) (y0 : DY) (_ : dyB (i + 1) y0)
      (nxt : ∀ τ, DayO τ a st o (i + 1) (endDay ((H pw).foldl (stepDay (O 0) (O 5) (O 6) i fw fm) y0)) → Fr (DayW a st) σ τ → At G mX5_runs 202 Q X b' 56 [(0, .ref a), (1, .ref o), (2, .ref cl), (3, .ref hb), (5, .int to)] [] τ),
      ∀ (D j : Nat), j + D = (H pw).length → ∀ τ, DayO τ a st o i (((H pw).take j).foldl (stepDay (O 0) (O 5) (O 6) i fw fm) y0) → SigO τ q o cl i fw fm (.ref st) → Fr (DayW a st) σ τ → At G mX5_runs 202 Q X b' 132 [(0, .ref a), (1, .ref o), (2, .ref cl), (3, .ref hb), (5, .int to), (6, .ref q), (7, va_rf (hf pw)), (8, .int (nI j))] [] τ := by
    intro i hi b' q pw hp y0 hy0 nxt
    have fin : ∀ τ, DayO τ a st o i ((H pw).foldl (stepDay (O 0) (O 5) (O 6) i fw fm) y0) → Fr (DayW a st) σ τ →
        ∃ a_state : Nat, Fg τ 5 a 0 (.ref a_state) ∧ (∃ fs : List Value, Ob τ 4 a_state fs ∧ 4 < fs.length ∧ (∀ s1 : PS, s1 = up τ 4 a_state (.inl (fs.set 4 (.int 0))) → ∃ x_visit : Int32, Fg s1 5 a 3 (.int x_visit) ∧ (∃ fs_1 : List Value, Ob s1 5 a fs_1 ∧ 3 < fs_1.length ∧ (∀ s1_2 : PS, s1_2 = up s1 5 a (.inl (fs_1.set 3 (.int (x_visit + 1)))) → At G mX5_runs 202 Q X b' 56 [(0, .ref a), (1, .ref o), (2, .ref cl), (3, .ref hb), (5, .int to)] [] s1_2)))) := by
      intro τ hD hF
      revert hD nxt
      generalize (H pw).foldl (stepDay (O 0) (O 5) (O 6) i fw fm) y0 = y
      obtain ⟨l, dr, wa, lo, s, c, d, k, e⟩ := y
      intro nxt hD
      have g4 := hD.up4 (s' := s) (c' := c) (d' := d) (k' := k) (e' := 0)
      refine ⟨st, ⟨_, hD.1, rfl⟩, _, hD.2, by simp [stL], fun s1 hs => ?_⟩
      subst hs
      refine ⟨nI i, ⟨_, g4.1, rfl⟩, _, g4.1, by simp, fun s2 hs => ?_⟩
      subst hs
      rw [nI_1]
      exact nxt _ ⟨up_eq, (up_k (by decide)).trans g4.2⟩ ((hF.up (Or.inl (Or.inr ⟨rfl, rfl⟩))).up (Or.inl (Or.inl ⟨rfl, rfl⟩)))
    intro D
    induction D with
    | zero =>
      intro j hj τ hD hS hF
      have hj : j = (H pw).length := by omega
      subst hj
      rw [List.take_length] at hD
      have hq := (hL pw hp).kept (fun κ a1 a2 => hF.kpW (by omega) (by omega) (by omega)) (hF.kpW (by decide) (by decide) (by decide))
      refine bX5_runs_132 ⟨fun _ => fin τ hD hF, fun z hz => ?_⟩
      rcases hq with ⟨h1, _⟩ | ⟨z', h1, ar, h2, h3, -⟩
      · rw [h1] at hz; cases hz
      · rw [h1] at hz
        cases hz
        exact ⟨_, ⟨_, h2, rfl⟩, fun _ => fin τ hD hF, fun c => absurd (nI_le (Nat.le_refl _) (by omega)) c⟩
    | succ D ih =>
      intro j hj τ hD hS hF
      have hq := (hL pw hp).kept (fun κ a1 a2 => hF.kpW (by omega) (by omega) (by omega)) (hF.kpW (by decide) (by decide) (by decide))
      rcases hq with ⟨_, h1⟩ | ⟨z, hz, ar, h2, h3, f, h4, h5⟩
      · rw [h1] at hj; simp at hj
      have hjl : j < (H pw).length := by omega
      obtain ⟨⟨hS1, hS2⟩, q', hq1, hq2⟩ := h5 j _ (List.getElem?_eq_getElem hjl)
      have t1 : ((H pw).take (j + 1)).foldl (stepDay (O 0) (O 5) (O 6) i fw fm) y0 = stepDay (O 0) (O 5) (O 6) i fw fm (((H pw).take j).foldl (stepDay (O 0) (O 5) (O 6) i fw fm) y0) (H pw)[j] := by
        rw [List.take_succ_eq_append_getElem hjl, List.foldl_append]
        rfl
      have ih1 := ih (j + 1) (by omega)
      rw [t1] at ih1
      have hB : dyB (i + 1) (((H pw).take j).foldl (stepDay (O 0) (O 5) (O 6) i fw fm) y0) := stepsDay_ok hN _ hy0
      revert hD ih1 hB
      generalize ((H pw).take j).foldl (stepDay (O 0) (O 5) (O 6) i fw fm) y0 = y
      obtain ⟨l, dr, wa, lo, s, c, d, k, e⟩ := y
      intro hD ih1 hB
      obtain ⟨B1, B2, B3, B4⟩ := hB
      have B1 : s ≤ i + 1 := B1
      have B2 : c + d ≤ 12 := B2
      have hO1 := hO.kept (hF.kpW (by decide) (by decide) (by decide)) (hF.kpW (by decide) (by decide) (by decide))
      have hC1 := hC.kept (hF.kpW (by decide) (by decide) (by decide)) (hF.kpW (by decide) (by decide) (by decide))
      have hA : Asks τ q i (O 0) (O 5) fw fm s c d k e := ⟨o, p, cl, w, m, n, st, P', O, rfl, rfl, hS, hO1, hC1, hD.2, by omega, by omega⟩
      have hz' : ∀ υ, Fr (DayW a st) σ υ → HabO υ z (H pw) := by
        intro υ hF'
        have hq' := (hL pw hp).kept (fun κ a1 a2 => hF'.kpW (by omega) (by omega) (by omega)) (hF'.kpW (by decide) (by decide) (by decide))
        rcases hq' with ⟨h1, _⟩ | ⟨z', hz', h6⟩
        · rw [h1] at hz; cases hz
        · rw [hz'] at hz; cases hz; exact h6
      have on1 : ∀ υ y', DayO υ a st o i y' → dyB (i + 1) y' → Fr (DayW a st) σ υ → SigO υ q o cl i fw fm (.ref st) → (onDay (O 0) (O 6) i ((H pw)[j]).1 y' = stepDay (O 0) (O 5) (O 6) i fw fm (l, dr, wa, lo, s, c, d, k, e) (H pw)[j]) →
          ∃ a_steps : Nat, Fg υ 14 z 0 (.ref a_steps) ∧ (∃ (n : Nat) (f : Nat → Option Nat) (y : Nat), Qa υ 106 a_steps n f ∧ vp_in (nI j) n ∧ (f (nI j).toNatClampNeg) = some y ∧ (∃ rc : Nat, rc + 1 ≤ 202 ∧ CallS_on G rc y [.ref a] υ (qV (fun s1 => ∀ v8 : Int32, v8 = nI j + 1 → At G mX5_runs 202 Q X b' 132 [(0, .ref a), (1, .ref o), (2, .ref cl), (3, .ref hb), (5, .int to), (6, .ref q), (7, va_rf (some z)), (8, .int v8)] [] s1)))) := by
        intro υ y' hD' hB' hF' hS' he
        obtain ⟨ar', g2, g3, f', g4, g5⟩ := hz' υ hF'
        obtain ⟨-, q2, gq1, gq2⟩ := g5 j _ (List.getElem?_eq_getElem hjl)
        have hO' := hO.kept (hF'.kpW (by decide) (by decide) (by decide)) (hF'.kpW (by decide) (by decide) (by decide))
        refine ⟨ar', ⟨_, g2, rfl⟩, 8, f', q2, g4, vp_in_nI (show j < 8 by omega) (by decide), by rw [nI_clamp (by omega)]; exact gq1, ?_⟩
        have hy' : dyOK y' := by
          obtain ⟨l', dr', wa', lo', s', c', d', k', e'⟩ := y'
          obtain ⟨_, b2, b3, b4⟩ := hB'
          have b2 : c' + d' ≤ 12 := b2
          exact ⟨by omega, b3, b4⟩
        refine k_on (N := 0) (see := 0) gq2 hS1 hD' hO' (by omega) (by omega) hy' (fun τ' hD2 hF2 => ⟨rfl, fun v8 hv8 => ?_⟩)
        subst hv8
        rw [nI_1, ← hz]
        rw [he] at hD2
        exact ih1 τ' hD2 ((hF2 26 q (by simp [DayD])).trans hS') (hF'.tr (hF2.mono (fun κ x hx => Or.inl hx)))
      refine bX5_runs_132 ⟨fun h => (by rw [hz] at h; cases h), fun z' hz' => ?_⟩
      rw [hz] at hz'
      cases hz'
      have pj := vp_in_nI (show j < 8 by omega) (by decide)
      have fj : f (nI j).toNatClampNeg = some q' := by rw [nI_clamp (by omega)]; exact hq1
      refine ⟨_, ⟨_, h2, rfl⟩, fun c => absurd c (nI_ge hjl (by omega)), fun _ => ⟨ar, ⟨_, h2, rfl⟩, 8, f, q', h4, pj, fj, 201, by decide, k_isSo hq2 hA ⟨_, rfl, fun hx => ?_, fun hx => ?_⟩⟩⟩
      · rw [nI_1]
        intro v8 hv8
        subst hv8
        have e1 : ¬ so (fac (O 0) (O 5) fw fm i s c d k e) ((H pw)[j]).2.2 = true := by
          intro w
          rw [if_pos w] at hx
          exact absurd hx (by decide)
        rw [← hz]
        refine ih1 τ ?_ hS hF
        simp only [stepDay, if_neg e1]
        exact hD
      · have e1 : so (fac (O 0) (O 5) fw fm i s c d k e) ((H pw)[j]).2.2 = true := by
          apply Classical.byContradiction
          intro w
          rw [if_neg w] at hx
          exact hx rfl
        refine ⟨ar, ⟨_, h2, rfl⟩, 8, f, q', h4, pj, fj, 4, by decide, k_drawn hq2 hS2 hD (fun by0 => ⟨_, rfl, fun c => absurd c (by decide), fun _ => ?_⟩) (fun by1 υ hDu hFu => ⟨_, rfl, fun hr => ?_, fun hr => ?_⟩)⟩
        · exact on1 τ _ hD ⟨B1, B2, B3, B4⟩ hF hS (by simp only [stepDay, if_pos e1, if_pos by0])
        · rw [nI_1]
          intro v8 hv8
          subst hv8
          rw [← hz]
          have w1 : ¬ dv (nx l) % 16 < ((H pw)[j]).2.1 := by
            intro w
            rw [if_pos w] at hr
            exact absurd hr (by decide)
          refine ih1 υ ?_ ((hFu 26 q (by simp [DayD])).trans hS) (hF.tr (hFu.mono (fun κ x hx => Or.inl hx)))
          simp only [stepDay, if_pos e1, if_neg by1, if_neg w1]
          exact hDu
        · have w1 : dv (nx l) % 16 < ((H pw)[j]).2.1 := by
            apply Classical.byContradiction
            intro w
            rw [if_neg w] at hr
            exact hr rfl
          exact on1 υ _ hDu ⟨B1, B2, B3, B4⟩ (hF.tr (hFu.mono (fun κ x hx => Or.inl hx))) ((hFu 26 q (by simp [DayD])).trans hS) (by simp only [stepDay, if_pos e1, if_neg by1, if_pos w1])
  have M : ∀ (i : Nat) (_ : i < T) (b' : Nat) (_ : 1 ≤ b') (y : DY) (_ : dyB (i + 1) y) (τ : PS) (_ : DayO τ a st o i y) (_ : Fr (DayW a st) σ τ)
      (_ : ∀ υ, DayO υ a st o (i + 1) (endDay ((H (fw i).toNatClampNeg).foldl (stepDay (O 0) (O 5) (O 6) i fw fm) y)) → Fr (DayW a st) σ υ → At G mX5_runs 202 Q X (b' - 1) 56 [(0, .ref a), (1, .ref o), (2, .ref cl), (3, .ref hb), (5, .int to)] [] υ), At G mX5_runs 202 Q X b' 94 [(0, .ref a), (1, .ref o), (2, .ref cl), (3, .ref hb), (5, .int to)] [] τ := by
    intro i hi b' hb' y hy τ hD hF nxt
    obtain ⟨pw, hp, hpw⟩ := hw i (by omega)
    rw [hpw, nI_clamp (by omega)] at nxt
    refine bX5_runs_94 ⟨hb', fun q hq s1 hs1 => ?_⟩
    subst hs1
    have g0 : ∀ x, DayO (up τ 26 q x) a st o i y := by
      intro x
      obtain ⟨l, dr, wa, lo, s, c, d, k, e⟩ := y
      exact ⟨(up_k (by decide)).trans hD.1, (up_k (by decide)).trans hD.2⟩
    have f0 : ∀ x, Fr (DayW a st) σ (up τ 26 q x) := fun x => hF.up (Or.inr rfl)
    have c0 : ∀ x, CalO (up τ 26 q x) cl w m n fw fm := fun x => hC.kept ((f0 x).kpW (by decide) (by decide) (by decide)) ((f0 x).kpW (by decide) (by decide) (by decide))
    have d0 : ∀ x, ∃ l dr wa lo, up τ 26 q x 5 a = some (.inl [.ref st, .ref o, .int l, .int (nI i), .int dr, .int wa, .int lo]) := by
      intro x
      have := g0 x
      revert this
      obtain ⟨l, dr, wa, lo, s, c, d, k, e⟩ := y
      exact fun this => ⟨l, dr, wa, lo, this.1⟩
    obtain ⟨l, dr, wa, lo, d1⟩ := d0 (.inl [.null, .null, .int 0, .int 0, .int 0, .null])
    refine ⟨nI i, ⟨_, d1, rfl⟩, k_sight rfl rfl up_eq (c0 _) (by omega) ⟨rfl, ?_⟩⟩
    rw [up_up]
    obtain ⟨l, dr, wa, lo, d1⟩ := d0 (.inl [.ref o, .ref cl, .int (nI i), .int (nI (cn fw (fw i) (i + 1))), .int (la fw fm i i), .null])
    refine ⟨st, ⟨_, d1, rfl⟩, ⟨_, up_eq⟩, k_at up_eq ⟨_, rfl, ?_⟩⟩
    rw [up_up]
    obtain ⟨l, dr, wa, lo, d1⟩ := d0 (.inl [.ref o, .ref cl, .int (nI i), .int (nI (cn fw (fw i) (i + 1))), .int (la fw fm i i), .ref st])
    have c1 := c0 (.inl [.ref o, .ref cl, .int (nI i), .int (nI (cn fw (fw i) (i + 1))), .int (la fw fm i i), .ref st])
    refine ⟨w, ⟨_, c1.1, rfl⟩, nI i, ⟨_, d1, rfl⟩, 24, fw, c1.2.1, vp_in_nI (by omega) (by decide), 6, hf, (f0 _).kpW (by decide) (by decide) (by decide) _ _ hH, ?_, ?_⟩
    · rw [nI_clamp (by omega), hpw]; exact vp_in_nI hp (by decide)
    · have e9 : (fw i).toNatClampNeg = pw := by rw [hpw, nI_clamp (by omega)]
      rw [nI_clamp (show i < 2 ^ 31 by omega), e9]
      exact S i hi (b' - 1) q pw hp y hy nxt (H pw).length 0 (by omega) _ (g0 _) up_eq (f0 _)
  have L : ∀ (D i : Nat), i + D = T → ∀ b', D ≤ b' → ∀ τ, DayO τ a st o i (runDay O fw fm H seed i) → Fr (DayW a st) σ τ → At G mX5_runs 202 Q X b' 56 [(0, .ref a), (1, .ref o), (2, .ref cl), (3, .ref hb), (5, .int to)] [] τ := by
    intro D
    induction D with
    | zero =>
      intro i hi b' _ τ hD hF
      have hi : i = T := by omega
      subst hi
      obtain ⟨fs, hx, -⟩ := hD.bump (v' := 0)
      have d0 : Fg τ 5 a 3 (.int (nI i)) := by
        revert hD
        generalize runDay O fw fm H seed i = y
        obtain ⟨l, dr, wa, lo, s, c, d, k, e⟩ := y
        exact fun hD => ⟨_, hD.1, rfl⟩
      exact bX5_runs_56 ⟨nI i, d0, fun _ => h τ hD hF, fun z => absurd ((hto i (by omega)).mpr (Nat.le_refl _)) z⟩
    | succ D ih =>
      intro i hi b' hb' τ hD hF
      have hB := runDay_ok (fw := fw) (fm := fm) (H := H) (seed := seed) hN hcd hk i
      have ih1 := ih (i + 1) (by omega) (b' - 1) (by omega)
      simp only [runDay] at ih1
      unfold visitDay at ih1
      have M1 := M i (by omega) b' (by omega)
      revert hD hB ih1
      generalize runDay O fw fm H seed i = y
      obtain ⟨l, dr, wa, lo, s, c, d, k, e⟩ := y
      intro hD hB ih1
      obtain ⟨B1, B2, B3, B4⟩ := hB
      have B1 : s ≤ i := B1
      have B3 : k < 2 := B3
      have e4 := hD.up5 (l' := nx l) (dr' := dr) (wa' := wa) (lo' := lo)
      have f4 : Fr (DayW a st) σ (up τ 5 a (.inl [.ref st, .ref o, .int (nx l), .int (nI i), .int dr, .int wa, .int lo])) := hF.up (Or.inl (Or.inl ⟨rfl, rfl⟩))
      have o2 := (hO.kept (f4.kpW (by decide) (by decide) (by decide)) (f4.kpW (by decide) (by decide) (by decide))).1
      have hm : dv (nx l) % 16 < 2 ^ 31 := Nat.lt_trans (Nat.mod_lt _ (by decide)) (by decide)
      refine bX5_runs_56 ⟨nI i, ⟨_, hD.1, rfl⟩, fun z => absurd ((hto i (by omega)).mp z) (by omega), fun _ => ⟨⟨_, hD.1⟩, k_draw (m := 16) (by decide) (by decide) hD.1 ⟨_, rfl, nI (O 4), ⟨_, o2, rfl⟩, fun z => ?_, fun z => ?_⟩⟩⟩
      · have w2 := (nI_leI (by omega) hm).mp z
        simp only [fallDay, if_neg (show ¬ dv (nx l) % 16 < O 4 by omega)] at ih1
        exact M1 (nx l, dr, wa, lo, s, c, d, k, e) (.mk (by omega) B2 B3 B4) _ e4 f4 ih1
      · have w2 : ¬ O 4 ≤ dv (nx l) % 16 := fun y => z ((nI_leI (by omega) hm).mpr y)
        simp only [fallDay, if_pos (show dv (nx l) % 16 < O 4 by omega)] at ih1
        refine ⟨st, ⟨_, e4.1, rfl⟩, st, ⟨_, e4.1, rfl⟩, nI k, ⟨_, e4.2, rfl⟩, _, e4.2, by simp [stL], fun s1 hs => ?_⟩
        subst hs
        rw [show (1 : Int32) - nI k = nI (1 - k) from pk_sub (a := 1) (by omega)]
        exact M1 (nx l, dr, wa, lo, s, c, d, 1 - k, e) (.mk (by omega) B2 (by omega) B4) _ (e4.up4 (s' := s) (c' := c) (d' := d) (k' := 1 - k) (e' := e)) (f4.up (Or.inl (Or.inr ⟨rfl, rfl⟩))) ih1
  obtain ⟨o1, -⟩ := hO
  refine eX5_runs (bX5_runs_0 ⟨_, e5, by simp, fun s1 hs => ?_⟩)
  subst hs
  refine ⟨_, up_eq, by simp, fun s1 hs => ?_⟩
  rw [up_up] at hs
  subst hs
  refine ⟨_, up_eq, by simp, fun s1 hs => ?_⟩
  rw [up_up] at hs
  subst hs
  refine ⟨_, up_eq, by simp, fun s1 hs => ?_⟩
  rw [up_up] at hs
  subst hs
  refine ⟨_, up_eq, by simp, fun s1 hs => ?_⟩
  rw [up_up] at hs
  subst hs
  have o2 : ∀ x, up σ 5 a x 7 o = _ := fun x => (up_k (by decide)).trans o1
  have e4' : ∀ x, up σ 5 a x 4 st = _ := fun x => (up_k (by decide)).trans e4
  refine ⟨st, ⟨_, up_eq, rfl⟩, _, ⟨_, o2 _, rfl⟩, _, ⟨_, o2 _, rfl⟩, _, ⟨_, o2 _, rfl⟩, k_codeOf (s := 0) (e := 0) ⟨_, rfl, ⟨_, e4' _⟩, k_stOf (by unfold cd; omega) (e4' _) hl5 ⟨_, rfl, ?_⟩⟩⟩
  refine ⟨_, (up_k (by decide)).trans up_eq, by simp, fun s1 hs => ?_⟩
  subst hs
  refine L T 0 (by omega) b hbud _ ⟨up_eq, ?_⟩ (((Fr.rf.up (Or.inl (Or.inl ⟨rfl, rfl⟩))).up (Or.inl (Or.inr ⟨rfl, rfl⟩))).up (Or.inl (Or.inl ⟨rfl, rfl⟩)))
  rw [up_k (by decide), up_eq]
  unfold stX
  rw [cd_S (by omega) (by omega) hk (by decide), cd_C (by omega) (by omega) hk (by decide), cd_D (by omega) hk (by decide), cd_K hk (by decide), cd_E (by decide)]
