/-! Part B: the component's habits and rule read -/
theorem KpD.fd {D D' : Nat → Nat → Prop} {σ τ υ : PS} (h : KpD D σ τ) (h2 : KpD D' τ υ) (f : ∀ κ a, D' κ a → D κ a ∨ σ κ a = none) : KpD D σ υ := fun κ a e hh hn => h2 κ a e (h κ a e hh hn) (fun w => (f κ a w).elim hn (fun z => by
  rw [z] at hh
  cases hh))
/-- a text taken, its place told -/
def txS (T : TS) (l : Int32) : TS := tsW T (tsK T) (tsT T) 0 l (tsC T) (tsI T) (tsQ T)
theorem txS_ok {T : TS} (h : tsOK T) {l : Int32} : tsOK (txS T l) := ⟨h.1, h.2.1, h.2.2.1, h.2.2.2.1, Nat.zero_le _, fun i hi => absurd hi (Nat.not_lt_zero i), h.2.2.2.2.2.2⟩
def habR (T : TS) (n : Nat) : PR (List StT) := pHab (tsT T) n (n + 1) [] 0
theorem pHab_ok {t : Nat → Nat} {n : Nat} : ∀ (f : Nat) (l : List StT) (a : Nat), a ≤ n → (∀ Z, Z ∈ l → stOK Z) ∧ l.length ≤ 8 → ∀ l' a', pHab t n f l a = .inr (l', a') → (∀ Z, Z ∈ l' → stOK Z) ∧ l'.length ≤ 8 := by
  intro f
  induction f with
  | zero =>
    intro l a ha hl l' a' h
    cases h
    exact hl
  | succ f ih =>
    intro l a ha hl l' a' h
    by_cases q : sk t n a < n
    · rw [pHab_s q] at h
      obtain ⟨S, a1, h1, h2⟩ := bnd_ok h
      have g := pStep_ge ha _ _ h1
      refine ih _ a1 g.2.1 ⟨fun Z hZ => ?_, ?_⟩ _ _ h2
      · rcases List.mem_append.mp hZ with z | z
        · exact hl.1 Z z
        · rw [List.mem_singleton.mp z]
          exact g.2.2.2.1
      · have := hl.2
        have := g.2.2.1
        simp only [List.length_append, List.length_cons, List.length_nil]
        omega
    · rw [pHab_e q] at h
      cases h
      exact hl
theorem bud_le {α : Type} {n : Nat} {x : PR α} (h : ∀ v a2, x = .inr (v, a2) → a2 ≤ n) : bud n 0 x ≤ n + 2 := by
  cases x with
  | inl e =>
    rw [bud_l]
    omega
  | inr p =>
    obtain ⟨v, a2⟩ := p
    have := h v a2 rfl
    rw [bud_r]
    omega
theorem CI.tape {σ : PS} {A : Nat → Nat} {CA : Nat → Nat × Nat × Nat} {E : Nat × Nat × Option Nat × Nat × Nat × Nat × Nat} {T : TS} {n : Nat} (hC : CI σ A CA E T) (hn : n ≤ tsF T) : (∃ ft, σ 102 (A 1) = some (.inr (600, .inl ft)) ∧ ∀ i, i < n → ft i &&& 255 = nI (tsT T i)) ∧ n ≤ 600 ∧ ∀ i, i < n → tsT T i < 256 := by
  obtain ⟨ft, d1, d2⟩ := hC.1.2.2.2.2.2.1
  have ok := hC.2.2.2.2.2.2
  exact ⟨⟨ft, d1, fun i hi => d2 i (by omega)⟩, by have := ok.1; omega, fun i hi => ok.2.1 i (by omega)⟩
theorem k_hab9 {G : GC} {σ : PS} {b n q : Nat} {A : Nat → Nat} {CA : Nat → Nat × Nat × Nat} {E : Nat × Nat × Option Nat × Nat × Nat × Nat × Nat} {T : TS} {P1 : Nat → PS → Prop} {P2 : Nat → Nat → Nat → String → Nat → PS → Prop} {X2 : Nat → Nat → String → Nat → PS → Prop} {X3 : Nat → String → Nat → PS → Prop} (hC : CI σ A CA E T) (hb : 160 ≤ b) (hn : n ≤ tsF T) (h150 : n ≤ 150) (hq : ∀ κ, σ κ q = none)
    (k1 : ∀ L a', habR T n = .inr (L, a') → ∀ g τ, τ 1 (A 0) = some (.inl (cx A CA E 0 (-1) (nI (tsC T)) (nI (tsI T)))) → HabO τ g L → KpD (D1 A) σ τ → P1 g τ)
    (k2 : ∀ w u, habR T n = .inl (w, u) → ∀ b1 b2 b3 q9 τ, τ 1 (A 0) = some (.inl (cx A CA E 0 (-1) (nI (tsC T)) (nI (tsI T)))) → WrO τ q9 w u → KpD (D1 A) σ τ → P2 b1 b2 b3 "CardCups$Wrong" q9 τ) :
    ∃ bc_4 : Nat, bc_4 ≤ b ∧ (∃ fs_15 : List Value, Ob (up σ 13 q (.inl [.null, .null, .null])) 1 (A 0) fs_15) ∧ Call G mX1_reader 5 bc_4 [.ref (A 0), .int (nI n)] (up σ 13 q (.inl [.null, .null, .null])) (qR (fun ra s5 => ∃ bc_6 : Nat, bc_6 ≤ b - bc_4 ∧ Call G mX13_init 4 bc_6 [.ref q, .ref ra] s5 (qV (fun s7 => ∃ bc_8 : Nat, bc_8 ≤ b - bc_4 - bc_6 ∧ (∃ fs : List Value, Ob s7 13 q fs) ∧ Call G mX13_reads 151 bc_8 [.ref q] s7 (qR (fun g s9 => P1 g s9)) (fun E q9 s9 => P2 bc_4 bc_6 bc_8 E q9 s9))) (fun E q9 s9 => X2 bc_4 bc_6 E q9 s9))) (fun E q9 s9 => X3 bc_4 E q9 s9) := by
  obtain ⟨t1, t2, t3⟩ := hC.tape hn
  have al := nw_al (κ0 := 13) (e0 := .inl [.null, .null, .null]) hq
  have hx := al _ _ _ hC.fx
  have kn : KpD (D1 A) σ (up σ 13 q (.inl [.null, .null, .null])) := KpD.nw hq
  refine ⟨1, by omega, ⟨_, hx⟩, k_reader (Nat.le_refl _) hx (by
    obtain ⟨ft, d1, d2⟩ := t1
    exact ⟨ft, al _ _ _ d1, d2⟩) t2 t3 (fun τ r x5 hO hr kr => ⟨_, rfl, 2, by omega, ?_⟩)⟩
  have hr0 : ∀ κ, σ κ r = none := fun κ => by
    have := hr κ
    by_cases z : κ = 13 ∧ r = q
    · rw [z.1, z.2, up_eq] at this
      cases this
    · rw [up_ne (by omega)] at this
      exact this
  have h13 : τ 13 q = some (.inl [.null, .null, .null]) := kr _ _ _ up_eq (fun w => absurd w.1 (by decide))
  have kτ : KpD (D1 A) σ τ := kn.tr kr
  refine k_hinit (r := r) (Nat.le_refl _) h13 (fun τ2 hH kh => ⟨rfl, b - 1 - 2, Nat.le_refl _, hH.ob, ?_⟩)
  have k2' : KpD (D1 A) σ τ2 := kτ.fd kh (fun κ a w => Or.inr (by rw [w.2]; exact hq κ))
  have hO2 : RdO τ2 r (A 1) (tsT T) n 0 0 := hO.a2 (fun κ a e z hh => kh κ a e hh (fun w => by
    have := w.1
    omega))
  have hB : bud n 0 (pHab (tsT T) n (n + 1) [] 0) ≤ n + 2 := bud_le (fun v a2 h => (pHab_ge _ _ _ (Nat.zero_le _) _ _ h).2)
  have x2 : τ2 1 (A 0) = some (.inl (cx A CA E 0 (-1) (nI (tsC T)) (nI (tsI T)))) := kh _ _ _ x5 (fun w => absurd w.1 (by decide))
  have kf : ∀ υ, KpD (RdD r) τ2 υ → KpD (D1 A) σ υ ∧ υ 1 (A 0) = some (.inl (cx A CA E 0 (-1) (nI (tsC T)) (nI (tsI T)))) := fun υ z => ⟨k2'.fd z (fun κ a w => Or.inr (by rw [w.2]; exact hr0 κ)), z _ _ _ x2 (fun w => absurd w.1 (by decide))⟩
  exact k_reads h150 hH hO2 (by omega) (fun L a' h1 g τ3 hO3 hG k3 => ⟨_, rfl, k1 L a' h1 g τ3 (kf τ3 k3).2 hG (kf τ3 k3).1⟩) (fun w u h1 q9 τ3 hw k3 => k2 w u h1 _ _ _ q9 τ3 (kf τ3 k3).2 hw (kf τ3 k3).1)
theorem min150 {f : Nat} (hf : f ≤ 600) : (if (150 : Int32) < nI f then (150 : Int32) else nI f) = nI (min f 150) := by
  rw [show (150 : Int32) = nI 150 from rfl]
  by_cases h : 150 < f
  · rw [if_pos (nI_lt h (by omega)), Nat.min_eq_right (by omega)]
  · rw [if_neg (nI_nlt (by omega) (by omega)), Nat.min_eq_left (by omega)]
/-- nothing of a text counts, but its place -/
theorem CI.bad {σ τ : PS} {A : Nat → Nat} {CA : Nat → Nat × Nat × Nat} {E : Nat × Nat × Option Nat × Nat × Nat × Nat × Nat} {T : TS} {l : Int32} (hC : CI σ A CA E T) (k : KpD (D1 A) σ τ) (x : τ 1 (A 0) = some (.inl (cx A CA E 0 l (nI (tsC T)) (nI (tsI T))))) : CI τ A CA E (txS T l) ∧ KpD (own A CA) σ τ := by
  have k9 : KpD (D9 A CA) σ τ := k.mono (fun κ a d => D2_9 (D1_2 d))
  exact hC.put (T' := txS T l) k9 x (hC.off9 k9) (hC.rul9 k9) (hC.hab9 k9 (fun e hh => k _ _ _ hh (fun w => absurd w.1 (by decide)))) (hC.bk9 k9) (hC.cal2 (k.mono (fun κ a d => D1_2 d))) rfl (Nat.zero_le _) (Nat.le_refl _) rfl rfl rfl (txS_ok hC.2.2)
/-- a habit is another one -/
theorem CI.hab {σ τ : PS} {A : Nat → Nat} {CA : Nat → Nat × Nat × Nat} {E : Nat × Nat × Option Nat × Nat × Nat × Nat × Nat} {T : TS} {p g : Nat} {L : List StT} {hf : Nat → Option Nat} (hC : CI σ A CA E T) (hp : p < 6) (k : KpD (D2 A) σ τ) (x : τ 1 (A 0) = some (.inl (cx A CA E 0 (-1) (nI (tsC T)) (nI (tsI T))))) (y : τ 105 (A 9) = some (.inr (6, .inr (.inr (va_up hf p (some g)))))) (h0 : σ 105 (A 9) = some (.inr (6, .inr (.inr hf)))) (hg : HabO τ g L) (hL : (∀ Z, Z ∈ L → stOK Z) ∧ L.length ≤ 8) : CI τ A CA E (tsHb (txS T (-1)) (hbU (tsH T) p L)) ∧ KpD (own A CA) σ τ := by
  have k9 : KpD (D9 A CA) σ τ := k.mono (fun κ a d => D2_9 d)
  obtain ⟨hf2, b1, b2, b3⟩ := hC.1.2.2.2.1
  have e0 : hf2 = hf := by
    rw [h0] at b1
    cases b1
    rfl
  subst e0
  have upa : ∀ j, va_up hf2 p (some g) j = if j = p then some g else hf2 j := fun j => rfl
  have hu : ∀ j, hbU (tsH T) p L j = if j = p then L else tsH T j := fun j => rfl
  refine hC.put (T' := tsHb (txS T (-1)) (hbU (tsH T) p L)) k9 x (hC.off9 k9) ?_ ⟨_, y, fun j hj => ?_, fun i z hz => ?_⟩ (hC.bk9 k9) (hC.cal2 k) rfl (Nat.zero_le _) (Nat.le_refl _) rfl rfl rfl (tsHb_ok (T := txS T (-1)) (txS_ok hC.2.2) hL)
  · show HabQ τ E.2.2.1 (hbU (tsH T) p L 6) ∧ _
    rw [hu, if_neg (by omega)]
    exact hC.rul9 k9
  · show HabQ τ _ (hbU (tsH T) p L j)
    rw [upa, hu]
    by_cases z : j = p
    · rw [if_pos z, if_pos z]
      exact Or.inr ⟨g, rfl, hg⟩
    · rw [if_neg z, if_neg z]
      exact (b2 j hj).k9 k9
  · rw [upa] at hz
    by_cases w : i = p
    · rw [if_pos w] at hz
      cases hz
      obtain ⟨ar, o1, -⟩ := hg
      exact ⟨_, o1⟩
    · rw [if_neg w] at hz
      exact k9_14 k9 (b3 i z hz)
theorem c_habit {G : GC} {σ : PS} {Q : Option Value → PS → Prop} {X : String → Nat → PS → Prop} {b : Nat} {A : Nat → Nat} {CA : Nat → Nat × Nat × Nat} {E : Nat × Nat × Option Nat × Nat × Nat × Nat × Nat} {T : TS} {x y : Int32} (hC : CI σ A CA E T) (hb : 200 ≤ b)
    (kq : ∀ p n, p < tsP T → x = nI p → n < min (tsF T) 150 + 1 → y = nI n → ∀ L a', habR T n = .inr (L, a') → ∀ τ, CI τ A CA E (tsHb (txS T (-1)) (hbU (tsH T) p L)) → KpD (own A CA) σ τ → Q (some (.int (nI L.length))) τ)
    (kw : ∀ p n, p < tsP T → x = nI p → n < min (tsF T) 150 + 1 → y = nI n → ∀ w u, habR T n = .inl (w, u) → ∀ τ, CI τ A CA E (txS T (nI u)) → KpD (own A CA) σ τ → Q (some (.int (nI w - 10))) τ)
    (k0 : ¬ inN x (tsP T) → ∀ τ q, CI τ A CA E (bu0 T) → KpD (own A CA) σ τ → X "java/util/NoSuchElementException" q τ) (k1 : inN x (tsP T) → ¬ inN y (min (tsF T) 150 + 1) → ∀ τ q, CI τ A CA E (bu1 T) → KpD (own A CA) σ τ → X "java/lang/IllegalArgumentException" q τ) : Call G mX1_habit 152 b [.ref (A 0), .int x, .int y] σ Q X := by
  have hP6 := hC.2.2.2.1
  have hF6 := hC.2.2.2.2.2.2.1
  refine eX1_habit (bX1_habit_0 ⟨1, by omega, ⟨_, hC.1.x⟩, c_personOf hC (Nat.le_refl _) (fun p hp hx => ⟨rfl, _, ⟨_, hC.1.x, rfl⟩, fun w ew => ⟨1, by omega, ⟨_, hC.1.x⟩, ?_⟩⟩) k0⟩)
  rw [min150 hF6] at ew
  subst ew
  refine c_in (n := min (tsF T) 150) hC (Nat.le_refl _) (by omega) rfl (fun n hn hy => ⟨rfl, A 9, ⟨_, hC.1.x, rfl⟩, by omega, fun q hq s3 e3 => ?_⟩) (k1 ⟨p, hp, hx⟩)
  subst e3
  subst hy
  obtain ⟨hf, b1, b2, b3⟩ := hC.1.2.2.2.1
  refine k_hab9 hC (by omega) (by omega) (by omega) hq (fun L a' h1 g τ x9 hG k9 => ?_) (fun w u h1 b1 b2 b3 q9 τ x9 hw k9 => ?_)
  · obtain ⟨ar, o1, o2⟩ := id hG
    have h105 : τ 105 (A 9) = some (.inr (6, .inr (.inr hf))) := k9 _ _ _ b1 (fun w => absurd w.1 (by decide))
    have cp := nI_clamp (show p < 2 ^ 31 by omega)
    subst hx
    refine ⟨6, hf, _, h105, o1, vp_in_nI (by omega) (by decide), fun s4 e4 => ?_⟩
    rw [cp] at e4
    have n4 : ∀ κ a, κ ≠ 105 → s4 κ a = τ κ a := fun κ a hn => by rw [e4, up_k hn]
    have y4 : s4 105 (A 9) = some (.inr (6, .inr (.inr (va_up hf p (some g))))) := by rw [e4, up_eq]
    have x4 := (n4 1 (A 0) (by decide)).trans x9
    have kd : KpD (D2 A) σ s4 := by
      rw [e4]
      exact (k9.mono (fun κ a d => D1_2 d)).up (Or.inr ⟨rfl, rfl⟩)
    obtain ⟨C2, K2⟩ := hC.hab (p := p) (g := g) (L := L) (by omega) kd x4 y4 b1 (hG.kept (fun κ q1 q2 a e hh => (n4 κ a (by omega)).trans hh) (fun a e hh => (n4 106 a (by decide)).trans hh)) (pHab_ok _ _ _ (Nat.zero_le _) ⟨fun Z hZ => by simp at hZ, by simp⟩ _ _ h1)
    refine ⟨_, ⟨_, x4, rfl⟩, 6, _, y4, vp_in_nI (by omega) (by decide), g, ?_, _, ⟨_, (n4 14 g (by decide)).trans o1, rfl⟩, kq p n hp rfl hn rfl L a' h1 s4 C2 K2⟩
    rw [cp]
    exact if_pos rfl
  · refine AtX.catch [] ⟨21, 42, 45, 106⟩ [] rfl (fun z hz => absurd hz (by simp)) rfl (by decide) q832 q1046 (At.sub [0] rfl (bX1_habit_45 ⟨⟨_, x9⟩, k_faulty x9 hw (fun τ2 x2 kf => ⟨_, rfl, ?_⟩)⟩))
    obtain ⟨C2, K2⟩ := hC.bad (k9.tr kf) x2
    exact kw p n hp hx hn rfl w u h1 τ2 C2 K2
