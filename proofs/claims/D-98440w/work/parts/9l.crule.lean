/-! Part B: the component's rule read -/
def eR (E : Nat × Nat × Option Nat × Nat × Nat × Nat × Nat) (g : Nat) : Nat × Nat × Option Nat × Nat × Nat × Nat × Nat := (E.1, E.2.1, some g, E.2.2.2)
theorem CI.rul {σ τ : PS} {A : Nat → Nat} {CA : Nat → Nat × Nat × Nat} {E : Nat × Nat × Option Nat × Nat × Nat × Nat × Nat} {T : TS} {g : Nat} {L : List StT} (hC : CI σ A CA E T) (k : KpD (D1 A) σ τ) (x : τ 1 (A 0) = some (.inl (cx A CA (eR E g) 0 (-1) (nI (tsC T)) (nI (tsI T))))) (hg : HabO τ g L) (hL : (∀ Z, Z ∈ L → stOK Z) ∧ L.length ≤ 8) : CI τ A CA (eR E g) (tsHb (txS T (-1)) (hbU (tsH T) 6 L)) ∧ KpD (own A CA) σ τ := by
  have k9 : KpD (D9 A CA) σ τ := k.mono (fun κ a d => D2_9 (D1_2 d))
  have hu : ∀ j, hbU (tsH T) 6 L j = if j = 6 then L else tsH T j := fun j => rfl
  refine hC.put (E' := eR E g) (T' := tsHb (txS T (-1)) (hbU (tsH T) 6 L)) k9 x (hC.off9 k9) ⟨?_, fun y hy => ?_⟩ ?_ (hC.bk9 k9) (hC.cal2 (k.mono (fun κ a d => D1_2 d))) rfl (Nat.zero_le _) (Nat.le_refl _) rfl rfl rfl (tsHb_ok (T := txS T (-1)) (txS_ok hC.2.2) hL)
  · show HabQ τ (some g) (hbU (tsH T) 6 L 6)
    rw [hu, if_pos rfl]
    exact Or.inr ⟨g, rfl, hg⟩
  · cases hy
    obtain ⟨ar, o1, -⟩ := hg
    exact ⟨_, o1⟩
  · obtain ⟨hf, b1, b2, b3⟩ := hC.hab9 k9 (fun e hh => k _ _ _ hh (fun w => absurd w.1 (by decide)))
    refine ⟨hf, b1, fun p hp => ?_, b3⟩
    show HabQ τ (hf p) (hbU (tsH T) 6 L p)
    rw [hu, if_neg (by omega)]
    exact b2 p hp
theorem c_rule {G : GC} {σ : PS} {Q : Option Value → PS → Prop} {X : String → Nat → PS → Prop} {b : Nat} {A : Nat → Nat} {CA : Nat → Nat × Nat × Nat} {E : Nat × Nat × Option Nat × Nat × Nat × Nat × Nat} {T : TS} {x : Int32} (hC : CI σ A CA E T) (hb : 200 ≤ b)
    (kq : ∀ n, n < min (tsF T) 150 + 1 → x = nI n → ∀ L a', habR T n = .inr (L, a') → ∀ τ E', CI τ A CA E' (tsHb (txS T (-1)) (hbU (tsH T) 6 L)) → KpD (own A CA) σ τ → Q (some (.int (nI L.length))) τ)
    (kw : ∀ n, n < min (tsF T) 150 + 1 → x = nI n → ∀ w u, habR T n = .inl (w, u) → ∀ τ, CI τ A CA E (txS T (nI u)) → KpD (own A CA) σ τ → Q (some (.int (nI w - 10))) τ)
    (k1 : ¬ inN x (min (tsF T) 150 + 1) → ∀ τ q, CI τ A CA E (bu1 T) → KpD (own A CA) σ τ → X "java/lang/IllegalArgumentException" q τ) : Call G mX1_rule 152 b [.ref (A 0), .int x] σ Q X := by
  have hF6 := hC.2.2.2.2.2.2.1
  refine eX1_rule (bX1_rule_0 ⟨_, ⟨_, hC.1.x, rfl⟩, fun w ew => ⟨1, by omega, ⟨_, hC.1.x⟩, ?_⟩⟩)
  rw [min150 hF6] at ew
  subst ew
  refine c_in (n := min (tsF T) 150) hC (Nat.le_refl _) (by omega) rfl (fun n hn hy => ⟨rfl, by omega, fun q hq s3 e3 => ?_⟩) k1
  subst e3
  subst hy
  refine k_hab9 hC (by omega) (by omega) (by omega) hq (fun L a' h1 g τ x9 hG k9 => ?_) (fun w u h1 b1 b2 b3 q9 τ x9 hw k9 => ?_)
  · obtain ⟨ar, o1, o2⟩ := id hG
    refine ⟨_, x9, by simp [cx], fun s4 e4 => ?_⟩
    have n4 : ∀ κ a, κ ≠ 1 → s4 κ a = τ κ a := fun κ a hn => by rw [e4, up_k hn]
    have x4 : s4 1 (A 0) = some (.inl (cx A CA (eR E g) 0 (-1) (nI (tsC T)) (nI (tsI T)))) := by
      rw [e4, up_eq]
      rfl
    have kd : KpD (D1 A) σ s4 := by
      rw [e4]
      exact k9.up ⟨rfl, rfl⟩
    obtain ⟨C2, K2⟩ := hC.rul (g := g) (L := L) kd x4 (hG.kept (fun κ q1 q2 a e hh => (n4 κ a (by omega)).trans hh) (fun a e hh => (n4 106 a (by decide)).trans hh)) (pHab_ok _ _ _ (Nat.zero_le _) ⟨fun Z hZ => by simp at hZ, by simp⟩ _ _ h1)
    exact ⟨some g, ⟨_, x4, rfl⟩, g, rfl, _, ⟨_, (n4 14 g (by decide)).trans o1, rfl⟩, kq n hn rfl L a' h1 s4 _ C2 K2⟩
  · refine AtX.catch [] ⟨16, 35, 38, 106⟩ [] rfl (fun z hz => absurd hz (by simp)) rfl (by decide) q832 q1046 (At.sub [0] rfl (bX1_rule_38 ⟨⟨_, x9⟩, k_faulty x9 hw (fun τ2 x2 kf => ⟨_, rfl, ?_⟩)⟩))
    obtain ⟨C2, K2⟩ := hC.bad (k9.tr kf) x2
    exact kw n hn rfl w u h1 τ2 C2 K2
