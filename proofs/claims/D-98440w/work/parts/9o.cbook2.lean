/-! Part B: the component's book: all lines -/
def eB (E : Nat × Nat × Option Nat × Nat × Nat × Nat × Nat) (bk va wa ma : Nat) : Nat × Nat × Option Nat × Nat × Nat × Nat × Nat := (E.1, E.2.1, E.2.2.1, bk, va, wa, ma)
def tsBk (T : TS) (B : BK) : TS := (tsO T, tsP T, tsK T, tsH T, B, tsT T, tsF T, tsL T, tsC T, tsI T, tsQ T, tsR0 T, tsR1 T)
theorem tsBk_ok {T : TS} {B : BK} (h : tsOK T) : tsOK (tsBk T B) := h
def bkR (T : TS) (n : Nat) : PR BK := pBook (tsT T) n (n + 1) [] 0
theorem k_bookL {G : GC} {n r bk va wa ma : Nat} {A : Nat → Nat} {CA : Nat → Nat × Nat × Nat} {E : Nat × Nat × Option Nat × Nat × Nat × Nat × Nat} {t : Nat → Nat} {σ0 : PS} {c i : Int32} {Q : Option Value → PS → Prop} {X : String → Nat → PS → Prop} (hr : ∀ κ, σ0 κ r = none) (hbk : ∀ κ, σ0 κ bk = none) (hva : ∀ κ, σ0 κ va = none) (hwa : ∀ κ, σ0 κ wa = none) (hma : ∀ κ, σ0 κ ma = none) (hne : va ≠ wa ∧ va ≠ ma ∧ wa ≠ ma) : ∀ (f a b : Nat) (B : BK) (σ : PS), n + 1 ≤ f + a → σ 1 (A 0) = some (.inl (cx A CA E 0 (-1) c i)) → RdO σ r (A 1) t n a 0 → BkA σ bk va wa ma B → KpD (D1 A) σ0 σ → 1 ≤ b →
    (∀ B' a', pBook t n f B a = .inr (B', a') → ∀ τ, τ 1 (A 0) = some (.inl (cx A CA (eB E bk va wa ma) 0 (-1) c i)) → BkA τ bk va wa ma B' → KpD (D1 A) σ0 τ → Q (some (.int (nI B'.length))) τ) →
    (∀ w p, pBook t n f B a = .inl (w, p) → ∀ τ, τ 1 (A 0) = some (.inl (cx A CA E 0 (nI p) c i)) → KpD (D1 A) σ0 τ → Q (some (.int (nI w - 10))) τ) → At G mX1_book 12 Q X b 30 [(0, .ref (A 0)), (2, .ref bk), (3, .ref r)] [] σ := by
  have dead : ∀ κ a, DB r bk va wa ma κ a → D1 A κ a ∨ σ0 κ a = none := fun κ a d => by
    rcases d with ⟨-, d⟩ | ⟨-, d⟩ | ⟨-, d | d | d⟩
    · exact Or.inr (by rw [d]; exact hr κ)
    · exact Or.inr (by rw [d]; exact hbk κ)
    · exact Or.inr (by rw [d]; exact hva κ)
    · exact Or.inr (by rw [d]; exact hwa κ)
    · exact Or.inr (by rw [d]; exact hma κ)
  have rd : ∀ κ x, RdD r κ x → DB r bk va wa ma κ x := fun κ x d => Or.inl d
  intro f
  induction f with
  | zero =>
    intro a b B σ hf hx hO
    have := hO.2.2.2.2.1
    omega
  | succ f ih =>
    intro a b B σ hf hx hO hB k0 hb ks kx
    have ha := hO.2.2.2.2.1
    have hs := sk_b (t := t) ha
    refine bX1_book_30 ⟨⟨_, hO.1⟩, k_now hO (fun τ hO1 hF => ⟨_, rfl, fun z => ?_, fun z => ?_⟩)⟩
    · have z1 : ¬ sk t n a < n := fun w => by
        rw [bt_lt w] at z
        exact m1_nI (by have := hO.2.2.2.1 _ w; omega) z
      have x1 : τ 1 (A 0) = some (.inl (cx A CA E 0 (-1) c i)) := (hF 1 (A 0) (fun w => absurd w.1 (by decide))).trans hx
      refine ⟨_, x1, by simp [cx], fun s1 e1 => ?_⟩
      obtain ⟨f9, g9, h9, B1, B2, B3, B4, B5, B6⟩ := hB
      have kd : KpD (RdD r) σ τ := hF.kp
      have b1 : τ 8 bk = some (.inl [.ref va, .ref wa, .ref ma, .int (nI B.length)]) := kd _ _ _ B1 (fun w => absurd w.1 (by decide))
      have n1 : ∀ κ x, κ ≠ 1 → s1 κ x = τ κ x := fun κ x hn => by rw [e1, up_k hn]
      have b2 : BkA s1 bk va wa ma B := ⟨f9, g9, h9, (n1 _ _ (by decide)).trans b1, B2, (n1 _ _ (by decide)).trans (kd _ _ _ B3 (fun w => absurd w.1 (by decide))), (n1 _ _ (by decide)).trans (kd _ _ _ B4 (fun w => absurd w.1 (by decide))), (n1 _ _ (by decide)).trans (kd _ _ _ B5 (fun w => absurd w.1 (by decide))), B6⟩
      refine ⟨_, ⟨_, (n1 _ _ (by decide)).trans b1, rfl⟩, ks B _ (pBook_e z1) s1 ?_ b2 ?_⟩
      · rw [e1, up_eq]
        rfl
      · rw [e1]
        exact (k0.fd kd (fun κ a d => dead κ a (rd κ a d))).up ⟨rfl, rfl⟩
    · have z1 : sk t n a < n := Classical.byContradiction (fun w => z (bt_ge (by omega)))
      rw [pBook_s z1] at ks kx
      have x1 : τ 1 (A 0) = some (.inl (cx A CA E 0 (-1) c i)) := (hF 1 (A 0) (fun w => absurd w.1 (by decide))).trans hx
      have k1 : KpD (D1 A) σ0 τ := k0.fd hF.kp (fun κ a d => dead κ a (rd κ a d))
      obtain ⟨f9, g9, h9, B1, B2, B3, B4, B5, B6⟩ := hB
      have kd : KpD (RdD r) σ τ := hF.kp
      have b1 : BkA τ bk va wa ma B := ⟨f9, g9, h9, kd _ _ _ B1 (fun w => absurd w.1 (by decide)), B2, kd _ _ _ B3 (fun w => absurd w.1 (by decide)), kd _ _ _ B4 (fun w => absurd w.1 (by decide)), kd _ _ _ B5 (fun w => absurd w.1 (by decide)), B6⟩
      have e9 : pLine t n (sk t n a) B.length = pLine t n a B.length := pLine_sk ha
      have stay : ∀ υ, KpD (DB r bk va wa ma) τ υ → υ 1 (A 0) = some (.inl (cx A CA E 0 (-1) c i)) ∧ KpD (D1 A) σ0 υ := fun υ kk => ⟨kk _ _ _ x1 (fun w => by
        unfold DB at w
        omega), k1.fd kk dead⟩
      by_cases hp : ∃ e, pLine t n a B.length = .inl e
      · refine ⟨1, hb, ⟨_, x1⟩, k_line hO1 b1 hne (fun _ => Nat.le_refl _) (fun q a3 h1 => ?_) (fun w p h1 q υ hw kk => ?_)⟩
        · obtain ⟨e, he⟩ := hp
          rw [e9, he] at h1
          cases h1
        · rw [e9] at h1
          obtain ⟨x2, k2⟩ := stay υ kk
          exact AtX.catch [] ⟨24, 47, 50, 106⟩ [] rfl (fun z hz => absurd hz (by simp)) rfl (by decide) q832 q1046 (At.sub [0] rfl (bX1_book_50 ⟨⟨_, x2⟩, k_faulty x2 hw (fun τ2 x3 kf => ⟨_, rfl, kx w p (by rw [h1, bnd_l]) τ2 x3 (k2.tr kf)⟩)⟩))
      · refine ⟨0, Nat.zero_le _, ⟨_, x1⟩, k_line hO1 b1 hne (fun w => absurd (by rw [e9] at w; exact w) hp) (fun q a3 h1 υ hO2 hB2 kk => ⟨rfl, ?_⟩) (fun w p h1 => ?_)⟩
        · rw [e9] at h1
          have g := pLine_gd ha h1
          obtain ⟨x2, k2⟩ := stay υ kk
          rw [h1, bnd_r] at ks kx
          exact ih a3 _ _ υ (by omega) x2 hO2 hB2 k2 (by omega) ks kx
        · rw [e9] at h1
          exact absurd ⟨_, h1⟩ hp
theorem CI.bok {σ τ : PS} {A : Nat → Nat} {CA : Nat → Nat × Nat × Nat} {E : Nat × Nat × Option Nat × Nat × Nat × Nat × Nat} {T : TS} {bk va wa ma : Nat} {B : BK} (hC : CI σ A CA E T) (k : KpD (D1 A) σ τ) (x : τ 1 (A 0) = some (.inl (cx A CA (eB E bk va wa ma) 0 (-1) (nI (tsC T)) (nI (tsI T))))) (hB : BkA τ bk va wa ma B) (hva : ∀ κ, σ κ va = none) (hwa : ∀ κ, σ κ wa = none) (hma : ∀ κ, σ κ ma = none) : CI τ A CA (eB E bk va wa ma) (tsBk (txS T (-1)) B) ∧ KpD (own A CA) σ τ := by
  have k9 : KpD (D9 A CA) σ τ := k.mono (fun κ a d => D2_9 (D1_2 d))
  exact hC.put (E' := eB E bk va wa ma) (T' := tsBk (txS T (-1)) B) k9 x (hC.off9 k9) (hC.rul9 k9) (hC.hab9 k9 (fun e hh => k _ _ _ hh (fun w => absurd w.1 (by decide)))) ⟨hB, hC.nown hva, hC.nown hwa, hC.nown hma⟩ (hC.cal2 (k.mono (fun κ a d => D1_2 d))) rfl (Nat.zero_le _) (Nat.le_refl _) rfl rfl rfl (tsBk_ok (txS_ok hC.2.2))
theorem c_book {G : GC} {σ : PS} {Q : Option Value → PS → Prop} {X : String → Nat → PS → Prop} {b : Nat} {A : Nat → Nat} {CA : Nat → Nat × Nat × Nat} {E : Nat × Nat × Option Nat × Nat × Nat × Nat × Nat} {T : TS} {x : Int32} (hC : CI σ A CA E T) (hb : 20 ≤ b)
    (kq : ∀ n, n < min (tsF T) 150 + 1 → x = nI n → ∀ B a', bkR T n = .inr (B, a') → ∀ τ E', CI τ A CA E' (tsBk (txS T (-1)) B) → KpD (own A CA) σ τ → Q (some (.int (nI B.length))) τ)
    (kw : ∀ n, n < min (tsF T) 150 + 1 → x = nI n → ∀ w u, bkR T n = .inl (w, u) → ∀ τ, CI τ A CA E (txS T (nI u)) → KpD (own A CA) σ τ → Q (some (.int (nI w - 10))) τ)
    (k1 : ¬ inN x (min (tsF T) 150 + 1) → ∀ τ q, CI τ A CA E (bu1 T) → KpD (own A CA) σ τ → X "java/lang/IllegalArgumentException" q τ) : Call G mX1_book 12 b [.ref (A 0), .int x] σ Q X := by
  have hF6 := hC.2.2.2.2.2.2.1
  refine eX1_book (bX1_book_0 ⟨_, ⟨_, hC.1.x, rfl⟩, fun w ew => ⟨1, by omega, ⟨_, hC.1.x⟩, ?_⟩⟩)
  rw [min150 hF6] at ew
  subst ew
  refine c_in (n := min (tsF T) 150) hC (Nat.le_refl _) (by omega) rfl (fun n hn hy => ⟨rfl, by omega, fun q hq s1 e1 => ⟨3, by omega, ?_⟩⟩) k1
  subst e1
  subst hy
  obtain ⟨t1, t2, t3⟩ := hC.tape (n := n) (by omega)
  have al := nw_al (κ0 := 8) (e0 := .inl [.null, .null, .null, .int 0]) hq
  have kn : KpD (D1 A) σ (up σ 8 q (.inl [.null, .null, .null, .int 0])) := KpD.nw hq
  have fr : ∀ v, (∀ κ, up σ 8 q (.inl [.null, .null, .null, .int 0]) κ v = none) → ∀ κ, σ κ v = none := fun v hv κ => by
    have := hv κ
    by_cases z : κ = 8 ∧ v = q
    · rw [z.1, z.2, up_eq] at this
      cases this
    · rw [up_ne (by omega)] at this
      exact this
  refine k_bkinit (Nat.le_refl _) up_eq (fun τ va wa ma hB hva hwa hma n1 n2 n3 kb => ⟨rfl, 1, by omega, ?_⟩)
  have kb2 : KpD (D1 A) σ τ := kn.fd kb (fun κ a d => by
    by_cases z : σ κ a = none
    · exact Or.inr z
    · rw [d.2] at z
      exact absurd (hq κ) z)
  have x1 : τ 1 (A 0) = some (.inl (cx A CA E (nI (tsF T)) (tsL T) (nI (tsC T)) (nI (tsI T)))) := kb _ _ _ (al _ _ _ hC.fx) (fun w => absurd w.1 (by decide))
  refine ⟨⟨_, x1⟩, k_reader (Nat.le_refl _) x1 (by
    obtain ⟨ft, d1, d2⟩ := t1
    exact ⟨ft, kb _ _ _ (al _ _ _ d1) (fun w => absurd w.1 (by decide)), d2⟩) t2 t3 (fun τ2 r x5 hO hr kr => ⟨_, rfl, ?_⟩)⟩
  have fz : ∀ v, (∀ κ, τ κ v = none) → ∀ κ, σ κ v = none := fun v hv κ => by
    cases e : σ κ v with
    | none => rfl
    | some y =>
      have hnq : v ≠ q := fun w => by
        rw [w, hq] at e
        cases e
      have := kb _ _ _ (al _ _ _ e) (fun w => hnq w.2)
      rw [hv] at this
      cases this
  obtain ⟨f9, g9, h9, B1, B2, B3, B4, B5, B6⟩ := hB
  have b2 : BkA τ2 q va wa ma [] := ⟨f9, g9, h9, kr _ _ _ B1 (fun w => absurd w.1 (by decide)), B2, kr _ _ _ B3 (fun w => absurd w.1 (by decide)), kr _ _ _ B4 (fun w => absurd w.1 (by decide)), kr _ _ _ B5 (fun w => absurd w.1 (by decide)), B6⟩
  refine k_bookL (fz r hr) hq (fr va hva) (fr wa hwa) (fr ma hma) ⟨n1, n2, n3⟩ (n + 1) 0 _ [] τ2 (by omega) x5 hO b2 (kb2.tr kr) (by omega) (fun B' a' h1 τ3 x6 hB3 k3 => ?_) (fun w p h1 τ3 x6 k3 => ?_)
  · obtain ⟨C2, K2⟩ := hC.bok k3 x6 hB3 (fr va hva) (fr wa hwa) (fr ma hma)
    exact kq n hn rfl B' a' h1 τ3 _ C2 K2
  · obtain ⟨C2, K2⟩ := hC.bad k3 x6
    exact kw n hn rfl w p h1 τ3 C2 K2
