/-! Part B: Flow: its cells, what comes to next, what steps do with parts -/
def FlP (σ : PS) (a st dr nw nx o cl v see : Nat) (who : Int32) (P N D : Nat → Nat) (wa lo : Nat) : Prop :=
  σ 3 a = some (.inl [.ref st, .ref dr, .ref nw, .ref nx, .ref o, .ref cl, .long (lN wa), .long (lN lo), .int (nI v), .int (nI see), .int who]) ∧ (∃ l, σ 4 st = some (.inl l) ∧ l.length = 5) ∧ (∃ f, σ 101 dr = some (.inr (6, .inr (.inl f))) ∧ ∀ p, p < 6 → f p = lN (D p)) ∧ (∃ f, σ 101 nw = some (.inr (16900, .inr (.inl f))) ∧ ∀ x, x < 16900 → f x = lN (P x)) ∧ (∃ f, σ 101 nx = some (.inr (16900, .inr (.inl f))) ∧ ∀ x, x < 16900 → f x = lN (N x)) ∧ nw ≠ nx ∧ dr ≠ nw ∧ dr ≠ nx
def FlD (a st dr nw nx κ x : Nat) : Prop := (κ = 3 ∧ x = a) ∨ (κ = 4 ∧ x = st) ∨ (κ = 101 ∧ (x = dr ∨ x = nw ∨ x = nx))
theorem FlD.sw {a st dr nw nx κ x : Nat} (h : FlD a st dr nw nx κ x) : FlD a st dr nx nw κ x := by
  unfold FlD at *
  omega
theorem FlP.cong {σ : PS} {a st dr nw nx o cl v see : Nat} {who : Int32} {P N D P' N' D' : Nat → Nat} {wa lo wa' lo' : Nat} (h : FlP σ a st dr nw nx o cl v see who P N D wa lo) (hP : ∀ x, x < 16900 → P x = P' x) (hN : ∀ x, x < 16900 → N x = N' x) (hD : ∀ p, p < 6 → D p = D' p) (hw : wa = wa') (hl : lo = lo') : FlP σ a st dr nw nx o cl v see who P' N' D' wa' lo' := by
  subst hw; subst hl
  obtain ⟨h1, h2, ⟨fd, h4, h5⟩, ⟨fn, h6, h7⟩, ⟨fx, h8, h9⟩, n1⟩ := h
  exact ⟨h1, h2, ⟨fd, h4, fun p hp => by rw [h5 p hp, hD p hp]⟩, ⟨fn, h6, fun x hx => by rw [h7 x hx, hP x hx]⟩, ⟨fx, h8, fun x hx => by rw [h9 x hx, hN x hx]⟩, n1⟩
theorem FlP.put {σ : PS} {a st dr nw nx o cl v see : Nat} {who : Int32} {P N D : Nat → Nat} {wa lo y t : Nat} {f : Nat → Int64} {w : Int64} (h : FlP σ a st dr nw nx o cl v see who P N D wa lo) (hf : σ 101 nx = some (.inr (16900, .inr (.inl f)))) (hw : w = lN t) : FlP (up σ 101 nx (.inr (16900, .inr (.inl (vp_updL f y w))))) a st dr nw nx o cl v see who P (fun z => if z = y then t else N z) D wa lo := by
  obtain ⟨h1, ⟨l, h2, h3⟩, ⟨fd, h4, h5⟩, ⟨fn, h6, h7⟩, ⟨fx, h8, h9⟩, n1, n2, n3⟩ := h
  have e : fx = f := by rw [h8] at hf; cases hf; rfl
  subst e
  refine ⟨(up_k (by decide)).trans h1, ⟨l, (up_k (by decide)).trans h2, h3⟩, ⟨fd, (up_a n3).trans h4, h5⟩, ⟨fn, (up_a n1).trans h6, h7⟩, ⟨_, up_eq, fun x hx => ?_⟩, n1, n2, n3⟩
  unfold vp_updL
  dsimp only
  by_cases q : x = y
  · rw [if_pos q, if_pos q, hw]
  · rw [if_neg q, if_neg q, h9 x hx]
theorem FlP.putN {σ : PS} {a st dr nw nx o cl v see : Nat} {who : Int32} {P N D : Nat → Nat} {wa lo y t : Nat} {f : Nat → Int64} {w : Int64} (h : FlP σ a st dr nw nx o cl v see who P N D wa lo) (hf : σ 101 nw = some (.inr (16900, .inr (.inl f)))) (hw : w = lN t) : FlP (up σ 101 nw (.inr (16900, .inr (.inl (vp_updL f y w))))) a st dr nw nx o cl v see who (fun z => if z = y then t else P z) N D wa lo := by
  obtain ⟨h1, ⟨l, h2, h3⟩, ⟨fd, h4, h5⟩, ⟨fn, h6, h7⟩, ⟨fx, h8, h9⟩, n1, n2, n3⟩ := h
  have e : fn = f := by rw [h6] at hf; cases hf; rfl
  subst e
  refine ⟨(up_k (by decide)).trans h1, ⟨l, (up_k (by decide)).trans h2, h3⟩, ⟨fd, (up_a n2).trans h4, h5⟩, ⟨_, up_eq, fun x hx => ?_⟩, ⟨fx, (up_a (Ne.symm n1)).trans h8, h9⟩, n1, n2, n3⟩
  unfold vp_updL
  dsimp only
  by_cases q : x = y
  · rw [if_pos q, if_pos q, hw]
  · rw [if_neg q, if_neg q, h7 x hx]
theorem FlP.putD {σ : PS} {a st dr nw nx o cl v see : Nat} {who : Int32} {P N D : Nat → Nat} {wa lo y t : Nat} {f : Nat → Int64} {w : Int64} (h : FlP σ a st dr nw nx o cl v see who P N D wa lo) (hf : σ 101 dr = some (.inr (6, .inr (.inl f)))) (hw : w = lN t) : FlP (up σ 101 dr (.inr (6, .inr (.inl (vp_updL f y w))))) a st dr nw nx o cl v see who P N (fun z => if z = y then t else D z) wa lo := by
  obtain ⟨h1, ⟨l, h2, h3⟩, ⟨fd, h4, h5⟩, ⟨fn, h6, h7⟩, ⟨fx, h8, h9⟩, n1, n2, n3⟩ := h
  have e : fd = f := by rw [h4] at hf; cases hf; rfl
  subst e
  refine ⟨(up_k (by decide)).trans h1, ⟨l, (up_k (by decide)).trans h2, h3⟩, ⟨_, up_eq, fun x hx => ?_⟩, ⟨fn, (up_a (Ne.symm n2)).trans h6, h7⟩, ⟨fx, (up_a (Ne.symm n3)).trans h8, h9⟩, n1, n2, n3⟩
  unfold vp_updL
  dsimp only
  by_cases q : x = y
  · rw [if_pos q, if_pos q, hw]
  · rw [if_neg q, if_neg q, h5 x hx]
theorem FlP.st {σ : PS} {a st dr nw nx o cl v see : Nat} {who : Int32} {P N D : Nat → Nat} {wa lo : Nat} {l : List Value} (h : FlP σ a st dr nw nx o cl v see who P N D wa lo) (hl : l.length = 5) : FlP (up σ 4 st (.inl l)) a st dr nw nx o cl v see who P N D wa lo := by
  obtain ⟨h1, h2, ⟨fd, h4, h5⟩, ⟨fn, h6, h7⟩, ⟨fx, h8, h9⟩, n⟩ := h
  exact ⟨(up_k (by decide)).trans h1, ⟨l, up_eq, hl⟩, ⟨fd, (up_k (by decide)).trans h4, h5⟩, ⟨fn, (up_k (by decide)).trans h6, h7⟩, ⟨fx, (up_k (by decide)).trans h8, h9⟩, n⟩
theorem FlP.fld {σ : PS} {a st dr nw nx o cl v see o' cl' v' see' wa' lo' : Nat} {who who' : Int32} {P N D : Nat → Nat} {wa lo : Nat} {l : List Value} (h : FlP σ a st dr nw nx o cl v see who P N D wa lo) (hl : l = [.ref st, .ref dr, .ref nw, .ref nx, .ref o', .ref cl', .long (lN wa'), .long (lN lo'), .int (nI v'), .int (nI see'), .int who']) : FlP (up σ 3 a (.inl l)) a st dr nw nx o' cl' v' see' who' P N D wa' lo' := by
  subst hl
  obtain ⟨h1, ⟨l, h2, h3⟩, ⟨fd, h4, h5⟩, ⟨fn, h6, h7⟩, ⟨fx, h8, h9⟩, n⟩ := h
  exact ⟨up_eq, ⟨l, (up_k (by decide)).trans h2, h3⟩, ⟨fd, (up_k (by decide)).trans h4, h5⟩, ⟨fn, (up_k (by decide)).trans h6, h7⟩, ⟨fx, (up_k (by decide)).trans h8, h9⟩, n⟩
theorem FlP.oth {σ : PS} {κ x a st dr nw nx o cl v see : Nat} {who : Int32} {P N D : Nat → Nat} {wa lo : Nat} {e : aE} (h : FlP σ a st dr nw nx o cl v see who P N D wa lo) (h3 : κ ≠ 3) (h4 : κ ≠ 4) (h1 : κ ≠ 101) : FlP (up σ κ x e) a st dr nw nx o cl v see who P N D wa lo := by
  obtain ⟨h1, ⟨l, h2, h3⟩, ⟨fd, h4, h5⟩, ⟨fn, h6, h7⟩, ⟨fx, h8, h9⟩, n⟩ := h
  exact ⟨(up_k (by omega)).trans h1, ⟨l, (up_k (by omega)).trans h2, h3⟩, ⟨fd, (up_k (by omega)).trans h4, h5⟩, ⟨fn, (up_k (by omega)).trans h6, h7⟩, ⟨fx, (up_k (by omega)).trans h8, h9⟩, n⟩
theorem ct_1 (y t z : Nat) : ct [(y, t)] z = if z = y then t else 0 := by
  show (if y = z then t else 0) + 0 = _
  by_cases q : z = y
  · rw [if_pos q, if_pos q.symm]
    rfl
  · rw [if_neg q, if_neg (fun w => q w.symm)]
theorem k_flast {G : GC} {σ : PS} {a v : Nat} {l : List Value} {P : Option Value → Prop} (e : σ 3 a = some (.inl l)) (e8 : l[8]? = some (.int (nI v))) (hv : v ≤ 23) (h : P (some (.int (nI ((v + 2) * 676))))) : CallO G mX3_last 4 [.ref a] σ P := by
  refine eX3_last (bX3_last_0 ⟨nI v, ⟨_, e, e8⟩, fun w hw => ?_⟩)
  rw [show (23 : Int32) = nI 23 from rfl, if_neg (nI_nlt hv (by decide))] at hw
  rw [hw, show nI v + 2 = nI (v + 2) from nI_add v 2]
  have hc : cd (v + 2) 0 0 0 0 = (v + 2) * 676 := by unfold cd; omega
  exact k_codeOf (s := v + 2) (c := 0) (d := 0) (k := 0) (e := 0) ⟨_, rfl, rfl, by rw [hc]; exact h⟩
theorem k_fturns {G : GC} {σ : PS} {Q : Option Value → PS → Prop} {X : String → Nat → PS → Prop} {b a st dr nw nx o cl v see : Nat} {who : Int32} {P N D : Nat → Nat} {wa lo : Nat} (h : FlP σ a st dr nw nx o cl v see who P N D wa lo) (hv : v ≤ 23) (hz : ∀ x, (v + 2) * 676 ≤ x → P x = 0) (k : ∀ τ, FlP τ a st dr nx nw o cl v see who N (fun _ => 0) D wa lo → Fr (FlD a st dr nw nx) σ τ → Q none τ) : Call G mX3_turns 5 b [.ref a] σ Q X := by
  have L : ∀ d i, i + d = (v + 2) * 676 → ∀ τ, FlP τ a st dr nx nw o cl v see who N (fun z => if z < i then 0 else P z) D wa lo → Fr (FlD a st dr nw nx) σ τ → At G mX3_turns 5 Q X b 20 [(0, .ref a), (2, .int (nI i))] [] τ := by
    intro d
    induction d with
    | zero =>
      intro i hi τ hT hF
      have h1 := hT.1
      refine bX3_turns_20 ⟨⟨_, h1⟩, k_flast h1 rfl hv ⟨_, rfl, fun _ => ?_, fun q => absurd (nI_le (by omega) (by omega)) q⟩⟩
      refine k τ (hT.cong (fun _ _ => rfl) (fun x _ => ?_) (fun _ _ => rfl) rfl rfl) hF
      show (if x < i then 0 else P x) = 0
      split
      · rfl
      · exact hz x (by omega)
    | succ d ih =>
      intro i hi τ hT hF
      have h1 := hT.1
      obtain ⟨f, h8, h9⟩ := hT.2.2.2.2.1
      have hi9 : i < 16900 := by omega
      have p1 := vp_in_nI hi9 (by decide)
      refine bX3_turns_20 ⟨⟨_, h1⟩, k_flast h1 rfl hv ⟨_, rfl, fun q => absurd q (nI_ge (by omega) (by omega)), fun _ => ⟨nw, ⟨_, h1, rfl⟩, 16900, f, h8, p1, fun s1 hs1 v2 hv2 => ?_⟩⟩⟩
      subst hs1
      rw [hv2, nI_1, nI_clamp (by omega)]
      refine ih (i + 1) (by omega) _ ((hT.put (t := 0) h8 rfl).cong (fun _ _ => rfl) (fun x _ => ?_) (fun _ _ => rfl) rfl rfl) (hF.up (Or.inr (Or.inr ⟨rfl, Or.inr (Or.inl rfl)⟩)))
      show (if x = i then 0 else if x < i then 0 else P x) = if x < i + 1 then 0 else P x
      by_cases q : x = i
      · rw [if_pos q, if_pos (by omega)]
      · by_cases q2 : x < i
        · rw [if_neg q, if_pos q2, if_pos (by omega)]
        · rw [if_neg q, if_neg q2, if_neg (by omega)]
  have h1 := h.1
  refine eX3_turns (bX3_turns_0 ⟨nw, ⟨_, h1, rfl⟩, nx, ⟨_, h1, rfl⟩, _, h1, by simp, fun s1 hs1 => ?_⟩)
  subst hs1
  refine ⟨_, up_eq, by simp, fun s2 hs2 => ?_⟩
  rw [up_up] at hs2
  subst hs2
  refine L ((v + 2) * 676) 0 (by omega) _ ?_ (Fr.rf.up (Or.inl ⟨rfl, rfl⟩))
  obtain ⟨h1, ⟨l, h2, h3⟩, ⟨fd, h4, h5⟩, ⟨fn, h6, h7⟩, ⟨fx, h8, h9⟩, n1, n2, n3⟩ := h
  exact ⟨up_eq, ⟨l, (up_k (by decide)).trans h2, h3⟩, ⟨fd, (up_k (by decide)).trans h4, h5⟩, ⟨fx, (up_k (by decide)).trans h8, h9⟩, ⟨fn, (up_k (by decide)).trans h6, h7⟩, n1.symm, n3, n2⟩
theorem k_addsAt {G : GC} {σ : PS} {Q : Option Value → PS → Prop} {X : String → Nat → PS → Prop} {b a st dr nw nx o cl v see y t : Nat} {who : Int32} {P N D : Nat → Nat} {wa lo : Nat} (h : FlP σ a st dr nw nx o cl v see who P N D wa lo) (hy : y < 16900) (k : ∀ τ, FlP τ a st dr nw nx o cl v see who P (fun z => N z + ct [(y, t)] z) D wa lo → Fr (FlD a st dr nw nx) σ τ → (∀ κ, κ ≠ 101 → τ κ = σ κ) → Q none τ) : Call G mX3_addsAt 3 b [.ref a, .int (nI y), .long (lN t)] σ Q X := by
  have h1 := h.1
  obtain ⟨f, h8, h9⟩ := h.2.2.2.2.1
  have p1 := vp_in_nI hy (by decide)
  refine eX3_addsAt (bX3_addsAt_0 ⟨nx, ⟨_, h1, rfl⟩, 16900, f, h8, p1, fun w hw => ⟨16900, f, h8, p1, fun s1 hs1 => ?_⟩⟩)
  subst hs1
  rw [nI_clamp (by omega), h9 y hy, lN_add] at hw
  rw [nI_clamp (by omega)]
  refine k _ ((h.put (y := y) (t := N y + t) h8 hw).cong (fun _ _ => rfl) (fun x _ => ?_) (fun _ _ => rfl) rfl rfl) (Fr.rf.up (Or.inr (Or.inr ⟨rfl, Or.inr (Or.inr rfl)⟩))) (fun κ hκ => ?_)
  · show (if x = y then N y + t else N x) = N x + ct [(y, t)] x
    rw [ct_1]
    by_cases q : x = y
    · rw [if_pos q, if_pos q, q]
    · rw [if_neg q, if_neg q]; rfl
  · funext z
    exact up_k hκ
theorem k_adds {G : GC} {σ : PS} {Q : Option Value → PS → Prop} {X : String → Nat → PS → Prop} {b a st dr nw nx o cl v see s c d ka e t : Nat} {who : Int32} {P N D : Nat → Nat} {wa lo : Nat} (h : FlP σ a st dr nw nx o cl v see who P N D wa lo) (hs : σ 4 st = some (.inl (stL s c d ka e))) (hy : cd s c d ka e < 16900) (ht : t ≤ 2 ^ 40) (k : ∀ τ, FlP τ a st dr nw nx o cl v see who P (fun z => N z + ct [(cd s c d ka e, t)] z) D wa lo → Fr (FlD a st dr nw nx) σ τ → (∀ κ, κ ≠ 101 → τ κ = σ κ) → Q none τ) : Call G mX3_adds 5 b [.ref a, .ref st, .long (lN t)] σ Q X := by
  have h1 := h.1
  obtain ⟨f, h8, h9⟩ := h.2.2.2.2.1
  have p1 := vp_in_nI hy (by decide)
  have z0 : lN t = 0 ↔ t = 0 := pk_lEQ (b := 0) (by omega) (by decide)
  refine eX3_adds (bX3_adds_0 ⟨fun q => ?_, fun q => ⟨nx, ⟨_, h1, rfl⟩, ⟨_, hs⟩, k_code hs ⟨_, rfl, 16900, f, h8, p1, fun w hw => ⟨16900, f, h8, p1, fun s1 hs1 => ?_⟩⟩⟩⟩)
  · have q := z0.mp q
    subst q
    refine k _ (h.cong (fun _ _ => rfl) (fun x _ => ?_) (fun _ _ => rfl) rfl rfl) Fr.rf (fun _ _ => rfl)
    rw [ct_1]
    split <;> rfl
  · subst hs1
    rw [nI_clamp (by omega), h9 _ hy, lN_add] at hw
    rw [nI_clamp (by omega)]
    refine k _ ((h.put (y := cd s c d ka e) (t := N (cd s c d ka e) + t) h8 hw).cong (fun _ _ => rfl) (fun x _ => ?_) (fun _ _ => rfl) rfl rfl) (Fr.rf.up (Or.inr (Or.inr ⟨rfl, Or.inr (Or.inr rfl)⟩))) (fun κ hκ => ?_)
    · show (if x = cd s c d ka e then N (cd s c d ka e) + t else N x) = N x + ct [(cd s c d ka e, t)] x
      rw [ct_1]
      by_cases q : x = cd s c d ka e
      · rw [if_pos q, if_pos q, q]
      · rw [if_neg q, if_neg q]; rfl
    · funext z
      exact up_k hκ
theorem k_drinks {G : GC} {σ : PS} {Q : Option Value → PS → Prop} {X : String → Nat → PS → Prop} {b a st dr nw nx o cl v see pw t : Nat} {P N D : Nat → Nat} {wa lo : Nat} (h : FlP σ a st dr nw nx o cl v see (nI pw) P N D wa lo) (hp : pw < 6) (k : ∀ τ, FlP τ a st dr nw nx o cl v see (nI pw) P N (fun p => D p + if p = pw then t else 0) wa lo → Fr (FlD a st dr nw nx) σ τ → (∀ κ, κ ≠ 101 → τ κ = σ κ) → Q none τ) : Call G mX3_drinks 3 b [.ref a, .long (lN t)] σ Q X := by
  have h1 := h.1
  obtain ⟨f, h8, h9⟩ := h.2.2.1
  have p1 := vp_in_nI hp (by decide)
  refine eX3_drinks (bX3_drinks_0 ⟨dr, ⟨_, h1, rfl⟩, nI pw, ⟨_, h1, rfl⟩, 6, f, h8, p1, fun w hw => ⟨6, f, h8, p1, fun s1 hs1 => ?_⟩⟩)
  subst hs1
  rw [nI_clamp (by omega), h9 pw hp, lN_add] at hw
  rw [nI_clamp (by omega)]
  refine k _ ((h.putD (y := pw) (t := D pw + t) h8 hw).cong (fun _ _ => rfl) (fun _ _ => rfl) (fun x _ => ?_) rfl rfl) (Fr.rf.up (Or.inr (Or.inr ⟨rfl, Or.inl rfl⟩))) (fun κ hκ => ?_)
  · show (if x = pw then D pw + t else D x) = D x + if x = pw then t else 0
    by_cases q : x = pw
    · rw [if_pos q, if_pos q, q]
    · rw [if_neg q, if_neg q]; rfl
  · funext z
    exact up_k hκ
theorem ct_2 (q q' : Nat × Nat) (z : Nat) : ct [q, q'] z = ct [q] z + ct [q'] z := by
  show _ + (_ + 0) = (_ + 0) + (_ + 0)
  omega
theorem k_flows {G : GC} {σ : PS} {Q : Option Value → PS → Prop} {a st dr nw nx o cl v see p P' q x t pw : Nat} {O : Nat → Nat} {S : StT} {P N D : Nat → Nat} {wa lo : Nat} (hS : StpO σ q S) (hact : S.1 ≤ 7) (h : FlP σ a st dr nw nx o cl v see (nI pw) P N D wa lo) (hO : OffO σ o p O P') (hx : σ 4 st = some (.inl (stX x))) (hg : gd (v + 1) x) (hv : v < 24) (ht : 0 < t) (ht2 : t ≤ 2 ^ 40) (hN : O 0 ≤ 12) (hsee : see ≤ 16) (hp : pw < 6)
    (k : ∀ τ, FlP τ a st dr nw nx o cl v see (nI pw) P (fun z => N z + ct (actG (O 0) see v S.1 x t) z) (fun p => D p + if p = pw then actD S.1 x t else 0) (wa + actW S.1 x t) (lo + actL S.1 t) → Fr (FlD a st dr nw nx) σ τ → Q none τ) : ∃ rc, rc + 1 ≤ 202 ∧ CallS_flows G rc q [.ref a, .ref st, .long (lN t)] σ Q := by
  obtain ⟨tv, -, hq⟩ := hS
  obtain ⟨o1, -⟩ := hO
  have h1 := h.1
  have hs := hg.1
  have hc := hg.2
  have k2 := cK_lt x
  have e2 := cE_lt x
  have hxx := hx
  unfold stX at hxx
  have hx3 := hxx
  unfold stL at hx3
  have D0 : ∀ z, (D z + if z = pw then 0 else 0) = D z := fun z => by split <;> rfl
  have z0 : nI (cC x + cD x) = 0 ↔ cC x + cD x = 0 := nI_eq (b := 0) (by omega) (by decide)
  have F4 : ∀ e, Fr (FlD a st dr nw nx) σ (up σ 4 st e) := fun e => Fr.rf.up (Or.inr (Or.inl ⟨rfl, rfl⟩))
  have hlt : ∀ {s c d ka e : Nat}, s ≤ v + 1 → c + d ≤ 12 → ka < 2 → e < 2 → cd s c d ka e < 16900 := fun a1 a2 a3 a4 => (gd_cd (v := v + 1) a1 a2 a3 a4).lt2 (by omega)
  -- a new state, then all parts come to it
  have one : ∀ {s c d ka e : Nat} {b' : Nat} {X' : String → Nat → PS → Prop} {Q' : Option Value → PS → Prop}, s ≤ v + 1 → c + d ≤ 12 → ka < 2 → e < 2 → (∀ τ, FlP τ a st dr nw nx o cl v see (nI pw) P (fun z => N z + ct [(cd s c d ka e, t)] z) D wa lo → Fr (FlD a st dr nw nx) σ τ → Q' none τ) → Call G mX3_adds 5 b' [.ref a, .ref st, .long (lN t)] (up σ 4 st (.inl (stL s c d ka e))) Q' X' := by
    intro s c d ka e b' X' Q' a1 a2 a3 a4 kk
    exact k_adds (h.st rfl) up_eq (hlt a1 a2 a3 a4) ht2 (fun τ hT hF _ => kk τ hT ((F4 _).tr hF))
  have fin : ∀ {s c d ka e : Nat} {act : Nat}, S.1 = act → act ≠ 1 → act ≠ 2 → act ≠ 3 → actG (O 0) see v act x t = [(cd s c d ka e, t)] → ∀ τ, FlP τ a st dr nw nx o cl v see (nI pw) P (fun z => N z + ct [(cd s c d ka e, t)] z) D wa lo → Fr (FlD a st dr nw nx) σ τ → Q none τ := by
    intro s c d ka e act ha n1 n2 n3 he τ hT hF
    refine k τ (hT.cong (fun _ _ => rfl) (fun z _ => ?_) (fun z _ => ?_) ?_ ?_) hF
    · rw [ha, he]
    · rw [ha]; show _ = D z + if z = pw then (if act = 1 then _ else 0) else 0; rw [if_neg n1, D0]
    · rw [ha]; show _ = wa + if act = 3 then _ else 0; rw [if_neg n3]; rfl
    · rw [ha]; show _ = lo + if act = 2 then _ else 0; rw [if_neg n2]; rfl
  have hact' : S.1 = 0 ∨ S.1 = 1 ∨ S.1 = 2 ∨ S.1 = 3 ∨ S.1 = 4 ∨ S.1 = 5 ∨ S.1 = 6 ∨ S.1 = 7 := by omega
  rcases hact' with ha | ha | ha | ha | ha | ha | ha | ha <;> rw [ha] at hq <;> simp only [kOf] at hq
  · refine ⟨6, by decide, Or.inl ⟨_, hq, eX20_flows (bX20_flows_0 ⟨o, ⟨_, h1, rfl⟩, _, ⟨_, o1, rfl⟩, ?_⟩)⟩⟩
    refine k_puts (by omega) (by omega) hxx ⟨rfl, ⟨_, (up_k (by decide)).trans h1⟩, one hs ?_ k2 e2 (fun τ hT hF => ⟨rfl, fin ha (by decide) (by decide) (by decide) rfl τ hT hF⟩)⟩ (up_id hxx)
    split <;> omega
  · refine ⟨6, by decide, Or.inr (Or.inl ⟨_, hq, eX21_flows (bX21_flows_0 ⟨⟨_, hx⟩, k_in hx3 ⟨_, rfl, fun z => ?_, fun z => ?_⟩⟩)⟩)⟩
    · have z1 : ¬ cC x + cD x = 0 := fun w => z (z0.mpr w)
      refine ⟨nI (cD x), ⟨_, hxx, rfl⟩, ⟨_, hx⟩, k_in hx3 ⟨_, rfl, ?_⟩⟩
      have td : t * cD x < 2 ^ 63 := by
        have : t * cD x ≤ 2 ^ 40 * 12 := Nat.mul_le_mul ht2 (by omega)
        omega
      dsimp only
      rw [nI_l (show cD x < 2 ^ 31 by omega), nI_l (show cC x + cD x < 2 ^ 31 by omega), lN_mul, pk_lDiv td (by omega) (by omega)]
      have hdr : t * cD x / (cC x + cD x) = drk x t := by unfold drk; rw [if_neg z1]
      rw [hdr]
      have hle := drk_le x t
      have w0 : lN (drk x t) ≤ 0 ↔ drk x t ≤ 0 := pk_lLE (b := 0) (by omega) (by decide)
      refine ⟨fun w => absurd ((pk_lEQ (b := 0) (by omega) (by decide)).mp w) z1, fun w hw => ?_⟩
      subst hw
      refine ⟨⟨_, h1⟩, k_drinks h hp (fun τ hT hF hK => ⟨rfl, ?_⟩)⟩
      have hxt : τ 4 st = some (.inl (stX x)) := by rw [hK 4 (by decide)]; exact hx
      have hxt' := hxt
      unfold stX stL at hxt'
      -- what is left
      have rest : ∀ υ, FlP υ a st dr nw nx o cl v see (nI pw) P (fun z => N z + ct [(cd (cS x) (cC x) (cD x - 1) (cK x) (cE x), drk x t)] z) (fun p => D p + if p = pw then drk x t else 0) wa lo → Fr (FlD a st dr nw nx) σ υ → υ 4 st = some (.inl (stX x)) → At G mX21_flows 6 Q (fun _ _ _ => False) 0 73 [(1, .ref a), (2, .ref st), (3, .long (lN t)), (5, .long (lN (drk x t)))] [] υ := by
        intro υ hU hFU hxu
        have done : ∀ ω, FlP ω a st dr nw nx o cl v see (nI pw) P (fun z => (N z + ct [(cd (cS x) (cC x) (cD x - 1) (cK x) (cE x), drk x t)] z) + ct [(cd (cS x) (cC x - 1) (cD x) (cK x) (cE x), t - drk x t)] z) (fun p => D p + if p = pw then drk x t else 0) wa lo → Fr (FlD a st dr nw nx) σ ω → Q none ω := by
          intro ω hW hFW
          refine k ω (hW.cong (fun _ _ => rfl) (fun z _ => ?_) (fun z _ => ?_) ?_ ?_) hFW
          · rw [ha]
            unfold actG
            simp only
            rw [if_neg z1, ct_2]
            omega
          · rw [ha]; rfl
          · rw [ha]; rfl
          · rw [ha]; rfl
        have hxu' := hxu
        unfold stX stL at hxu'
        refine bX21_flows_73 ⟨fun w => ?_, fun w => ⟨_, ⟨_, hxu', rfl⟩, _, ⟨_, hxu', rfl⟩, _, ⟨_, hxu', rfl⟩, _, ⟨_, hxu', rfl⟩, _, ⟨_, hxu', rfl⟩, ?_⟩⟩
        · have w2 := (pk_lLE (by omega) (by omega)).mp w
          refine done υ (hU.cong (fun _ _ => rfl) (fun z _ => ?_) (fun _ _ => rfl) rfl rfl) hFU
          rw [show t - drk x t = 0 by omega, ct_zero (l := [(cd (cS x) (cC x - 1) (cD x) (cK x) (cE x), 0)]) rfl]
          rfl
        · have w2 : ¬ t ≤ drk x t := fun y => w ((pk_lLE (by omega) (by omega)).mpr y)
          have c1 : 1 ≤ cC x := by
            apply Classical.byContradiction
            intro y
            exact w2 (by rw [drk_c (by omega) z1]; exact Nat.le_refl _)
          rw [show nI (cC x) - 1 = nI (cC x - 1) from pk_sub (b := 1) c1, lN_sub (by omega)]
          exact k_codeOf ⟨_, rfl, ⟨_, hU.1⟩, k_addsAt hU (hlt hs (by omega) k2 e2) (fun ω hW hFW _ => ⟨rfl, done ω hW (hFU.tr hFW)⟩)⟩
      refine ⟨fun w => ?_, fun w => ?_⟩
      · have w1 := w0.mp w
        refine rest τ (hT.cong (fun _ _ => rfl) (fun z _ => ?_) (fun _ _ => rfl) rfl rfl) hF hxt
        rw [ct_zero (l := [(cd (cS x) (cC x) (cD x - 1) (cK x) (cE x), drk x t)])]
        · rfl
        · show drk x t + 0 = 0
          omega
      · have w1 : ¬ drk x t ≤ 0 := fun y => w (w0.mpr y)
        have d1 : 1 ≤ cD x := by
          apply Classical.byContradiction
          intro y
          exact w1 (by rw [drk_d (by omega)]; exact Nat.le_refl _)
        refine ⟨_, ⟨_, hxt', rfl⟩, _, ⟨_, hxt', rfl⟩, _, ⟨_, hxt', rfl⟩, _, ⟨_, hxt', rfl⟩, _, ⟨_, hxt', rfl⟩, ?_⟩
        rw [show nI (cD x) - 1 = nI (cD x - 1) from pk_sub (b := 1) d1]
        exact k_codeOf ⟨_, rfl, ⟨_, hT.1⟩, k_addsAt hT (hlt hs (by omega) k2 e2) (fun ω hW hFW hKW => ⟨rfl, rest ω hW (hF.tr hFW) (by rw [hKW 4 (by decide)]; exact hxt)⟩)⟩
    · have z1 := z0.mp z
      refine ⟨⟨_, h1⟩, k_adds h hxx (hlt hs hc k2 e2) ht2 (fun τ hT hF _ => ⟨rfl, ?_⟩)⟩
      refine k τ (hT.cong (fun _ _ => rfl) (fun z _ => ?_) (fun z _ => ?_) ?_ ?_) hF
      · rw [ha]
        unfold actG
        simp only
        rw [if_pos z1, cd_code]
      · rw [ha]
        show _ = D z + if z = pw then drk x t else 0
        unfold drk
        rw [if_pos z1, D0]
      · rw [ha]; rfl
      · rw [ha]; rfl
  · have mid : At G mX22_flows 6 Q (fun _ _ _ => False) 0 22 [(1, .ref a), (2, .ref st), (3, .long (lN t))] [.long (lN (sees see x t))] σ := by
      have hle := sees_le (x := x) (t := t) hsee
      refine bX22_flows_22 ⟨lN lo, ⟨_, h1, rfl⟩, _, h1, by simp, fun s1 hs1 => ?_⟩
      subst hs1
      have hT := h.fld (o' := o) (cl' := cl) (v' := v) (see' := see) (wa' := wa) (lo' := lo + t) (who' := nI pw) (l := [.ref st, .ref dr, .ref nw, .ref nx, .ref o, .ref cl, .long (lN wa), .long (lN lo + lN t), .int (nI v), .int (nI see), .int (nI pw)]) (by rw [lN_add])
      have F3 : ∀ e, Fr (FlD a st dr nw nx) σ (up σ 3 a e) := fun e => Fr.rf.up (Or.inl ⟨rfl, rfl⟩)
      refine ⟨⟨_, up_eq⟩, ?_⟩
      rw [lN_sub hle]
      refine k_adds hT ((up_k (by decide)).trans hxx) (hlt hs hc k2 e2) (by omega) (fun τ hT hF hK => ⟨rfl, ?_⟩)
      have hxt : τ 4 st = some (.inl (stX x)) := by rw [hK 4 (by decide)]; exact (up_k (by decide)).trans hx
      refine ⟨_, hxt, by simp [stX, stL], fun s2 hs2 => ?_⟩
      subst hs2
      have F4' : ∀ e, Fr (FlD a st dr nw nx) τ (up τ 4 st e) := fun e => Fr.rf.up (Or.inr (Or.inl ⟨rfl, rfl⟩))
      refine ⟨⟨_, (up_k (by decide)).trans hT.1⟩, k_adds (s := cS x) (c := cC x) (d := cD x) (ka := cK x) (e := 1) (hT.st (by simp [stX, stL])) up_eq (hlt hs hc k2 (by decide)) (by omega) (fun ω hW hFW _ => ⟨rfl, ?_⟩)⟩
      refine k ω (hW.cong (fun _ _ => rfl) (fun z _ => ?_) (fun z _ => ?_) ?_ ?_) ((((F3 _).tr hF).tr (F4' _)).tr hFW)
      · rw [ha]
        show (N z + _) + _ = N z + ct [(x, t - sees see x t), (cd (cS x) (cC x) (cD x) (cK x) 1, sees see x t)] z
        rw [ct_2, cd_code]
        omega
      · rw [ha]; exact (D0 z).symm
      · rw [ha]; rfl
      · rw [ha]; rfl
    refine ⟨6, by decide, Or.inr (Or.inr (Or.inl ⟨_, hq, eX22_flows (bX22_flows_0 ⟨nI (cD x), ⟨_, hxx, rfl⟩, fun z => ⟨nI see, ⟨_, h1, rfl⟩, fun w hw => ?_⟩, fun z => ?_⟩)⟩))⟩
    · have z1 : ¬ cD x = 0 := fun w => z (by rw [w]; rfl)
      have ts : t * see < 2 ^ 63 := by
        have : t * see ≤ 2 ^ 40 * 16 := Nat.mul_le_mul ht2 hsee
        omega
      rw [nI_l (by omega), lN_mul, show (16 : Int64) = lN 16 from rfl, pk_lDiv ts (by decide) (by decide)] at hw
      unfold sees at mid
      rw [if_neg z1] at mid
      rw [hw]
      exact mid
    · have z1 : cD x = 0 := (nI_eq (b := 0) (by omega) (by decide)).mp z
      unfold sees at mid
      rw [if_pos z1] at mid
      exact mid
  · refine ⟨6, by decide, Or.inr (Or.inr (Or.inr (Or.inl ⟨_, hq, eX23_flows (bX23_flows_0 ⟨lN wa, ⟨_, h1, rfl⟩, nI v, ⟨_, h1, rfl⟩, ⟨_, hx⟩, k_starts (by omega) hxx (fun z => ⟨_, rfl, fun w hw => ?_⟩) (fun z => ⟨_, rfl, fun w hw => ?_⟩)⟩)⟩)))⟩
    · have c0 : cC x = 0 := by omega
      rw [nI_l (by decide), lN_mul, lN_add] at hw
      refine ⟨_, h1, by simp, fun s1 hs1 => ?_⟩
      subst hs1
      refine ⟨⟨_, up_eq⟩, k_adds (h.fld (o' := o) (cl' := cl) (v' := v) (see' := see) (wa' := wa + t * 0) (lo' := lo) (who' := nI pw) (by rw [hw]; rfl)) ((up_k (by decide)).trans hxx) (hlt hs hc k2 e2) ht2 (fun τ hT hF _ => ⟨rfl, ?_⟩)⟩
      refine k τ (hT.cong (fun _ _ => rfl) (fun z' _ => ?_) (fun z _ => ?_) ?_ ?_) ((Fr.rf.up (Or.inl ⟨rfl, rfl⟩)).tr hF)
      · rw [ha]
        unfold actG
        simp only
        rw [if_pos z, cd_code]
      · rw [ha]; exact (D0 z).symm
      · rw [ha]; show wa + t * 0 = wa + t * cC x; rw [c0]
      · rw [ha]; rfl
    · rw [nI_l (by omega), lN_mul, lN_add] at hw
      refine ⟨_, (up_k (by decide)).trans h1, by simp, fun s1 hs1 => ?_⟩
      subst hs1
      refine ⟨⟨_, up_eq⟩, k_adds ((h.st (l := stL (v + 1) (cC x + cD x) 0 (cK x) (cE x)) rfl).fld (o' := o) (cl' := cl) (v' := v) (see' := see) (wa' := wa + t * cC x) (lo' := lo) (who' := nI pw) (by rw [hw]; rfl)) ((up_k (by decide)).trans up_eq) (hlt (Nat.le_refl _) (by omega) k2 e2) ht2 (fun τ hT hF _ => ⟨rfl, ?_⟩)⟩
      refine k τ (hT.cong (fun _ _ => rfl) (fun z' _ => ?_) (fun z _ => ?_) ?_ ?_) (((F4 _).up (Or.inl ⟨rfl, rfl⟩)).tr hF)
      · rw [ha]
        unfold actG
        simp only
        rw [if_neg z]
      · rw [ha]; exact (D0 z).symm
      · rw [ha]; rfl
      · rw [ha]; rfl
  · refine ⟨6, by decide, Or.inr (Or.inr (Or.inr (Or.inr (Or.inl ⟨_, hq, eX24_flows (bX24_flows_0 (k_empties hxx ⟨rfl, ⟨_, (up_k (by decide)).trans h1⟩, one hs (by decide) k2 e2 (fun τ hT hF => ⟨rfl, fin ha (by decide) (by decide) (by decide) rfl τ hT hF⟩)⟩))⟩))))⟩
  · refine ⟨6, by decide, Or.inr (Or.inr (Or.inr (Or.inr (Or.inr ⟨_, hq, eX25_flows (bX25_flows_0 ⟨⟨_, hq⟩, k_turns k2 (Or.inl rfl) hq hxx ⟨rfl, ⟨_, (up_k (by decide)).trans h1⟩, one hs hc (by simp) e2 (fun τ hT hF => ⟨rfl, fin ha (by decide) (by decide) (by decide) rfl τ hT hF⟩)⟩⟩)⟩))))⟩
  · refine ⟨6, by decide, Or.inr (Or.inr (Or.inr (Or.inr (Or.inr ⟨_, hq, eX25_flows (bX25_flows_0 ⟨⟨_, hq⟩, k_turns k2 (Or.inr (Or.inl rfl)) hq hxx ⟨rfl, ⟨_, (up_k (by decide)).trans h1⟩, one hs hc (by simp) e2 (fun τ hT hF => ⟨rfl, fin ha (by decide) (by decide) (by decide) rfl τ hT hF⟩)⟩⟩)⟩))))⟩
  · refine ⟨6, by decide, Or.inr (Or.inr (Or.inr (Or.inr (Or.inr ⟨_, hq, eX25_flows (bX25_flows_0 ⟨⟨_, hq⟩, k_turns k2 (Or.inr (Or.inr rfl)) hq hxx ⟨rfl, ⟨_, (up_k (by decide)).trans h1⟩, one hs hc (by simp; omega) e2 (fun τ hT hF => ⟨rfl, fin ha (by decide) (by decide) (by decide) rfl τ hT hF⟩)⟩⟩)⟩))))⟩
