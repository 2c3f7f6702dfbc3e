/-! Part B: Flow's stages: what falls, what the book keeps, steps, ends -/
theorem nI_xor (a b : Nat) : nI a ^^^ nI b = nI (a ^^^ b) := by
  apply Int32.toBitVec_inj.mp
  rw [Int32.toBitVec_xor]
  show BitVec.ofNat 32 a ^^^ BitVec.ofNat 32 b = BitVec.ofNat 32 (a ^^^ b)
  apply BitVec.eq_of_getLsbD_eq
  intro i hi
  simp [BitVec.getLsbD_ofNat, Nat.testBit_xor, hi]
theorem flp_xor (x : Nat) : x ^^^ 2 = flp x := by
  have h1 : (x ^^^ 2) / 2 ^ 2 = x / 2 ^ 2 := by rw [Nat.xor_div_two_pow]; simp
  have h2 : (x ^^^ 2) % 2 ^ 2 = (x % 2 ^ 2) ^^^ 2 := by rw [Nat.xor_mod_two_pow]
  have h3 : x % 4 = 0 ∨ x % 4 = 1 ∨ x % 4 = 2 ∨ x % 4 = 3 := by omega
  have h4 : ∀ r, (r = 0 ∨ r = 1 ∨ r = 2 ∨ r = 3) → r ^^^ 2 = 2 * (1 - r / 2) + r % 2 := by
    intro r hr
    rcases hr with rfl | rfl | rfl | rfl <;> decide
  have h5 := h4 (x % 4) h3
  have h6 : flp x = 4 * (x / 4) + (2 * (1 - x % 4 / 2) + x % 4 % 2) := by
    unfold flp cd cS cC cD cK cE
    omega
  simp only [show (2 : Nat) ^ 2 = 4 from rfl] at h1 h2
  rw [h6, ← h5, ← h2, ← h1]
  omega
theorem sc_tail {g : Nat → List (Nat × Nat)} {m y : Nat} (hm : m ≤ 16900) (h : ∀ x, m ≤ x → tt (g x) = 0) : sc g 16900 y = sc g m y := sm_tail hm (fun x h1 _ => ct_zero (h x h1))
theorem GP.off {v : Nat} {P : Nat → Nat} (h : GP v P) (x : Nat) (hx : (v + 1) * 676 ≤ x) : P x = 0 := by
  apply Classical.byContradiction
  intro q
  have := (h.1 x q).lt
  omega
set_option maxRecDepth 8000 in
theorem k_ffalls {G : GC} {σ : PS} {Q : Option Value → PS → Prop} {X : String → Nat → PS → Prop} {b a st dr nw nx o cl v see q : Nat} {who : Int32} {P D : Nat → Nat} {wa lo : Nat} (h : FlP σ a st dr nw nx o cl v see who P (fun _ => 0) D wa lo) (hv : v ≤ 23) (hG : GP v P) (hq : q ≤ 16) (k : ∀ τ, FlP τ a st dr nx nw o cl v see who (sc (fallG q P) 16900) (fun _ => 0) D wa lo → Fr (FlD a st dr nw nx) σ τ → Q none τ) : Call G mX3_falls 6 b [.ref a, .int (nI q)] σ Q X := by
  have L : ∀ d i, i + d = (v + 2) * 676 → ∀ τ, FlP τ a st dr nw nx o cl v see who P (sc (fallG q P) i) D wa lo → Fr (FlD a st dr nw nx) σ τ → At G mX3_falls 6 Q X b 2 [(0, .ref a), (1, .int (nI q)), (2, .int (nI i))] [] τ := by
    intro d
    induction d with
    | zero =>
      intro i hi τ hT hF
      have h1 := hT.1
      refine bX3_falls_2 ⟨⟨_, h1⟩, k_flast h1 rfl hv ⟨_, rfl, fun _ => ⟨⟨_, h1⟩, k_fturns hT hv (fun x hx => hG.off x (by omega)) (fun υ hU hFU => ⟨rfl, ?_⟩)⟩, fun q => absurd (nI_le (by omega) (by omega)) q⟩⟩
      refine k υ (hU.cong (fun x _ => ?_) (fun _ _ => rfl) (fun _ _ => rfl) rfl rfl) (hF.tr hFU)
      rw [sc_tail (m := i) (by omega) (fun x hx => by rw [fallG_tt hq]; exact hG.off x (by omega))]
    | succ d ih =>
      intro i hi τ hT hF
      have h1 := hT.1
      obtain ⟨fn, h6, h7⟩ := hT.2.2.2.1
      obtain ⟨f, h8, h9⟩ := hT.2.2.2.2.1
      have hi9 : i < 16900 := by omega
      have p1 := vp_in_nI hi9 (by decide)
      have cl1 := nI_clamp (show i < 2 ^ 31 by omega)
      have hPi := hG.le (by omega) i
      have z0 : lN (P i) = 0 ↔ P i = 0 := pk_lEQ (b := 0) (by omega) (by decide)
      refine bX3_falls_2 ⟨⟨_, h1⟩, k_flast h1 rfl hv ⟨_, rfl, fun q => absurd q (nI_ge (by omega) (by omega)), fun _ => ⟨nw, ⟨_, h1, rfl⟩, 16900, fn, h6, p1, ?_⟩⟩⟩
      rw [cl1, h7 i hi9]
      refine ⟨fun z => ⟨nw, ⟨_, h1, rfl⟩, 16900, fn, h6, p1, fun w hw v3 hv3 => ⟨nx, ⟨_, h1, rfl⟩, 16900, f, h8, p1, nw, ⟨_, h1, rfl⟩, 16900, fn, h6, p1, fun w10 h10 w11 h11 => ⟨16900, f, h8, p1, fun s1 hs1 => ?_⟩⟩⟩, fun z v2 hv2 => ?_⟩
      · have tq : P i * q < 2 ^ 63 := by
          have : P i * q ≤ 2 ^ 40 * 16 := Nat.mul_le_mul hPi hq
          omega
        have e3 : v3 = lN (P i * q / 16) := by rw [hv3, hw, h7 i hi9, nI_l (by omega), lN_mul, show (16 : Int64) = lN 16 from rfl, pk_lDiv tq (by decide) (by decide)]
        have hle := sixt (p := P i) hq
        rw [h7 i hi9, e3, lN_sub hle] at h10
        rw [h10, h9 i hi9, lN_add] at h11
        subst hs1
        have hA := hT.put (y := i) (t := sc (fallG q P) i i + (P i - P i * q / 16)) h8 h11
        obtain ⟨f2, g8, g9⟩ := hA.2.2.2.2.1
        have g1 := hA.1
        have hfl : flp i < 16900 := by
          have := (flp_gd (hG.1 i (fun y => z (z0.mpr y)))).lt
          omega
        have hX : nI i ^^^ 2 = nI (flp i) := by rw [show (2 : Int32) = nI 2 from rfl, nI_xor, flp_xor]
        have p2 := vp_in_nI hfl (by decide)
        rw [hX, nI_clamp (show flp i < 2 ^ 31 by omega)]
        refine ⟨nx, ⟨_, g1, rfl⟩, 16900, f2, g8, p2, fun w18 h18 => ⟨16900, f2, g8, p2, fun s2 hs2 v2 hv2 => ?_⟩⟩
        subst hs2
        rw [g9 _ hfl, e3, lN_add] at h18
        rw [hv2, nI_1]
        refine ih (i + 1) (by omega) _ ((hA.put (y := flp i) (t := (if flp i = i then sc (fallG q P) i i + (P i - P i * q / 16) else sc (fallG q P) i (flp i)) + P i * q / 16) g8 h18).cong (fun _ _ => rfl) (fun x _ => ?_) (fun _ _ => rfl) rfl rfl) ((hF.up (Or.inr (Or.inr ⟨rfl, Or.inr (Or.inr rfl)⟩))).up (Or.inr (Or.inr ⟨rfl, Or.inr (Or.inr rfl)⟩)))
        rw [sc_succ]
        unfold fallG
        rw [ct_2, ct_1, ct_1]
        show (if x = flp i then _ else if x = i then _ else _) = _
        by_cases q1 : x = flp i
        · by_cases q2 : x = i
          · rw [if_pos q1, if_pos (by rw [← q1, q2]), if_pos q2, if_pos q1]
            subst q2
            rw [Nat.add_assoc]
          · rw [if_pos q1, if_neg (by rw [← q1]; exact q2), if_neg q2, if_pos q1, q1, Nat.zero_add]
        · by_cases q2 : x = i
          · rw [if_neg q1, if_pos q2, if_pos q2, if_neg q1, q2, Nat.add_zero]
          · rw [if_neg q1, if_neg q2, if_neg q2, if_neg q1]
            rfl
      · have zP := z0.mp z
        rw [hv2, nI_1]
        refine ih (i + 1) (by omega) _ (hT.cong (fun _ _ => rfl) (fun x _ => ?_) (fun _ _ => rfl) rfl rfl) hF
        rw [sc_succ, ct_zero (by rw [fallG_tt hq, zP])]
        rfl
  exact eX3_falls (bX3_falls_0 (L ((v + 2) * 676) 0 (by omega) σ (h.cong (fun _ _ => rfl) (fun y _ => (sc_zero _ y).symm) (fun _ _ => rfl) rfl rfl) Fr.rf))
def FlW (a st dr nw nx κ x : Nat) : Prop := FlD a st dr nw nx κ x ∨ κ = 26
theorem Fr.kpF {a st dr nw nx κ : Nat} {σ τ : PS} (f : Fr (FlW a st dr nw nx) σ τ) (h3 : κ ≠ 3) (h4 : κ ≠ 4) (h1 : κ ≠ 101) (h6 : κ ≠ 26) : Kp κ σ τ := by
  intro x e h
  rw [f κ x ?_]
  · exact h
  · rintro ((⟨q, _⟩ | ⟨q, _⟩ | ⟨q, _⟩) | q)
    · exact h3 q
    · exact h4 q
    · exact h1 q
    · exact h6 q
theorem Fr.toW {a st dr nw nx : Nat} {σ τ : PS} (f : Fr (FlD a st dr nw nx) σ τ) : Fr (FlW a st dr nw nx) σ τ := f.mono (fun _ _ h => Or.inl h)
theorem Fr.sw {a st dr nw nx : Nat} {σ τ : PS} (f : Fr (FlW a st dr nw nx) σ τ) : Fr (FlW a st dr nx nw) σ τ := f.mono (fun _ _ h => h.elim (fun z => Or.inl z.sw) Or.inr)
theorem k_doing {G : GC} {σ : PS} {q t : Nat} {S : StT} {P : Option Value → Prop} (hS : StpO σ q S) (hb : S.2.1 ≤ 16) (ht : t ≤ 2 ^ 40) (k : P (some (.long (lN (dng S.2.1 t))))) : CallS_doing G 3 q [.long (lN t)] σ P := by
  obtain ⟨tv, -, hq⟩ := hS
  have z0 : nI S.2.1 = 0 ↔ S.2.1 = 0 := nI_eq (b := 0) (by omega) (by decide)
  refine ⟨_, _, kOf_in S.1, hq, eX19_doing (kOf_in S.1) (bX19_doing_0 (kOf_in S.1) ⟨nI S.2.1, ⟨_, hq, rfl⟩, fun z => ⟨nI S.2.1, ⟨_, hq, rfl⟩, fun w hw => ⟨rfl, ?_⟩⟩, fun z => ⟨rfl, ?_⟩⟩)⟩
  · have tb : t * S.2.1 < 2 ^ 63 := by
      have : t * S.2.1 ≤ 2 ^ 40 * 16 := Nat.mul_le_mul ht hb
      omega
    rw [nI_l (by omega), lN_mul, show (16 : Int64) = lN 16 from rfl, pk_lDiv tb (by decide) (by decide)] at hw
    unfold dng at k
    rw [if_neg (fun y => z (z0.mpr y))] at k
    rw [hw]
    exact k
  · unfold dng at k
    rw [if_pos (z0.mp z)] at k
    exact k
theorem actD_0 (act x : Nat) : actD act x 0 = 0 := by
  unfold actD drk
  split
  · split
    · rfl
    · rw [Nat.zero_mul, Nat.zero_div]
  · rfl
theorem actW_0 (act x : Nat) : actW act x 0 = 0 := by
  unfold actW
  split
  · exact Nat.zero_mul _
  · rfl
theorem actL_0 (act : Nat) : actL act 0 = 0 := by
  unfold actL
  split <;> rfl
set_option maxRecDepth 8000 in
theorem k_fsteps {G : GC} {σ : PS} {Q : Option Value → PS → Prop} {X : String → Nat → PS → Prop} {b a st dr nw nx o cl v see sg p P' w m n pw z : Nat} {O : Nat → Nat} {fw fm : (Nat → Int32)} {S : StT} {s0 : Value} {P D : Nat → Nat} {wa lo : Nat} (hS : StpO σ z S) (hst : stOK S) (h : FlP σ a st dr nw nx o cl v see (nI pw) P (fun _ => 0) D wa lo) (hv : v < 24) (hG : GP (v + 1) P) (hsg : SigO σ sg o cl v fw fm s0) (hO : OffO σ o p O P') (hC : CalO σ cl w m n fw fm) (hN : O 0 ≤ 12) (hsee : see ≤ 16) (hp : pw < 6)
    (k : ∀ τ s1, FlP τ a st dr nx nw o cl v see (nI pw) (sc (stepG (O 0) (O 5) see v fw fm P S) 16900) (fun _ => 0) (fun p => D p + if p = pw then sm (fun x => actD S.1 x (stepT (O 0) (O 5) v fw fm P S x)) 16900 else 0) (wa + sm (fun x => actW S.1 x (stepT (O 0) (O 5) v fw fm P S x)) 16900) (lo + sm (fun x => actL S.1 (stepT (O 0) (O 5) v fw fm P S x)) 16900) → SigO τ sg o cl v fw fm s1 → Fr (FlW a st dr nw nx) σ τ → Q none τ) : Call G mX3_steps 202 b [.ref a, .ref z, .ref sg] σ Q X := by
  have hle : ∀ x, stepT (O 0) (O 5) v fw fm P S x ≤ P x := fun x => stepT_le hst.2 x
  have t0 : ∀ x, P x = 0 → stepT (O 0) (O 5) v fw fm P S x = 0 := fun x hx => by have := hle x; omega
  have L : ∀ d i, i + d = (v + 2) * 676 → ∀ τ s1, FlP τ a st dr nw nx o cl v see (nI pw) P (sc (stepG (O 0) (O 5) see v fw fm P S) i) (fun p => D p + if p = pw then sm (fun x => actD S.1 x (stepT (O 0) (O 5) v fw fm P S x)) i else 0) (wa + sm (fun x => actW S.1 x (stepT (O 0) (O 5) v fw fm P S x)) i) (lo + sm (fun x => actL S.1 (stepT (O 0) (O 5) v fw fm P S x)) i) → SigO τ sg o cl v fw fm s1 → Fr (FlW a st dr nw nx) σ τ → At G mX3_steps 202 Q X b 2 [(0, .ref a), (1, .ref z), (2, .ref sg), (3, .int (nI i))] [] τ := by
    intro d
    induction d with
    | zero =>
      intro i hi τ s1 hT hsg hF
      have h1 := hT.1
      refine bX3_steps_2 ⟨⟨_, h1⟩, k_flast h1 rfl (by omega) ⟨_, rfl, fun _ => ⟨⟨_, h1⟩, k_fturns hT (by omega) (fun x hx => hG.off x (by omega)) (fun υ hU hFU => ⟨rfl, ?_⟩)⟩, fun q => absurd (nI_le (by omega) (by omega)) q⟩⟩
      refine k υ s1 (hU.cong (fun x _ => ?_) (fun _ _ => rfl) (fun x _ => ?_) ?_ ?_) ?_ (hF.tr hFU.toW)
      · rw [sc_tail (m := i) (by omega) (fun x hx => by rw [stepG_tt hst.2 hsee]; exact hG.off x (by omega))]
      · show _ = D x + if x = pw then sm _ 16900 else 0
        rw [sm_tail (m := i) (n := 16900) (by omega) (fun x h1 _ => by rw [t0 x (hG.off x (by omega)), actD_0])]
      · rw [sm_tail (m := i) (n := 16900) (by omega) (fun x h1 _ => by rw [t0 x (hG.off x (by omega)), actW_0])]
      · rw [sm_tail (m := i) (n := 16900) (by omega) (fun x h1 _ => by rw [t0 x (hG.off x (by omega)), actL_0])]
      · exact (hFU 26 sg (by simp [FlD])).trans hsg
    | succ d ih =>
      intro i hi τ s1 hT hsg hF
      have h1 := hT.1
      obtain ⟨fn, h6, h7⟩ := hT.2.2.2.1
      obtain ⟨l4, h2, h3⟩ := hT.2.1
      have hi9 : i < 16900 := by omega
      have p1 := vp_in_nI hi9 (by decide)
      have cl1 := nI_clamp (show i < 2 ^ 31 by omega)
      have hPi := hG.le (by omega) i
      have z0 : lN (P i) = 0 ↔ P i = 0 := pk_lEQ (b := 0) (by omega) (by decide)
      refine bX3_steps_2 ⟨⟨_, h1⟩, k_flast h1 rfl (by omega) ⟨_, rfl, fun q => absurd q (nI_ge (by omega) (by omega)), fun _ => ⟨nw, ⟨_, h1, rfl⟩, 16900, fn, h6, p1, ?_⟩⟩⟩
      rw [cl1, h7 i hi9]
      refine ⟨fun zz => ⟨st, ⟨_, h1, rfl⟩, ⟨_, h2⟩, k_stOf (by omega) h2 h3 ⟨_, rfl, ?_⟩⟩, fun zz v2 hv2 => ?_⟩
      · have hg : gd (v + 1) i := hG.1 i (fun y => zz (z0.mpr y))
        have hT1 := hT.st (l := stX i) rfl
        have hsg1 : SigO (up τ 4 st (.inl (stX i))) sg o cl v fw fm s1 := (up_k (by decide)).trans hsg
        refine ⟨⟨_, hsg1⟩, k_at hsg1 ⟨_, rfl, ?_⟩⟩
        have hT2 := hT1.oth (κ := 26) (x := sg) (e := .inl [.ref o, .ref cl, .int (nI v), .int (nI (cn fw (fw v) (v + 1))), .int (la fw fm v v), .ref st]) (by decide) (by decide) (by decide)
        have hF2 : Fr (FlW a st dr nw nx) σ (up (up τ 4 st (.inl (stX i))) 26 sg (.inl [.ref o, .ref cl, .int (nI v), .int (nI (cn fw (fw v) (v + 1))), .int (la fw fm v v), .ref st])) := (hF.up (Or.inl (Or.inr (Or.inl ⟨rfl, rfl⟩)))).up (Or.inr rfl)
        have hsg2 : SigO (up (up τ 4 st (.inl (stX i))) 26 sg (.inl [.ref o, .ref cl, .int (nI v), .int (nI (cn fw (fw v) (v + 1))), .int (la fw fm v v), .ref st])) sg o cl v fw fm (.ref st) := up_eq
        have hx2 : (up (up τ 4 st (.inl (stX i))) 26 sg (.inl [.ref o, .ref cl, .int (nI v), .int (nI (cn fw (fw v) (v + 1))), .int (la fw fm v v), .ref st])) 4 st = some (.inl (stX i)) := (up_k (by decide)).trans up_eq
        revert hT2 hF2 hsg2 hx2
        generalize (up (up τ 4 st (.inl (stX i))) 26 sg (.inl [.ref o, .ref cl, .int (nI v), .int (nI (cn fw (fw v) (v + 1))), .int (la fw fm v v), .ref st])) = υ
        intro hT2 hF2 hsg2 hx2
        have hO2 := hO.kept (hF2.kpF (by decide) (by decide) (by decide) (by decide)) (hF2.kpF (by decide) (by decide) (by decide) (by decide))
        have hC2 := hC.kept (hF2.kpF (by decide) (by decide) (by decide) (by decide)) (hF2.kpF (by decide) (by decide) (by decide) (by decide))
        have hS2 : ∀ ω, Fr (FlW a st dr nw nx) σ ω → StpO ω z S := fun ω hω => hS.kept (fun κ a1 a2 => hω.kpF (by omega) (by omega) (by omega) (by omega))
        have hA : Asks υ sg v (O 0) (O 5) fw fm (cS i) (cC i) (cD i) (cK i) (cE i) := ⟨o, p, cl, w, m, n, st, P', O, rfl, rfl, hsg2, hO2, hC2, hx2, hv, by have := hg.1; omega⟩
        have M : At G mX3_steps 202 Q X b 57 [(0, .ref a), (1, .ref z), (2, .ref sg), (3, .int (nI i))] [.long (lN (stepT (O 0) (O 5) v fw fm P S i))] υ := by
          obtain ⟨fn, h6, h7⟩ := hT2.2.2.2.1
          obtain ⟨f, h8, h9⟩ := hT2.2.2.2.2.1
          have h1 := hT2.1
          have hti := hle i
          refine bX3_steps_57 ⟨nx, ⟨_, h1, rfl⟩, 16900, f, h8, p1, nw, ⟨_, h1, rfl⟩, 16900, fn, h6, p1, fun w5 hw5 => ⟨16900, f, h8, p1, fun s5 hs5 => ?_⟩⟩
          rw [cl1, h7 i hi9, lN_sub hti] at hw5
          rw [cl1, hw5, h9 i hi9, lN_add] at hs5
          subst hs5
          have hA1 := hT2.put (y := i) (t := sc (stepG (O 0) (O 5) see v fw fm P S) i i + (P i - stepT (O 0) (O 5) v fw fm P S i)) h8 rfl
          have hF3 := hF2.up (κ := 101) (a := nx) (e := .inr (16900, .inr (.inl (vp_updL f i (lN (sc (stepG (O 0) (O 5) see v fw fm P S) i i + (P i - stepT (O 0) (O 5) v fw fm P S i))))))) (Or.inl (Or.inr (Or.inr ⟨rfl, Or.inr (Or.inr rfl)⟩)))
          have hsg3 : SigO (up υ 101 nx (.inr (16900, .inr (.inl (vp_updL f i (lN (sc (stepG (O 0) (O 5) see v fw fm P S) i i + (P i - stepT (O 0) (O 5) v fw fm P S i)))))))) sg o cl v fw fm (.ref st) := (up_k (by decide)).trans hsg2
          have hx3 := (up_k (κ := 101) (a := nx) (e := .inr (16900, .inr (.inl (vp_updL f i (lN (sc (stepG (O 0) (O 5) see v fw fm P S) i i + (P i - stepT (O 0) (O 5) v fw fm P S i))))))) (show 4 ≠ 101 by decide)).trans hx2
          revert hA1 hF3 hsg3 hx3
          generalize (up υ 101 nx (.inr (16900, .inr (.inl (vp_updL f i (lN (sc (stepG (O 0) (O 5) see v fw fm P S) i i + (P i - stepT (O 0) (O 5) v fw fm P S i)))))))) = ω
          intro hA1 hF3 hsg3 hx3
          have tz : lN (stepT (O 0) (O 5) v fw fm P S i) ≤ 0 ↔ stepT (O 0) (O 5) v fw fm P S i ≤ 0 := pk_lLE (b := 0) (by omega) (by decide)
          have cc : ∀ y, sc (stepG (O 0) (O 5) see v fw fm P S) (i + 1) y = (if y = i then sc (stepG (O 0) (O 5) see v fw fm P S) i i + (P i - stepT (O 0) (O 5) v fw fm P S i) else sc (stepG (O 0) (O 5) see v fw fm P S) i y) + ct (actG (O 0) see v S.1 i (stepT (O 0) (O 5) v fw fm P S i)) y := by
            intro y
            rw [sc_succ]
            show _ + ((if i = y then P i - stepT (O 0) (O 5) v fw fm P S i else 0) + ct (actG _ _ _ _ _ _) y) = _
            by_cases q : y = i
            · rw [if_pos q, if_pos q.symm, q]
              omega
            · rw [if_neg q, if_neg (fun r => q r.symm)]
              omega
          refine ⟨fun q v3 h3 => ?_, fun q => ⟨st, ⟨_, hA1.1, rfl⟩, ?_⟩⟩
          · have e0 : stepT (O 0) (O 5) v fw fm P S i = 0 := by have := tz.mp q; omega
            rw [h3, nI_1]
            refine ih (i + 1) (by omega) _ _ (hA1.cong (fun _ _ => rfl) (fun y _ => ?_) (fun y _ => ?_) ?_ ?_) hsg3 hF3
            · rw [cc, ct_zero (l := actG _ _ _ _ _ _) (by rw [actG_tt hsee, e0])]
              rfl
            · simp only [sm_s]
              rw [e0, actD_0]
              rfl
            · simp only [sm_s]
              rw [e0, actW_0]
              rfl
            · simp only [sm_s]
              rw [e0, actL_0]
              rfl
          · have q2 : ¬ stepT (O 0) (O 5) v fw fm P S i ≤ 0 := fun y => q (tz.mpr y)
            have hO3 := hO.kept (hF3.kpF (by decide) (by decide) (by decide) (by decide)) (hF3.kpF (by decide) (by decide) (by decide) (by decide))
            refine k_flows (hS2 _ hF3) hst.1 hA1 hO3 hx3 hg hv (by omega) (by omega) hN hsee hp (fun χ hX hFX => ⟨rfl, fun v3 h3 => ?_⟩)
            rw [h3, nI_1]
            refine ih (i + 1) (by omega) _ (.ref st) (hX.cong (fun _ _ => rfl) (fun y _ => ?_) (fun y _ => ?_) ?_ ?_) ((hFX 26 sg (by simp [FlD])).trans hsg3) (hF3.tr hFX.toW)
            · exact (cc y).symm
            · simp only [sm_s]
              split <;> omega
            · simp only [sm_s]
              omega
            · simp only [sm_s]
              omega
        refine ⟨201, by decide, k_isSo (hS2 _ hF2) hA ⟨_, rfl, fun hx => ?_, fun hx => ?_⟩⟩
        · have e1 : ¬ so (fac (O 0) (O 5) fw fm v (cS i) (cC i) (cD i) (cK i) (cE i)) S.2.2 = true := by
            intro y
            rw [if_pos y] at hx
            exact absurd hx (by decide)
          have e2 : stepT (O 0) (O 5) v fw fm P S i = 0 := if_neg e1
          rw [e2] at M
          exact M
        · have e1 : so (fac (O 0) (O 5) fw fm v (cS i) (cC i) (cD i) (cK i) (cE i)) S.2.2 = true := by
            apply Classical.byContradiction
            intro y
            rw [if_neg y] at hx
            exact hx rfl
          have e2 : stepT (O 0) (O 5) v fw fm P S i = dng S.2.1 (P i) := if_pos e1
          rw [e2] at M
          obtain ⟨fn, h6, h7⟩ := hT2.2.2.2.1
          refine ⟨nw, ⟨_, hT2.1, rfl⟩, 16900, fn, h6, p1, ?_⟩
          rw [h7 i hi9]
          exact ⟨3, by decide, k_doing (hS2 _ hF2) hst.2 hPi ⟨_, rfl, M⟩⟩
      · have zP := z0.mp zz
        have e0 := t0 i zP
        rw [hv2, nI_1]
        refine ih (i + 1) (by omega) _ s1 (hT.cong (fun _ _ => rfl) (fun y _ => ?_) (fun y _ => ?_) ?_ ?_) hsg hF
        · rw [sc_succ, ct_zero (by rw [stepG_tt hst.2 hsee, zP])]
          rfl
        · simp only [sm_s]
          rw [e0, actD_0]
          rfl
        · simp only [sm_s]
          rw [e0, actW_0]
          rfl
        · simp only [sm_s]
          rw [e0, actL_0]
          rfl
  refine eX3_steps (bX3_steps_0 (L ((v + 2) * 676) 0 (by omega) σ s0 (h.cong (fun _ _ => rfl) (fun y _ => (sc_zero _ y).symm) (fun y _ => ?_) (by rw [sm_z]; rfl) (by rw [sm_z]; rfl)) hsg Fr.rf))
  rw [sm_z]
  split <;> rfl
