/-! Part B: Flow: ends, what a book keeps, a whole run -/
def stt (fill : Nat) (x : Int32) : Prop := (fill = 0 ∧ x = -1) ∨ (0 < fill ∧ fill ≤ 12 ∧ x = nI fill)
set_option maxRecDepth 8000 in
theorem k_fends {G : GC} {σ : PS} {Q : Option Value → PS → Prop} {X : String → Nat → PS → Prop} {b a st dr nw nx o cl v see fill : Nat} {who x1 : Int32} {P D : Nat → Nat} {wa lo : Nat} (hx1 : stt fill x1) (h : FlP σ a st dr nw nx o cl v see who P (fun _ => 0) D wa lo) (hv : v < 24) (hG : GP (v + 1) P) (k : ∀ τ, FlP τ a st dr nx nw o cl v see who (sc (endG fill v P) 16900) (fun _ => 0) D (wa + sm (endW fill P) 16900) lo → Fr (FlD a st dr nw nx) σ τ → Q none τ) : Call G mX3_ends 6 b [.ref a, .int x1] σ Q X := by
  have W0 : ∀ x, P x = 0 → endW fill P x = 0 := fun x hx => by
    unfold endW
    split
    · rw [hx, Nat.zero_mul]
    · rfl
  have L : ∀ d i, i + d = (v + 2) * 676 → ∀ τ, FlP τ a st dr nw nx o cl v see who P (sc (endG fill v P) i) D (wa + sm (endW fill P) i) lo → Fr (FlD a st dr nw nx) σ τ → At G mX3_ends 6 Q X b 2 [(0, .ref a), (1, .int x1), (2, .int (nI i))] [] τ := by
    intro d
    induction d with
    | zero =>
      intro i hi τ hT hF
      have h1 := hT.1
      refine bX3_ends_2 ⟨⟨_, h1⟩, k_flast h1 rfl (by omega) ⟨_, rfl, fun _ => ⟨⟨_, h1⟩, k_fturns hT (by omega) (fun x hx => hG.off x (by omega)) (fun υ hU hFU => ⟨rfl, ?_⟩)⟩, fun q => absurd (nI_le (by omega) (by omega)) q⟩⟩
      refine k υ (hU.cong (fun x _ => ?_) (fun _ _ => rfl) (fun _ _ => rfl) ?_ rfl) (hF.tr hFU)
      · rw [sc_tail (m := i) (by omega) (fun x hx => by rw [endG_tt]; exact hG.off x (by omega))]
      · rw [sm_tail (m := i) (n := 16900) (by omega) (fun x h1 _ => W0 x (hG.off x (by omega)))]
    | succ d ih =>
      intro i hi τ hT hF
      have h1 := hT.1
      obtain ⟨fn, h6, h7⟩ := hT.2.2.2.1
      obtain ⟨l4, h2, h3⟩ := hT.2.1
      have hi9 : i < 16900 := by omega
      have p1 := vp_in_nI hi9 (by decide)
      have cl1 := nI_clamp (show i < 2 ^ 31 by omega)
      have hPi := hG.le (by omega) i
      have z0 : lN (P i) = 0 ↔ P i = 0 := pk_lEQ (b := 0) (by omega) (by decide)
      refine bX3_ends_2 ⟨⟨_, h1⟩, k_flast h1 rfl (by omega) ⟨_, rfl, fun q => absurd q (nI_ge (by omega) (by omega)), fun _ => ⟨nw, ⟨_, h1, rfl⟩, 16900, fn, h6, p1, ?_⟩⟩⟩
      rw [cl1, h7 i hi9]
      refine ⟨fun zz => ⟨st, ⟨_, h1, rfl⟩, ⟨_, h2⟩, k_stOf (by omega) h2 h3 ⟨_, rfl, _, up_eq, by simp [stX, stL], fun s1 hs1 => ?_⟩⟩, fun zz v2 hv2 => ?_⟩
      · have hg : gd (v + 1) i := hG.1 i (fun y => zz (z0.mpr y))
        have k2 := cK_lt i
        rw [up_up] at hs1
        subst hs1
        have hT1 := hT.st (l := stL (cS i) (cC i) (cD i) (cK i) 0) rfl
        have hF1 : Fr (FlD a st dr nw nx) σ (up τ 4 st (.inl (stL (cS i) (cC i) (cD i) (cK i) 0))) := hF.up (Or.inr (Or.inl ⟨rfl, rfl⟩))
        have M : ∀ υ s c d ka wa', FlP υ a st dr nw nx o cl v see who P (sc (endG fill v P) i) D wa' lo → υ 4 st = some (.inl (stL s c d ka 0)) → cd s c d ka 0 < 16900 → endG fill v P i = [(cd s c d ka 0, P i)] → wa' = wa + sm (endW fill P) (i + 1) → Fr (FlD a st dr nw nx) σ υ → At G mX3_ends 6 Q X b 80 [(0, .ref a), (1, .int x1), (2, .int (nI i))] [] υ := by
          intro υ s c d ka wa' hU hs hlt he hw hFU
          obtain ⟨fn, h6, h7⟩ := hU.2.2.2.1
          obtain ⟨f, h8, h9⟩ := hU.2.2.2.2.1
          have h1 := hU.1
          have p2 := vp_in_nI hlt (by decide)
          refine bX3_ends_80 ⟨nx, ⟨_, h1, rfl⟩, st, ⟨_, h1, rfl⟩, ⟨_, hs⟩, k_code hs ⟨_, rfl, 16900, f, h8, p2, nw, ⟨_, h1, rfl⟩, 16900, fn, h6, p1, fun w5 hw5 => ⟨16900, f, h8, p2, fun s5 hs5 v2 hv2 => ?_⟩⟩⟩
          subst hs5
          rw [cl1, h7 i hi9, nI_clamp (show cd s c d ka 0 < 2 ^ 31 by omega), h9 _ hlt, lN_add] at hw5
          rw [nI_clamp (show cd s c d ka 0 < 2 ^ 31 by omega), hv2, nI_1]
          refine ih (i + 1) (by omega) _ ((hU.put (y := cd s c d ka 0) (t := sc (endG fill v P) i (cd s c d ka 0) + P i) h8 hw5).cong (fun _ _ => rfl) (fun x _ => ?_) (fun _ _ => rfl) hw rfl) (hFU.up (Or.inr (Or.inr ⟨rfl, Or.inr (Or.inr rfl)⟩)))
          rw [sc_succ, he, ct_1]
          show (if x = _ then _ else _) = _
          by_cases q : x = cd s c d ka 0
          · rw [if_pos q, if_pos q, q]
          · rw [if_neg q, if_neg q]; rfl
        have plain : endB fill i = false → At G mX3_ends 6 Q X b 80 [(0, .ref a), (1, .int x1), (2, .int (nI i))] [] (up τ 4 st (.inl (stL (cS i) (cC i) (cD i) (cK i) 0))) := by
          intro hb
          refine M _ (cS i) (cC i) (cD i) (cK i) _ hT1 up_eq ((gd_cd hg.1 hg.2 k2 (by decide)).lt2 (by omega)) ?_ ?_ hF1
          · unfold endG
            rw [hb]
            rfl
          · have : endW fill P i = 0 := by
              unfold endW
              rw [hb]
              rfl
            simp only [sm_s]
            rw [this]
            rfl
        have hx4 : (up τ 4 st (.inl (stL (cS i) (cC i) (cD i) (cK i) 0))) 4 st = some (.inl (stL (cS i) (cC i) (cD i) (cK i) 0)) := up_eq
        have hx5 := hx4
        conv at hx5 => rhs; unfold stL
        refine ⟨fun q => ?_, fun q => ⟨st, ⟨_, hT1.1, rfl⟩, ⟨_, hx4⟩, k_in hx5 ⟨_, rfl, fun q2 => ?_, fun q2 => ?_⟩⟩⟩
        · refine plain ?_
          rcases hx1 with ⟨z1, _⟩ | ⟨z1, z2, z3⟩
          · simp [endB, z1]
          · rw [z3] at q
            have := nI_toInt (show fill < 2 ^ 31 by omega)
            rw [q] at this
            exact absurd this (by show ((-1 : Int32)).toInt ≠ _; have e : (-1 : Int32).toInt = -1 := by decide
                                  rw [e]; omega)
        · refine plain ?_
          rcases hx1 with ⟨z1, _⟩ | ⟨z1, z2, z3⟩
          · simp [endB, z1]
          · rw [z3] at q2
            have hlt := (nI_ltI (by have := hg.2; omega) (by omega)).mp q2
            simp [endB]
            omega
        · rcases hx1 with ⟨z1, z2⟩ | ⟨z1, z2, z3⟩
          · exact absurd z2 q
          · rw [z3] at q2
            have hge : ¬ cC i + cD i < fill := fun y => q2 ((nI_ltI (by have := hg.2; omega) (by omega)).mpr y)
            have hb : endB fill i = true := by simp [endB]; omega
            refine ⟨_, ⟨_, hT1.1, rfl⟩, nw, ⟨_, hT1.1, rfl⟩, 16900, fn, (up_k (by decide)).trans h6, p1, st, ⟨_, hT1.1, rfl⟩, nI v, ⟨_, hT1.1, rfl⟩, ⟨_, hx4⟩, k_starts (by have := hg.2; omega) hx4 (fun y => absurd y (by omega)) (fun _ => ⟨_, rfl, fun w5 hw5 => ⟨_, (up_k (by decide)).trans hT1.1, by simp, fun s5 hs5 => ?_⟩⟩)⟩
            rw [h7 i hi9, nI_l (show cC i < 2 ^ 31 by have := cC_lt i; omega), lN_mul] at hw5
            subst hs5
            rw [up_up]
            have hT2 := (hT.st (l := stL (v + 1) (cC i + cD i) 0 (cK i) 0) rfl).fld (o' := o) (cl' := cl) (v' := v) (see' := see) (wa' := wa + sm (endW fill P) i + P i * cC i) (lo' := lo) (who' := who) (l := [.ref st, .ref dr, .ref nw, .ref nx, .ref o, .ref cl, .long (lN (wa + sm (endW fill P) i) + w5), .long (lN lo), .int (nI v), .int (nI see), .int who]) (by rw [hw5, lN_add])
            refine M _ (v + 1) (cC i + cD i) 0 (cK i) _ hT2 ((up_k (by decide)).trans up_eq) ((gd_cd (Nat.le_refl _) (by have := hg.2; omega) k2 (by decide)).lt2 (by omega)) ?_ ?_ ((hF.up (Or.inr (Or.inl ⟨rfl, rfl⟩))).up (Or.inl ⟨rfl, rfl⟩))
            · unfold endG
              rw [if_pos hb]
            · have : endW fill P i = P i * cC i := by
                unfold endW
                rw [if_pos hb]
              simp only [sm_s]
              rw [this]
              omega
      · have zP := z0.mp zz
        rw [hv2, nI_1]
        refine ih (i + 1) (by omega) _ (hT.cong (fun _ _ => rfl) (fun y _ => ?_) (fun y _ => rfl) ?_ rfl) hF
        · rw [sc_succ, ct_zero (by rw [endG_tt, zP])]
          rfl
        · simp only [sm_s]
          rw [W0 i zP]
          rfl
  exact eX3_ends (bX3_ends_0 (L ((v + 2) * 676) 0 (by omega) σ (h.cong (fun _ _ => rfl) (fun y _ => (sc_zero _ y).symm) (fun _ _ => rfl) (by rw [sm_z]; rfl) rfl) Fr.rf))
/-- a book -/
def BkO (σ : PS) (bk : Nat) (B : BK) : Prop := ∃ (va wa ma : Nat) (f g h : Nat → Int32), σ 8 bk = some (.inl [.ref va, .ref wa, .ref ma, .int (nI B.length)]) ∧ B.length ≤ 10 ∧ σ 100 va = some (.inr (10, .inl f)) ∧ σ 100 wa = some (.inr (10, .inl g)) ∧ σ 100 ma = some (.inr (10, .inl h)) ∧ ∀ i q, B[i]? = some q → f i = nI q.1 ∧ g i = nI q.2.1 ∧ h i = nI q.2.2 ∧ q.1 < 24 ∧ q.2.1 < 3 ∧ q.2.2 ≤ 12
theorem BkO.kept {σ τ : PS} {bk : Nat} {B : BK} (f8 : Kp 8 σ τ) (f1 : Kp 100 σ τ) (h : BkO σ bk B) : BkO τ bk B := by
  obtain ⟨va, wa, ma, f, g, h, e1, e2, e3, e4, e5, e6⟩ := h
  exact ⟨va, wa, ma, f, g, h, f8 _ _ e1, e2, f1 _ _ e3, f1 _ _ e4, f1 _ _ e5, e6⟩
theorem Asks.vis {σ : PS} {a v N W s c d k e : Nat} {fw fm : (Nat → Int32)} (h : Asks σ a v N W fw fm s c d k e) : Fg σ 26 a 2 (.int (nI v)) ∧ v < 24 := by
  obtain ⟨o, p, cl, w, m, n, st, P', O, rfl, rfl, h1, h2, h3, h4, h5, h6⟩ := h
  exact ⟨⟨_, h1, rfl⟩, h5⟩
theorem fac_ln {N W v x w : Nat} {fw fm : (Nat → Int32)} (hw : w < 3) : fac N W fw fm v (cS x) (cC x) (cD x) (cK x) (cE x) w = nI (lnV W fm v x w) := by
  have h : w = 0 ∨ w = 1 ∨ w = 2 := by omega
  rcases h with rfl | rfl | rfl
  · rfl
  · simp only [fac, lnV]
    split <;> rfl
  · rfl
theorem lnV_lt {W v x w : Nat} {fm : (Nat → Int32)} : lnV W fm v x w < 30 := by
  have h1 := cK_lt x
  have h2 := cC_lt x
  have h3 := cD_lt x
  unfold lnV
  split
  · omega
  · split
    · split <;> omega
    · omega
set_option maxRecDepth 8000 in
theorem k_bkso {G : GC} {σ : PS} {bk sg v N W x : Nat} {fw fm : (Nat → Int32)} {B : BK} {P : Option Value → Prop} (hB : BkO σ bk B) (hA : Asks σ sg v N W fw fm (cS x) (cC x) (cD x) (cK x) (cE x)) (k : P (some (.int (if bkOK W fm v B x = true then 1 else 0)))) : CallO G mX8_isSo 5 [.ref bk, .ref sg] σ P := by
  obtain ⟨va, wa, ma, f, g, h, e1, e2, e3, e4, e5, e6⟩ := hB
  obtain ⟨hV, hv⟩ := hA.vis
  have L : ∀ d i, i + d = B.length → bkOK W fm v (B.drop i) x = bkOK W fm v B x → At G mX8_isSo 5 (fun u s => s = σ ∧ P u) (fun _ _ _ => False) 0 2 [(0, .ref bk), (1, .ref sg), (2, .int (nI i))] [] σ := by
    intro d
    induction d with
    | zero =>
      intro i hi hb
      rw [List.drop_of_length_le (by omega)] at hb
      rw [← hb] at k
      exact bX8_isSo_2 ⟨_, ⟨_, e1, rfl⟩, fun _ => ⟨rfl, k⟩, fun q => absurd (nI_le (by omega) (by omega)) q⟩
    | succ d ih =>
      intro i hi hb
      have hil : i < B.length := by omega
      have p1 := vp_in_nI (show i < 10 by omega) (by decide)
      obtain ⟨q1, q2, q3, q4, q5, q6⟩ := e6 i _ (List.getElem?_eq_getElem hil)
      rw [List.drop_eq_getElem_cons hil] at hb
      have hb2 : bkOK W fm v (B[i] :: B.drop (i + 1)) x = ((!(B[i].1 == v) || lnV W fm v x B[i].2.1 == B[i].2.2) && bkOK W fm v (B.drop (i + 1)) x) := rfl
      rw [hb2] at hb
      have ih1 := ih (i + 1) (by omega)
      have c1 := nI_clamp (show i < 2 ^ 31 by omega)
      have ez : nI B[i].1 = nI v ↔ B[i].1 = v := nI_eq (by omega) (by omega)
      refine bX8_isSo_2 ⟨_, ⟨_, e1, rfl⟩, fun q => absurd q (nI_ge hil (by omega)), fun _ => ⟨va, ⟨_, e1, rfl⟩, 10, f, e3, p1, nI v, hV, ?_⟩⟩
      rw [c1, q1]
      refine ⟨fun z v2 h2 => ?_, fun z => ⟨wa, ⟨_, e1, rfl⟩, 10, g, e4, p1, hA.ob, ?_⟩⟩
      · rw [h2, nI_1]
        refine ih1 ?_
        rw [← hb]
        have : (B[i].1 == v) = false := by simp; exact fun y => z (ez.mpr y)
        rw [this]
        rfl
      · have z1 := ez.mp z
        rw [q2]
        refine k_ask hA (by omega) ⟨_, rfl, ma, ⟨_, e1, rfl⟩, 10, h, e5, p1, ?_⟩
        rw [q3, fac_ln q5]
        have el : nI (lnV W fm v x B[i].2.1) = nI B[i].2.2 ↔ lnV W fm v x B[i].2.1 = B[i].2.2 := nI_eq (Nat.lt_trans lnV_lt (by decide)) (by omega)
        refine ⟨fun y v2 h2 => ?_, fun y => ⟨rfl, ?_⟩⟩
        · rw [h2, nI_1]
          refine ih1 ?_
          rw [← hb, el.mp y]
          simp
        · have : (lnV W fm v x B[i].2.1 == B[i].2.2) = false := by simp; exact fun u => y (el.mpr u)
          rw [this, z1] at hb
          have hb3 : bkOK W fm v B x = false := by rw [← hb]; simp
          rw [hb3] at k
          exact k
  exact eX8_isSo (bX8_isSo_0 (L B.length 0 (by omega) rfl))
set_option maxRecDepth 8000 in
theorem k_fonly {G : GC} {σ : PS} {Q : Option Value → PS → Prop} {X : String → Nat → PS → Prop} {b a st dr nw nx o cl v see sg p P' w m n bk : Nat} {who : Int32} {O : Nat → Nat} {fw fm : (Nat → Int32)} {B : BK} {s0 : Value} {P D : Nat → Nat} {wa lo : Nat} (hB : BkO σ bk B) (h : FlP σ a st dr nw nx o cl v see who P (fun _ => 0) D wa lo) (hv : v < 24) (hG : GP v P) (hsg : SigO σ sg o cl v fw fm s0) (hO : OffO σ o p O P') (hC : CalO σ cl w m n fw fm)
    (k : ∀ τ s1, FlP τ a st dr nw nx o cl v see who (fBook (O 5) fm v (some B) P) (fun _ => 0) D wa lo → SigO τ sg o cl v fw fm s1 → Fr (FlW a st dr nw nx) σ τ → Q none τ) : Call G mX3_only 6 b [.ref a, .ref bk, .ref sg] σ Q X := by
  have L : ∀ d i, i + d = (v + 2) * 676 → ∀ τ s1, FlP τ a st dr nw nx o cl v see who (fun x => if x < i then fBook (O 5) fm v (some B) P x else P x) (fun _ => 0) D wa lo → SigO τ sg o cl v fw fm s1 → Fr (FlW a st dr nw nx) σ τ → At G mX3_only 6 Q X b 2 [(0, .ref a), (1, .ref bk), (2, .ref sg), (3, .int (nI i))] [] τ := by
    intro d
    induction d with
    | zero =>
      intro i hi τ s1 hT hsg hF
      have h1 := hT.1
      refine bX3_only_2 ⟨⟨_, h1⟩, k_flast h1 rfl (by omega) ⟨_, rfl, fun _ => k τ s1 (hT.cong (fun x _ => ?_) (fun _ _ => rfl) (fun _ _ => rfl) rfl rfl) hsg hF, fun q => absurd (nI_le (by omega) (by omega)) q⟩⟩
      show (if x < i then _ else P x) = _
      by_cases q : x < i
      · rw [if_pos q]
      · rw [if_neg q, hG.off x (by omega)]
        show 0 = if _ then P x else 0
        rw [hG.off x (by omega)]
        split <;> rfl
    | succ d ih =>
      intro i hi τ s1 hT hsg hF
      have h1 := hT.1
      obtain ⟨fn, h6, h7⟩ := hT.2.2.2.1
      obtain ⟨l4, h2, h3⟩ := hT.2.1
      have hi9 : i < 16900 := by omega
      have p1 := vp_in_nI hi9 (by decide)
      have cl1 := nI_clamp (show i < 2 ^ 31 by omega)
      have hPi := hG.le (by omega) i
      have z0 : lN (P i) = 0 ↔ P i = 0 := pk_lEQ (b := 0) (by omega) (by decide)
      have fni : fn i = lN (P i) := by rw [h7 i hi9]; show lN (if i < i then _ else _) = _; rw [if_neg (Nat.lt_irrefl i)]
      have stay : ∀ υ s2, FlP υ a st dr nw nx o cl v see who (fun x => if x < i then fBook (O 5) fm v (some B) P x else P x) (fun _ => 0) D wa lo → SigO υ sg o cl v fw fm s2 → Fr (FlW a st dr nw nx) σ υ → fBook (O 5) fm v (some B) P i = P i → At G mX3_only 6 Q X b 2 [(0, .ref a), (1, .ref bk), (2, .ref sg), (3, .int (nI (i + 1)))] [] υ := by
        intro υ s2 hU hs hFU he
        refine ih (i + 1) (by omega) _ s2 (hU.cong (fun x _ => ?_) (fun _ _ => rfl) (fun _ _ => rfl) rfl rfl) hs hFU
        show (if x < i then _ else P x) = if x < i + 1 then _ else P x
        by_cases q : x = i
        · rw [if_neg (by omega), if_pos (by omega), q, he]
        · by_cases q2 : x < i
          · rw [if_pos q2, if_pos (by omega)]
          · rw [if_neg q2, if_neg (by omega)]
      refine bX3_only_2 ⟨⟨_, h1⟩, k_flast h1 rfl (by omega) ⟨_, rfl, fun q => absurd q (nI_ge (by omega) (by omega)), fun _ => ⟨nw, ⟨_, h1, rfl⟩, 16900, fn, h6, p1, ?_⟩⟩⟩
      rw [cl1, fni]
      refine ⟨fun zz v3 hv3 => ?_, fun zz => ⟨st, ⟨_, h1, rfl⟩, ⟨_, h2⟩, k_stOf (by omega) h2 h3 ⟨_, rfl, ?_⟩⟩⟩
      · have zP := z0.mp zz
        rw [hv3, nI_1]
        refine stay τ s1 hT hsg hF ?_
        show (if _ then P i else 0) = P i
        rw [zP]
        split <;> rfl
      · have hg : gd v i := hG.1 i (fun y => zz (z0.mpr y))
        have hT1 := hT.st (l := stX i) rfl
        have hsg1 : SigO (up τ 4 st (.inl (stX i))) sg o cl v fw fm s1 := (up_k (by decide)).trans hsg
        refine ⟨⟨_, hsg1⟩, k_at hsg1 ⟨_, rfl, ?_⟩⟩
        have hT2 := hT1.oth (κ := 26) (x := sg) (e := .inl [.ref o, .ref cl, .int (nI v), .int (nI (cn fw (fw v) (v + 1))), .int (la fw fm v v), .ref st]) (by decide) (by decide) (by decide)
        have hF2 : Fr (FlW a st dr nw nx) σ (up (up τ 4 st (.inl (stX i))) 26 sg (.inl [.ref o, .ref cl, .int (nI v), .int (nI (cn fw (fw v) (v + 1))), .int (la fw fm v v), .ref st])) := (hF.up (Or.inl (Or.inr (Or.inl ⟨rfl, rfl⟩)))).up (Or.inr rfl)
        have hsg2 : SigO (up (up τ 4 st (.inl (stX i))) 26 sg (.inl [.ref o, .ref cl, .int (nI v), .int (nI (cn fw (fw v) (v + 1))), .int (la fw fm v v), .ref st])) sg o cl v fw fm (.ref st) := up_eq
        have hx2 : (up (up τ 4 st (.inl (stX i))) 26 sg (.inl [.ref o, .ref cl, .int (nI v), .int (nI (cn fw (fw v) (v + 1))), .int (la fw fm v v), .ref st])) 4 st = some (.inl (stX i)) := (up_k (by decide)).trans up_eq
        revert hT2 hF2 hsg2 hx2
        generalize (up (up τ 4 st (.inl (stX i))) 26 sg (.inl [.ref o, .ref cl, .int (nI v), .int (nI (cn fw (fw v) (v + 1))), .int (la fw fm v v), .ref st])) = υ
        intro hT2 hF2 hsg2 hx2
        have hO2 := hO.kept (hF2.kpF (by decide) (by decide) (by decide) (by decide)) (hF2.kpF (by decide) (by decide) (by decide) (by decide))
        have hC2 := hC.kept (hF2.kpF (by decide) (by decide) (by decide) (by decide)) (hF2.kpF (by decide) (by decide) (by decide) (by decide))
        have hB2 := hB.kept (hF2.kpF (by decide) (by decide) (by decide) (by decide)) (hF2.kpF (by decide) (by decide) (by decide) (by decide))
        have hA : Asks υ sg v (O 0) (O 5) fw fm (cS i) (cC i) (cD i) (cK i) (cE i) := ⟨o, p, cl, w, m, n, st, P', O, rfl, rfl, hsg2, hO2, hC2, hx2, hv, by have := hg.1; omega⟩
        have hbo : ∃ fs, Ob υ 8 bk fs := by
          obtain ⟨va, wa, ma, f, g, h, e1, -⟩ := hB2
          exact ⟨_, e1⟩
        refine ⟨hbo, k_bkso hB2 hA ⟨_, rfl, fun q v3 hv3 => ?_, fun q => ?_⟩⟩
        · rw [hv3, nI_1]
          refine stay υ _ hT2 hsg2 hF2 ?_
          have e1 : bkOK (O 5) fm v B i = true := by
            apply Classical.byContradiction
            intro y
            rw [if_neg y] at q
            exact q rfl
          show (if bkOK (O 5) fm v B i = true then P i else 0) = P i
          rw [if_pos e1]
        · have e1 : ¬ bkOK (O 5) fm v B i = true := by
            intro y
            rw [if_pos y] at q
            exact absurd q (by decide)
          obtain ⟨fn2, g6, g7⟩ := hT2.2.2.2.1
          refine ⟨nw, ⟨_, hT2.1, rfl⟩, 16900, fn2, g6, p1, fun s5 hs5 v3 hv3 => ?_⟩
          subst hs5
          rw [hv3, nI_1]
          refine ih (i + 1) (by omega) _ (.ref st) ((hT2.putN (y := i) (t := 0) g6 rfl).cong (fun x _ => ?_) (fun _ _ => rfl) (fun _ _ => rfl) rfl rfl) ((up_k (by decide)).trans hsg2) (hF2.up (Or.inl (Or.inr (Or.inr ⟨rfl, Or.inr (Or.inl rfl)⟩))))
          show (if x = i then 0 else if x < i then _ else P x) = if x < i + 1 then _ else P x
          by_cases q : x = i
          · rw [if_pos q, if_pos (by omega), q]
            show 0 = if bkOK (O 5) fm v B i = true then P i else 0
            rw [if_neg e1]
          · by_cases q2 : x < i
            · rw [if_neg q, if_pos q2, if_pos (by omega)]
            · rw [if_neg q, if_neg q2, if_neg (by omega)]
  refine eX3_only (bX3_only_0 (L ((v + 2) * 676) 0 (by omega) σ s0 (h.cong (fun x _ => ?_) (fun _ _ => rfl) (fun _ _ => rfl) rfl rfl) hsg Fr.rf))
  show P x = if x < 0 then _ else P x
  rw [if_neg (by omega)]
