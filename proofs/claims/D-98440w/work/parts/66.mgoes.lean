/-! Part B: the reference goes through visits -/
def BkM (F : Nat → Int32) (I : Nat → Nat → Int32) (B : BK) : Prop := F 32 = nI B.length ∧ B.length ≤ 10 ∧ ∀ i q, B[i]? = some q → I 31 (3 * i) = nI q.1 ∧ I 31 (3 * i + 1) = nI q.2.1 ∧ I 31 (3 * i + 2) = nI q.2.2 ∧ q.1 < 24 ∧ q.2.1 < 3 ∧ q.2.2 ≤ 12
theorem BkM.keep {F F' : Nat → Int32} {I I' : Nat → Nat → Int32} {B : BK} (h : BkM F I B) (f : F' 32 = F 32) (g : I' 31 = I 31) : BkM F' I' B := by
  unfold BkM at *
  rw [f, g]
  exact h
theorem wm_cong {fm gm : (Nat → Int32)} {W v s n : Nat} (hag : ∀ i, i < n → gm i = fm i) (hv : v < n) (hs : s ≤ v + 1) : wm gm W v s = wm fm W v s := by
  unfold wm
  by_cases z : s = 0
  · subst z; simp
  · rw [hag v hv, hag (s - 1) (by omega)]
theorem w_misLine {G : GC} {ad : Nat → Nat} {o : Nat} {F : Nat → Int32} {L : Nat → Int64} {I : Nat → Nat → Int32} {J : Nat → Nat → Int64} {i v x nn : Nat} {O : Nat → Nat} {fw fm : (Nat → Int32)} {B : BK} {q : Nat × Nat × Nat} {P : Option Value → Prop} (hS : StF F (cS x) (cC x) (cD x) (cK x) (cE x)) (hx : gd (v + 1) x) (hB : BkM F I B) (hq : B[i]? = some q) (hMC : MCx O fw fm nn I) (hv : v < nn) (hnn : nn ≤ 24) (k : P (some (.int (if lnV (O 5) fm v x q.2.1 = q.2.2 then 1 else 0)))) : CallMO G mX9_isLine 4 ad o [.ref o, .int (nI i), .int (nI v)] F L I J P := by
  obtain ⟨-, b2, b3⟩ := hB
  obtain ⟨q1, q2, q3, q4, q5, q6⟩ := b3 i q hq
  have hi : i < 10 := Nat.lt_of_lt_of_le (List.getElem?_eq_some_iff.mp hq).1 b2
  obtain ⟨h51, h52, h53, h54, h55⟩ := hS
  have ea : 3 * nI i + 1 = nI (3 * i + 1) := by rw [show (3 : Int32) = nI 3 from rfl, pk_mul, nI_1]
  have eb : 3 * nI i + 2 = nI (3 * i + 2) := by rw [show (3 : Int32) = nI 3 from rfl, show (2 : Int32) = nI 2 from rfl, pk_mul, nI_add]
  have p1 := vp_in_nI (show 3 * i + 1 < 30 by omega) (by decide)
  have p2 := vp_in_nI (show 3 * i + 2 < 30 by omega) (by decide)
  have M : ∀ σ0, AtM G mX9_isLine 4 ad o σ0 (fun u F' L' I' J' => F' = F ∧ L' = L ∧ I' = I ∧ J' = J ∧ P u) 59 [(0, .ref o), (1, .int (nI i))] [.int (nI (lnV (O 5) fm v x q.2.1))] F L I J := by
    intro σ0
    refine bX9_isLine_59 ?_
    rw [eb, nI_clamp (show 3 * i + 2 < 2 ^ 31 by omega), q3]
    have el : nI (lnV (O 5) fm v x q.2.1) = nI q.2.2 ↔ lnV (O 5) fm v x q.2.1 = q.2.2 := nI_eq (Nat.lt_trans lnV_lt (by decide)) (by omega)
    refine ⟨p2, fun z => ⟨rfl, rfl, rfl, rfl, ?_⟩, fun z => ⟨rfl, rfl, rfl, rfl, ?_⟩⟩
    · rw [if_neg (fun y => z (el.mpr y))] at k
      exact k
    · rw [if_pos (el.mp z)] at k
      exact k
  refine eX9_isLine (fun σ0 => bX9_isLine_0 ?_)
  have M0 := M σ0
  rw [ea, nI_clamp (show 3 * i + 1 < 2 ^ 31 by omega), q2]
  have hw : q.2.1 = 0 ∨ q.2.1 = 1 ∨ q.2.1 = 2 := by omega
  refine ⟨p1, ?_⟩
  rcases hw with hw | hw | hw <;> rw [hw] at M0 ⊢
  · refine iY rfl ?_
    rw [h53]
    exact M0
  · refine iN (by decide) ⟨p1, iY rfl ?_⟩
    refine w_isWarm (by omega) h54 (by have := hx.1; omega) (hMC.1 5 (by decide)) ⟨_, rfl, ?_⟩
    rw [wm_cong (n := nn) (fun y hy => (hMC.2 y hy).2) hv hx.1]
    have e1 : lnV (O 5) fm v x 1 = if wm fm (O 5) v (cS x) = true then 1 else 0 := rfl
    rw [e1] at M0
    refine ⟨fun z => ?_, fun z => ?_⟩
    · by_cases y : wm fm (O 5) v (cS x) = true
      · rw [if_pos y] at z; exact absurd z (by decide)
      · rw [if_neg y] at M0; exact M0
    · by_cases y : wm fm (O 5) v (cS x) = true
      · rw [if_pos y] at M0; exact M0
      · rw [if_neg y] at z; exact absurd rfl z
  · refine iN (by decide) ⟨p1, iN (by decide) ?_⟩
    rw [h51, h52, nI_add]
    exact M0
theorem FlM.putP {F : Nat → Int32} {L : Nat → Int64} {I : Nat → Nat → Int32} {J : Nat → Nat → Int64} {n y : Nat} {lv P N D : Nat → Nat} {wa lo : Nat} (h : FlM F L I J n lv P N D wa lo) (hy : y < 16900) : FlM F L I (aU J 37 (ix y) 0) n lv (fun x => if x = y then 0 else P x) N D wa lo := by
  obtain ⟨⟨a1, a2, a3⟩, b, c, ⟨d1, d2, d3, d4, d5⟩, e⟩ := h
  refine ⟨⟨a1, a2, fun p hp => by rw [gU_ne (by decide)]; exact a3 p hp⟩, fun x hx => ?_, fun x hx => by rw [gU_ne (by decide)]; exact c x hx, ⟨d1, d2, d3, d4, fun x hx hne => ?_⟩, e⟩
  · rw [aU_ix hx hy]
    show _ = lN (if x = y then 0 else P x)
    by_cases q : x = y
    · rw [if_pos q, if_pos q]; rfl
    · rw [if_neg q, if_neg q]; exact b x hx
  · have hne : (if x = y then 0 else P x) ≠ 0 := hne
    by_cases q : x = y
    · rw [if_pos q] at hne; exact absurd rfl hne
    · rw [if_neg q] at hne; exact d5 x hx hne
theorem bk_succ {W v i x : Nat} {fm : (Nat → Int32)} {B : BK} (hi : i < B.length) : bkOK W fm v (B.take (i + 1)) x = (bkOK W fm v (B.take i) x && (!(B[i].1 == v) || lnV W fm v x B[i].2.1 == B[i].2.2)) := by
  unfold bkOK
  rw [List.take_succ_eq_append_getElem hi, List.all_append]
  simp
theorem w_mbook {G : GC} {ad : Nat → Nat} {o : Nat} {F : Nat → Int32} {L : Nat → Int64} {I : Nat → Nat → Int32} {J : Nat → Nat → Int64} {Q : MPost} {n v wa lo nn : Nat} {lv P D : Nat → Nat} {O : Nat → Nat} {fw fm : (Nat → Int32)} {B : BK} (h : FlM F L I J n lv P (fun _ => 0) D wa lo) (hg : ∀ i, i < n → gd (v + 1) (lv i)) (hB : BkM F I B) (hMC : MCx O fw fm nn I) (hv : v < nn) (hnn : nn ≤ 24)
    (k : ∀ F' J', FlM F' L I J' n lv (fBook (O 5) fm v (some B) P) (fun _ => 0) D wa lo → (∀ j, (j < 51 ∨ 55 < j) → F' j = F j) → J' 40 = J 40 → Q none F' L I J') : CallM G mX9_keepsBook 5 ad o [.ref o, .int (nI v)] F L I J Q := by
  have PB : ∀ i x, P x = 0 → (if bkOK (O 5) fm v (B.take i) x = true then P x else 0) = 0 := fun i x hx => by rw [hx]; split <;> rfl
  refine eX9_keepsBook (fun σ0 => bX9_keepsBook_0 ?_)
  have Lp : ∀ d i, i + d = B.length → ∀ F' J', FlM F' L I J' n lv (fun x => if bkOK (O 5) fm v (B.take i) x = true then P x else 0) (fun _ => 0) D wa lo → (∀ j, (j < 51 ∨ 55 < j) → F' j = F j) → J' 40 = J 40 → AtM G mX9_keepsBook 5 ad o σ0 Q 2 [(0, .ref o), (1, .int (nI v)), (2, .int (nI i))] [] F' L I J' := by
    intro d
    induction d with
    | zero =>
      intro i hi F' J' hM hF hJ
      have hi : i = B.length := by omega
      subst hi
      rw [List.take_length] at hM
      refine bX9_keepsBook_2 ⟨fun _ => k F' J' hM hF hJ, fun z => absurd (by rw [hF 32 (by decide), hB.1]; exact nI_le (Nat.le_refl _) (by have := hB.2.1; omega)) z⟩
    | succ d ih =>
      intro i hi F' J' hM hF hJ
      have hil : i < B.length := by omega
      have hi10 : i < 10 := Nat.lt_of_lt_of_le hil hB.2.1
      obtain ⟨q1, q2, q3, q4, q5, q6⟩ := hB.2.2 i _ (List.getElem?_eq_getElem hil)
      have e3 : 3 * nI i = nI (3 * i) := by rw [show (3 : Int32) = nI 3 from rfl, pk_mul]
      have ih1 := ih (i + 1) (by omega)
      have ez : nI B[i].1 = nI v ↔ B[i].1 = v := nI_eq (by omega) (by omega)
      refine bX9_keepsBook_2 ⟨fun z => absurd (by rw [hF 32 (by decide), hB.1] at z; exact z) (nI_ge hil (by have := hB.2.1; omega)), fun _ => ?_⟩
      rw [e3, nI_clamp (show 3 * i < 2 ^ 31 by omega), q1]
      refine ⟨vp_in_nI (by omega) (by decide), fun z => ?_, fun z v2 h2 => ?_⟩
      · have z1 := ez.mp z
        -- the line is of this visit: through the row
        have In : ∀ d2 j, j + d2 = n → ∀ F2 J2 P2, FlM F2 L I J2 n lv P2 (fun _ => 0) D wa lo → (∀ x, x < 16900 → P x = 0 → P2 x = 0) → (∀ j', j' < j → P2 (lv j') = if bkOK (O 5) fm v (B.take (i + 1)) (lv j') = true then P (lv j') else 0) → (∀ j', j ≤ j' → j' < n → P2 (lv j') = if bkOK (O 5) fm v (B.take i) (lv j') = true then P (lv j') else 0) → (∀ j, (j < 51 ∨ 55 < j) → F2 j = F j) → J2 40 = J 40 → AtM G mX9_keepsBook 5 ad o σ0 Q 27 [(0, .ref o), (1, .int (nI v)), (2, .int (nI i)), (3, .int (nI j))] [] F2 L I J2 := by
          intro d2
          induction d2 with
          | zero =>
            intro j hj F2 J2 P2 hM2 p0 p1 p2 hF2 hJ2
            have hj : j = n := by omega
            subst hj
            refine bX9_keepsBook_27 ⟨fun _ v2 h2 => ?_, fun y => absurd (by rw [hM2.rw9.2.2.1]; exact nI_le (Nat.le_refl _) (by have := hM2.rw9.2.2.2; omega)) y⟩
            rw [h2, nI_1]
            refine ih1 F2 J2 (hM2.cong (fun x hx => ?_) (fun _ _ => rfl) (fun _ _ => rfl) rfl rfl) hF2 hJ2
            by_cases y : P x = 0
            · rw [p0 x hx y, PB (i + 1) x y]
            · obtain ⟨j', hj', e⟩ := h.rw9.2.1 x hx y
              rw [← e]
              exact p1 j' hj'
          | succ d2 ihh =>
            intro j hj F2 J2 P2 hM2 p0 p1 p2 hF2 hJ2
            have hjn : j < n := by omega
            obtain ⟨hx, e33⟩ := hM2.live hjn
            have pj := vp_in_nI (show j < 16900 by have := hM2.rw9.2.2.2; omega) (by decide)
            have pq := vp_in_nI (ix_lt hx) (by decide)
            have cj := nI_clamp (show j < 2 ^ 31 by have := hM2.rw9.2.2.2; omega)
            refine bX9_keepsBook_27 ⟨fun y => absurd (by rw [hM2.rw9.2.2.1] at y; exact y) (nI_ge hjn (by have := hM2.rw9.2.2.2; omega)), fun _ => ⟨pj, ?_⟩⟩
            rw [cj, e33]
            refine w_stateOf hx (fun F3 hS3 hF3 => ⟨rfl, ?_⟩)
            have hFF : ∀ j, (j < 51 ∨ 55 < j) → F3 j = F j := fun j hj => (hF3 j hj).trans (hF2 j hj)
            have hM3 : FlM F3 L I J2 n lv P2 (fun _ => 0) D wa lo := hM2.oth (hF3 35 (by decide)) (hF3 36 (by decide)) rfl rfl rfl rfl rfl rfl rfl
            have ihj := ihh (j + 1) (by omega) F3
            refine w_misLine (fm := fm) (fw := fw) hS3 (hg j hjn) (hB.keep (hFF 32 (by decide)) rfl) (List.getElem?_eq_getElem hil) hMC hv hnn ⟨_, rfl, fun y v3 h3 => ?_, fun y => ⟨pj, ?_⟩⟩
            · rw [h3, nI_1]
              have yy : lnV (O 5) fm v (lv j) B[i].2.1 = B[i].2.2 := by
                apply Classical.byContradiction
                intro u
                rw [if_neg u] at y
                exact y rfl
              refine ihj J2 P2 hM3 p0 (fun j' hj' => ?_) (fun j' a1 a2 => p2 j' (by omega) a2) hFF hJ2
              by_cases w : j' = j
              · subst w
                rw [p2 j' (Nat.le_refl _) hjn, bk_succ hil, yy]
                simp
              · exact p1 j' (by omega)
            · rw [e33]
              refine ⟨pq, fun J3 hJ3 v3 h3 => ?_⟩
              rw [nI_clamp (show ix (lv j) < 2 ^ 31 by have := ix_lt hx; omega)] at hJ3
              rw [h3, nI_1]
              subst hJ3
              have yy : ¬ lnV (O 5) fm v (lv j) B[i].2.1 = B[i].2.2 := by
                intro u
                rw [if_pos u] at y
                exact absurd y (by decide)
              refine ihj _ _ (hM3.putP hx) (fun x hx' hp => ?_) (fun j' hj' => ?_) (fun j' a1 a2 => ?_) hFF (by rw [gU_ne (by decide)]; exact hJ2)
              · show (if x = lv j then 0 else P2 x) = 0
                rw [p0 x hx' hp]
                split <;> rfl
              · show (if lv j' = lv j then 0 else P2 (lv j')) = _
                by_cases w : j' = j
                · subst w
                  rw [if_pos rfl, bk_succ hil]
                  have : (!(B[i].1 == v) || lnV (O 5) fm v (lv j') B[i].2.1 == B[i].2.2) = false := by
                    rw [z1]
                    simp
                    exact yy
                  rw [this, Bool.and_false]
                  rfl
                · rw [if_neg (fun e => w (hM3.rw9.1.2 j' j (by omega) hjn e))]
                  exact p1 j' (by omega)
              · show (if lv j' = lv j then 0 else P2 (lv j')) = _
                rw [if_neg (fun e => by have := hM3.rw9.1.2 j' j a2 hjn e; omega)]
                exact p2 j' (by omega) a2
        exact In n 0 (by omega) F' J' _ hM (fun x _ hp => PB i x hp) (fun j' hj' => absurd hj' (by omega)) (fun j' _ _ => rfl) hF hJ
      · rw [h2, nI_1]
        refine ih1 F' J' (hM.cong (fun x _ => ?_) (fun _ _ => rfl) (fun _ _ => rfl) rfl rfl) hF hJ
        have e1 : (!(B[i].1 == v) || lnV (O 5) fm v x B[i].2.1 == B[i].2.2) = true := by
          have : (B[i].1 == v) = false := by simp; exact fun y => z (ez.mpr y)
          rw [this]
          rfl
        rw [bk_succ hil, e1, Bool.and_true]
  refine Lp B.length 0 (by omega) F J (h.cong (fun x _ => ?_) (fun _ _ => rfl) (fun _ _ => rfl) rfl rfl) (fun _ _ => rfl) rfl
  rfl
/-- how the reference is told to go -/
def optH (F : Nat → Int32) (p hb : Nat) : Prop := (F 49 = 0 → (¬ nI p = F 47 → (¬ nI p = F 48 → hb = p) ∧ (nI p = F 48 → F 47 = nI hb)) ∧ (nI p = F 47 → F 48 = nI hb)) ∧ (¬ F 49 = 0 → hb = 6)
def OpM (F : Nat → Int32) (I : Nat → Nat → Int32) (h : HW) : Prop := F 43 = nI h.1 ∧ F 44 = nI h.2.1 ∧ F 45 = nI h.2.2.1 ∧ F 46 = h.2.2.2.1 ∧ ((F 50 = 0 ∧ h.2.2.2.2.2 = none) ∨ (¬ F 50 = 0 ∧ ∃ B, h.2.2.2.2.2 = some B ∧ BkM F I B)) ∧ ∀ p, p < 6 → ∃ hb, hb < 7 ∧ HabM I hb (h.2.2.2.2.1 p) ∧ optH F p hb
theorem OpM.keep {F F' : Nat → Int32} {I I' : Nat → Nat → Int32} {h : HW} (hh : OpM F I h) (f : Fr9 F F') (g : Ir9 I I') : OpM F' I' h := by
  obtain ⟨a, b, c, d, e, p⟩ := hh
  have f' : ∀ j, j ≠ 35 → j ≠ 36 → (j < 51 ∨ 55 < j) → F' j = F j := f
  refine ⟨by rw [f' 43 (by decide) (by decide) (by decide)]; exact a, by rw [f' 44 (by decide) (by decide) (by decide)]; exact b, by rw [f' 45 (by decide) (by decide) (by decide)]; exact c, by rw [f' 46 (by decide) (by decide) (by decide)]; exact d, ?_, fun q hq => ?_⟩
  · rw [f' 50 (by decide) (by decide) (by decide)]
    rcases e with e | ⟨e1, B, e2, e3⟩
    · exact Or.inl e
    · exact Or.inr ⟨e1, B, e2, e3.keep (f' 32 (by decide) (by decide) (by decide)) (g 31 (by decide) (by decide) (by decide) (by decide))⟩
  · obtain ⟨hb, h1, h2, h3⟩ := p q hq
    refine ⟨hb, h1, h2.keep g, ?_⟩
    unfold optH at *
    rw [f' 47 (by decide) (by decide) (by decide), f' 48 (by decide) (by decide) (by decide), f' 49 (by decide) (by decide) (by decide)]
    exact h3
theorem w_mcomes {G : GC} {ad : Nat → Nat} {o : Nat} {F : Nat → Int32} {L : Nat → Int64} {I : Nat → Nat → Int32} {J : Nat → Nat → Int64} {Q : MPost} {n v nn : Nat} {lv : Nat → Nat} {O : Nat → Nat} {fw fm : (Nat → Int32)} {h : HW} {S : FS} (hM : FlM F L I J n lv S.1 (fun _ => 0) S.2.1 S.2.2.1 S.2.2.2) (hG : GP v S.1) (hMC : MCx O fw fm nn I) (hOp : OpM F I h) (hv : v < nn) (hnn : nn ≤ 24) (hf : h.1 ≤ 16)
    (k : ∀ F' I' J' n' lv', FlM F' L I' J' n' lv' (fBeg O h fm v S).1 (fun _ => 0) S.2.1 S.2.2.1 S.2.2.2 → (∀ i, i < n' → gd (v + 1) (lv' i)) → Fr9 F F' → Ir9 I I' → Fct fw fm v I' → J' 40 = J 40 → Q none F' L I' J') : CallM G mX9_comes 6 ad o [.ref o, .int (nI v)] F L I J Q := by
  refine eX9_comes (fun σ0 => bX9_comes_0 ?_)
  refine w_mfalls hM hG (by omega) hf hOp.1 (fun F1 I1 J1 n1 lv1 hM1 hg1 hF1 hI1 hJ1 => ⟨rfl, ?_⟩)
  have hOp1 := hOp.keep hF1 hI1
  have hMC1 := hMC.keep hI1
  have M16 : ∀ F2 J2, FlM F2 L I1 J2 n1 lv1 (fBeg O h fm v S).1 (fun _ => 0) S.2.1 S.2.2.1 S.2.2.2 → (∀ j, (j < 51 ∨ 55 < j) → F2 j = F1 j) → J2 40 = J1 40 → AtM G mX9_comes 6 ad o σ0 Q 16 [(0, .ref o), (1, .int (nI v))] [] F2 L I1 J2 := by
    intro F2 J2 hM2 hF2 hJ2
    have pv := vp_in_nI (show v < 24 by omega) (by decide)
    have cv := nI_clamp (show v < 2 ^ 31 by omega)
    refine bX9_comes_16 ⟨pv, fun I2 e2 => ?_⟩
    rw [cv] at e2
    have hI2 : Ir9 I1 I2 := e2 ▸ Ir9.rf.u
    have hMC2 := hMC1.keep hI2
    refine w_sinceOf (by omega) ⟨_, rfl, fun I3 e3 => ?_⟩
    rw [la_cong (n := nn) hv (fun x hx => hMC2.2 x hx) (Nat.le_refl _)] at e3
    have hI3 : Ir9 I1 I3 := e3 ▸ hI2.u
    have hMC3 := hMC1.keep hI3
    refine w_whichOf (by omega) ⟨_, rfl, fun I4 e4 => ?_⟩
    rw [cn_cong (fun x hx => (hMC3.2 x (by omega)).1), (hMC3.2 v hv).1] at e4
    have hI4 : Ir9 I1 I4 := e4 ▸ hI3.u
    have n56 : ∀ a, a ≠ 56 → I4 a = I1 a := fun a ha => by rw [e4, gU_ne ha, e3, gU_ne ha, e2, gU_ne ha]
    refine k F2 I4 J2 n1 lv1 (hM2.oth rfl rfl rfl rfl (n56 33 (by decide)) (n56 34 (by decide)) rfl rfl rfl) (fun i hi => (hg1 i hi).mono (by omega)) (hF1.tr (Fr9.o51 hF2)) (hI1.tr hI4) ⟨?_, ?_, ?_⟩ (hJ2.trans hJ1)
    · rw [e4, gU_at, if_neg (by decide), e3, gU_at, if_neg (by decide), e2, gU_at, if_pos rfl]
      exact (hMC1.2 v hv).2
    · rw [e4, gU_at, if_neg (by decide), e3, gU_at, if_pos rfl]
    · rw [e4, gU_at, if_pos rfl]
  refine ⟨fun z => ?_, fun z => ?_⟩
  · rcases hOp1.2.2.2.2.1 with ⟨z1, z2⟩ | ⟨z1, _⟩
    · refine M16 F1 J1 (hM1.cong (fun x _ => ?_) (fun _ _ => rfl) (fun _ _ => rfl) rfl rfl) (fun _ _ => rfl) rfl
      show _ = fBook (O 5) fm v h.2.2.2.2.2 _ x
      rw [z2]
      rfl
    · exact absurd z z1
  · rcases hOp1.2.2.2.2.1 with ⟨z1, z2⟩ | ⟨z1, B, z2, z3⟩
    · exact absurd z1 z
    · refine w_mbook hM1 (fun i hi => (hg1 i hi).mono (by omega)) z3 hMC1 hv hnn (fun F2 J2 hM2 hF2 hJ2 => ⟨rfl, M16 F2 J2 (hM2.cong (fun x _ => ?_) (fun _ _ => rfl) (fun _ _ => rfl) rfl rfl) hF2 hJ2⟩)
      show _ = fBook (O 5) fm v h.2.2.2.2.2 _ x
      rw [z2]
theorem w_misOf {G : GC} {ad : Nat → Nat} {o : Nat} {F : Nat → Int32} {L : Nat → Int64} {I : Nat → Nat → Int32} {J : Nat → Nat → Int64} {what x v nn : Nat} {O : Nat → Nat} {fw fm : (Nat → Int32)} {P : Option Value → Prop} (hw : what ≤ 5) (hS : StF F (cS x) (cC x) (cD x) (cK x) (cE x)) (hMC : MCx O fw fm nn I) (hN : O 0 ≤ 12) (h2 : what = 2 → v < nn ∧ cS x ≤ v + 1) (hnn : nn ≤ 24) (k : P (some (.int (if isB what (O 0) (O 5) v fm x = true then 1 else 0)))) : CallMO G mX9_isOf 4 ad o [.ref o, .int (nI what), .int (nI v)] F L I J P := by
  obtain ⟨h51, h52, h53, h54, h55⟩ := hS
  have c1 := cC_lt x
  have d1 := cD_lt x
  have k1 := cK_lt x
  have z0 : nI (cC x + cD x) = 0 ↔ cC x + cD x = 0 := nI_eq (b := 0) (by omega) (by decide)
  have zd : nI (cD x) = 0 ↔ cD x = 0 := nI_eq (b := 0) (by omega) (by decide)
  have zk : nI (cK x) = 1 ↔ cK x = 1 := nI_eq (b := 1) (by omega) (by decide)
  have zN : nI (cC x + cD x) = nI (O 0) ↔ cC x + cD x = O 0 := nI_eq (by omega) (by omega)
  refine eX9_isOf (fun σ0 => bX9_isOf_0 ?_)
  rw [h51, h52, h53, hMC.1 0 (by decide), nI_add]
  have hx : what = 0 ∨ what = 1 ∨ what = 2 ∨ what = 3 ∨ what = 4 ∨ what = 5 := by omega
  rcases hx with rfl | rfl | rfl | rfl | rfl | rfl
  · simp only [isB, decide_eq_true_eq] at k
    refine iY rfl ⟨fun z => ⟨rfl, rfl, rfl, rfl, ?_⟩, fun z => ⟨rfl, rfl, rfl, rfl, ?_⟩⟩
    · rw [if_neg (fun y => z (zd.mpr y))] at k; exact k
    · rw [if_pos (zd.mp z)] at k; exact k
  · simp only [isB, decide_eq_true_eq] at k
    refine iN (by decide) (iY rfl ⟨fun z => bX9_isOf_35 ?_, fun z => bX9_isOf_35 ?_⟩)
    · rw [h52]
      have z1 : ¬ cK x = 1 := fun y => z (zk.mpr y)
      refine ⟨fun y => iY rfl ⟨rfl, rfl, rfl, rfl, ?_⟩, fun y => iN (by decide) ⟨rfl, rfl, rfl, rfl, ?_⟩⟩
      · have y1 : ¬ cD x = 0 := fun u => y (zd.mpr u)
        rw [if_pos ⟨fun u => absurd u z1, fun u => absurd u y1⟩] at k; exact k
      · have y1 := zd.mp y
        rw [if_neg (fun u => z1 (u.mpr y1))] at k; exact k
    · rw [h52]
      have z1 := zk.mp z
      refine ⟨fun y => iN (by decide) ⟨rfl, rfl, rfl, rfl, ?_⟩, fun y => iY rfl ⟨rfl, rfl, rfl, rfl, ?_⟩⟩
      · have y1 : ¬ cD x = 0 := fun u => y (zd.mpr u)
        rw [if_neg (fun u => y1 (u.mp z1))] at k; exact k
      · have y1 := zd.mp y
        rw [if_pos ⟨fun _ => y1, fun _ => z1⟩] at k; exact k
  · obtain ⟨hv, hs⟩ := h2 rfl
    refine iN (by decide) (iN (by decide) (iY rfl ?_))
    refine w_isWarm (by omega) h54 (by omega) (hMC.1 5 (by decide)) ⟨_, rfl, ?_, rfl, rfl, rfl, rfl, ?_⟩
    · split
      · exact Or.inr rfl
      · exact Or.inl rfl
    · rw [wm_cong (n := nn) (fun y hy => (hMC.2 y hy).2) hv hs]
      exact k
  · simp only [isB, decide_eq_true_eq] at k
    refine iN (by decide) (iN (by decide) (iN (by decide) (iY rfl ⟨fun z => ⟨rfl, rfl, rfl, rfl, ?_⟩, fun z => ⟨rfl, rfl, rfl, rfl, ?_⟩⟩)))
    · rw [if_neg (fun y => z (zk.mpr y))] at k; exact k
    · rw [if_pos (zk.mp z)] at k; exact k
  · simp only [isB, decide_eq_true_eq] at k
    refine iN (by decide) (iN (by decide) (iN (by decide) (iN (by decide) (iY rfl ⟨fun z => ⟨rfl, rfl, rfl, rfl, ?_⟩, fun z => ⟨rfl, rfl, rfl, rfl, ?_⟩⟩))))
    · rw [if_neg (fun y => z (z0.mpr y))] at k; exact k
    · rw [if_pos (z0.mp z)] at k; exact k
  · simp only [isB, decide_eq_true_eq] at k
    refine iN (by decide) (iN (by decide) (iN (by decide) (iN (by decide) (iN (by decide) ⟨fun z => ⟨rfl, rfl, rfl, rfl, ?_⟩, fun z => ⟨rfl, rfl, rfl, rfl, ?_⟩⟩))))
    · rw [if_neg (fun y => z (zN.mpr y))] at k; exact k
    · rw [if_pos (zN.mp z)] at k; exact k
theorem w_mlikely {G : GC} {ad : Nat → Nat} {o : Nat} {F : Nat → Int32} {L : Nat → Int64} {I : Nat → Nat → Int32} {J : Nat → Nat → Int64} {Q : MPost} {n what v nn wa lo : Nat} {lv P N D : Nat → Nat} {O : Nat → Nat} {fw fm : (Nat → Int32)} (hw : what ≤ 5) (hM : FlM F L I J n lv P N D wa lo) (hg : what = 2 → v < nn ∧ ∀ i, i < n → gd (v + 1) (lv i)) (hMC : MCx O fw fm nn I) (hN : O 0 ≤ 12) (hnn : nn ≤ 24)
    (k : ∀ F', FlM F' L I J n lv P N D wa lo → (∀ j, (j < 51 ∨ 55 < j) → F' j = F j) → Q (some (.long (lN (qLik what (O 0) (O 5) v fm P)))) F' L I J) : CallM G mX9_likelyOf 5 ad o [.ref o, .int (nI what), .int (nI v)] F L I J Q := by
  obtain ⟨hr, hs, -, hn⟩ := hM.rw9
  refine eX9_likelyOf (fun σ0 => bX9_likelyOf_0 ?_)
  have Lp : ∀ d i, i + d = n → ∀ F', FlM F' L I J n lv P N D wa lo → (∀ j, (j < 51 ∨ 55 < j) → F' j = F j) → AtM G mX9_likelyOf 5 ad o σ0 Q 5 [(0, .ref o), (1, .int (nI what)), (2, .int (nI v)), (3, .long (lN (sm (fun j => if isB what (O 0) (O 5) v fm (lv j) = true then P (lv j) else 0) i))), (5, .int (nI i))] [] F' L I J := by
    intro d
    induction d with
    | zero =>
      intro i hi F' hM2 hF
      have hi : i = n := by omega
      subst hi
      refine bX9_likelyOf_5 ⟨fun _ => ?_, fun z => absurd (by rw [hM2.rw9.2.2.1]; exact nI_le (Nat.le_refl _) (by omega)) z⟩
      rw [sml_end (P := P) (f := fun x => if isB what (O 0) (O 5) v fm x = true then P x else 0) hr hs (fun x z => by rw [z, ite_self])]
      exact k F' hM2 hF
    | succ d ih =>
      intro i hi F' hM2 hF
      have hin : i < n := by omega
      obtain ⟨hx, e33⟩ := hM2.live hin
      have ih1 := ih (i + 1) (by omega)
      rw [sm_s] at ih1
      refine bX9_likelyOf_5 ⟨fun z => absurd (by rw [hM2.rw9.2.2.1] at z; exact z) (nI_ge hin (by omega)), fun _ => ⟨vp_in_nI (by omega) (by decide), fun v6 h6 => ?_⟩⟩
      rw [nI_clamp (by omega), e33] at h6
      subst h6
      refine w_stateOf hx (fun F3 hS3 hF3 => ⟨rfl, ?_⟩)
      have hM3 : FlM F3 L I J n lv P N D wa lo := hM2.oth (hF3 35 (by decide)) (hF3 36 (by decide)) rfl rfl rfl rfl rfl rfl rfl
      have ih2 := ih1 F3 hM3 (fun j hj => (hF3 j hj).trans (hF j hj))
      refine w_misOf hw hS3 hMC hN (fun e => ⟨(hg e).1, ((hg e).2 i hin).1⟩) hnn ⟨_, rfl, fun z v3 e3 v5 e5 => ?_, fun z => ⟨vp_in_nI (ix_lt hx) (by decide), fun w hw v5 e5 => ?_⟩⟩
      · have e : ¬ isB what (O 0) (O 5) v fm (lv i) = true := fun y => by rw [if_pos y] at z; exact absurd z (by decide)
        rw [if_neg e, Nat.add_zero] at ih2
        rw [e3, Int64.add_zero, e5, nI_1]
        exact ih2
      · have e : isB what (O 0) (O 5) v fm (lv i) = true := by
          apply Classical.byContradiction
          intro y
          rw [if_neg y] at z
          exact z rfl
        rw [if_pos e] at ih2
        rw [nI_clamp (show ix (lv i) < 2 ^ 31 by have := ix_lt hx; omega), hM3.2.1 _ hx, lN_add] at hw
        rw [hw, e5, nI_1]
        exact ih2
  have L0 := Lp n 0 (by omega) F hM (fun _ _ => rfl)
  rw [sm_z] at L0
  exact L0
