/-! Part B: the reference's row of parts -/
theorem gU_ne {α : Type} {I : Nat → Nat → α} {k i a : Nat} {v : α} (h : a ≠ k) : aU I k i v a = I a := if_neg h
theorem gU_at {α : Type} {I : Nat → Nat → α} {k i j : Nat} {v : α} : aU I k i v k j = if j = i then v else I k j := by
  unfold aU
  simp
theorem fU_ne {α : Type} {F : Nat → α} {k j : Nat} {v : α} (h : j ≠ k) : fU F k v j = F j := if_neg h
theorem fU_at {α : Type} {F : Nat → α} {k : Nat} {v : α} : fU F k v k = v := if_pos rfl
def mi (s c d k e : Nat) : Nat := (((c * 13 + d) * 2 + k) * 25 + s) * 2 + e
def ix (x : Nat) : Nat := mi (cS x) (cC x) (cD x) (cK x) (cE x)
theorem mi_lt {s c d k e : Nat} (hs : s < 25) (hc : c < 13) (hd : d < 13) (hk : k < 2) (he : e < 2) : mi s c d k e < 16900 := by
  unfold mi
  omega
theorem cS25 {x : Nat} (hx : x < 16900) : cS x < 25 := cS_lt (n := 25) (by omega)
theorem ix_lt {x : Nat} (hx : x < 16900) : ix x < 16900 := mi_lt (cS25 hx) (cC_lt x) (cD_lt x) (cK_lt x) (cE_lt x)
theorem mi_E {s c d k e : Nat} (he : e < 2) : mi s c d k e % 2 = e := by
  unfold mi
  omega
theorem mi_S {s c d k e : Nat} (hs : s < 25) (he : e < 2) : mi s c d k e / 2 % 25 = s := by
  unfold mi
  omega
theorem mi_K {s c d k e : Nat} (hs : s < 25) (hk : k < 2) (he : e < 2) : mi s c d k e / 50 % 2 = k := by
  unfold mi
  omega
theorem mi_D {s c d k e : Nat} (hs : s < 25) (hd : d < 13) (hk : k < 2) (he : e < 2) : mi s c d k e / 100 % 13 = d := by
  unfold mi
  omega
theorem mi_C {s c d k e : Nat} (hs : s < 25) (hd : d < 13) (hk : k < 2) (he : e < 2) : mi s c d k e / 1300 = c := by
  unfold mi
  omega
theorem ix_inj {x y : Nat} (hx : x < 16900) (hy : y < 16900) (h : ix x = ix y) : x = y := by
  have e1 : cE x = cE y := by
    have := mi_E (s := cS x) (c := cC x) (d := cD x) (k := cK x) (cE_lt x)
    have := mi_E (s := cS y) (c := cC y) (d := cD y) (k := cK y) (cE_lt y)
    unfold ix at h
    rw [← mi_E (s := cS x) (c := cC x) (d := cD x) (k := cK x) (cE_lt x), h, mi_E (cE_lt y)]
  have e2 : cS x = cS y := by
    unfold ix at h
    rw [← mi_S (c := cC x) (d := cD x) (k := cK x) (cS25 hx) (cE_lt x), h, mi_S (cS25 hy) (cE_lt y)]
  have e3 : cK x = cK y := by
    unfold ix at h
    rw [← mi_K (c := cC x) (d := cD x) (cS25 hx) (cK_lt x) (cE_lt x), h, mi_K (cS25 hy) (cK_lt y) (cE_lt y)]
  have e4 : cD x = cD y := by
    unfold ix at h
    rw [← mi_D (c := cC x) (cS25 hx) (cD_lt x) (cK_lt x) (cE_lt x), h, mi_D (cS25 hy) (cD_lt y) (cK_lt y) (cE_lt y)]
  have e5 : cC x = cC y := by
    unfold ix at h
    rw [← mi_C (c := cC x) (cS25 hx) (cD_lt x) (cK_lt x) (cE_lt x), h, mi_C (cS25 hy) (cD_lt y) (cK_lt y) (cE_lt y)]
  rw [← cd_code x, ← cd_code y, e1, e2, e3, e4, e5]
theorem ix_cd {s c d k e : Nat} (hc : c < 13) (hd : d < 13) (hk : k < 2) (he : e < 2) : ix (cd s c d k e) = mi s c d k e := by
  unfold ix
  rw [cd_S hc hd hk he, cd_C hc hd hk he, cd_D hd hk he, cd_K hk he, cd_E he]
theorem w_index {G : GC} {s c d k e : Nat} {P : Option Value → Prop} (h : P (some (.int (nI (mi s c d k e))))) : CallP G mX9_index 3 [.int (nI c), .int (nI d), .int (nI k), .int (nI s), .int (nI e)] P := by
  intro σ
  refine eX9_index (bX9_index_0 (fun w hw w1 hw1 => ⟨rfl, ?_⟩))
  rw [hw1, hw, show (13 : Int32) = nI 13 from rfl, show (2 : Int32) = nI 2 from rfl, show (25 : Int32) = nI 25 from rfl]
  simp only [pk_mul, nI_add]
  exact h
theorem aU_ix {J : Nat → Nat → Int64} {k x y : Nat} {w : Int64} (hx : x < 16900) (hy : y < 16900) : aU J k (ix y) w k (ix x) = if x = y then w else J k (ix x) := by
  rw [gU_at]
  by_cases q : x = y
  · rw [if_pos q, if_pos (by rw [q])]
  · rw [if_neg q, if_neg (fun z => q (ix_inj hx hy z))]
/-- the reference's parts P, next ones N, in rows of places that have some -/
def FlM (F : Nat → Int32) (L : Nat → Int64) (I : Nat → Nat → Int32) (J : Nat → Nat → Int64) (n : Nat) (lv : Nat → Nat) (P N D : Nat → Nat) (wa lo : Nat) : Prop :=
  (L 41 = lN wa ∧ L 42 = lN lo ∧ (∀ p, p < 6 → J 39 p = lN (D p))) ∧ (∀ x, x < 16900 → J 37 (ix x) = lN (P x)) ∧ (∀ x, x < 16900 → J 38 (ix x) = lN (N x)) ∧ (F 35 = nI n ∧ n ≤ 16900 ∧ Row lv n 16900 ∧ (∀ i, i < n → I 33 i = nI (ix (lv i))) ∧ (∀ x, x < 16900 → P x ≠ 0 → ∃ i, i < n ∧ lv i = x)) ∧
  ∃ m lw, F 36 = nI m ∧ m ≤ 16900 ∧ Row lw m 16900 ∧ (∀ i, i < m → I 34 i = nI (ix (lw i))) ∧ (∀ x, x < 16900 → (N x ≠ 0 ↔ ∃ i, i < m ∧ lw i = x))
theorem FlM.cong {F : Nat → Int32} {L : Nat → Int64} {I : Nat → Nat → Int32} {J : Nat → Nat → Int64} {n : Nat} {lv : Nat → Nat} {P N D P' N' D' : Nat → Nat} {wa lo wa' lo' : Nat} (h : FlM F L I J n lv P N D wa lo) (hP : ∀ x, x < 16900 → P x = P' x) (hN : ∀ x, x < 16900 → N x = N' x) (hD : ∀ p, p < 6 → D p = D' p) (hw : wa = wa') (hl : lo = lo') : FlM F L I J n lv P' N' D' wa' lo' := by
  subst hw; subst hl
  obtain ⟨⟨a1, a2, a3⟩, b, c, ⟨d1, d2, d3, d4, d5⟩, m, lw, e1, e2, e3, e4, e5⟩ := h
  exact ⟨⟨a1, a2, fun p hp => by rw [a3 p hp, hD p hp]⟩, fun x hx => by rw [b x hx, hP x hx], fun x hx => by rw [c x hx, hN x hx], ⟨d1, d2, d3, d4, fun x hx => by rw [← hP x hx]; exact d5 x hx⟩, m, lw, e1, e2, e3, e4, fun x hx => by rw [← hN x hx]; exact e5 x hx⟩
theorem FlM.oth {F F' : Nat → Int32} {L L' : Nat → Int64} {I I' : Nat → Nat → Int32} {J J' : Nat → Nat → Int64} {n : Nat} {lv : Nat → Nat} {P N D : Nat → Nat} {wa lo : Nat} (h : FlM F L I J n lv P N D wa lo) (f1 : F' 35 = F 35) (f2 : F' 36 = F 36) (l1 : L' 41 = L 41) (l2 : L' 42 = L 42) (i1 : I' 33 = I 33) (i2 : I' 34 = I 34) (j1 : J' 37 = J 37) (j2 : J' 38 = J 38) (j3 : J' 39 = J 39) : FlM F' L' I' J' n lv P N D wa lo := by
  unfold FlM at *
  rw [f1, f2, l1, l2, i1, i2, j1, j2, j3]
  exact h
theorem FlM.live {F : Nat → Int32} {L : Nat → Int64} {I : Nat → Nat → Int32} {J : Nat → Nat → Int64} {n : Nat} {lv : Nat → Nat} {P N D : Nat → Nat} {wa lo i : Nat} (h : FlM F L I J n lv P N D wa lo) (hi : i < n) : lv i < 16900 ∧ I 33 i = nI (ix (lv i)) := ⟨h.2.2.2.1.2.2.1.1 i hi, h.2.2.2.1.2.2.2.1 i hi⟩
theorem w_gives {G : GC} {ad : Nat → Nat} {o : Nat} {F : Nat → Int32} {L : Nat → Int64} {I : Nat → Nat → Int32} {J : Nat → Nat → Int64} {Q : MPost} {n y t wa lo : Nat} {lv P N D : Nat → Nat} (h : FlM F L I J n lv P N D wa lo) (hy : y < 16900) (ht : t ≤ 2 ^ 40) (hNy : N y ≤ 2 ^ 41) (k : ∀ F' I' J', FlM F' L I' J' n lv P (fun z => N z + ct [(y, t)] z) D wa lo → (∀ j, j ≠ 36 → F' j = F j) → (∀ a, a ≠ 34 → I' a = I a) → J' 40 = J 40 → Q none F' L I' J') : CallM G mX9_gives 3 ad o [.ref o, .int (nI (ix y)), .long (lN t)] F L I J Q := by
  have z0 : lN t = 0 ↔ t = 0 := pk_lEQ (b := 0) (by omega) (by decide)
  have zN : lN (N y) = 0 ↔ N y = 0 := pk_lEQ (b := 0) (by omega) (by decide)
  have hq := ix_lt hy
  have p1 := vp_in_nI hq (by decide)
  have c1 := nI_clamp (show ix y < 2 ^ 31 by omega)
  have hN1 : ∀ z, (if z = y then N y + t else N z) = N z + ct [(y, t)] z := by
    intro z
    rw [ct_1]
    by_cases q : z = y
    · rw [if_pos q, if_pos q, q]
    · rw [if_neg q, if_neg q]
      rfl
  refine eX9_gives (fun σ0 => bX9_gives_0 ⟨fun q => ⟨p1, ?_⟩, fun q => ?_⟩)
  · have t0 : t ≠ 0 := fun z => q (z0.mpr z)
    obtain ⟨⟨a1, a2, a3⟩, b, c, ⟨d1, d2, d3, d4, d5⟩, m, lw, e1, e2, e3, e4, e5⟩ := h
    rw [c1, c y hy]
    refine ⟨fun u => ⟨p1, fun w hw => ⟨p1, fun J1 hJ1 => ?_⟩⟩, fun u => ?_⟩
    · rw [lN_add] at hw
      subst hJ1
      refine k F I _ ⟨⟨a1, a2, fun p hp => by rw [gU_ne (by decide)]; exact a3 p hp⟩, fun x hx => by rw [gU_ne (by decide)]; exact b x hx, fun x hx => ?_, ⟨d1, d2, d3, d4, d5⟩, m, lw, e1, e2, e3, e4, fun x hx => ?_⟩ (fun _ _ => rfl) (fun _ _ => rfl) (gU_ne (by decide))
      · dsimp only
        rw [aU_ix hx hy, hw, c x hx, ← hN1]
        split <;> rfl
      · dsimp only
        rw [← e5 x hx, ← hN1]
        by_cases z : x = y
        · rw [if_pos z, z]
          have : N y ≠ 0 := fun v => u (zN.mpr v)
          constructor
          · exact fun _ => this
          · exact fun _ => by omega
        · rw [if_neg z]
    · have u0 := zN.mp u
      have hm : m < 16900 := e3.short hy (fun i hi z => ((e5 y hy).mpr ⟨i, hi, z⟩) u0)
      rw [e1]
      refine ⟨vp_in_nI hm (by decide), fun I1 hI1 F1 hF1 => ⟨p1, fun w hw => ⟨p1, fun J1 hJ1 => ?_⟩⟩⟩
      rw [nI_clamp (show m < 2 ^ 31 by omega)] at hI1
      rw [lN_add] at hw
      rw [nI_1] at hF1
      subst hJ1
      subst hI1
      subst hF1
      refine k _ _ _ ⟨⟨a1, a2, fun p hp => by rw [gU_ne (by decide)]; exact a3 p hp⟩, fun x hx => by rw [gU_ne (by decide)]; exact b x hx, fun x hx => ?_, ⟨by rw [fU_ne (by decide)]; exact d1, d2, d3, fun i hi => by rw [gU_ne (by decide)]; exact d4 i hi, d5⟩, m + 1, fun i => if i = m then y else lw i, fU_at, by omega, ⟨fun i hi => ?_, fun i j hi hj e => ?_⟩, fun i hi => ?_, fun x hx => ?_⟩ (fun j hj => fU_ne hj) (fun a ha => gU_ne ha) (gU_ne (by decide))
      · dsimp only
        rw [aU_ix hx hy, hw, c x hx, ← hN1]
        split <;> rfl
      · show (if i = m then y else lw i) < 16900
        split
        · exact hy
        · exact e3.1 i (by omega)
      · have hne : ∀ i, i < m → lw i ≠ y := fun i hi z => ((e5 y hy).mpr ⟨i, hi, z⟩) u0
        have e : (if i = m then y else lw i) = (if j = m then y else lw j) := e
        by_cases z1 : i = m
        · by_cases z2 : j = m
          · omega
          · rw [if_pos z1, if_neg z2] at e
            exact absurd e.symm (hne j (by omega))
        · by_cases z2 : j = m
          · rw [if_neg z1, if_pos z2] at e
            exact absurd e (hne i (by omega))
          · rw [if_neg z1, if_neg z2] at e
            exact e3.2 i j (by omega) (by omega) e
      · rw [gU_at]
        show (if i = m then _ else _) = nI (ix (if i = m then y else lw i))
        by_cases z1 : i = m
        · rw [if_pos z1, if_pos z1]
        · rw [if_neg z1, if_neg z1]
          exact e4 i (by omega)
      · dsimp only
        rw [← hN1]
        by_cases z : x = y
        · rw [if_pos z]
          constructor
          · exact fun _ => ⟨m, by omega, by show (if m = m then y else lw m) = x; rw [if_pos rfl, z]⟩
          · exact fun _ => by omega
        · rw [if_neg z, e5 x hx]
          constructor
          · rintro ⟨i, hi, hl⟩
            exact ⟨i, by omega, by show (if i = m then y else lw i) = x; rw [if_neg (by omega), hl]⟩
          · rintro ⟨i, hi, hl⟩
            have hl : (if i = m then y else lw i) = x := hl
            by_cases z1 : i = m
            · rw [if_pos z1] at hl
              exact absurd hl.symm z
            · rw [if_neg z1] at hl
              exact ⟨i, by omega, hl⟩
  · have t0 := z0.mp q
    subst t0
    refine k F I J (h.cong (fun _ _ => rfl) (fun x _ => ?_) (fun _ _ => rfl) rfl rfl) (fun _ _ => rfl) (fun _ _ => rfl) rfl
    rw [ct_1]
    split <;> rfl
set_option maxRecDepth 8000 in
theorem w_takesNext {G : GC} {ad : Nat → Nat} {o : Nat} {F : Nat → Int32} {L : Nat → Int64} {I : Nat → Nat → Int32} {J : Nat → Nat → Int64} {Q : MPost} {n wa lo : Nat} {lv P N D : Nat → Nat} (h : FlM F L I J n lv P N D wa lo) (k : ∀ F' I' J' n' lv', FlM F' L I' J' n' lv' N (fun _ => 0) D wa lo → (∀ i, i < n' → N (lv' i) ≠ 0) → (∀ j, j ≠ 35 → j ≠ 36 → F' j = F j) → (∀ a, a ≠ 33 → I' a = I a) → J' 40 = J 40 → Q none F' L I' J') : CallM G mX9_takesNext 3 ad o [.ref o] F L I J Q := by
  obtain ⟨⟨a1, a2, a3⟩, b, c, ⟨d1, d2, d3, d4, d5⟩, m, lw, e1, e2, e3, e4, e5⟩ := h
  refine eX9_takesNext (fun σ0 => bX9_takesNext_0 ?_)
  have L2 : ∀ j i, i + j = m → ∀ I' J', (∀ p, p < 6 → J' 39 p = lN (D p)) → J' 40 = J 40 → (∀ x, x < 16900 → (∀ q, q < i → lw q ≠ x) → J' 37 (ix x) = lN 0 ∧ J' 38 (ix x) = lN (N x)) → (∀ q, q < i → J' 37 (ix (lw q)) = lN (N (lw q)) ∧ J' 38 (ix (lw q)) = lN 0 ∧ I' 33 q = nI (ix (lw q))) → (∀ a, a ≠ 33 → I' a = I a) → AtM G mX9_takesNext 3 ad o σ0 Q 30 [(0, .ref o), (1, .int (nI i))] [] F L I' J' := by
    intro j
    induction j with
    | zero =>
      intro i hi I' J' h1 h2 h3 h4 h5
      have hi : i = m := by omega
      subst hi
      refine bX9_takesNext_30 ⟨fun _ F1 hF1 F2 hF2 => ?_, fun q => absurd (by rw [e1]; exact nI_le (Nat.le_refl _) (by omega)) q⟩
      rw [e1] at hF1
      subst hF2
      subst hF1
      have hin : ∀ x, x < 16900 → (∃ q, q < i ∧ lw q = x) ∨ (∀ q, q < i → lw q ≠ x) := by
        intro x hx
        by_cases z : ∃ q, q < i ∧ lw q = x
        · exact Or.inl z
        · exact Or.inr (fun q hq e => z ⟨q, hq, e⟩)
      refine k _ I' J' i lw ⟨⟨a1, a2, h1⟩, fun x hx => ?_, fun x hx => ?_, ⟨by rw [fU_ne (by decide)]; exact fU_at, e2, e3, fun q hq => (h4 q hq).2.2, fun x hx hN => (e5 x hx).mp hN⟩, 0, fun _ => 0, fU_at, by omega, ⟨fun q hq => absurd hq (by omega), fun p q hp => absurd hp (by omega)⟩, fun q hq => absurd hq (by omega), fun x hx => ?_⟩ (fun q hq => (e5 _ (e3.1 q hq)).mpr ⟨q, hq, rfl⟩) (fun q z1 z2 => by rw [fU_ne z2, fU_ne z1]) h5 h2
      · rcases hin x hx with ⟨q, hq, e⟩ | hn
        · rw [← e]; exact (h4 q hq).1
        · rw [(h3 x hx hn).1]
          have : N x = 0 := by
            apply Classical.byContradiction
            intro z
            obtain ⟨q, hq, e⟩ := (e5 x hx).mp z
            exact hn q hq e
          rw [this]
      · rcases hin x hx with ⟨q, hq, e⟩ | hn
        · rw [← e]; exact (h4 q hq).2.1
        · rw [(h3 x hx hn).2]
          have : N x = 0 := by
            apply Classical.byContradiction
            intro z
            obtain ⟨q, hq, e⟩ := (e5 x hx).mp z
            exact hn q hq e
          rw [this]
      · constructor
        · intro z; exact absurd rfl z
        · rintro ⟨q, hq, _⟩; omega
    | succ j ih =>
      intro i hi I' J' h1 h2 h3 h4 h5
      have him : i < m := by omega
      have hy := e3.1 i him
      have hq := ix_lt hy
      have p1 := vp_in_nI (show i < 16900 by omega) (by decide)
      have p2 := vp_in_nI hq (by decide)
      have c1 := nI_clamp (show i < 2 ^ 31 by omega)
      have c2 := nI_clamp (show ix (lw i) < 2 ^ 31 by omega)
      have hfresh : ∀ q, q < i → lw q ≠ lw i := fun q hq e => by
        have := e3.2 q i (by omega) him e
        omega
      refine bX9_takesNext_30 ⟨fun q => absurd (by rw [e1] at q; exact q) (nI_ge him (by omega)), fun _ => ⟨p1, p1, fun I1 hI1 => ?_⟩⟩
      rw [c1, h5 34 (by decide), e4 i him] at hI1
      have hI33 : I1 33 i = nI (ix (lw i)) := by rw [hI1, gU_at, if_pos rfl]
      rw [c1, hI33]
      refine ⟨p1, p1, p2, p2, fun J1 hJ1 => ⟨p1, p2, fun J2 hJ2 v1 hv1 => ?_⟩⟩
      rw [c2, (h3 _ hy hfresh).2] at hJ1
      rw [c2] at hJ2
      rw [hv1, nI_1]
      subst hJ2
      subst hJ1
      refine ih (i + 1) (by omega) I1 _ (fun p hp => by rw [gU_ne (by decide), gU_ne (by decide)]; exact h1 p hp) (by rw [gU_ne (by decide), gU_ne (by decide)]; exact h2) (fun x hx hn => ?_) (fun q hq => ?_) (fun a ha => by rw [hI1, gU_ne ha]; exact h5 a ha)
      · have hxi : ¬ x = lw i := fun e => hn i (by omega) e.symm
        have := h3 x hx (fun q hq => hn q (by omega))
        rw [gU_ne (show 37 ≠ 38 by decide), aU_ix hx hy, aU_ix hx hy, gU_ne (show 38 ≠ 37 by decide), if_neg hxi, if_neg hxi]
        exact this
      · have hqm : q < m := by omega
        have hqy := e3.1 q hqm
        rw [gU_ne (show 37 ≠ 38 by decide), aU_ix hqy hy, aU_ix hqy hy, gU_ne (show 38 ≠ 37 by decide), hI1, gU_at]
        by_cases z : q = i
        · subst z
          rw [if_pos rfl, if_pos rfl, if_pos rfl]
          exact ⟨rfl, rfl, rfl⟩
        · rw [if_neg (hfresh q (by omega)), if_neg (hfresh q (by omega)), if_neg z]
          exact h4 q (by omega)
  have L1 : ∀ j i, i + j = n → ∀ J', J' 38 = J 38 → J' 39 = J 39 → J' 40 = J 40 → (∀ x, x < 16900 → J' 37 (ix x) = lN (P x) ∨ J' 37 (ix x) = lN 0) → (∀ q, q < i → J' 37 (ix (lv q)) = lN 0) → AtM G mX9_takesNext 3 ad o σ0 Q 2 [(0, .ref o), (1, .int (nI i))] [] F L I J' := by
    intro j
    induction j with
    | zero =>
      intro i hi J' h1 h2 h3 h4 h5
      have hi : i = n := by omega
      subst hi
      refine bX9_takesNext_2 ⟨fun _ => ?_, fun q => absurd (by rw [d1]; exact nI_le (Nat.le_refl _) (by omega)) q⟩
      refine L2 m 0 (by omega) I J' (fun p hp => by rw [h2]; exact a3 p hp) h3 (fun x hx _ => ⟨?_, by rw [h1]; exact c x hx⟩) (fun q hq => absurd hq (by omega)) (fun _ _ => rfl)
      by_cases z : P x = 0
      · rcases h4 x hx with y | y
        · rw [y, z]
        · exact y
      · obtain ⟨q, hq, e⟩ := d5 x hx z
        rw [← e]
        exact h5 q hq
    | succ j ih =>
      intro i hi J' h1 h2 h3 h4 h5
      have hin : i < n := by omega
      have hy := d3.1 i hin
      have hq := ix_lt hy
      have p1 := vp_in_nI (show i < 16900 by omega) (by decide)
      have p2 := vp_in_nI hq (by decide)
      refine bX9_takesNext_2 ⟨fun q => absurd (by rw [d1] at q; exact q) (nI_ge hin (by omega)), fun _ => ⟨p1, ?_⟩⟩
      rw [nI_clamp (show i < 2 ^ 31 by omega), d4 i hin]
      refine ⟨p2, fun J1 hJ1 v1 hv1 => ?_⟩
      rw [nI_clamp (show ix (lv i) < 2 ^ 31 by omega)] at hJ1
      rw [hv1, nI_1]
      subst hJ1
      refine ih (i + 1) (by omega) _ (by rw [gU_ne (by decide)]; exact h1) (by rw [gU_ne (by decide)]; exact h2) (by rw [gU_ne (by decide)]; exact h3) (fun x hx => ?_) (fun q hq => ?_)
      · rw [aU_ix hx hy]
        split
        · exact Or.inr rfl
        · exact h4 x hx
      · rw [aU_ix (d3.1 q (by omega)) hy]
        split
        · rfl
        · rename_i z
          refine h5 q ?_
          by_cases y : q = i
          · subst y; exact absurd rfl z
          · omega
  exact L1 n 0 (by omega) J rfl rfl rfl (fun x hx => Or.inl (b x hx)) (fun q hq => absurd hq (by omega))
def StF (F : Nat → Int32) (s c d k e : Nat) : Prop := F 51 = nI c ∧ F 52 = nI d ∧ F 53 = nI k ∧ F 54 = nI s ∧ F 55 = nI e
theorem w_stateOf {G : GC} {ad : Nat → Nat} {o : Nat} {F : Nat → Int32} {L : Nat → Int64} {I : Nat → Nat → Int32} {J : Nat → Nat → Int64} {Q : MPost} {x : Nat} (hx : x < 16900) (k : ∀ F', StF F' (cS x) (cC x) (cD x) (cK x) (cE x) → (∀ j, (j < 51 ∨ 55 < j) → F' j = F j) → Q none F' L I J) : CallM G mX9_stateOf 3 ad o [.ref o, .int (nI (ix x))] F L I J Q := by
  have hq := ix_lt hx
  have s1 := cS25 hx
  refine eX9_stateOf (fun σ0 => bX9_stateOf_0 (fun F1 h1 w hw F2 h2 w3 hw3 F3 h3 w4 hw4 F4 h4 F5 h5 => ?_))
  rw [show (2 : Int32) = nI 2 from rfl, pk_rem (by omega) (by decide) (by decide)] at h1
  rw [show (2 : Int32) = nI 2 from rfl, show (25 : Int32) = nI 25 from rfl, pk_div (a := ix x) (by omega) (by decide) (by decide), pk_rem (by omega) (by decide) (by decide)] at hw
  rw [show (2 : Int32) = nI 2 from rfl, show (50 : Int32) = nI 50 from rfl, pk_div (a := ix x) (by omega) (by decide) (by decide), pk_rem (by omega) (by decide) (by decide)] at hw3
  rw [show (13 : Int32) = nI 13 from rfl, show (100 : Int32) = nI 100 from rfl, pk_div (a := ix x) (by omega) (by decide) (by decide), pk_rem (by omega) (by decide) (by decide)] at hw4
  rw [show (1300 : Int32) = nI 1300 from rfl, pk_div (a := ix x) (by omega) (by decide) (by decide)] at h5
  unfold ix at h1 hw hw3 hw4 h5
  rw [mi_E (cE_lt x)] at h1
  rw [mi_S s1 (cE_lt x)] at hw
  rw [mi_K s1 (cK_lt x) (cE_lt x)] at hw3
  rw [mi_D s1 (cD_lt x) (cK_lt x) (cE_lt x)] at hw4
  rw [mi_C s1 (cD_lt x) (cK_lt x) (cE_lt x)] at h5
  subst hw; subst hw3; subst hw4; subst h5; subst h4; subst h3; subst h2; subst h1
  refine k _ ⟨?_, ?_, ?_, ?_, ?_⟩ (fun j hj => ?_)
  · exact fU_at
  · rw [fU_ne (by decide)]; exact fU_at
  · rw [fU_ne (by decide), fU_ne (by decide)]; exact fU_at
  · rw [fU_ne (by decide), fU_ne (by decide), fU_ne (by decide)]; exact fU_at
  · rw [fU_ne (by decide), fU_ne (by decide), fU_ne (by decide), fU_ne (by decide)]; exact fU_at
  · rw [fU_ne (by omega), fU_ne (by omega), fU_ne (by omega), fU_ne (by omega), fU_ne (by omega)]
