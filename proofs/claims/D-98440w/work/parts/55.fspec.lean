/-! Part B: how parts flow -/
def flp (x : Nat) : Nat := cd (cS x) (cC x) (cD x) (1 - cK x) (cE x)
def fallG (q : Nat) (P : Nat → Nat) (x : Nat) : List (Nat × Nat) := [(x, P x - P x * q / 16), (flp x, P x * q / 16)]
def dng (b p : Nat) : Nat := if b = 0 then p else p * b / 16
def drk (x t : Nat) : Nat := if cC x + cD x = 0 then 0 else t * cD x / (cC x + cD x)
def sees (see x t : Nat) : Nat := if cD x = 0 then 0 else t * see / 16
def actG (N see v act x t : Nat) : List (Nat × Nat) := match act with
  | 0 => [(cd (cS x) (cC x) (if cC x + cD x < N then cD x + 1 else cD x) (cK x) (cE x), t)]
  | 1 => if cC x + cD x = 0 then [(x, t)] else [(cd (cS x) (cC x) (cD x - 1) (cK x) (cE x), drk x t), (cd (cS x) (cC x - 1) (cD x) (cK x) (cE x), t - drk x t)]
  | 2 => [(x, t - sees see x t), (cd (cS x) (cC x) (cD x) (cK x) 1, sees see x t)]
  | 3 => if cC x + cD x = 0 then [(x, t)] else [(cd (v + 1) (cC x + cD x) 0 (cK x) (cE x), t)]
  | 4 => [(cd (cS x) 0 0 (cK x) (cE x), t)]
  | 5 => [(cd (cS x) (cC x) (cD x) 1 (cE x), t)]
  | 6 => [(cd (cS x) (cC x) (cD x) 0 (cE x), t)]
  | _ => [(cd (cS x) (cC x) (cD x) (1 - cK x) (cE x), t)]
/-- drunk, washed, looks -/
def actD (act x t : Nat) : Nat := if act = 1 then drk x t else 0
def actW (act x t : Nat) : Nat := if act = 3 then t * cC x else 0
def actL (act t : Nat) : Nat := if act = 2 then t else 0
def stepT (N W v : Nat) (fw fm : Nat → Int32) (P : Nat → Nat) (S : StT) (x : Nat) : Nat := if so (fac N W fw fm v (cS x) (cC x) (cD x) (cK x) (cE x)) S.2.2 = true then dng S.2.1 (P x) else 0
def stepG (N W see v : Nat) (fw fm : Nat → Int32) (P : Nat → Nat) (S : StT) (x : Nat) : List (Nat × Nat) := (x, P x - stepT N W v fw fm P S x) :: actG N see v S.1 x (stepT N W v fw fm P S x)
def endB (fill x : Nat) : Bool := decide (fill ≠ 0) && decide (fill ≤ cC x + cD x)
def endG (fill v : Nat) (P : Nat → Nat) (x : Nat) : List (Nat × Nat) := if endB fill x = true then [(cd (v + 1) (cC x + cD x) 0 (cK x) 0, P x)] else [(cd (cS x) (cC x) (cD x) (cK x) 0, P x)]
def endW (fill : Nat) (P : Nat → Nat) (x : Nat) : Nat := if endB fill x = true then P x * cC x else 0
/-- parts, drunk by whom, washed, looks -/
abbrev FS : Type := (Nat → Nat) × (Nat → Nat) × Nat × Nat
/-- lines of a book: visit, what, how much -/
abbrev BK : Type := List (Nat × Nat × Nat)
def lnV (W : Nat) (fm : Nat → Int32) (v x w : Nat) : Nat := if w = 0 then cK x else if w = 1 then (if wm fm W v (cS x) = true then 1 else 0) else cC x + cD x
def bkOK (W : Nat) (fm : Nat → Int32) (v : Nat) (B : BK) (x : Nat) : Bool := B.all (fun q => !(q.1 == v) || lnV W fm v x q.2.1 == q.2.2)
/-- falling, seeing, starter (0: none), without whom, whose habits, by a book -/
abbrev HW : Type := Nat × Nat × Nat × Int32 × (Nat → List StT) × Option BK
def fBook (W : Nat) (fm : Nat → Int32) (v : Nat) (B : Option BK) (P : Nat → Nat) : Nat → Nat := match B with
  | none => P
  | some B => fun x => if bkOK W fm v B x = true then P x else 0
def fBeg (O : Nat → Nat) (h : HW) (fm : Nat → Int32) (v : Nat) (S : FS) : FS := (fBook (O 5) fm v h.2.2.2.2.2 (sc (fallG h.1 S.1) 16900), S.2)
def fStep (O : Nat → Nat) (see : Nat) (fw fm : Nat → Int32) (v : Nat) (S : FS) (Z : StT) : FS :=
  (sc (stepG (O 0) (O 5) see v fw fm S.1 Z) 16900, fun p => S.2.1 p + (if nI p = fw v then sm (fun x => actD Z.1 x (stepT (O 0) (O 5) v fw fm S.1 Z x)) 16900 else 0),
    S.2.2.1 + sm (fun x => actW Z.1 x (stepT (O 0) (O 5) v fw fm S.1 Z x)) 16900, S.2.2.2 + sm (fun x => actL Z.1 (stepT (O 0) (O 5) v fw fm S.1 Z x)) 16900)
def fEnd (fill v : Nat) (S : FS) : FS := (sc (endG fill v S.1) 16900, S.2.1, S.2.2.1 + sm (endW fill S.1) 16900, S.2.2.2)
def fVis (O : Nat → Nat) (h : HW) (fw fm : Nat → Int32) (v : Nat) (S : FS) : FS := fEnd h.2.2.1 v ((h.2.2.2.2.1 (fw v).toNatClampNeg).foldl (fStep O h.2.1 fw fm v) (fBeg O h fm v S))
def fIni (O : Nat → Nat) : FS := (fun x => if x = cd 0 (O 1) (O 2) (O 3) 0 then 2 ^ 40 else 0, fun _ => 0, 0, 0)
def fRun (O : Nat → Nat) (h : HW) (fw fm : Nat → Int32) : Nat → FS
  | 0 => fIni O
  | v + 1 => if fw v = h.2.2.2.1 then fRun O h fw fm v else fVis O h fw fm v (fRun O h fw fm v)
/-- states that may be; parts of them -/
def gd (v x : Nat) : Prop := cS x ≤ v ∧ cC x + cD x ≤ 12
def GP (v : Nat) (P : Nat → Nat) : Prop := (∀ x, P x ≠ 0 → gd v x) ∧ sm P 16900 ≤ 2 ^ 40
theorem gd.lt {v x : Nat} (h : gd v x) : x < (v + 1) * 676 := by
  have e := cd_code x
  rw [← e]
  exact cd_lt (by have := h.1; omega) (cC_lt x) (cD_lt x) (cK_lt x) (cE_lt x)
theorem gd.lt2 {v x : Nat} (h : gd v x) (hv : v ≤ 24) : x < 16900 := by
  have := h.lt
  omega
theorem gd.mono {v w x : Nat} (h : gd v x) (hv : v ≤ w) : gd w x := ⟨Nat.le_trans h.1 hv, h.2⟩
theorem gd_cd {v s c d k e : Nat} (hs : s ≤ v) (hcd : c + d ≤ 12) (hk : k < 2) (he : e < 2) : gd v (cd s c d k e) := by
  unfold gd
  rw [cd_S (by omega) (by omega) hk he, cd_C (by omega) (by omega) hk he, cd_D (by omega) hk he]
  exact ⟨hs, hcd⟩
theorem GP.mono {v w : Nat} {P : Nat → Nat} (h : GP v P) (hv : v ≤ w) : GP w P := ⟨fun x hx => (h.1 x hx).mono hv, h.2⟩
theorem GP.le {v : Nat} {P : Nat → Nat} (h : GP v P) (hv : v ≤ 24) (x : Nat) : P x ≤ 2 ^ 40 := by
  by_cases q : P x = 0
  · omega
  · exact Nat.le_trans (sm_get ((h.1 x q).lt2 hv)) h.2
theorem GP.sc {v w : Nat} {P : Nat → Nat} {g : Nat → List (Nat × Nat)} (h : GP v P) (hw : w ≤ 24) (ht : ∀ x, tt (g x) = P x) (hg : ∀ x, P x ≠ 0 → ∀ q, q ∈ g x → q.2 ≠ 0 → gd w q.1) : GP w (sc g 16900) := by
  have hP : ∀ x q, q ∈ g x → q.2 ≠ 0 → P x ≠ 0 := by
    intro x q hq h2 z
    have h3 : ∀ l : List (Nat × Nat), q ∈ l → q.2 ≤ tt l := by
      intro l
      induction l with
      | nil => intro a; cases a
      | cons a l ih =>
        intro hm
        rw [tt]
        rcases List.mem_cons.mp hm with rfl | hm
        · omega
        · have := ih hm
          omega
    have := h3 _ hq
    rw [ht, z] at this
    omega
  refine ⟨fun y hy => ?_, ?_⟩
  · obtain ⟨x, hx, q, hq, h1, h2⟩ := sc_ne hy
    rw [← h1]
    exact hg x (hP x q hq h2) q hq h2
  · rw [sc_sum (fun x hx q hq h2 => (hg x (hP x q hq h2) q hq h2).lt2 hw)]
    exact Nat.le_trans (Nat.le_of_eq (sm_cong (fun x _ => ht x))) h.2
theorem sixt {p q : Nat} (h : q ≤ 16) : p * q / 16 ≤ p := by
  have : p * q ≤ p * 16 := Nat.mul_le_mul_left p h
  omega
theorem fallG_tt {q : Nat} {P : Nat → Nat} (hq : q ≤ 16) (x : Nat) : tt (fallG q P x) = P x := by
  have := sixt (p := P x) hq
  show (P x - P x * q / 16) + (P x * q / 16 + 0) = P x
  omega
theorem flp_gd {v x : Nat} (h : gd v x) : gd v (flp x) := gd_cd h.1 h.2 (by omega) (cE_lt x)
theorem fall_GP {v q : Nat} {P : Nat → Nat} (h : GP v P) (hq : q ≤ 16) (hv : v ≤ 24) : GP v (sc (fallG q P) 16900) :=
  h.sc hv (fallG_tt hq) (fun x hx r hr _ => by
    rcases List.mem_cons.mp hr with rfl | hr
    · exact h.1 x hx
    · rcases List.mem_cons.mp hr with rfl | hr
      · exact flp_gd (h.1 x hx)
      · cases hr)
theorem book_GP {v W u : Nat} {fm : (Nat → Int32)} {B : Option BK} {P : Nat → Nat} (h : GP v P) : GP v (fBook W fm u B P) := by
  cases B with
  | none => exact h
  | some B =>
    refine ⟨fun x hx => h.1 x (fun z => hx ?_), Nat.le_trans (sm_le (fun x _ => ?_)) h.2⟩
    · show (if _ then P x else 0) = 0
      rw [z]; split <;> rfl
    · show (if _ then P x else 0) ≤ P x
      split <;> omega
theorem dng_le {b p : Nat} (hb : b ≤ 16) : dng b p ≤ p := by
  unfold dng
  split
  · exact Nat.le_refl _
  · exact sixt hb
theorem drk_le (x t : Nat) : drk x t ≤ t := by
  unfold drk
  split
  · omega
  · rename_i h
    refine Nat.div_le_of_le_mul ?_
    rw [Nat.mul_comm]
    exact Nat.mul_le_mul_right t (by omega)
theorem drk_d {x t : Nat} (h : cD x = 0) : drk x t = 0 := by
  unfold drk
  rw [h]
  simp
theorem drk_c {x t : Nat} (h : cC x = 0) (h0 : ¬ cC x + cD x = 0) : drk x t = t := by
  unfold drk
  rw [if_neg h0, h, Nat.zero_add]
  exact Nat.mul_div_cancel t (by omega)
theorem sees_le {see x t : Nat} (h : see ≤ 16) : sees see x t ≤ t := by
  unfold sees
  split
  · omega
  · exact sixt h
theorem actG_tt {N see v act x t : Nat} (hs : see ≤ 16) : tt (actG N see v act x t) = t := by
  have h1 := drk_le x t
  have h2 := sees_le (x := x) (t := t) hs
  match act with
  | 0 => rfl
  | 1 =>
    unfold actG
    simp only
    split
    · rfl
    · show drk x t + ((t - drk x t) + 0) = t
      omega
  | 2 =>
    show (t - sees see x t) + (sees see x t + 0) = t
    omega
  | 3 =>
    unfold actG
    simp only
    split <;> rfl
  | 4 => rfl
  | 5 => rfl
  | 6 => rfl
  | a + 7 => rfl
theorem actG_gd {N see v act x t : Nat} (hN : N ≤ 12) (h : gd (v + 1) x) : ∀ q, q ∈ actG N see v act x t → q.2 ≠ 0 → gd (v + 1) q.1 := by
  intro q hq h2
  have hs := h.1
  have hc := h.2
  have k2 := cK_lt x
  have e2 := cE_lt x
  have one : ∀ {z t' : Nat}, q ∈ [(z, t')] → gd (v + 1) z → gd (v + 1) q.1 := by
    intro z t' hm hz
    rcases List.mem_cons.mp hm with rfl | hm
    · exact hz
    · cases hm
  match act with
  | 0 =>
    refine one hq (gd_cd hs ?_ k2 e2)
    split <;> omega
  | 1 =>
    unfold actG at hq
    simp only at hq
    split at hq
    · exact one hq h
    · rcases List.mem_cons.mp hq with rfl | hq
      · exact gd_cd hs (by omega) k2 e2
      · exact one hq (gd_cd hs (by omega) k2 e2)
  | 2 =>
    rcases List.mem_cons.mp hq with rfl | hq
    · exact h
    · exact one hq (gd_cd hs hc k2 (by decide))
  | 3 =>
    unfold actG at hq
    simp only at hq
    split at hq
    · exact one hq h
    · exact one hq (gd_cd (Nat.le_refl _) (by omega) k2 e2)
  | 4 => exact one hq (gd_cd hs (by omega) k2 e2)
  | 5 => exact one hq (gd_cd hs hc (by decide) e2)
  | 6 => exact one hq (gd_cd hs hc (by decide) e2)
  | a + 7 => exact one hq (gd_cd hs hc (by omega) e2)
theorem stepT_le {N W v : Nat} {fw fm : (Nat → Int32)} {P : Nat → Nat} {S : StT} (hS : S.2.1 ≤ 16) (x : Nat) : stepT N W v fw fm P S x ≤ P x := by
  unfold stepT
  split
  · exact dng_le hS
  · omega
theorem stepG_tt {N W see v : Nat} {fw fm : (Nat → Int32)} {P : Nat → Nat} {S : StT} (hS : S.2.1 ≤ 16) (hs : see ≤ 16) (x : Nat) : tt (stepG N W see v fw fm P S x) = P x := by
  have := stepT_le (N := N) (W := W) (v := v) (fw := fw) (fm := fm) (P := P) hS x
  unfold stepG
  rw [tt, actG_tt hs]
  show (P x - _) + _ = _
  omega
theorem step_GP {N W see v : Nat} {fw fm : (Nat → Int32)} {P : Nat → Nat} {S : StT} (h : GP (v + 1) P) (hN : N ≤ 12) (hS : S.2.1 ≤ 16) (hs : see ≤ 16) (hv : v < 24) : GP (v + 1) (sc (stepG N W see v fw fm P S) 16900) :=
  h.sc (by omega) (stepG_tt hS hs) (fun x hx r hr h2 => by
    rcases List.mem_cons.mp hr with rfl | hr
    · exact h.1 x hx
    · exact actG_gd hN (h.1 x hx) r hr h2)
theorem endG_tt {fill v : Nat} {P : Nat → Nat} (x : Nat) : tt (endG fill v P x) = P x := by
  unfold endG
  split <;> rfl
theorem end_GP {fill v : Nat} {P : Nat → Nat} (h : GP (v + 1) P) (hv : v < 24) : GP (v + 1) (sc (endG fill v P) 16900) :=
  h.sc (by omega) endG_tt (fun x hx r hr h2 => by
    have hg := h.1 x hx
    have k2 := cK_lt x
    unfold endG at hr
    split at hr
    · rcases List.mem_cons.mp hr with rfl | hr
      · exact gd_cd (Nat.le_refl _) (by have := hg.2; omega) k2 (by decide)
      · cases hr
    · rcases List.mem_cons.mp hr with rfl | hr
      · exact gd_cd hg.1 hg.2 k2 (by decide)
      · cases hr)
/-- how much was drunk, washed, looked at, at most -/
def FB (n : Nat) (S : FS) : Prop := (∀ p, S.2.1 p ≤ n * 1099511627776) ∧ S.2.2.1 ≤ n * 13194139533312 ∧ S.2.2.2 ≤ n * 1099511627776
theorem FB.mono {m n : Nat} {S : FS} (h : FB m S) (hm : m ≤ n) : FB n S :=
  ⟨fun p => Nat.le_trans (h.1 p) (Nat.mul_le_mul_right _ hm), Nat.le_trans h.2.1 (Nat.mul_le_mul_right _ hm), Nat.le_trans h.2.2 (Nat.mul_le_mul_right _ hm)⟩
theorem sm_part {v : Nat} {P f : Nat → Nat} (h : GP v P) (hf : ∀ x, f x ≤ P x) : sm f 16900 ≤ 2 ^ 40 := Nat.le_trans (sm_le (fun x _ => hf x)) h.2
theorem sm_part12 {v : Nat} {P f : Nat → Nat} (h : GP v P) (hf : ∀ x, f x ≤ P x * 12) : sm f 16900 ≤ 12 * 2 ^ 40 := by
  have h1 := sm_le (n := 16900) (fun x _ => hf x)
  rw [sm_mul] at h1
  have := h.2
  omega
theorem fStep_ok {O : Nat → Nat} {see v n : Nat} {fw fm : (Nat → Int32)} {S : FS} {Z : StT} (h : GP (v + 1) S.1) (hb : FB n S) (hN : O 0 ≤ 12) (hZ : Z.2.1 ≤ 16) (hs : see ≤ 16) (hv : v < 24) : GP (v + 1) (fStep O see fw fm v S Z).1 ∧ FB (n + 1) (fStep O see fw fm v S Z) := by
  refine ⟨step_GP h hN hZ hs hv, fun p => ?_, ?_, ?_⟩
  · show S.2.1 p + (if _ then _ else 0) ≤ _
    have h1 := hb.1 p
    have h2 : sm (fun x => actD Z.1 x (stepT (O 0) (O 5) v fw fm S.1 Z x)) 16900 ≤ 2 ^ 40 := sm_part h (fun x => by
      have h3 := stepT_le (N := O 0) (W := O 5) (v := v) (fw := fw) (fm := fm) (P := S.1) hZ x
      have h4 := drk_le x (stepT (O 0) (O 5) v fw fm S.1 Z x)
      unfold actD
      split <;> omega)
    have h3 : (n + 1) * 1099511627776 = n * 1099511627776 + 1099511627776 := Nat.succ_mul _ _
    rw [h3]
    refine Nat.add_le_add h1 ?_
    split
    · exact Nat.le_trans h2 (by decide)
    · exact Nat.zero_le _
  · show S.2.2.1 + _ ≤ _
    have h1 := hb.2.1
    have h2 : sm (fun x => actW Z.1 x (stepT (O 0) (O 5) v fw fm S.1 Z x)) 16900 ≤ 12 * 2 ^ 40 := sm_part12 h (fun x => by
      have h3 := stepT_le (N := O 0) (W := O 5) (v := v) (fw := fw) (fm := fm) (P := S.1) hZ x
      have h4 := cC_lt x
      unfold actW
      split
      · exact Nat.mul_le_mul h3 (by omega)
      · omega)
    omega
  · show S.2.2.2 + _ ≤ _
    have h1 := hb.2.2
    have h2 : sm (fun x => actL Z.1 (stepT (O 0) (O 5) v fw fm S.1 Z x)) 16900 ≤ 2 ^ 40 := sm_part h (fun x => by
      have h3 := stepT_le (N := O 0) (W := O 5) (v := v) (fw := fw) (fm := fm) (P := S.1) hZ x
      unfold actL
      split <;> omega)
    omega
theorem fEnd_ok {fill v n : Nat} {S : FS} (h : GP (v + 1) S.1) (hb : FB n S) (hv : v < 24) : GP (v + 1) (fEnd fill v S).1 ∧ FB (n + 1) (fEnd fill v S) := by
  refine ⟨end_GP h hv, fun p => ?_, ?_, ?_⟩
  · exact Nat.le_trans (hb.1 p) (Nat.mul_le_mul_right _ (Nat.le_succ n))
  · show S.2.2.1 + _ ≤ _
    have h1 := hb.2.1
    have h2 : sm (endW fill S.1) 16900 ≤ 12 * 2 ^ 40 := sm_part12 h (fun x => by
      have h4 := cC_lt x
      unfold endW
      split
      · exact Nat.mul_le_mul (Nat.le_refl _) (by omega)
      · omega)
    omega
  · exact Nat.le_trans hb.2.2 (Nat.mul_le_mul_right _ (Nat.le_succ n))
theorem fSteps_ok {O : Nat → Nat} {see v : Nat} {fw fm : (Nat → Int32)} (hN : O 0 ≤ 12) (hs : see ≤ 16) (hv : v < 24) : ∀ (l : List StT) (n : Nat) (S : FS), (∀ Z, Z ∈ l → stOK Z) → GP (v + 1) S.1 → FB n S → GP (v + 1) (l.foldl (fStep O see fw fm v) S).1 ∧ FB (n + l.length) (l.foldl (fStep O see fw fm v) S)
  | [], n, S, _, h, hb => ⟨h, hb⟩
  | Z :: l, n, S, hl, h, hb => by
    obtain ⟨h1, h2⟩ := fStep_ok (fw := fw) (fm := fm) h hb hN (hl Z List.mem_cons_self).2 hs hv
    have h3 := fSteps_ok (fw := fw) (fm := fm) hN hs hv l (n + 1) _ (fun Z' hZ => hl Z' (List.mem_cons_of_mem _ hZ)) h1 h2
    refine ⟨h3.1, ?_⟩
    have e : n + (Z :: l).length = n + 1 + l.length := by simp; omega
    rw [e]
    exact h3.2
theorem fBeg_ok {O : Nat → Nat} {h : HW} {fm : (Nat → Int32)} {v n : Nat} {S : FS} (hS : GP v S.1) (hb : FB n S) (hf : h.1 ≤ 16) (hv : v < 24) : GP (v + 1) (fBeg O h fm v S).1 ∧ FB n (fBeg O h fm v S) :=
  ⟨(book_GP (fall_GP hS hf (by omega))).mono (by omega), hb⟩
theorem fVis_ok {O : Nat → Nat} {h : HW} {fw fm : (Nat → Int32)} {v n : Nat} {S : FS} (hS : GP v S.1) (hb : FB n S) (hN : O 0 ≤ 12) (hf : h.1 ≤ 16) (hs : h.2.1 ≤ 16) (hv : v < 24) (hH : ∀ Z, Z ∈ h.2.2.2.2.1 (fw v).toNatClampNeg → stOK Z) (hL : (h.2.2.2.2.1 (fw v).toNatClampNeg).length ≤ 8) : GP (v + 1) (fVis O h fw fm v S).1 ∧ FB (n + 9) (fVis O h fw fm v S) := by
  obtain ⟨h1, h2⟩ := fBeg_ok (O := O) (fm := fm) hS hb hf hv
  obtain ⟨h3, h4⟩ := fSteps_ok (fw := fw) (fm := fm) hN hs hv _ n _ hH h1 h2
  obtain ⟨h5, h6⟩ := fEnd_ok (fill := h.2.2.1) h3 h4 hv
  exact ⟨h5, h6.mono (by omega)⟩
theorem fIni_ok {O : Nat → Nat} (hcd : O 1 + O 2 ≤ 12) (hk : O 3 < 2) : GP 0 (fIni O).1 ∧ FB 0 (fIni O) := by
  refine ⟨⟨fun x hx => ?_, ?_⟩, fun p => Nat.zero_le _, Nat.zero_le _, Nat.zero_le _⟩
  · have e : x = cd 0 (O 1) (O 2) (O 3) 0 := by
      apply Classical.byContradiction
      intro q
      exact hx (if_neg q)
    rw [e]
    exact gd_cd (Nat.le_refl _) hcd hk (by decide)
  · have e : (fIni O).1 = fun x => if cd 0 (O 1) (O 2) (O 3) 0 = x then 2 ^ 40 else 0 := by
      funext x
      show (if x = _ then _ else _) = _
      by_cases q : x = cd 0 (O 1) (O 2) (O 3) 0
      · rw [if_pos q, if_pos q.symm]
      · rw [if_neg q, if_neg (fun z => q z.symm)]
    rw [e, sm_at]
    split <;> omega
theorem fRun_ok {O : Nat → Nat} {h : HW} {fw fm : (Nat → Int32)} {n : Nat} (hN : O 0 ≤ 12) (hcd : O 1 + O 2 ≤ 12) (hk : O 3 < 2) (hf : h.1 ≤ 16) (hs : h.2.1 ≤ 16) (hn : n ≤ 24) (hw : ∀ i, i < n → ∃ p, p < 6 ∧ fw i = nI p) (hH : ∀ p, p < 6 → (∀ Z, Z ∈ h.2.2.2.2.1 p → stOK Z) ∧ (h.2.2.2.2.1 p).length ≤ 8) : ∀ v, v ≤ n → GP v (fRun O h fw fm v).1 ∧ FB (9 * v) (fRun O h fw fm v)
  | 0, _ => fIni_ok hcd hk
  | v + 1, hv => by
    obtain ⟨h1, h2⟩ := fRun_ok hN hcd hk hf hs hn hw hH v (by omega)
    obtain ⟨p, hp, e⟩ := hw v (by omega)
    have ec : (fw v).toNatClampNeg = p := by rw [e, nI_clamp (by omega)]
    rw [fRun]
    split
    · exact ⟨h1.mono (by omega), h2.mono (by omega)⟩
    · exact fVis_ok h1 h2 hN hf hs (by omega) (by rw [ec]; exact (hH p hp).1) (by rw [ec]; exact (hH p hp).2)
