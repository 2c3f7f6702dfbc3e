/-! Part B: the reference's reader: bytes, words -/
/-- packed letters -/
def pkR : List Nat → Nat
  | [] => 0
  | x :: l => pkR l * 32 + (x - 96)
def pkw (w : List Nat) : Nat := pkR w.reverse
theorem pkw_app (w : List Nat) (x : Nat) : pkw (w ++ [x]) = pkw w * 32 + (x - 96) := by
  unfold pkw
  rw [List.reverse_append]
  rfl
theorem pkR_lt : ∀ (l : List Nat), (∀ x, x ∈ l → small x) → pkR l < 32 ^ l.length
  | [], _ => by decide
  | x :: l, h => by
    have r := pkR_lt l (fun y hy => h y (List.mem_cons_of_mem _ hy))
    have hx := h x List.mem_cons_self
    have e : 32 ^ (x :: l).length = 32 ^ l.length * 32 := rfl
    have e2 : pkR (x :: l) = pkR l * 32 + (x - 96) := rfl
    have := hx.2
    have := hx.1
    rw [e, e2]
    omega
theorem pkw_lt {w : List Nat} (h : ∀ x, x ∈ w → small x) (hl : w.length ≤ 6) : pkw w < 2 ^ 30 := by
  have r := pkR_lt w.reverse (fun x hx => h x (List.mem_reverse.mp hx))
  rw [List.length_reverse] at r
  have : 32 ^ w.length ≤ 32 ^ 6 := Nat.pow_le_pow_right (by decide) hl
  have e : 32 ^ 6 = 2 ^ 30 := by decide
  unfold pkw
  omega
theorem pkR_inj : ∀ (u v : List Nat), (∀ x, x ∈ u → small x) → (∀ x, x ∈ v → small x) → pkR u = pkR v → u = v
  | [], [], _, _, _ => rfl
  | [], y :: v, _, hv, e => by
    have hy := (hv y List.mem_cons_self).1
    have e2 : pkR (y :: v) = pkR v * 32 + (y - 96) := rfl
    have e3 : pkR [] = 0 := rfl
    omega
  | x :: u, [], hu, _, e => by
    have hx := (hu x List.mem_cons_self).1
    have e2 : pkR (x :: u) = pkR u * 32 + (x - 96) := rfl
    have e3 : pkR [] = 0 := rfl
    omega
  | x :: u, y :: v, hu, hv, e => by
    have hx := hu x List.mem_cons_self
    have hy := hv y List.mem_cons_self
    have x1 := hx.1
    have x2 := hx.2
    have y1 := hy.1
    have y2 := hy.2
    have e2 : pkR (x :: u) = pkR u * 32 + (x - 96) := rfl
    have e3 : pkR (y :: v) = pkR v * 32 + (y - 96) := rfl
    have r := pkR_inj u v (fun z hz => hu z (List.mem_cons_of_mem _ hz)) (fun z hz => hv z (List.mem_cons_of_mem _ hz)) (by omega)
    rw [r, show x = y by omega]
theorem pkw_inj {u v : List Nat} (hu : ∀ x, x ∈ u → small x) (hv : ∀ x, x ∈ v → small x) (e : pkw u = pkw v) : u = v := by
  have := pkR_inj u.reverse v.reverse (fun x hx => hu x (List.mem_reverse.mp hx)) (fun x hx => hv x (List.mem_reverse.mp hx)) e
  exact List.reverse_inj.mp this
/-- what word() tells -/
def wv (w : List Nat) : Nat := if w.length ≤ 6 then pkw w else 0
theorem wd_sm {t : Nat → Nat} {n a : Nat} : ∀ x, x ∈ wd t n a → small x := fun x hx => by
  obtain ⟨j, hj, e⟩ := List.getElem_of_mem hx
  have r := (wd_at (t := t) (n := n) (a := a)).1 j hj
  rw [List.getElem?_eq_getElem hj, e] at r
  rw [Option.some.inj r.2.2]
  exact r.2.1
theorem wv_lt {t : Nat → Nat} {n a : Nat} : wv (wd t n a) < 2 ^ 30 := by
  unfold wv
  split
  · rename_i h
    exact pkw_lt wd_sm h
  · decide
theorem wv_eq {t : Nat → Nat} {n a : Nat} {w : List Nat} (hw : ∀ x, x ∈ w → small x) (h0 : 0 < w.length) (h6 : w.length ≤ 6) : wv (wd t n a) = pkw w ↔ wd t n a = w := by
  unfold wv
  split
  · rename_i h
    exact ⟨fun e => pkw_inj wd_sm hw e, fun e => by rw [e]⟩
  · rename_i h
    refine ⟨fun e => ?_, fun e => absurd (by rw [e]; exact h6) h⟩
    have := pkw_inj (u := []) (v := w) (fun x hx => by simp at hx) hw e
    rw [← this] at h0
    exact absurd h0 (by decide)
theorem nI_or (a b : Nat) : nI a ||| nI b = nI (a ||| b) := by
  apply Int32.toBitVec_inj.mp
  rw [Int32.toBitVec_or]
  show BitVec.ofNat 32 a ||| BitVec.ofNat 32 b = BitVec.ofNat 32 (a ||| b)
  apply BitVec.eq_of_getLsbD_eq
  intro i hi
  simp [BitVec.getLsbD_ofNat, Nat.testBit_or, hi]
theorem pk5 {m x : Nat} (hm : m < 2 ^ 25) (hx : small x) : nI m <<< ((5 : Int32) &&& 31) ||| (nI x - 96) = nI (m * 32 + (x - 96)) := by
  have h1 := hx.1
  have h2 := hx.2
  rw [show (96 : Int32) = nI 96 from rfl, pk_sub (show 96 ≤ x by omega), pk_shlN (n := m) (5 &&& 31) 5 (by decide) (by omega), nI_or]
  congr 1
  have := Nat.two_pow_add_eq_or_of_lt (i := 5) (b := x - 96) (by omega) m
  rw [show 2 ^ 5 * m = m * 2 ^ 5 from Nat.mul_comm _ _] at this
  rw [← this]
theorem w_of {G : GC} {i : Nat} {q : String × Nat × String × List Int32} {w : List Nat} {P : Option Value → Prop} (hi : strTab[i]? = some q) (hw : q.2.2.2 = w.map nI) (hs : ∀ x, x ∈ w → small x) (hl : w.length ≤ 6) (k : P (some (.int (nI (pkw w))))) : CallP G mX9_of 7 [.ref (gk G i)] P := by
  intro σ
  have ql : q.2.2.2.length = w.length := by rw [hw, List.length_map]
  refine eX9_of (bX9_of_0 ?_)
  have L : ∀ d j, j + d = w.length → At G mX9_of 7 (fun u s => s = σ ∧ P u) (fun _ _ _ => False) 0 4 [(0, .ref (gk G i)), (1, .int (nI (pkw (w.take j)))), (2, .int (nI j))] [] σ := by
    intro d
    induction d with
    | zero =>
      intro j hj
      have hj : j = w.length := by omega
      subst hj
      rw [List.take_length]
      exact bX9_of_4 ⟨i, q, rfl, hi, fun _ => ⟨rfl, k⟩, fun z => absurd (by rw [ql]; exact nI_le (Nat.le_refl _) (by omega)) z⟩
    | succ d ih =>
      intro j hj
      have hjl : j < w.length := by omega
      have gd : q.2.2.2.getD j 0 = nI w[j] := by
        rw [hw]
        simp [List.getD, hjl]
      have tk : w.take (j + 1) = w.take j ++ [w[j]] := by rw [List.take_succ_eq_append_getElem hjl]
      have hm : pkw (w.take j) < 2 ^ 25 := by
        have r := pkR_lt (w.take j).reverse (fun x hx => hs x (List.mem_of_mem_take (List.mem_reverse.mp hx)))
        rw [List.length_reverse, List.length_take, Nat.min_eq_left (by omega)] at r
        have : 32 ^ j ≤ 32 ^ 5 := Nat.pow_le_pow_right (by decide) (by omega)
        have e : 32 ^ 5 = 2 ^ 25 := by decide
        unfold pkw
        omega
      refine bX9_of_4 ⟨i, q, rfl, hi, fun z => absurd z (by rw [ql]; exact nI_ge hjl (by omega)), fun _ => ⟨i, q, j, rfl, hi, rfl, by rw [ql]; exact hjl, fun x hx y hy v hv => ?_⟩⟩
      rw [gd] at hx
      rw [hx, pk5 hm (hs _ (List.getElem_mem hjl)), ← pkw_app, ← tk] at hy
      rw [hy, hv, nI_1]
      exact ih (j + 1) (by omega)
  have := L w.length 0 (by omega)
  exact this
theorem w_isSmall {G : GC} {x : Nat} {P : Option Value → Prop} (hx : x < 256) (k : P (some (.int (if small x then 1 else 0)))) : CallP G mX9_isSmall 3 [.int (nI x)] P := by
  intro σ
  refine eX9_isSmall (bX9_isSmall_0 ⟨fun z => ⟨rfl, ?_⟩, fun z => ⟨fun y => ⟨rfl, ?_⟩, fun y => ⟨rfl, ?_⟩⟩⟩)
  · have z1 := (nI_ltI (b := 97) (by omega) (by decide)).mp z
    rw [if_neg (fun w => by
      have := w.1
      omega)] at k
    exact k
  · have y1 := (nI_ltI (a := 122) (by decide) (by omega)).mp y
    rw [if_neg (fun w => by
      have := w.2
      omega)] at k
    exact k
  · have z1 : ¬ x < 97 := fun u => z ((nI_ltI (b := 97) (by omega) (by decide)).mpr u)
    have y1 : ¬ 122 < x := fun u => y ((nI_ltI (a := 122) (by decide) (by omega)).mpr u)
    rw [if_pos ⟨by omega, by omega⟩] at k
    exact k
theorem w_isDigit {G : GC} {x : Nat} {P : Option Value → Prop} (hx : x < 256) (k : P (some (.int (if digit x then 1 else 0)))) : CallP G mX9_isDigit 3 [.int (nI x)] P := by
  intro σ
  refine eX9_isDigit (bX9_isDigit_0 ⟨fun z => ⟨rfl, ?_⟩, fun z => ⟨fun y => ⟨rfl, ?_⟩, fun y => ⟨rfl, ?_⟩⟩⟩)
  · have z1 := (nI_ltI (b := 48) (by omega) (by decide)).mp z
    rw [if_neg (fun w => by
      have := w.1
      omega)] at k
    exact k
  · have y1 := (nI_ltI (a := 57) (by decide) (by omega)).mp y
    rw [if_neg (fun w => by
      have := w.2
      omega)] at k
    exact k
  · have z1 : ¬ x < 48 := fun u => z ((nI_ltI (b := 48) (by omega) (by decide)).mpr u)
    have y1 : ¬ 57 < x := fun u => y ((nI_ltI (a := 57) (by decide) (by omega)).mpr u)
    rw [if_pos ⟨by omega, by omega⟩] at k
    exact k
/-- the reference reads t, n bytes; at a; e: what was wrong -/
def RS (F : Nat → Int32) (I : Nat → Nat → Int32) (t : Nat → Nat) (n a : Nat) (e : Option (Nat × Nat)) : Prop := F 3 = nI n ∧ F 4 = nI a ∧ (e = none → F 5 = -1) ∧ (∀ w p, e = some (w, p) → F 5 = nI p ∧ F 6 = nI w ∧ p < 2 ^ 30) ∧ (∀ i, i < n → I 9 i = nI (t i)) ∧ n ≤ 600 ∧ (∀ i, i < n → t i < 256) ∧ a ≤ n
/-- but for where it stands -/
def F4 (F F' : Nat → Int32) : Prop := ∀ j, j ≠ 4 → F' j = F j
theorem F4.rf {F : Nat → Int32} : F4 F F := fun _ _ => rfl
theorem F4.tr {F F' F'' : Nat → Int32} (h : F4 F F') (h2 : F4 F' F'') : F4 F F'' := fun j hj => (h2 j hj).trans (h j hj)
theorem F4.u {F F' : Nat → Int32} {v : Int32} (h : F4 F F') : F4 F (fU F' 4 v) := fun j hj => (fU_ne hj).trans (h j hj)
theorem RS.at {F F' : Nat → Int32} {I : Nat → Nat → Int32} {t : Nat → Nat} {n a a' : Nat} {e : Option (Nat × Nat)} (h : RS F I t n a e) (f : F4 F F') (h4 : F' 4 = nI a') (ha : a' ≤ n) : RS F' I t n a' e := by
  obtain ⟨h1, h2, h3, h5, h6, h7, h8, h9⟩ := h
  exact ⟨(f 3 (by decide)).trans h1, h4, fun z => (f 5 (by decide)).trans (h3 z), fun w p z => ⟨(f 5 (by decide)).trans (h5 w p z).1, (f 6 (by decide)).trans (h5 w p z).2.1, (h5 w p z).2.2⟩, h6, h7, h8, ha⟩
theorem RS.bad {F : Nat → Int32} {I : Nat → Nat → Int32} {t : Nat → Nat} {n a : Nat} {e : Nat × Nat} (h : RS F I t n a (some e)) : ¬ F 5 = -1 := fun z => by
  obtain ⟨w, p⟩ := e
  have := h.2.2.2.1 w p rfl
  rw [this.1] at z
  exact m1_nI (by have := this.2.2; omega) z
theorem w_fineY {G : GC} {ad : Nat → Nat} {o : Nat} {F : Nat → Int32} {L : Nat → Int64} {I : Nat → Nat → Int32} {J : Nat → Nat → Int64} {P : Option Value → Prop} (h : F 5 = -1) (k : P (some (.int 1))) : CallMO G mX9_fine 3 ad o [.ref o] F L I J P := eX9_fine (fun σ0 => bX9_fine_0 ⟨fun z => absurd h z, fun _ => ⟨rfl, rfl, rfl, rfl, k⟩⟩)
theorem w_fineN {G : GC} {ad : Nat → Nat} {o : Nat} {F : Nat → Int32} {L : Nat → Int64} {I : Nat → Nat → Int32} {J : Nat → Nat → Int64} {P : Option Value → Prop} (h : ¬ F 5 = -1) (k : P (some (.int 0))) : CallMO G mX9_fine 3 ad o [.ref o] F L I J P := eX9_fine (fun σ0 => bX9_fine_0 ⟨fun _ => ⟨rfl, rfl, rfl, rfl, k⟩, fun z => absurd z h⟩)
/-- the byte here, 0 at the end -/
def hv (t : Nat → Nat) (n k : Nat) : Nat := if k < n then t k else 0
theorem hv_is {t : Nat → Nat} {n k c : Nat} (ht : ∀ i, i < n → t i < 256) (hc : c < 256) (h0 : c ≠ 0) : nI (hv t n k) = nI c ↔ k < n ∧ t k = c := by
  unfold hv
  by_cases h : k < n
  · rw [if_pos h, nI_eq (by have := ht k h; omega) (by omega)]
    exact ⟨fun e => ⟨h, e⟩, fun e => e.2⟩
  · rw [if_neg h, nI_eq (by decide) (by omega)]
    exact ⟨fun e => absurd e.symm h0, fun e => absurd e.1 h⟩
theorem hv_lt {t : Nat → Nat} {n k : Nat} (ht : ∀ i, i < n → t i < 256) : hv t n k < 256 := by
  unfold hv
  split
  · rename_i h
    exact ht k h
  · decide
theorem w_here {G : GC} {ad : Nat → Nat} {o : Nat} {F : Nat → Int32} {L : Nat → Int64} {I : Nat → Nat → Int32} {J : Nat → Nat → Int64} {Q : MPost} {t : Nat → Nat} {n a : Nat} {e : Option (Nat × Nat)} (h : RS F I t n a e) (k : ∀ F', RS F' I t n (sk t n a) e → F4 F F' → Q (some (.int (nI (hv t n (sk t n a))))) F' L I J) : CallM G mX9_here 3 ad o [.ref o] F L I J Q := by
  refine eX9_here (fun σ0 => ?_)
  have Lp : ∀ d a' F', n - a' = d → sk t n a' = sk t n a → RS F' I t n a' e → F4 F F' → AtM G mX9_here 3 ad o σ0 Q 0 [(0, .ref o)] [] F' L I J := by
    intro d
    induction d with
    | zero =>
      intro a' F' hd hs hR hF
      have e2 : sk t n a' = a' := sk_at (fun q => absurd q.1 (by omega))
      have kk := k F' (by rw [← hs, e2]; exact hR) hF
      rw [← hs, e2, show hv t n a' = 0 from if_neg (by omega)] at kk
      have le : F' 3 ≤ F' 4 := by
        rw [hR.1, hR.2.1]
        exact nI_le (by omega) (by have := hR.2.2.2.2.2.1; have := hR.2.2.2.2.2.2.2; omega)
      exact bX9_here_0 ⟨fun _ => ⟨fun _ => kk, fun z => absurd le z⟩, fun z => absurd le z⟩
    | succ d ih =>
      intro a' F' hd hs hR hF
      have n6 := hR.2.2.2.2.2.1
      have hl : a' < n := by omega
      have nle : ¬ F' 3 ≤ F' 4 := by
        rw [hR.1, hR.2.1]
        exact nI_ge hl (by omega)
      have vin : vp_in (F' 4) 600 := by
        rw [hR.2.1]
        exact vp_in_nI (by omega) (by decide)
      have hI : I 9 (F' 4).toNatClampNeg = nI (t a') := by
        rw [hR.2.1, nI_clamp (by omega)]
        exact hR.2.2.2.2.1 a' hl
      have t8 := hR.2.2.2.2.2.2.1 a' hl
      refine bX9_here_0 ⟨fun z => absurd z nle, fun _ => ⟨vin, fun z => ⟨fun y => absurd y nle, fun _ => ⟨vin, ?_⟩⟩, fun z F1 e1 => ?_⟩⟩
      · rw [hI] at z ⊢
        have n32 : ¬ (a' < n ∧ t a' = 32) := fun q => z (by rw [q.2]; rfl)
        have e2 : sk t n a' = a' := sk_at n32
        have kk := k F' (by rw [← hs, e2]; exact hR) hF
        rw [← hs, e2, show hv t n a' = t a' from if_pos hl] at kk
        exact kk
      · rw [hI] at z
        have z1 : t a' = 32 := (nI_eq (b := 32) (by omega) (by decide)).mp z
        rw [hR.2.1, nI_1] at e1
        subst e1
        exact ih (a' + 1) _ (by omega) (by rw [← sk_s ⟨hl, z1⟩]; exact hs) (hR.at F4.rf.u fU_at hl) hF.u
  exact Lp (n - a) a F rfl rfl h F4.rf
