/-! Part B: a day's steps -/
abbrev DY : Type := Int32 × Int32 × Int32 × Int32 × Nat × Nat × Nat × Nat × Nat
def nx (l : Int32) : Int32 := l * 1103515245 + 12345
def dv (l : Int32) : Nat := (l >>> ((16 : Int32) &&& 31)).toBitVec.toNat % 2 ^ 15
theorem dv_lt (l : Int32) : dv l < 2 ^ 15 := Nat.mod_lt _ (by decide)
def onDay (N see v act : Nat) (y : DY) : DY := match y with
  | (l, dr, wa, lo, s, c, d, k, e) => match act with
    | 0 => if c + d < N then (l, dr, wa, lo, s, c, d + 1, k, e) else (l, dr, wa, lo, s, c, d, k, e)
    | 1 => if c + d = 0 then (l, dr, wa, lo, s, c, d, k, e) else if dv (nx l) % (c + d) < d then (nx l, dr + 1, wa, lo, s, c, d - 1, k, e) else (nx l, dr, wa, lo, s, c - 1, d, k, e)
    | 2 => if d = 0 then (l, dr, wa, lo + 1, s, c, d, k, e) else if dv (nx l) % 16 < see then (nx l, dr, wa, lo + 1, s, c, d, k, 1) else (nx l, dr, wa, lo + 1, s, c, d, k, e)
    | 3 => if c + d = 0 then (l, dr, wa, lo, s, c, d, k, e) else (l, dr, wa + nI c, lo, v + 1, c + d, 0, k, e)
    | 4 => (l, dr, wa, lo, s, 0, 0, k, e)
    | 5 => (l, dr, wa, lo, s, c, d, 1, e)
    | 6 => (l, dr, wa, lo, s, c, d, 0, e)
    | _ => (l, dr, wa, lo, s, c, d, 1 - k, e)
def DayO (σ : PS) (a st o v : Nat) (y : DY) : Prop := match y with
  | (l, dr, wa, lo, s, c, d, k, e) => σ 5 a = some (.inl [.ref st, .ref o, .int l, .int (nI v), .int dr, .int wa, .int lo]) ∧ σ 4 st = some (.inl (stL s c d k e))
def DayD (a st κ x : Nat) : Prop := (κ = 5 ∧ x = a) ∨ (κ = 4 ∧ x = st)
theorem k_draw {G : GC} {σ : PS} {Q : Option Value → PS → Prop} {X : String → Nat → PS → Prop} {b a m : Nat} {l : Int32} {v0 v1 v3 v4 v5 v6 : Value} (hm : 0 < m) (hm2 : m < 2 ^ 31) (e1 : σ 5 a = some (.inl [v0, v1, .int l, v3, v4, v5, v6])) (h : Q (some (.int (nI (dv (nx l) % m)))) (up σ 5 a (.inl [v0, v1, .int (nx l), v3, v4, v5, v6]))) : Call G mX5_draw 3 b [.ref a, .int (nI m)] σ Q X := by
  refine eX5_draw (bX5_draw_0 ?_)
  have q1 : ∀ x : Int32, x &&& 32767 = nI (x.toBitVec.toNat % 2 ^ 15) := fun x => pk_and x 15 (by decide)
  have q2 : nI (dv (nx l)) - nI (dv (nx l)) / nI m * nI m = nI (dv (nx l) % m) := pk_rem (Nat.lt_trans (dv_lt _) (by decide)) hm hm2
  have q3 : ¬ nI m = 0 := nI_ne0 hm hm2
  simp only [-Int32.not_le, -Int32.not_lt, -Int64.not_le, -Int64.not_lt, Fg, Ob, Ia, La, Qa, nI_1, pk_m1, nI_pred, e1]
  refine ⟨l, ⟨_, rfl, rfl⟩, fun w hw => ⟨_, rfl, by simp, fun s1 hs => ?_⟩⟩
  subst hs; subst hw
  refine ⟨nx l, ⟨_, up_eq, rfl⟩, fun w2 hw2 => ⟨q3, ?_⟩⟩
  rw [q1] at hw2
  subst hw2
  show Q (some (.int (nI (dv (nx l)) - nI (dv (nx l)) / nI m * nI m))) _
  rw [q2]
  exact h
theorem k_puts {G : GC} {σ : PS} {Q : Option Value → PS → Prop} {X : String → Nat → PS → Prop} {b st s c d k e N : Nat} (hcd : c + d < 2 ^ 30) (hN : N < 2 ^ 30) (e1 : σ 4 st = some (.inl (stL s c d k e))) (h : Q none (up σ 4 st (.inl (stL s c (if c + d < N then d + 1 else d) k e)))) (h0 : up σ 4 st (.inl (stL s c d k e)) = σ) : Call G mX20_puts 4 b [.ref st, .int (nI N)] σ Q X := by
  have e2 := e1
  unfold stL at e2
  refine eX20_puts (bX20_puts_0 ⟨⟨_, e1⟩, k_in e2 ⟨_, rfl, fun q => ?_, fun q => ?_⟩⟩)
  · have q2 : N ≤ c + d := (nI_leI (by omega) (by omega)).mp q
    rw [if_neg (by omega), h0] at h
    exact h
  · have q2 : ¬ N ≤ c + d := fun z => q ((nI_leI (by omega) (by omega)).mpr z)
    rw [if_pos (by omega)] at h
    simp [-Int32.not_le, -Int32.not_lt, -Int64.not_le, -Int64.not_lt, Fg, Ob, Ia, La, Qa, nI_1, pk_m1, nI_pred, e2, List.set]
    exact h
theorem up_id {σ : PS} {κ a : Nat} {e : aE} (h : σ κ a = some e) : up σ κ a e = σ := by
  funext x y
  unfold up
  split
  · rename_i q
    rw [q.1, q.2, h]
  · rfl
theorem k_empties {G : GC} {σ : PS} {Q : Option Value → PS → Prop} {X : String → Nat → PS → Prop} {b st s c d k e : Nat} (e1 : σ 4 st = some (.inl (stL s c d k e))) (h : Q none (up σ 4 st (.inl (stL s 0 0 k e)))) : Call G mX24_empties 3 b [.ref st] σ Q X := by
  unfold stL at e1
  refine eX24_empties (bX24_empties_0 ?_)
  simp [-Int32.not_le, -Int32.not_lt, -Int64.not_le, -Int64.not_lt, Fg, Ob, Ia, La, Qa, nI_1, pk_m1, nI_pred, e1, up_eq, up_up, List.set]
  exact h
theorem k_turns {G : GC} {σ : PS} {Q : Option Value → PS → Prop} {X : String → Nat → PS → Prop} {b st s c d k e act q : Nat} {v0 v1 : Value} (hk : k < 2) (ha : act = 5 ∨ act = 6 ∨ act = 7) (e0 : σ 25 q = some (.inl [v0, v1, .int (nI (says act))])) (e1 : σ 4 st = some (.inl (stL s c d k e))) (h : Q none (up σ 4 st (.inl (stL s c d (if act = 5 then 1 else if act = 6 then 0 else 1 - k) e)))) : Call G mX25_turns 3 b [.ref q, .ref st] σ Q X := by
  unfold stL at e1
  refine eX25_turns (bX25_turns_0 ?_)
  rcases ha with rfl | rfl | rfl
  · simp [-Int32.not_le, -Int32.not_lt, -Int64.not_le, -Int64.not_lt, Fg, Ob, Ia, La, Qa, nI_1, pk_m1, nI_pred, e0, e1, says, List.set, show ¬ nI 1 = 2 by decide]
    exact h
  · simp [-Int32.not_le, -Int32.not_lt, -Int64.not_le, -Int64.not_lt, Fg, Ob, Ia, La, Qa, nI_1, pk_m1, nI_pred, e0, e1, says, List.set, show ¬ nI 0 = 2 by decide]
    exact h
  · simp [-Int32.not_le, -Int32.not_lt, -Int64.not_le, -Int64.not_lt, Fg, Ob, Ia, La, Qa, nI_1, pk_m1, nI_pred, e0, e1, says, List.set, show nI 2 = 2 by decide]
    rw [show (1 : Int32) - nI k = nI (1 - k) from pk_sub (a := 1) (by omega)]
    exact h

def dyOK (y : DY) : Prop := match y with
  | (_, _, _, _, _, c, d, k, e) => c + d < 2 ^ 20 ∧ k < 2 ∧ e < 2
theorem DayO.up5 {σ : PS} {a st o v : Nat} {l dr wa lo : Int32} {l' dr' wa' lo' : Int32} {s c d k e : Nat} (h : DayO σ a st o v (l, dr, wa, lo, s, c, d, k, e)) : DayO (up σ 5 a (.inl [.ref st, .ref o, .int l', .int (nI v), .int dr', .int wa', .int lo'])) a st o v (l', dr', wa', lo', s, c, d, k, e) :=
  ⟨up_eq, (up_k (by decide)).trans h.2⟩
theorem DayO.up4 {σ : PS} {a st o v : Nat} {l dr wa lo : Int32} {s c d k e s' c' d' k' e' : Nat} (h : DayO σ a st o v (l, dr, wa, lo, s, c, d, k, e)) : DayO (up σ 4 st (.inl (stL s' c' d' k' e'))) a st o v (l, dr, wa, lo, s', c', d', k', e') :=
  ⟨(up_k (by decide)).trans h.1, up_eq⟩
theorem k_on {G : GC} {σ : PS} {a st o v p P' q N see : Nat} {O : Nat → Nat} {S : StT} {y : DY} {Q : Option Value → PS → Prop} (hS : StpO σ q S) (hact : S.1 ≤ 7) (hD : DayO σ a st o v y) (hO : OffO σ o p O P') (hN : O 0 < 2 ^ 20) (hsee : O 6 < 2 ^ 20) (hy : dyOK y) (h : ∀ τ, DayO τ a st o v (onDay (O 0) (O 6) v S.1 y) → Fr (DayD a st) σ τ → Q none τ) : ∃ rc, rc + 1 ≤ 202 ∧ CallS_on G rc q [.ref a] σ Q := by
  obtain ⟨tv, -, hq⟩ := hS
  obtain ⟨o1, -⟩ := hO
  obtain ⟨l, dr, wa, lo, s, c, d, k, e⟩ := y
  obtain ⟨hcd, hk, he⟩ := hy
  have hD0 := hD
  obtain ⟨d1, d2⟩ := hD
  have d3 := d2
  unfold stL at d3
  have F5 : ∀ x, Fr (DayD a st) σ (up σ 5 a x) := fun x => Fr.rf.up (Or.inl ⟨rfl, rfl⟩)
  have F4 : ∀ x, Fr (DayD a st) σ (up σ 4 st x) := fun x => Fr.rf.up (Or.inr ⟨rfl, rfl⟩)
  have z0 : nI (c + d) = 0 ↔ c + d = 0 := nI_eq (b := 0) (by omega) (by decide)
  have hx : S.1 = 0 ∨ S.1 = 1 ∨ S.1 = 2 ∨ S.1 = 3 ∨ S.1 = 4 ∨ S.1 = 5 ∨ S.1 = 6 ∨ S.1 = 7 := by omega
  rcases hx with hx | hx | hx | hx | hx | hx | hx | hx <;> rw [hx] at h hq <;> simp only [kOf] at hq <;> simp only [onDay] at h
  · refine ⟨5, by decide, Or.inl ⟨_, hq, eX20_on (bX20_on_0 ⟨st, ⟨_, d1, rfl⟩, o, ⟨_, d1, rfl⟩, _, ⟨_, o1, rfl⟩, ?_⟩)⟩⟩
    refine k_puts (by omega) (by omega) d2 ⟨rfl, h _ ?_ (F4 _)⟩ (up_id d2)
    split
    · exact hD0.up4
    · exact hD0.up4
  · refine ⟨4, by decide, Or.inr (Or.inl ⟨_, hq, eX21_on (bX21_on_0 ⟨st, ⟨_, d1, rfl⟩, ⟨_, d2⟩, k_in d3 ⟨_, rfl, fun z => ?_, fun z => ?_⟩⟩)⟩)⟩
    · have z1 : ¬ c + d = 0 := fun w => z (z0.mpr w)
      rw [if_neg z1] at h
      refine ⟨st, ⟨_, d1, rfl⟩, ⟨_, d2⟩, k_in d3 ⟨_, rfl, ⟨_, d1⟩, k_draw (by omega) (by omega) d1 ⟨_, rfl, ?_⟩⟩⟩
      have e4 := hD0.up5 (l' := nx l) (dr' := dr) (wa' := wa) (lo' := lo)
      have e5 := e4.2
      unfold stL at e5
      refine ⟨st, ⟨_, e4.1, rfl⟩, nI d, ⟨_, e5, rfl⟩, fun w => ?_, fun w => ?_⟩
      · have w1 := (nI_leI (a := d) (by omega) (Nat.lt_of_lt_of_le (Nat.mod_lt _ (by omega)) (by omega : c + d ≤ 2 ^ 31))).mp w
        rw [if_neg (by omega)] at h
        refine ⟨st, ⟨_, e4.1, rfl⟩, nI c, ⟨_, e5, rfl⟩, _, e5, by simp, fun s1 hs => ?_⟩
        subst hs
        have hc1 : 1 ≤ c := by
          have := Nat.mod_lt (dv (nx l)) (show c + d > 0 by omega)
          omega
        rw [show nI c - 1 = nI (c - 1) from pk_sub (b := 1) hc1]
        exact h _ (e4.up4 (s' := s) (c' := c - 1) (d' := d) (k' := k) (e' := e)) ((F5 _).up (Or.inr ⟨rfl, rfl⟩))
      · have w1 : ¬ d ≤ dv (nx l) % (c + d) := fun z => w ((nI_leI (a := d) (by omega) (Nat.lt_of_lt_of_le (Nat.mod_lt _ (by omega)) (by omega : c + d ≤ 2 ^ 31))).mpr z)
        rw [if_pos (by omega)] at h
        refine ⟨st, ⟨_, e4.1, rfl⟩, nI d, ⟨_, e5, rfl⟩, _, e5, by simp, fun s1 hs => ?_⟩
        subst hs
        have e6 := e4.up4 (s' := s) (c' := c) (d' := d - 1) (k' := k) (e' := e)
        rw [show nI d - 1 = nI (d - 1) from pk_sub (b := 1) (by omega)]
        refine ⟨dr, ⟨_, e6.1, rfl⟩, _, e6.1, by simp, fun s1 hs => ?_⟩
        subst hs
        exact h _ (e6.up5 (l' := nx l) (dr' := dr + 1) (wa' := wa) (lo' := lo)) (((F5 _).up (Or.inr ⟨rfl, rfl⟩)).up (Or.inl ⟨rfl, rfl⟩))
    · rw [if_pos (z0.mp z)] at h
      exact h _ hD0 Fr.rf
  · refine ⟨4, by decide, Or.inr (Or.inr (Or.inl ⟨_, hq, eX22_on (bX22_on_0 ⟨lo, ⟨_, d1, rfl⟩, _, d1, by simp, fun s1 hs => ?_⟩)⟩))⟩
    subst hs
    have e4 := hD0.up5 (l' := l) (dr' := dr) (wa' := wa) (lo' := lo + 1)
    have e5 := e4.2
    unfold stL at e5
    refine ⟨st, ⟨_, e4.1, rfl⟩, nI d, ⟨_, e5, rfl⟩, fun w => ?_, fun w => ⟨⟨_, e4.1⟩, k_draw (m := 16) (by decide) (by decide) e4.1 ⟨_, rfl, ?_⟩⟩⟩
    · have w1 : d = 0 := by
        have := (nI_leI (a := d) (b := 0) (by omega) (by decide)).mp w
        omega
      rw [if_pos w1] at h
      exact h _ e4 (F5 _)
    · have w1 : ¬ d = 0 := fun z => w (by rw [z]; decide)
      rw [if_neg w1] at h
      have e6 := e4.up5 (l' := nx l) (dr' := dr) (wa' := wa) (lo' := lo + 1)
      have f6 := ((F5 (.inl [.ref st, .ref o, .int l, .int (nI v), .int dr, .int wa, .int (lo + 1)])).up (e := .inl [.ref st, .ref o, .int (nx l), .int (nI v), .int dr, .int wa, .int (lo + 1)]) (Or.inl ⟨rfl, rfl⟩))
      have o2 := (f6 7 o (by simp [DayD])).trans o1
      have hm : dv (nx l) % 16 < 2 ^ 31 := Nat.lt_trans (Nat.mod_lt _ (by decide)) (by decide)
      refine ⟨o, ⟨_, e6.1, rfl⟩, nI (O 6), ⟨_, o2, rfl⟩, fun z => ?_, fun z => ?_⟩
      · have w2 := (nI_leI (by omega) hm).mp z
        rw [if_neg (by omega)] at h
        exact h _ e6 f6
      · have w2 : ¬ O 6 ≤ dv (nx l) % 16 := fun y => z ((nI_leI (by omega) hm).mpr y)
        rw [if_pos (by omega)] at h
        refine ⟨st, ⟨_, e6.1, rfl⟩, _, e6.2, by simp [stL], fun s1 hs => ?_⟩
        subst hs
        exact h _ (e6.up4 (s' := s) (c' := c) (d' := d) (k' := k) (e' := 1)) (f6.up (Or.inr ⟨rfl, rfl⟩))
  · refine ⟨5, by decide, Or.inr (Or.inr (Or.inr (Or.inl ⟨_, hq, eX23_on (bX23_on_0 ⟨wa, ⟨_, d1, rfl⟩, st, ⟨_, d1, rfl⟩, nI v, ⟨_, d1, rfl⟩, ⟨_, d2⟩, k_starts hcd d2 (fun z => ⟨_, rfl, ?_⟩) (fun z => ⟨_, rfl, ?_⟩)⟩)⟩)))⟩
    · rw [if_pos z] at h
      refine ⟨_, d1, by simp, fun s1 hs => ?_⟩
      subst hs
      rw [show wa + nI 0 = wa from Int32.add_zero wa]
      exact h _ (hD0.up5 (l' := l) (dr' := dr) (wa' := wa) (lo' := lo)) (F5 _)
    · rw [if_neg z] at h
      have e4 := hD0.up4 (s' := v + 1) (c' := c + d) (d' := 0) (k' := k) (e' := e)
      refine ⟨_, e4.1, by simp, fun s1 hs => ?_⟩
      subst hs
      exact h _ (e4.up5 (l' := l) (dr' := dr) (wa' := wa + nI c) (lo' := lo)) ((F4 _).up (Or.inl ⟨rfl, rfl⟩))
  · refine ⟨4, by decide, Or.inr (Or.inr (Or.inr (Or.inr (Or.inl ⟨_, hq, eX24_on (bX24_on_0 ⟨st, ⟨_, d1, rfl⟩, k_empties d2 ⟨rfl, h _ hD0.up4 (F4 _)⟩⟩)⟩))))⟩
  · refine ⟨4, by decide, Or.inr (Or.inr (Or.inr (Or.inr (Or.inr ⟨_, hq, eX25_on (bX25_on_0 ⟨st, ⟨_, d1, rfl⟩, ⟨_, hq⟩, k_turns hk (Or.inl rfl) hq d2 ⟨rfl, h _ hD0.up4 (F4 _)⟩⟩)⟩))))⟩
  · refine ⟨4, by decide, Or.inr (Or.inr (Or.inr (Or.inr (Or.inr ⟨_, hq, eX25_on (bX25_on_0 ⟨st, ⟨_, d1, rfl⟩, ⟨_, hq⟩, k_turns hk (Or.inr (Or.inl rfl)) hq d2 ⟨rfl, h _ hD0.up4 (F4 _)⟩⟩)⟩))))⟩
  · refine ⟨4, by decide, Or.inr (Or.inr (Or.inr (Or.inr (Or.inr ⟨_, hq, eX25_on (bX25_on_0 ⟨st, ⟨_, d1, rfl⟩, ⟨_, hq⟩, k_turns hk (Or.inr (Or.inr rfl)) hq d2 ⟨rfl, h _ hD0.up4 (F4 _)⟩⟩)⟩))))⟩
