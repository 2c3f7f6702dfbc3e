/-! Part B: sums; what comes where -/
def sm (f : Nat → Nat) (n : Nat) : Nat := match n with
  | 0 => 0
  | k + 1 => sm f k + f k
termination_by n
theorem sm_z (f : Nat → Nat) : sm f 0 = 0 := by rw [sm]
theorem sm_s (f : Nat → Nat) (n : Nat) : sm f (n + 1) = sm f n + f n := by rw [sm]
theorem sm_cong {f g : Nat → Nat} : ∀ {n : Nat}, (∀ i, i < n → f i = g i) → sm f n = sm g n
  | 0, _ => by rw [sm_z, sm_z]
  | n + 1, h => by rw [sm_s, sm_s, sm_cong (fun i hi => h i (by omega)), h n (by omega)]
theorem sm_le {f g : Nat → Nat} : ∀ {n : Nat}, (∀ i, i < n → f i ≤ g i) → sm f n ≤ sm g n
  | 0, _ => by rw [sm_z]; exact Nat.zero_le _
  | n + 1, h => by
    rw [sm_s, sm_s]
    exact Nat.add_le_add (sm_le (fun i hi => h i (by omega))) (h n (by omega))
theorem sm_add (f g : Nat → Nat) : ∀ n : Nat, sm (fun i => f i + g i) n = sm f n + sm g n
  | 0 => by rw [sm_z, sm_z, sm_z]
  | n + 1 => by
    rw [sm_s, sm_s, sm_s, sm_add f g n]
    omega
theorem sm_zero : ∀ n : Nat, sm (fun _ => 0) n = 0
  | 0 => sm_z _
  | n + 1 => by rw [sm_s, sm_zero n]
theorem sm_mul (f : Nat → Nat) (c : Nat) : ∀ n : Nat, sm (fun i => f i * c) n = sm f n * c
  | 0 => by rw [sm_z, sm_z, Nat.zero_mul]
  | n + 1 => by rw [sm_s, sm_s, sm_mul f c n, Nat.add_mul]
theorem sm_get {f : Nat → Nat} {i : Nat} : ∀ {n : Nat}, i < n → f i ≤ sm f n
  | 0, h => absurd h (by omega)
  | n + 1, h => by
    rw [sm_s]
    by_cases q : i = n
    · subst q; omega
    · have := sm_get (f := f) (show i < n by omega)
      omega
theorem sm_ne {f : Nat → Nat} : ∀ {n : Nat}, sm f n ≠ 0 → ∃ i, i < n ∧ f i ≠ 0
  | 0, h => absurd (sm_z f) h
  | n + 1, h => by
    by_cases q : f n = 0
    · rw [sm_s, q] at h
      obtain ⟨i, hi, hf⟩ := sm_ne (n := n) h
      exact ⟨i, by omega, hf⟩
    · exact ⟨n, by omega, q⟩
theorem sm_at (a t : Nat) : ∀ n : Nat, sm (fun y => if a = y then t else 0) n = if a < n then t else 0
  | 0 => by rw [sm_z, if_neg (by omega)]
  | n + 1 => by
    rw [sm_s, sm_at a t n]
    by_cases h : a < n
    · rw [if_pos h, if_neg (by omega), if_pos (by omega)]; rfl
    · by_cases q : a = n
      · rw [if_neg h, if_pos q, if_pos (by omega)]; omega
      · rw [if_neg h, if_neg q, if_neg (by omega)]
theorem sm_del {h : Nat → Nat} {x0 : Nat} : ∀ {M : Nat}, x0 < M → sm h M = sm (fun x => if x = x0 then 0 else h x) M + h x0
  | 0, hx => absurd hx (by omega)
  | M + 1, hx => by
    rw [sm_s, sm_s]
    by_cases q : M = x0
    · subst q
      have e : sm (fun x => if x = M then 0 else h x) M = sm h M := sm_cong (fun i hi => if_neg (by omega))
      rw [e, if_pos rfl]
      rfl
    · rw [sm_del (h := h) (show x0 < M by omega), if_neg q]
      omega
/-- a row without doubles, of places below M -/
def Row (lv : Nat → Nat) (n M : Nat) : Prop := (∀ i, i < n → lv i < M) ∧ ∀ i j, i < n → j < n → lv i = lv j → i = j
theorem sm_row {lv : Nat → Nat} {M : Nat} : ∀ {n : Nat} {h : Nat → Nat}, Row lv n M → (∀ x, x < M → h x ≠ 0 → ∃ i, i < n ∧ lv i = x) → sm (fun i => h (lv i)) n = sm h M
  | 0, h, _, hs => by
    have : sm h M = sm (fun _ => 0) M := sm_cong (fun x hx => by
      apply Classical.byContradiction
      intro q
      obtain ⟨i, hi, _⟩ := hs x hx q
      omega)
    rw [this, sm_zero, sm_z]
  | n + 1, h, hr, hs => by
    have hx := hr.1 n (by omega)
    rw [sm_del hx, sm_s]
    have ih := sm_row (lv := lv) (M := M) (n := n) (h := fun x => if x = lv n then 0 else h x) ⟨fun i hi => hr.1 i (by omega), fun i j hi hj => hr.2 i j (by omega) (by omega)⟩ (fun x hx q => by
      by_cases e : x = lv n
      · rw [if_pos e] at q; exact absurd rfl q
      · rw [if_neg e] at q
        obtain ⟨i, hi, hl⟩ := hs x hx q
        refine ⟨i, ?_, hl⟩
        by_cases z : i = n
        · subst z; exact absurd hl.symm e
        · omega)
    rw [← ih]
    congr 1
    refine sm_cong (fun i hi => ?_)
    show h (lv i) = if lv i = lv n then 0 else h (lv i)
    rw [if_neg]
    intro e
    have := hr.2 i n (by omega) (by omega) e
    omega
theorem Row.short {lv : Nat → Nat} {n M q : Nat} (hr : Row lv n M) (hq : q < M) (hn : ∀ i, i < n → lv i ≠ q) : n < M := by
  have h1 : sm (fun i => (fun x => if ∃ i, i < n ∧ lv i = x then 1 else 0) (lv i)) n = sm (fun x => if ∃ i, i < n ∧ lv i = x then 1 else 0) M := sm_row (h := fun x => if ∃ i, i < n ∧ lv i = x then 1 else 0) hr (fun x hx h => by
    apply Classical.byContradiction
    intro z
    rw [if_neg z] at h
    exact h rfl)
  have h2 : sm (fun i => (fun x => if ∃ i, i < n ∧ lv i = x then 1 else 0) (lv i)) n = sm (fun _ => 1) n := sm_cong (fun i hi => if_pos ⟨i, hi, rfl⟩)
  have h3 : ∀ k, sm (fun _ => 1) k = k := fun k => by
    induction k with
    | zero => exact sm_z _
    | succ k ih => rw [sm_s, ih]
  rw [h2, h3, sm_del hq, if_neg (fun ⟨i, hi, e⟩ => hn i hi e)] at h1
  have h4 : sm (fun x => if x = q then 0 else if ∃ i, i < n ∧ lv i = x then 1 else 0) M ≤ sm (fun x => if x = q then 0 else 1) M := sm_le (fun x hx => by
    by_cases e : x = q
    · rw [if_pos e, if_pos e]; exact Nat.le_refl _
    · rw [if_neg e, if_neg e]
      split <;> omega)
  have h5 := sm_del (h := fun _ => 1) hq
  rw [h3] at h5
  have h5 : M = sm (fun x => if x = q then 0 else 1) M + 1 := h5
  omega
/-- what comes to a place out of a list of (place, how much) -/
def ct : List (Nat × Nat) → Nat → Nat
  | [], _ => 0
  | q :: l, y => (if q.1 = y then q.2 else 0) + ct l y
def tt : List (Nat × Nat) → Nat
  | [] => 0
  | q :: l => q.2 + tt l
theorem ct_le (y : Nat) : ∀ l : List (Nat × Nat), ct l y ≤ tt l
  | [] => Nat.le_refl _
  | q :: l => by
    have := ct_le y l
    rw [ct, tt]
    split <;> omega
theorem ct_ne {y : Nat} : ∀ {l : List (Nat × Nat)}, ct l y ≠ 0 → ∃ q, q ∈ l ∧ q.1 = y ∧ q.2 ≠ 0
  | [], h => absurd rfl h
  | q :: l, h => by
    by_cases e : q.1 = y ∧ q.2 ≠ 0
    · exact ⟨q, List.mem_cons_self, e.1, e.2⟩
    · have h2 : ct l y ≠ 0 := by
        intro z
        rw [ct, z] at h
        apply h
        split
        · rename_i w
          by_cases u : q.2 = 0
          · omega
          · exact absurd ⟨w, u⟩ e
        · rfl
      obtain ⟨q', h3, h4⟩ := ct_ne h2
      exact ⟨q', List.mem_cons_of_mem _ h3, h4⟩
theorem ct_sum (M : Nat) : ∀ l : List (Nat × Nat), (∀ q, q ∈ l → q.2 ≠ 0 → q.1 < M) → sm (ct l) M = tt l
  | [], _ => sm_zero M
  | q :: l, h => by
    have e : ct (q :: l) = fun y => (if q.1 = y then q.2 else 0) + ct l y := by funext y; rfl
    rw [e, sm_add, ct_sum M l (fun q' hq => h q' (List.mem_cons_of_mem _ hq)), sm_at, tt]
    by_cases z : q.2 = 0
    · rw [z]; split <;> rfl
    · rw [if_pos (h q List.mem_cons_self z)]
theorem ct_zero {y : Nat} {l : List (Nat × Nat)} (h : tt l = 0) : ct l y = 0 := by
  have := ct_le y l
  omega
def sc (g : Nat → List (Nat × Nat)) (n y : Nat) : Nat := sm (fun x => ct (g x) y) n
theorem sc_zero (g : Nat → List (Nat × Nat)) (y : Nat) : sc g 0 y = 0 := sm_z _
theorem sc_succ (g : Nat → List (Nat × Nat)) (n y : Nat) : sc g (n + 1) y = sc g n y + ct (g n) y := sm_s _ _
theorem sc_le (g : Nat → List (Nat × Nat)) (n y : Nat) : sc g n y ≤ sm (fun x => tt (g x)) n := sm_le (fun x _ => ct_le y (g x))
theorem sc_sum {g : Nat → List (Nat × Nat)} {M : Nat} : ∀ {n : Nat}, (∀ x, x < n → ∀ q, q ∈ g x → q.2 ≠ 0 → q.1 < M) → sm (sc g n) M = sm (fun x => tt (g x)) n
  | 0, _ => by
    have e : sc g 0 = fun _ => 0 := by funext y; exact sc_zero g y
    rw [e, sm_zero, sm_z]
  | n + 1, h => by
    have e : sc g (n + 1) = fun y => sc g n y + ct (g n) y := by funext y; exact sc_succ g n y
    rw [e, sm_add, sc_sum (fun x hx => h x (by omega)), ct_sum M (g n) (h n (by omega)), sm_s]
theorem sc_ne {g : Nat → List (Nat × Nat)} {n y : Nat} (h : sc g n y ≠ 0) : ∃ x, x < n ∧ ∃ q, q ∈ g x ∧ q.1 = y ∧ q.2 ≠ 0 := by
  obtain ⟨x, hx, hc⟩ := sm_ne h
  exact ⟨x, hx, ct_ne hc⟩
theorem sm_mono {f : Nat → Nat} {m n : Nat} (h : m ≤ n) : sm f m ≤ sm f n := by
  induction n with
  | zero => rw [Nat.le_zero.mp h]; exact Nat.le_refl _
  | succ n ih =>
    by_cases e : m = n + 1
    · rw [e]; exact Nat.le_refl _
    · have := ih (by omega)
      rw [sm_s]
      omega
theorem sm_tail {f : Nat → Nat} {m n : Nat} (h : m ≤ n) (hz : ∀ i, m ≤ i → i < n → f i = 0) : sm f n = sm f m := by
  induction n with
  | zero => rw [Nat.le_zero.mp h]
  | succ n ih =>
    by_cases e : m = n + 1
    · rw [e]
    · rw [sm_s, ih (by omega) (fun i h1 h2 => hz i h1 (by omega)), hz n (by omega) (by omega)]; rfl
