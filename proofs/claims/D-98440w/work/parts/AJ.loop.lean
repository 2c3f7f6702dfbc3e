set_option maxRecDepth 100000
/-! Part B: the law's loop -/
theorem l_ge {L m : Nat} (hL : L ≤ 384) (hm : m < 1000) (h : ¬ nI L - 6 < nI m) : m + 6 ≤ L := by
  by_cases c : 6 ≤ L
  · obtain ⟨l, rfl⟩ : ∃ l, L = l + 6 := ⟨L - 6, by omega⟩
    have e : nI (l + 6) - 6 = nI l := by
      rw [← nI_add]
      exact Int32.add_sub_cancel _ _
    rw [e, nI_ltI (by omega) (by omega)] at h
    omega
  · exfalso
    have h0 : nI L - 6 < 0 := by
      have : L = 0 ∨ L = 1 ∨ L = 2 ∨ L = 3 ∨ L = 4 ∨ L = 5 := by omega
      rcases this with rfl | rfl | rfl | rfl | rfl | rfl <;> decide
    exact h (Int32.lt_of_lt_of_le h0 (nI_pos' (by omega)))
set_option maxHeartbeats 4000000 in
theorem l_loop {G : GC} {Q : Option Value → PS → Prop} {X : String → Nat → PS → Prop} {nm : String} {hh : List (Nat × Nat × Nat × Nat)} {A : Nat → Nat} {CA : Nat → Nat × Nat × Nat} {ad : Nat → Nat} {o out : Nat} (d : DS A CA ad o out) (hL : gsL G ≤ 384) (hQ : ∀ s, Q (some (.int 1)) s) : ∀ n j b T σ, j + n = 65 → LW A CA ad o out T σ → 1000 * n ≤ b → At G (mL nm hh) 210 Q X b 23 (lsL G (A 0) o out (nI (6 * j))) [] σ
  | 0, j, b, T, σ, e, h, hb => bL_law_23 ⟨fun _ => hQ σ, fun q => by
      have := l_ge hL (by omega) q
      omega⟩
  | n + 1, j, b, T, σ, e, h, hb => by
    refine bL_law_23 ⟨fun _ => hQ σ, fun q => ?_⟩
    have h6 := l_ge hL (by omega) q
    have step : ∀ b' T' s', b ≤ b' + 1000 → LW A CA ad o out T' s' → At G (mL nm hh) 210 Q X b' 2703 (lsL G (A 0) o out (nI (6 * j))) [] s' := fun b' T' s' hb' h' => bL_law_2703 (fun v4 e4 => by
      rw [e4, show nI (6 * j) + 6 = nI (6 * (j + 1)) from nI_add (6 * j) 6]
      exact l_loop d hL hQ n (j + 1) b' T' s' (by omega) h' (by omega))
    have i1 : vp_in (nI (6 * j) + 1) (gsL G) := by
      rw [show nI (6 * j) + 1 = nI (6 * j + 1) from nI_add (6 * j) 1]
      exact vp_in_nI (by omega) (by omega)
    have i2 : vp_in (nI (6 * j) + 2) (gsL G) := by
      rw [show nI (6 * j) + 2 = nI (6 * j + 2) from nI_add (6 * j) 2]
      exact vp_in_nI (by omega) (by omega)
    have i3 : vp_in (nI (6 * j) + 3) (gsL G) := by
      rw [show nI (6 * j) + 3 = nI (6 * j + 3) from nI_add (6 * j) 3]
      exact vp_in_nI (by omega) (by omega)
    have i4 : vp_in (nI (6 * j) + 4) (gsL G) := by
      rw [show nI (6 * j) + 4 = nI (6 * j + 4) from nI_add (6 * j) 4]
      exact vp_in_nI (by omega) (by omega)
    have i5 : vp_in (nI (6 * j) + 5) (gsL G) := by
      rw [show nI (6 * j) + 5 = nI (6 * j + 5) from nI_add (6 * j) 5]
      exact vp_in_nI (by omega) (by omega)
    exact ⟨vp_in_nI (by omega) (by omega), fun _ => step b T σ (by omega) h, fun _ => l_feed d h i1 i2 i3 i4 i5 (by omega) step, fun _ => l_office d h i1 i2 i3 i4 i5 (by omega) step, fun _ => l_habit d h i1 i2 i3 i4 i5 (by omega) step, fun _ => l_rule d h i1 i2 i3 i4 i5 (by omega) step, fun _ => l_book d h i1 i2 i3 i4 i5 (by omega) step, fun _ => l_fault d h i1 i2 i3 i4 i5 (by omega) step, fun _ => l_told d h i1 i2 i3 i4 i5 (by omega) step, fun _ => l_visit d h i1 i2 i3 i4 i5 (by omega) step, fun _ => l_person d h i1 i2 i3 i4 i5 (by omega) step, fun _ => l_price d h i1 i2 i3 i4 i5 (by omega) step, fun _ => l_states d h i1 i2 i3 i4 i5 (by omega) step, fun _ => l_likely d h i1 i2 i3 i4 i5 (by omega) step, fun _ => l_state d h i1 i2 i3 i4 i5 (by omega) step, fun _ => l_likeliest d h i1 i2 i3 i4 i5 (by omega) step, fun _ => l_mean d h i1 i2 i3 i4 i5 (by omega) step, fun _ => l_often d h i1 i2 i3 i4 i5 (by omega) step, fun _ => l_since d h i1 i2 i3 i4 i5 (by omega) step, fun _ => l_drunk d h i1 i2 i3 i4 i5 (by omega) step, fun _ => l_done d h i1 i2 i3 i4 i5 (by omega) step, fun _ => l_cost d h i1 i2 i3 i4 i5 (by omega) step, fun _ => l_fits d h i1 i2 i3 i4 i5 (by omega) step, fun _ => l_given d h i1 i2 i3 i4 i5 (by omega) step, fun _ => l_best d h i1 i2 i3 i4 i5 (by omega) step, fun _ => l_worth d h i1 i2 i3 i4 i5 (by omega) step, fun _ => l_gain d h i1 i2 i3 i4 i5 (by omega) step, fun _ => l_without d h i1 i2 i3 i4 i5 (by omega) step, fun _ => l_keeper d h i1 i2 i3 i4 i5 (by omega) step, fun _ => l_spoiler d h i1 i2 i3 i4 i5 (by omega) step, fun _ => l_falling d h i1 i2 i3 i4 i5 (by omega) step, fun _ => l_seeing d h i1 i2 i3 i4 i5 (by omega) step, fun _ => l_filled d h i1 i2 i3 i4 i5 (by omega) step, fun _ => l_fill d h i1 i2 i3 i4 i5 (by omega) step, fun _ => l_ruled d h i1 i2 i3 i4 i5 (by omega) step, fun _ => l_swapped d h i1 i2 i3 i4 i5 (by omega) step, fun _ => l_swap d h i1 i2 i3 i4 i5 (by omega) step, fun _ => l_day d h i1 i2 i3 i4 i5 (by omega) step, fun _ => l_span d h i1 i2 i3 i4 i5 (by omega) step, fun _ => l_come d h i1 i2 i3 i4 i5 (by omega) step, fun _ => l_skip d h i1 i2 i3 i4 i5 (by omega) step, fun _ => l_shift d h i1 i2 i3 i4 i5 (by omega) step, fun _ => l_teach d h i1 i2 i3 i4 i5 (by omega) step, fun _ => l_undo d h i1 i2 i3 i4 i5 (by omega) step, fun _ => l_image d h i1 i2 i3 i4 i5 (by omega) step, fun _ => l_restore d h i1 i2 i3 i4 i5 (by omega) step, fun _ => l_status d h i1 i2 i3 i4 i5 (by omega) step, fun _ => l_count d h i1 i2 i3 i4 i5 (by omega) step⟩
