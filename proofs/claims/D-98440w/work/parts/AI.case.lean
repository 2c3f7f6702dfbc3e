set_option maxRecDepth 100000
/-! Part B: the cases of the law -/
set_option maxHeartbeats 4000000 in
theorem l_feed {G : GC} {Q : Option Value → PS → Prop} {X : String → Nat → PS → Prop} {b : Nat} {nm : String} {hh : List (Nat × Nat × Nat × Nat)} {A : Nat → Nat} {CA : Nat → Nat × Nat × Nat} {ad : Nat → Nat} {o out : Nat} {x4 : Int32} {T : TS} {σ : PS} (d : DS A CA ad o out) (h : LW A CA ad o out T σ) (i1 : vp_in (x4 + 1) (gsL G)) (i2 : vp_in (x4 + 2) (gsL G)) (i3 : vp_in (x4 + 3) (gsL G)) (i4 : vp_in (x4 + 4) (gsL G)) (i5 : vp_in (x4 + 5) (gsL G)) (hb : 1000 ≤ b) (k : ∀ b' T' s', b ≤ b' + 1000 → LW A CA ad o out T' s' → At G (mL nm hh) 210 Q X b' 2703 (lsL G (A 0) o out x4) [] s') : At G (mL nm hh) 210 Q X b 240 (lsL G (A 0) o out x4) [] σ := by
  obtain ⟨E, F, L, I, J, f, hC, hW, hM, hf⟩ := h
  have hP := hC.2.2.2.1
  have hN := (hC.2.2.2.2.1 0 (by decide)).1
  have hF := hC.2.2.2.2.2.2.1
  refine bL_law_240 ⟨i1, i2, i3, i4, i5, 1000, hb, ⟨_, hC.1.1⟩, c_feed hC (by decide) (fun h1 τ hC2 hK => ?_) (fun h1 τ hC2 hK => ?_)⟩
  · refine ⟨_, rfl, i1, i2, i3, i4, i5, tail2 d hC2 (hW.kp hK d.1) (hK _ _ _ hf d.2.1) (m_feed hM (fun h1' F2 L2 I2 J2 hM2 h0 => ?_) (fun h1' F2 L2 I2 J2 hM2 h0 => ?_)) (fun s' h' => k _ _ _ (by omega) h')⟩
    · exact ⟨rfl, hM2⟩
    · omega
  · refine ⟨_, rfl, i1, i2, i3, i4, i5, tail2 d hC2 (hW.kp hK d.1) (hK _ _ _ hf d.2.1) (m_feed hM (fun h1' F2 L2 I2 J2 hM2 h0 => ?_) (fun h1' F2 L2 I2 J2 hM2 h0 => ?_)) (fun s' h' => k _ _ _ (by omega) h')⟩
    · omega
    · exact ⟨rfl, hM2⟩
set_option maxHeartbeats 4000000 in
theorem l_office {G : GC} {Q : Option Value → PS → Prop} {X : String → Nat → PS → Prop} {b : Nat} {nm : String} {hh : List (Nat × Nat × Nat × Nat)} {A : Nat → Nat} {CA : Nat → Nat × Nat × Nat} {ad : Nat → Nat} {o out : Nat} {x4 : Int32} {T : TS} {σ : PS} (d : DS A CA ad o out) (h : LW A CA ad o out T σ) (i1 : vp_in (x4 + 1) (gsL G)) (i2 : vp_in (x4 + 2) (gsL G)) (i3 : vp_in (x4 + 3) (gsL G)) (i4 : vp_in (x4 + 4) (gsL G)) (i5 : vp_in (x4 + 5) (gsL G)) (hb : 1000 ≤ b) (k : ∀ b' T' s', b ≤ b' + 1000 → LW A CA ad o out T' s' → At G (mL nm hh) 210 Q X b' 2703 (lsL G (A 0) o out x4) [] s') : At G (mL nm hh) 210 Q X b 313 (lsL G (A 0) o out x4) [] σ := by
  obtain ⟨E, F, L, I, J, f, hC, hW, hM, hf⟩ := h
  have hP := hC.2.2.2.1
  have hN := (hC.2.2.2.2.1 0 (by decide)).1
  have hF := hC.2.2.2.2.2.2.1
  refine bL_law_313 ⟨i1, 1000, hb, z_office ⟨_, hC.1.1⟩ (c_office hC (by decide) (fun n9 h1 h2 S9 a'9 h3 τ E'9 C9 h4 hC2 hK => ?_) (fun n9 h1 h2 w9 u9 h3 τ hC2 hK => ?_) (fun h1 τ q9 hC2 hK => ?_))⟩
  · have h_s : ∀ n, n < tsF T + 1 → gsx G (x4 + 1).toNatClampNeg = nI n → ∀ S a', ofR T n = .inr (S, a') → sameC S.2.2 C9 := fun n q1 q2 S a' q3 => by
      obtain rfl : n = n9 := nI_one h2 q2 (by omega) (by omega)
      cases h3.symm.trans q3
      exact h4
    refine okI d hf hK ⟨i1, tailI d (hC2.outw d) ((hW.kp hK d.1).outw d) up_eq (m_office hM h_s (fun n9' h1' h2' S9' a'9' h3' F2 L2 I2 J2 hM2 h0 => ?_) (fun n9' h1' h2' w9' u9' h3' F2 L2 I2 J2 hM2 h0 => ?_) (fun h1' F2 L2 I2 J2 hM2 h0 => ?_)) (fun s' h' => k _ _ _ (by omega) h')⟩
    · obtain rfl : n9' = n9 := nI_one h2 h2' (by omega) (by omega)
      cases h3.symm.trans h3'
      exact ⟨_, rfl, hM2, h0, fun _ => upL0⟩
    · obtain rfl : n9' = n9 := nI_one h2 h2' (by omega) (by omega)
      cases h3.symm.trans h3'
    · exact absurd ⟨n9, h1, h2⟩ h1'
  · have h_s : ∀ n, n < tsF T + 1 → gsx G (x4 + 1).toNatClampNeg = nI n → ∀ S a', ofR T n = .inr (S, a') → sameC S.2.2 (tsK T 0) := fun n q1 q2 S a' q3 => by
      obtain rfl : n = n9 := nI_one h2 q2 (by omega) (by omega)
      cases h3.symm.trans q3
    refine okI d hf hK ⟨i1, tailI d (hC2.outw d) ((hW.kp hK d.1).outw d) up_eq (m_office hM h_s (fun n9' h1' h2' S9' a'9' h3' F2 L2 I2 J2 hM2 h0 => ?_) (fun n9' h1' h2' w9' u9' h3' F2 L2 I2 J2 hM2 h0 => ?_) (fun h1' F2 L2 I2 J2 hM2 h0 => ?_)) (fun s' h' => k _ _ _ (by omega) h')⟩
    · obtain rfl : n9' = n9 := nI_one h2 h2' (by omega) (by omega)
      cases h3.symm.trans h3'
    · obtain rfl : n9' = n9 := nI_one h2 h2' (by omega) (by omega)
      cases h3.symm.trans h3'
      exact ⟨_, rfl, hM2, h0, fun _ => upL0⟩
    · exact absurd ⟨n9, h1, h2⟩ h1'
  · have h_s : ∀ n, n < tsF T + 1 → gsx G (x4 + 1).toNatClampNeg = nI n → ∀ S a', ofR T n = .inr (S, a') → sameC S.2.2 (tsK T 0) := fun n q1 q2 S a' q3 => absurd ⟨n, q1, q2⟩ h1
    refine ⟨rfl, 1, rfl, i1, tailI d hC2 (hW.kp hK d.1) (hK _ _ _ hf d.2.1) (m_office hM h_s (fun n9' h1' h2' S9' a'9' h3' F2 L2 I2 J2 hM2 h0 => ?_) (fun n9' h1' h2' w9' u9' h3' F2 L2 I2 J2 hM2 h0 => ?_) (fun h1' F2 L2 I2 J2 hM2 h0 => ?_)) (fun s' h' => k _ _ _ (by omega) h')⟩
    · exact absurd ⟨n9', h1', h2'⟩ h1
    · exact absurd ⟨n9', h1', h2'⟩ h1
    · exact ⟨_, rfl, hM2, h0, fun q9 => absurd q9 (by decide)⟩
set_option maxHeartbeats 4000000 in
theorem l_habit {G : GC} {Q : Option Value → PS → Prop} {X : String → Nat → PS → Prop} {b : Nat} {nm : String} {hh : List (Nat × Nat × Nat × Nat)} {A : Nat → Nat} {CA : Nat → Nat × Nat × Nat} {ad : Nat → Nat} {o out : Nat} {x4 : Int32} {T : TS} {σ : PS} (d : DS A CA ad o out) (h : LW A CA ad o out T σ) (i1 : vp_in (x4 + 1) (gsL G)) (i2 : vp_in (x4 + 2) (gsL G)) (i3 : vp_in (x4 + 3) (gsL G)) (i4 : vp_in (x4 + 4) (gsL G)) (i5 : vp_in (x4 + 5) (gsL G)) (hb : 1000 ≤ b) (k : ∀ b' T' s', b ≤ b' + 1000 → LW A CA ad o out T' s' → At G (mL nm hh) 210 Q X b' 2703 (lsL G (A 0) o out x4) [] s') : At G (mL nm hh) 210 Q X b 369 (lsL G (A 0) o out x4) [] σ := by
  obtain ⟨E, F, L, I, J, f, hC, hW, hM, hf⟩ := h
  have hP := hC.2.2.2.1
  have hN := (hC.2.2.2.2.1 0 (by decide)).1
  have hF := hC.2.2.2.2.2.2.1
  refine bL_law_369 ⟨i1, i2, 1000, hb, z_habit ⟨_, hC.1.1⟩ (c_habit hC (by decide) (fun p9 n9 h1 h2 h3 h4 L9 a'9 h5 τ hC2 hK => ?_) (fun p9 n9 h1 h2 h3 h4 w9 u9 h5 τ hC2 hK => ?_) (fun h1 τ q9 hC2 hK => ?_) (fun h1 h2 τ q9 hC2 hK => ?_))⟩
  · refine okI d hf hK ⟨i1, i2, tailI d (hC2.outw d) ((hW.kp hK d.1).outw d) up_eq (m_habit hM (fun p9' n9' h1' h2' h3' h4' L'9' a'9' h5' F2 L2 I2 J2 hM2 h0 => ?_) (fun p9' n9' h1' h2' h3' h4' w9' u9' h5' F2 L2 I2 J2 hM2 h0 => ?_) (fun h1' F2 L2 I2 J2 hM2 h0 => ?_) (fun h1' h2' F2 L2 I2 J2 hM2 h0 => ?_)) (fun s' h' => k _ _ _ (by omega) h')⟩
    · obtain rfl : p9' = p9 := nI_one h2 h2' (by omega) (by omega)
      obtain rfl : n9' = n9 := nI_one h4 h4' (by omega) (by omega)
      cases h5.symm.trans h5'
      exact ⟨_, rfl, hM2, h0, fun _ => upL0⟩
    · obtain rfl : p9' = p9 := nI_one h2 h2' (by omega) (by omega)
      obtain rfl : n9' = n9 := nI_one h4 h4' (by omega) (by omega)
      cases h5.symm.trans h5'
    · exact absurd ⟨p9, h1, h2⟩ h1'
    · exact absurd ⟨n9, h3, h4⟩ h2'
  · refine okI d hf hK ⟨i1, i2, tailI d (hC2.outw d) ((hW.kp hK d.1).outw d) up_eq (m_habit hM (fun p9' n9' h1' h2' h3' h4' L'9' a'9' h5' F2 L2 I2 J2 hM2 h0 => ?_) (fun p9' n9' h1' h2' h3' h4' w9' u9' h5' F2 L2 I2 J2 hM2 h0 => ?_) (fun h1' F2 L2 I2 J2 hM2 h0 => ?_) (fun h1' h2' F2 L2 I2 J2 hM2 h0 => ?_)) (fun s' h' => k _ _ _ (by omega) h')⟩
    · obtain rfl : p9' = p9 := nI_one h2 h2' (by omega) (by omega)
      obtain rfl : n9' = n9 := nI_one h4 h4' (by omega) (by omega)
      cases h5.symm.trans h5'
    · obtain rfl : p9' = p9 := nI_one h2 h2' (by omega) (by omega)
      obtain rfl : n9' = n9 := nI_one h4 h4' (by omega) (by omega)
      cases h5.symm.trans h5'
      exact ⟨_, rfl, hM2, h0, fun _ => upL0⟩
    · exact absurd ⟨p9, h1, h2⟩ h1'
    · exact absurd ⟨n9, h3, h4⟩ h2'
  · refine Or.inl ⟨rfl, 1, rfl, i1, i2, tailI d hC2 (hW.kp hK d.1) (hK _ _ _ hf d.2.1) (m_habit hM (fun p9' n9' h1' h2' h3' h4' L'9' a'9' h5' F2 L2 I2 J2 hM2 h0 => ?_) (fun p9' n9' h1' h2' h3' h4' w9' u9' h5' F2 L2 I2 J2 hM2 h0 => ?_) (fun h1' F2 L2 I2 J2 hM2 h0 => ?_) (fun h1' h2' F2 L2 I2 J2 hM2 h0 => ?_)) (fun s' h' => k _ _ _ (by omega) h')⟩
    · exact absurd ⟨p9', h1', h2'⟩ h1
    · exact absurd ⟨p9', h1', h2'⟩ h1
    · exact ⟨_, rfl, hM2, h0, fun q9 => absurd q9 (by decide)⟩
    · exact absurd h1' h1
  · refine Or.inr ⟨rfl, 2, rfl, i1, i2, tailI d hC2 (hW.kp hK d.1) (hK _ _ _ hf d.2.1) (m_habit hM (fun p9' n9' h1' h2' h3' h4' L'9' a'9' h5' F2 L2 I2 J2 hM2 h0 => ?_) (fun p9' n9' h1' h2' h3' h4' w9' u9' h5' F2 L2 I2 J2 hM2 h0 => ?_) (fun h1' F2 L2 I2 J2 hM2 h0 => ?_) (fun h1' h2' F2 L2 I2 J2 hM2 h0 => ?_)) (fun s' h' => k _ _ _ (by omega) h')⟩
    · exact absurd ⟨n9', h3', h4'⟩ h2
    · exact absurd ⟨n9', h3', h4'⟩ h2
    · exact absurd h1 h1'
    · exact ⟨_, rfl, hM2, h0, fun q9 => absurd q9 (by decide)⟩
set_option maxHeartbeats 4000000 in
theorem l_rule {G : GC} {Q : Option Value → PS → Prop} {X : String → Nat → PS → Prop} {b : Nat} {nm : String} {hh : List (Nat × Nat × Nat × Nat)} {A : Nat → Nat} {CA : Nat → Nat × Nat × Nat} {ad : Nat → Nat} {o out : Nat} {x4 : Int32} {T : TS} {σ : PS} (d : DS A CA ad o out) (h : LW A CA ad o out T σ) (i1 : vp_in (x4 + 1) (gsL G)) (i2 : vp_in (x4 + 2) (gsL G)) (i3 : vp_in (x4 + 3) (gsL G)) (i4 : vp_in (x4 + 4) (gsL G)) (i5 : vp_in (x4 + 5) (gsL G)) (hb : 1000 ≤ b) (k : ∀ b' T' s', b ≤ b' + 1000 → LW A CA ad o out T' s' → At G (mL nm hh) 210 Q X b' 2703 (lsL G (A 0) o out x4) [] s') : At G (mL nm hh) 210 Q X b 437 (lsL G (A 0) o out x4) [] σ := by
  obtain ⟨E, F, L, I, J, f, hC, hW, hM, hf⟩ := h
  have hP := hC.2.2.2.1
  have hN := (hC.2.2.2.2.1 0 (by decide)).1
  have hF := hC.2.2.2.2.2.2.1
  refine bL_law_437 ⟨i1, 1000, hb, z_rule ⟨_, hC.1.1⟩ (c_rule hC (by decide) (fun n9 h1 h2 L9 a'9 h3 τ E'9 hC2 hK => ?_) (fun n9 h1 h2 w9 u9 h3 τ hC2 hK => ?_) (fun h1 τ q9 hC2 hK => ?_))⟩
  · refine okI d hf hK ⟨i1, tailI d (hC2.outw d) ((hW.kp hK d.1).outw d) up_eq (m_rule hM (fun n9' h1' h2' L'9' a'9' h3' F2 L2 I2 J2 hM2 h0 => ?_) (fun n9' h1' h2' w9' u9' h3' F2 L2 I2 J2 hM2 h0 => ?_) (fun h1' F2 L2 I2 J2 hM2 h0 => ?_)) (fun s' h' => k _ _ _ (by omega) h')⟩
    · obtain rfl : n9' = n9 := nI_one h2 h2' (by omega) (by omega)
      cases h3.symm.trans h3'
      exact ⟨_, rfl, hM2, h0, fun _ => upL0⟩
    · obtain rfl : n9' = n9 := nI_one h2 h2' (by omega) (by omega)
      cases h3.symm.trans h3'
    · exact absurd ⟨n9, h1, h2⟩ h1'
  · refine okI d hf hK ⟨i1, tailI d (hC2.outw d) ((hW.kp hK d.1).outw d) up_eq (m_rule hM (fun n9' h1' h2' L'9' a'9' h3' F2 L2 I2 J2 hM2 h0 => ?_) (fun n9' h1' h2' w9' u9' h3' F2 L2 I2 J2 hM2 h0 => ?_) (fun h1' F2 L2 I2 J2 hM2 h0 => ?_)) (fun s' h' => k _ _ _ (by omega) h')⟩
    · obtain rfl : n9' = n9 := nI_one h2 h2' (by omega) (by omega)
      cases h3.symm.trans h3'
    · obtain rfl : n9' = n9 := nI_one h2 h2' (by omega) (by omega)
      cases h3.symm.trans h3'
      exact ⟨_, rfl, hM2, h0, fun _ => upL0⟩
    · exact absurd ⟨n9, h1, h2⟩ h1'
  · refine ⟨rfl, 1, rfl, i1, tailI d hC2 (hW.kp hK d.1) (hK _ _ _ hf d.2.1) (m_rule hM (fun n9' h1' h2' L'9' a'9' h3' F2 L2 I2 J2 hM2 h0 => ?_) (fun n9' h1' h2' w9' u9' h3' F2 L2 I2 J2 hM2 h0 => ?_) (fun h1' F2 L2 I2 J2 hM2 h0 => ?_)) (fun s' h' => k _ _ _ (by omega) h')⟩
    · exact absurd ⟨n9', h1', h2'⟩ h1
    · exact absurd ⟨n9', h1', h2'⟩ h1
    · exact ⟨_, rfl, hM2, h0, fun q9 => absurd q9 (by decide)⟩
set_option maxHeartbeats 4000000 in
theorem l_book {G : GC} {Q : Option Value → PS → Prop} {X : String → Nat → PS → Prop} {b : Nat} {nm : String} {hh : List (Nat × Nat × Nat × Nat)} {A : Nat → Nat} {CA : Nat → Nat × Nat × Nat} {ad : Nat → Nat} {o out : Nat} {x4 : Int32} {T : TS} {σ : PS} (d : DS A CA ad o out) (h : LW A CA ad o out T σ) (i1 : vp_in (x4 + 1) (gsL G)) (i2 : vp_in (x4 + 2) (gsL G)) (i3 : vp_in (x4 + 3) (gsL G)) (i4 : vp_in (x4 + 4) (gsL G)) (i5 : vp_in (x4 + 5) (gsL G)) (hb : 1000 ≤ b) (k : ∀ b' T' s', b ≤ b' + 1000 → LW A CA ad o out T' s' → At G (mL nm hh) 210 Q X b' 2703 (lsL G (A 0) o out x4) [] s') : At G (mL nm hh) 210 Q X b 493 (lsL G (A 0) o out x4) [] σ := by
  obtain ⟨E, F, L, I, J, f, hC, hW, hM, hf⟩ := h
  have hP := hC.2.2.2.1
  have hN := (hC.2.2.2.2.1 0 (by decide)).1
  have hF := hC.2.2.2.2.2.2.1
  refine bL_law_493 ⟨i1, 1000, hb, z_book ⟨_, hC.1.1⟩ (c_book hC (by decide) (fun n9 h1 h2 B9 a'9 h3 τ E'9 hC2 hK => ?_) (fun n9 h1 h2 w9 u9 h3 τ hC2 hK => ?_) (fun h1 τ q9 hC2 hK => ?_))⟩
  · refine okI d hf hK ⟨i1, tailI d (hC2.outw d) ((hW.kp hK d.1).outw d) up_eq (m_book hM (fun n9' h1' h2' B9' a'9' h3' F2 L2 I2 J2 hM2 h0 => ?_) (fun n9' h1' h2' w9' u9' h3' F2 L2 I2 J2 hM2 h0 => ?_) (fun h1' F2 L2 I2 J2 hM2 h0 => ?_)) (fun s' h' => k _ _ _ (by omega) h')⟩
    · obtain rfl : n9' = n9 := nI_one h2 h2' (by omega) (by omega)
      cases h3.symm.trans h3'
      exact ⟨_, rfl, hM2, h0, fun _ => upL0⟩
    · obtain rfl : n9' = n9 := nI_one h2 h2' (by omega) (by omega)
      cases h3.symm.trans h3'
    · exact absurd ⟨n9, h1, h2⟩ h1'
  · refine okI d hf hK ⟨i1, tailI d (hC2.outw d) ((hW.kp hK d.1).outw d) up_eq (m_book hM (fun n9' h1' h2' B9' a'9' h3' F2 L2 I2 J2 hM2 h0 => ?_) (fun n9' h1' h2' w9' u9' h3' F2 L2 I2 J2 hM2 h0 => ?_) (fun h1' F2 L2 I2 J2 hM2 h0 => ?_)) (fun s' h' => k _ _ _ (by omega) h')⟩
    · obtain rfl : n9' = n9 := nI_one h2 h2' (by omega) (by omega)
      cases h3.symm.trans h3'
    · obtain rfl : n9' = n9 := nI_one h2 h2' (by omega) (by omega)
      cases h3.symm.trans h3'
      exact ⟨_, rfl, hM2, h0, fun _ => upL0⟩
    · exact absurd ⟨n9, h1, h2⟩ h1'
  · refine ⟨rfl, 1, rfl, i1, tailI d hC2 (hW.kp hK d.1) (hK _ _ _ hf d.2.1) (m_book hM (fun n9' h1' h2' B9' a'9' h3' F2 L2 I2 J2 hM2 h0 => ?_) (fun n9' h1' h2' w9' u9' h3' F2 L2 I2 J2 hM2 h0 => ?_) (fun h1' F2 L2 I2 J2 hM2 h0 => ?_)) (fun s' h' => k _ _ _ (by omega) h')⟩
    · exact absurd ⟨n9', h1', h2'⟩ h1
    · exact absurd ⟨n9', h1', h2'⟩ h1
    · exact ⟨_, rfl, hM2, h0, fun q9 => absurd q9 (by decide)⟩
set_option maxHeartbeats 4000000 in
theorem l_fault {G : GC} {Q : Option Value → PS → Prop} {X : String → Nat → PS → Prop} {b : Nat} {nm : String} {hh : List (Nat × Nat × Nat × Nat)} {A : Nat → Nat} {CA : Nat → Nat × Nat × Nat} {ad : Nat → Nat} {o out : Nat} {x4 : Int32} {T : TS} {σ : PS} (d : DS A CA ad o out) (h : LW A CA ad o out T σ) (i1 : vp_in (x4 + 1) (gsL G)) (i2 : vp_in (x4 + 2) (gsL G)) (i3 : vp_in (x4 + 3) (gsL G)) (i4 : vp_in (x4 + 4) (gsL G)) (i5 : vp_in (x4 + 5) (gsL G)) (hb : 1000 ≤ b) (k : ∀ b' T' s', b ≤ b' + 1000 → LW A CA ad o out T' s' → At G (mL nm hh) 210 Q X b' 2703 (lsL G (A 0) o out x4) [] s') : At G (mL nm hh) 210 Q X b 549 (lsL G (A 0) o out x4) [] σ := by
  obtain ⟨E, F, L, I, J, f, hC, hW, hM, hf⟩ := h
  have hP := hC.2.2.2.1
  have hN := (hC.2.2.2.2.1 0 (by decide)).1
  have hF := hC.2.2.2.2.2.2.1
  refine bL_law_549 ⟨⟨_, hC.1.1⟩, c_fault0 hC ?_⟩
  exact ⟨_, rfl, tail2 d hC hW hf (m_fault hM (fun F2 L2 I2 J2 hM2 h0 => ⟨rfl, hM2⟩)) (fun s' h' => k _ _ _ (by omega) h')⟩
set_option maxHeartbeats 4000000 in
theorem l_told {G : GC} {Q : Option Value → PS → Prop} {X : String → Nat → PS → Prop} {b : Nat} {nm : String} {hh : List (Nat × Nat × Nat × Nat)} {A : Nat → Nat} {CA : Nat → Nat × Nat × Nat} {ad : Nat → Nat} {o out : Nat} {x4 : Int32} {T : TS} {σ : PS} (d : DS A CA ad o out) (h : LW A CA ad o out T σ) (i1 : vp_in (x4 + 1) (gsL G)) (i2 : vp_in (x4 + 2) (gsL G)) (i3 : vp_in (x4 + 3) (gsL G)) (i4 : vp_in (x4 + 4) (gsL G)) (i5 : vp_in (x4 + 5) (gsL G)) (hb : 1000 ≤ b) (k : ∀ b' T' s', b ≤ b' + 1000 → LW A CA ad o out T' s' → At G (mL nm hh) 210 Q X b' 2703 (lsL G (A 0) o out x4) [] s') : At G (mL nm hh) 210 Q X b 562 (lsL G (A 0) o out x4) [] σ := by
  obtain ⟨E, F, L, I, J, f, hC, hW, hM, hf⟩ := h
  have hP := hC.2.2.2.1
  have hN := (hC.2.2.2.2.1 0 (by decide)).1
  have hF := hC.2.2.2.2.2.2.1
  refine bL_law_562 ⟨i1, 1000, hb, z_told ⟨_, hC.1.1⟩ (c_told hC (by decide) (fun w9 h1 h2 τ hC2 hK => ?_) (fun h1 τ q9 hC2 hK => ?_))⟩
  · refine okI d hf hK ⟨i1, tailI d (hC2.outw d) ((hW.kp hK d.1).outw d) up_eq (m_told hM (fun w9' h1' h2' F2 L2 I2 J2 hM2 h0 => ?_) (fun h1' F2 L2 I2 J2 hM2 h0 => ?_)) (fun s' h' => k _ _ _ (by omega) h')⟩
    · obtain rfl : w9' = w9 := nI_one h2 h2' (by omega) (by omega)
      exact ⟨_, rfl, hM2, h0, fun _ => upL0⟩
    · exact absurd ⟨w9, h1, h2⟩ h1'
  · refine ⟨rfl, 1, rfl, i1, tailI d hC2 (hW.kp hK d.1) (hK _ _ _ hf d.2.1) (m_told hM (fun w9' h1' h2' F2 L2 I2 J2 hM2 h0 => ?_) (fun h1' F2 L2 I2 J2 hM2 h0 => ?_)) (fun s' h' => k _ _ _ (by omega) h')⟩
    · exact absurd ⟨w9', h1', h2'⟩ h1
    · exact ⟨_, rfl, hM2, h0, fun q9 => absurd q9 (by decide)⟩
set_option maxHeartbeats 4000000 in
theorem l_visit {G : GC} {Q : Option Value → PS → Prop} {X : String → Nat → PS → Prop} {b : Nat} {nm : String} {hh : List (Nat × Nat × Nat × Nat)} {A : Nat → Nat} {CA : Nat → Nat × Nat × Nat} {ad : Nat → Nat} {o out : Nat} {x4 : Int32} {T : TS} {σ : PS} (d : DS A CA ad o out) (h : LW A CA ad o out T σ) (i1 : vp_in (x4 + 1) (gsL G)) (i2 : vp_in (x4 + 2) (gsL G)) (i3 : vp_in (x4 + 3) (gsL G)) (i4 : vp_in (x4 + 4) (gsL G)) (i5 : vp_in (x4 + 5) (gsL G)) (hb : 1000 ≤ b) (k : ∀ b' T' s', b ≤ b' + 1000 → LW A CA ad o out T' s' → At G (mL nm hh) 210 Q X b' 2703 (lsL G (A 0) o out x4) [] s') : At G (mL nm hh) 210 Q X b 618 (lsL G (A 0) o out x4) [] σ := by
  obtain ⟨E, F, L, I, J, f, hC, hW, hM, hf⟩ := h
  have hP := hC.2.2.2.1
  have hN := (hC.2.2.2.2.1 0 (by decide)).1
  have hF := hC.2.2.2.2.2.2.1
  refine bL_law_618 ⟨i1, i2, 1000, hb, z_visit ⟨_, hC.1.1⟩ (c_visit hC (by decide) (fun v9 w9 h1 h2 h3 h4 τ hC2 hK => ?_) (fun h1 τ q9 hC2 hK => ?_) (fun h1 h2 τ q9 hC2 hK => ?_))⟩
  · refine okI d hf hK ⟨i1, i2, tailI d (hC2.outw d) ((hW.kp hK d.1).outw d) up_eq (m_visit hM (fun v9' w9' h1' h2' h3' h4' F2 L2 I2 J2 hM2 h0 => ?_) (fun h1' F2 L2 I2 J2 hM2 h0 => ?_) (fun h1' h2' F2 L2 I2 J2 hM2 h0 => ?_)) (fun s' h' => k _ _ _ (by omega) h')⟩
    · obtain rfl : v9' = v9 := nI_one h2 h2' (by omega) (by omega)
      obtain rfl : w9' = w9 := nI_one h4 h4' (by omega) (by omega)
      exact ⟨_, rfl, hM2, h0, fun _ => upL0⟩
    · exact absurd ⟨v9, h1, h2⟩ h1'
    · exact absurd ⟨w9, h3, h4⟩ h2'
  · refine Or.inl ⟨rfl, 1, rfl, i1, i2, tailI d hC2 (hW.kp hK d.1) (hK _ _ _ hf d.2.1) (m_visit hM (fun v9' w9' h1' h2' h3' h4' F2 L2 I2 J2 hM2 h0 => ?_) (fun h1' F2 L2 I2 J2 hM2 h0 => ?_) (fun h1' h2' F2 L2 I2 J2 hM2 h0 => ?_)) (fun s' h' => k _ _ _ (by omega) h')⟩
    · exact absurd ⟨v9', h1', h2'⟩ h1
    · exact ⟨_, rfl, hM2, h0, fun q9 => absurd q9 (by decide)⟩
    · exact absurd h1' h1
  · refine Or.inr ⟨rfl, 2, rfl, i1, i2, tailI d hC2 (hW.kp hK d.1) (hK _ _ _ hf d.2.1) (m_visit hM (fun v9' w9' h1' h2' h3' h4' F2 L2 I2 J2 hM2 h0 => ?_) (fun h1' F2 L2 I2 J2 hM2 h0 => ?_) (fun h1' h2' F2 L2 I2 J2 hM2 h0 => ?_)) (fun s' h' => k _ _ _ (by omega) h')⟩
    · exact absurd ⟨w9', h3', h4'⟩ h2
    · exact absurd h1 h1'
    · exact ⟨_, rfl, hM2, h0, fun q9 => absurd q9 (by decide)⟩
set_option maxHeartbeats 4000000 in
theorem l_person {G : GC} {Q : Option Value → PS → Prop} {X : String → Nat → PS → Prop} {b : Nat} {nm : String} {hh : List (Nat × Nat × Nat × Nat)} {A : Nat → Nat} {CA : Nat → Nat × Nat × Nat} {ad : Nat → Nat} {o out : Nat} {x4 : Int32} {T : TS} {σ : PS} (d : DS A CA ad o out) (h : LW A CA ad o out T σ) (i1 : vp_in (x4 + 1) (gsL G)) (i2 : vp_in (x4 + 2) (gsL G)) (i3 : vp_in (x4 + 3) (gsL G)) (i4 : vp_in (x4 + 4) (gsL G)) (i5 : vp_in (x4 + 5) (gsL G)) (hb : 1000 ≤ b) (k : ∀ b' T' s', b ≤ b' + 1000 → LW A CA ad o out T' s' → At G (mL nm hh) 210 Q X b' 2703 (lsL G (A 0) o out x4) [] s') : At G (mL nm hh) 210 Q X b 686 (lsL G (A 0) o out x4) [] σ := by
  obtain ⟨E, F, L, I, J, f, hC, hW, hM, hf⟩ := h
  have hP := hC.2.2.2.1
  have hN := (hC.2.2.2.2.1 0 (by decide)).1
  have hF := hC.2.2.2.2.2.2.1
  refine bL_law_686 ⟨i1, i2, 1000, hb, z_person ⟨_, hC.1.1⟩ (c_person hC (by decide) (fun v9 w9 h1 h2 h3 h4 τ hC2 hK => ?_) (fun h1 τ q9 hC2 hK => ?_) (fun h1 h2 τ q9 hC2 hK => ?_))⟩
  · refine okI d hf hK ⟨i1, i2, tailI d (hC2.outw d) ((hW.kp hK d.1).outw d) up_eq (m_person hM (fun v9' w9' h1' h2' h3' h4' F2 L2 I2 J2 hM2 h0 => ?_) (fun h1' F2 L2 I2 J2 hM2 h0 => ?_) (fun h1' h2' F2 L2 I2 J2 hM2 h0 => ?_)) (fun s' h' => k _ _ _ (by omega) h')⟩
    · obtain rfl : v9' = v9 := nI_one h2 h2' (by omega) (by omega)
      obtain rfl : w9' = w9 := nI_one h4 h4' (by omega) (by omega)
      exact ⟨_, rfl, hM2, h0, fun _ => upL0⟩
    · exact absurd ⟨v9, h1, h2⟩ h1'
    · exact absurd ⟨w9, h3, h4⟩ h2'
  · refine Or.inl ⟨rfl, 1, rfl, i1, i2, tailI d hC2 (hW.kp hK d.1) (hK _ _ _ hf d.2.1) (m_person hM (fun v9' w9' h1' h2' h3' h4' F2 L2 I2 J2 hM2 h0 => ?_) (fun h1' F2 L2 I2 J2 hM2 h0 => ?_) (fun h1' h2' F2 L2 I2 J2 hM2 h0 => ?_)) (fun s' h' => k _ _ _ (by omega) h')⟩
    · exact absurd ⟨v9', h1', h2'⟩ h1
    · exact ⟨_, rfl, hM2, h0, fun q9 => absurd q9 (by decide)⟩
    · exact absurd h1' h1
  · refine Or.inr ⟨rfl, 2, rfl, i1, i2, tailI d hC2 (hW.kp hK d.1) (hK _ _ _ hf d.2.1) (m_person hM (fun v9' w9' h1' h2' h3' h4' F2 L2 I2 J2 hM2 h0 => ?_) (fun h1' F2 L2 I2 J2 hM2 h0 => ?_) (fun h1' h2' F2 L2 I2 J2 hM2 h0 => ?_)) (fun s' h' => k _ _ _ (by omega) h')⟩
    · exact absurd ⟨w9', h3', h4'⟩ h2
    · exact absurd h1 h1'
    · exact ⟨_, rfl, hM2, h0, fun q9 => absurd q9 (by decide)⟩
set_option maxHeartbeats 4000000 in
theorem l_price {G : GC} {Q : Option Value → PS → Prop} {X : String → Nat → PS → Prop} {b : Nat} {nm : String} {hh : List (Nat × Nat × Nat × Nat)} {A : Nat → Nat} {CA : Nat → Nat × Nat × Nat} {ad : Nat → Nat} {o out : Nat} {x4 : Int32} {T : TS} {σ : PS} (d : DS A CA ad o out) (h : LW A CA ad o out T σ) (i1 : vp_in (x4 + 1) (gsL G)) (i2 : vp_in (x4 + 2) (gsL G)) (i3 : vp_in (x4 + 3) (gsL G)) (i4 : vp_in (x4 + 4) (gsL G)) (i5 : vp_in (x4 + 5) (gsL G)) (hb : 1000 ≤ b) (k : ∀ b' T' s', b ≤ b' + 1000 → LW A CA ad o out T' s' → At G (mL nm hh) 210 Q X b' 2703 (lsL G (A 0) o out x4) [] s') : At G (mL nm hh) 210 Q X b 754 (lsL G (A 0) o out x4) [] σ := by
  obtain ⟨E, F, L, I, J, f, hC, hW, hM, hf⟩ := h
  have hP := hC.2.2.2.1
  have hN := (hC.2.2.2.2.1 0 (by decide)).1
  have hF := hC.2.2.2.2.2.2.1
  refine bL_law_754 ⟨i1, 1000, hb, z_price ⟨_, hC.1.1⟩ (c_price hC (by decide) (fun w9 h1 h2 τ hC2 hK => ?_) (fun h1 τ q9 hC2 hK => ?_))⟩
  · refine okI d hf hK ⟨i1, tailI d (hC2.outw d) ((hW.kp hK d.1).outw d) up_eq (m_price hM (fun w9' h1' h2' F2 L2 I2 J2 hM2 h0 => ?_) (fun h1' F2 L2 I2 J2 hM2 h0 => ?_)) (fun s' h' => k _ _ _ (by omega) h')⟩
    · obtain rfl : w9' = w9 := nI_one h2 h2' (by omega) (by omega)
      exact ⟨_, rfl, hM2, h0, fun _ => upL0⟩
    · exact absurd ⟨w9, h1, h2⟩ h1'
  · refine ⟨rfl, 1, rfl, i1, tailI d hC2 (hW.kp hK d.1) (hK _ _ _ hf d.2.1) (m_price hM (fun w9' h1' h2' F2 L2 I2 J2 hM2 h0 => ?_) (fun h1' F2 L2 I2 J2 hM2 h0 => ?_)) (fun s' h' => k _ _ _ (by omega) h')⟩
    · exact absurd ⟨w9', h1', h2'⟩ h1
    · exact ⟨_, rfl, hM2, h0, fun q9 => absurd q9 (by decide)⟩
set_option maxHeartbeats 4000000 in
theorem l_states {G : GC} {Q : Option Value → PS → Prop} {X : String → Nat → PS → Prop} {b : Nat} {nm : String} {hh : List (Nat × Nat × Nat × Nat)} {A : Nat → Nat} {CA : Nat → Nat × Nat × Nat} {ad : Nat → Nat} {o out : Nat} {x4 : Int32} {T : TS} {σ : PS} (d : DS A CA ad o out) (h : LW A CA ad o out T σ) (i1 : vp_in (x4 + 1) (gsL G)) (i2 : vp_in (x4 + 2) (gsL G)) (i3 : vp_in (x4 + 3) (gsL G)) (i4 : vp_in (x4 + 4) (gsL G)) (i5 : vp_in (x4 + 5) (gsL G)) (hb : 1000 ≤ b) (k : ∀ b' T' s', b ≤ b' + 1000 → LW A CA ad o out T' s' → At G (mL nm hh) 210 Q X b' 2703 (lsL G (A 0) o out x4) [] s') : At G (mL nm hh) 210 Q X b 810 (lsL G (A 0) o out x4) [] σ := by
  obtain ⟨E, F, L, I, J, f, hC, hW, hM, hf⟩ := h
  have hP := hC.2.2.2.1
  have hN := (hC.2.2.2.2.1 0 (by decide)).1
  have hF := hC.2.2.2.2.2.2.1
  refine bL_law_810 ⟨i1, 1000, hb, z_states ⟨_, hC.1.1⟩ (c_states hC (by decide) (fun v9 h1 h2 τ hC2 hK => ?_) (fun h1 τ q9 hC2 hK => ?_))⟩
  · refine okI d hf hK ⟨i1, tailI d (hC2.outw d) ((hW.kp hK d.1).outw d) up_eq (m_states hM (fun v9' h1' h2' F2 L2 I2 J2 hM2 h0 => ?_) (fun h1' F2 L2 I2 J2 hM2 h0 => ?_)) (fun s' h' => k _ _ _ (by omega) h')⟩
    · obtain rfl : v9' = v9 := nI_one h2 h2' (by omega) (by omega)
      exact ⟨_, rfl, hM2, h0, fun _ => upL0⟩
    · exact absurd ⟨v9, h1, h2⟩ h1'
  · refine ⟨rfl, 1, rfl, i1, tailI d hC2 (hW.kp hK d.1) (hK _ _ _ hf d.2.1) (m_states hM (fun v9' h1' h2' F2 L2 I2 J2 hM2 h0 => ?_) (fun h1' F2 L2 I2 J2 hM2 h0 => ?_)) (fun s' h' => k _ _ _ (by omega) h')⟩
    · exact absurd ⟨v9', h1', h2'⟩ h1
    · exact ⟨_, rfl, hM2, h0, fun q9 => absurd q9 (by decide)⟩
set_option maxHeartbeats 4000000 in
theorem l_likely {G : GC} {Q : Option Value → PS → Prop} {X : String → Nat → PS → Prop} {b : Nat} {nm : String} {hh : List (Nat × Nat × Nat × Nat)} {A : Nat → Nat} {CA : Nat → Nat × Nat × Nat} {ad : Nat → Nat} {o out : Nat} {x4 : Int32} {T : TS} {σ : PS} (d : DS A CA ad o out) (h : LW A CA ad o out T σ) (i1 : vp_in (x4 + 1) (gsL G)) (i2 : vp_in (x4 + 2) (gsL G)) (i3 : vp_in (x4 + 3) (gsL G)) (i4 : vp_in (x4 + 4) (gsL G)) (i5 : vp_in (x4 + 5) (gsL G)) (hb : 1000 ≤ b) (k : ∀ b' T' s', b ≤ b' + 1000 → LW A CA ad o out T' s' → At G (mL nm hh) 210 Q X b' 2703 (lsL G (A 0) o out x4) [] s') : At G (mL nm hh) 210 Q X b 866 (lsL G (A 0) o out x4) [] σ := by
  obtain ⟨E, F, L, I, J, f, hC, hW, hM, hf⟩ := h
  have hP := hC.2.2.2.1
  have hN := (hC.2.2.2.2.1 0 (by decide)).1
  have hF := hC.2.2.2.2.2.2.1
  refine bL_law_866 ⟨i1, i2, 1000, hb, z_likely ⟨_, hC.1.1⟩ (c_likely hC (by decide) (fun v9 w9 h1 h2 h3 h4 τ hC2 hK => ?_) (fun h1 τ q9 hC2 hK => ?_) (fun h1 h2 τ q9 hC2 hK => ?_))⟩
  · refine okJ d hf hK ⟨i1, i2, tailJ d (hC2.outw d) ((hW.kp hK d.1).outw d) up_eq (m_likely hM (fun v9' w9' h1' h2' h3' h4' F2 L2 I2 J2 hM2 h0 => ?_) (fun h1' F2 L2 I2 J2 hM2 h0 => ?_) (fun h1' h2' F2 L2 I2 J2 hM2 h0 => ?_)) (fun s' h' => k _ _ _ (by omega) h')⟩
    · obtain rfl : v9' = v9 := nI_one h2 h2' (by omega) (by omega)
      obtain rfl : w9' = w9 := nI_one h4 h4' (by omega) (by omega)
      exact ⟨_, rfl, hM2, h0, fun _ => upL0⟩
    · exact absurd ⟨v9, h1, h2⟩ h1'
    · exact absurd ⟨w9, h3, h4⟩ h2'
  · refine Or.inl ⟨rfl, 1, rfl, i1, i2, tailJ d hC2 (hW.kp hK d.1) (hK _ _ _ hf d.2.1) (m_likely hM (fun v9' w9' h1' h2' h3' h4' F2 L2 I2 J2 hM2 h0 => ?_) (fun h1' F2 L2 I2 J2 hM2 h0 => ?_) (fun h1' h2' F2 L2 I2 J2 hM2 h0 => ?_)) (fun s' h' => k _ _ _ (by omega) h')⟩
    · exact absurd ⟨v9', h1', h2'⟩ h1
    · exact ⟨_, rfl, hM2, h0, fun q9 => absurd q9 (by decide)⟩
    · exact absurd h1' h1
  · refine Or.inr ⟨rfl, 2, rfl, i1, i2, tailJ d hC2 (hW.kp hK d.1) (hK _ _ _ hf d.2.1) (m_likely hM (fun v9' w9' h1' h2' h3' h4' F2 L2 I2 J2 hM2 h0 => ?_) (fun h1' F2 L2 I2 J2 hM2 h0 => ?_) (fun h1' h2' F2 L2 I2 J2 hM2 h0 => ?_)) (fun s' h' => k _ _ _ (by omega) h')⟩
    · exact absurd ⟨w9', h3', h4'⟩ h2
    · exact absurd h1 h1'
    · exact ⟨_, rfl, hM2, h0, fun q9 => absurd q9 (by decide)⟩
set_option maxHeartbeats 4000000 in
theorem l_state {G : GC} {Q : Option Value → PS → Prop} {X : String → Nat → PS → Prop} {b : Nat} {nm : String} {hh : List (Nat × Nat × Nat × Nat)} {A : Nat → Nat} {CA : Nat → Nat × Nat × Nat} {ad : Nat → Nat} {o out : Nat} {x4 : Int32} {T : TS} {σ : PS} (d : DS A CA ad o out) (h : LW A CA ad o out T σ) (i1 : vp_in (x4 + 1) (gsL G)) (i2 : vp_in (x4 + 2) (gsL G)) (i3 : vp_in (x4 + 3) (gsL G)) (i4 : vp_in (x4 + 4) (gsL G)) (i5 : vp_in (x4 + 5) (gsL G)) (hb : 1000 ≤ b) (k : ∀ b' T' s', b ≤ b' + 1000 → LW A CA ad o out T' s' → At G (mL nm hh) 210 Q X b' 2703 (lsL G (A 0) o out x4) [] s') : At G (mL nm hh) 210 Q X b 933 (lsL G (A 0) o out x4) [] σ := by
  obtain ⟨E, F, L, I, J, f, hC, hW, hM, hf⟩ := h
  have hP := hC.2.2.2.1
  have hN := (hC.2.2.2.2.1 0 (by decide)).1
  have hF := hC.2.2.2.2.2.2.1
  refine bL_law_933 ⟨i1, i2, i3, i4, 1000, hb, z_state ⟨_, hC.1.1⟩ (c_state hC (by decide) (fun v9 c9 d9 ka9 h1 h2 h3 h4 h5 h6 h7 h8 τ hC2 hK => ?_) (fun h1 τ q9 hC2 hK => ?_) (fun h1 h2 τ q9 hC2 hK => ?_))⟩
  · refine okJ d hf hK ⟨i1, i2, i3, i4, tailJ d (hC2.outw d) ((hW.kp hK d.1).outw d) up_eq (m_state hM (fun v9' c9' d9' ka9' h1' h2' h3' h4' h5' h6' h7' h8' F2 L2 I2 J2 hM2 h0 => ?_) (fun h1' F2 L2 I2 J2 hM2 h0 => ?_) (fun h1' h2' F2 L2 I2 J2 hM2 h0 => ?_)) (fun s' h' => k _ _ _ (by omega) h')⟩
    · obtain rfl : v9' = v9 := nI_one h2 h2' (by omega) (by omega)
      obtain rfl : c9' = c9 := nI_one h4 h4' (by omega) (by omega)
      obtain rfl : d9' = d9 := nI_one h6 h6' (by omega) (by omega)
      obtain rfl : ka9' = ka9 := nI_one h8 h8' (by omega) (by omega)
      exact ⟨_, rfl, hM2, h0, fun _ => upL0⟩
    · exact absurd ⟨v9, h1, h2⟩ h1'
    · exact absurd ⟨⟨c9, h3, h4⟩, ⟨d9, h5, h6⟩, ⟨ka9, h7, h8⟩⟩ h2'
  · refine Or.inl ⟨rfl, 1, rfl, i1, i2, i3, i4, tailJ d hC2 (hW.kp hK d.1) (hK _ _ _ hf d.2.1) (m_state hM (fun v9' c9' d9' ka9' h1' h2' h3' h4' h5' h6' h7' h8' F2 L2 I2 J2 hM2 h0 => ?_) (fun h1' F2 L2 I2 J2 hM2 h0 => ?_) (fun h1' h2' F2 L2 I2 J2 hM2 h0 => ?_)) (fun s' h' => k _ _ _ (by omega) h')⟩
    · exact absurd ⟨v9', h1', h2'⟩ h1
    · exact ⟨_, rfl, hM2, h0, fun q9 => absurd q9 (by decide)⟩
    · exact absurd h1' h1
  · refine Or.inr ⟨rfl, 2, rfl, i1, i2, i3, i4, tailJ d hC2 (hW.kp hK d.1) (hK _ _ _ hf d.2.1) (m_state hM (fun v9' c9' d9' ka9' h1' h2' h3' h4' h5' h6' h7' h8' F2 L2 I2 J2 hM2 h0 => ?_) (fun h1' F2 L2 I2 J2 hM2 h0 => ?_) (fun h1' h2' F2 L2 I2 J2 hM2 h0 => ?_)) (fun s' h' => k _ _ _ (by omega) h')⟩
    · exact absurd ⟨⟨c9', h3', h4'⟩, ⟨d9', h5', h6'⟩, ⟨ka9', h7', h8'⟩⟩ h2
    · exact absurd h1 h1'
    · exact ⟨_, rfl, hM2, h0, fun q9 => absurd q9 (by decide)⟩
set_option maxHeartbeats 4000000 in
theorem l_likeliest {G : GC} {Q : Option Value → PS → Prop} {X : String → Nat → PS → Prop} {b : Nat} {nm : String} {hh : List (Nat × Nat × Nat × Nat)} {A : Nat → Nat} {CA : Nat → Nat × Nat × Nat} {ad : Nat → Nat} {o out : Nat} {x4 : Int32} {T : TS} {σ : PS} (d : DS A CA ad o out) (h : LW A CA ad o out T σ) (i1 : vp_in (x4 + 1) (gsL G)) (i2 : vp_in (x4 + 2) (gsL G)) (i3 : vp_in (x4 + 3) (gsL G)) (i4 : vp_in (x4 + 4) (gsL G)) (i5 : vp_in (x4 + 5) (gsL G)) (hb : 1000 ≤ b) (k : ∀ b' T' s', b ≤ b' + 1000 → LW A CA ad o out T' s' → At G (mL nm hh) 210 Q X b' 2703 (lsL G (A 0) o out x4) [] s') : At G (mL nm hh) 210 Q X b 1024 (lsL G (A 0) o out x4) [] σ := by
  obtain ⟨E, F, L, I, J, f, hC, hW, hM, hf⟩ := h
  have hP := hC.2.2.2.1
  have hN := (hC.2.2.2.2.1 0 (by decide)).1
  have hF := hC.2.2.2.2.2.2.1
  refine bL_law_1024 ⟨i1, 1000, hb, z_likeliest ⟨_, hC.1.1⟩ (c_likeliest hC (by decide) (fun v9 h1 h2 τ hC2 hK => ?_) (fun h1 τ q9 hC2 hK => ?_))⟩
  · refine okI d hf hK ⟨i1, tailI d (hC2.outw d) ((hW.kp hK d.1).outw d) up_eq (m_likeliest hM (fun v9' h1' h2' F2 L2 I2 J2 hM2 h0 => ?_) (fun h1' F2 L2 I2 J2 hM2 h0 => ?_)) (fun s' h' => k _ _ _ (by omega) h')⟩
    · obtain rfl : v9' = v9 := nI_one h2 h2' (by omega) (by omega)
      exact ⟨_, rfl, hM2, h0, fun _ => upL0⟩
    · exact absurd ⟨v9, h1, h2⟩ h1'
  · refine ⟨rfl, 1, rfl, i1, tailI d hC2 (hW.kp hK d.1) (hK _ _ _ hf d.2.1) (m_likeliest hM (fun v9' h1' h2' F2 L2 I2 J2 hM2 h0 => ?_) (fun h1' F2 L2 I2 J2 hM2 h0 => ?_)) (fun s' h' => k _ _ _ (by omega) h')⟩
    · exact absurd ⟨v9', h1', h2'⟩ h1
    · exact ⟨_, rfl, hM2, h0, fun q9 => absurd q9 (by decide)⟩
set_option maxHeartbeats 4000000 in
theorem l_mean {G : GC} {Q : Option Value → PS → Prop} {X : String → Nat → PS → Prop} {b : Nat} {nm : String} {hh : List (Nat × Nat × Nat × Nat)} {A : Nat → Nat} {CA : Nat → Nat × Nat × Nat} {ad : Nat → Nat} {o out : Nat} {x4 : Int32} {T : TS} {σ : PS} (d : DS A CA ad o out) (h : LW A CA ad o out T σ) (i1 : vp_in (x4 + 1) (gsL G)) (i2 : vp_in (x4 + 2) (gsL G)) (i3 : vp_in (x4 + 3) (gsL G)) (i4 : vp_in (x4 + 4) (gsL G)) (i5 : vp_in (x4 + 5) (gsL G)) (hb : 1000 ≤ b) (k : ∀ b' T' s', b ≤ b' + 1000 → LW A CA ad o out T' s' → At G (mL nm hh) 210 Q X b' 2703 (lsL G (A 0) o out x4) [] s') : At G (mL nm hh) 210 Q X b 1080 (lsL G (A 0) o out x4) [] σ := by
  obtain ⟨E, F, L, I, J, f, hC, hW, hM, hf⟩ := h
  have hP := hC.2.2.2.1
  have hN := (hC.2.2.2.2.1 0 (by decide)).1
  have hF := hC.2.2.2.2.2.2.1
  refine bL_law_1080 ⟨i1, i2, i3, 1000, hb, z_mean ⟨_, hC.1.1⟩ (c_mean hC (by decide) (fun v9 w9 p9 h1 h2 h3 h4 h5 h6 τ hC2 hK => ?_) (fun h1 τ q9 hC2 hK => ?_) (fun h1 h2 τ q9 hC2 hK => ?_))⟩
  · refine okJ d hf hK ⟨i1, i2, i3, tailJ d (hC2.outw d) ((hW.kp hK d.1).outw d) up_eq (m_mean hM (fun v9' w9' p9' h1' h2' h3' h4' h5' h6' F2 L2 I2 J2 hM2 h0 => ?_) (fun h1' F2 L2 I2 J2 hM2 h0 => ?_) (fun h1' h2' F2 L2 I2 J2 hM2 h0 => ?_)) (fun s' h' => k _ _ _ (by omega) h')⟩
    · obtain rfl : v9' = v9 := nI_one h2 h2' (by omega) (by omega)
      obtain rfl : w9' = w9 := nI_one h4 h4' (by omega) (by omega)
      obtain rfl : p9' = p9 := nI_one h6 h6' (by omega) (by omega)
      exact ⟨_, rfl, hM2, h0, fun _ => upL0⟩
    · exact absurd ⟨v9, h1, h2⟩ h1'
    · exact absurd ⟨⟨w9, h3, h4⟩, ⟨p9, h5, h6⟩⟩ h2'
  · refine Or.inl ⟨rfl, 1, rfl, i1, i2, i3, tailJ d hC2 (hW.kp hK d.1) (hK _ _ _ hf d.2.1) (m_mean hM (fun v9' w9' p9' h1' h2' h3' h4' h5' h6' F2 L2 I2 J2 hM2 h0 => ?_) (fun h1' F2 L2 I2 J2 hM2 h0 => ?_) (fun h1' h2' F2 L2 I2 J2 hM2 h0 => ?_)) (fun s' h' => k _ _ _ (by omega) h')⟩
    · exact absurd ⟨v9', h1', h2'⟩ h1
    · exact ⟨_, rfl, hM2, h0, fun q9 => absurd q9 (by decide)⟩
    · exact absurd h1' h1
  · refine Or.inr ⟨rfl, 2, rfl, i1, i2, i3, tailJ d hC2 (hW.kp hK d.1) (hK _ _ _ hf d.2.1) (m_mean hM (fun v9' w9' p9' h1' h2' h3' h4' h5' h6' F2 L2 I2 J2 hM2 h0 => ?_) (fun h1' F2 L2 I2 J2 hM2 h0 => ?_) (fun h1' h2' F2 L2 I2 J2 hM2 h0 => ?_)) (fun s' h' => k _ _ _ (by omega) h')⟩
    · exact absurd ⟨⟨w9', h3', h4'⟩, ⟨p9', h5', h6'⟩⟩ h2
    · exact absurd h1 h1'
    · exact ⟨_, rfl, hM2, h0, fun q9 => absurd q9 (by decide)⟩
set_option maxHeartbeats 4000000 in
theorem l_often {G : GC} {Q : Option Value → PS → Prop} {X : String → Nat → PS → Prop} {b : Nat} {nm : String} {hh : List (Nat × Nat × Nat × Nat)} {A : Nat → Nat} {CA : Nat → Nat × Nat × Nat} {ad : Nat → Nat} {o out : Nat} {x4 : Int32} {T : TS} {σ : PS} (d : DS A CA ad o out) (h : LW A CA ad o out T σ) (i1 : vp_in (x4 + 1) (gsL G)) (i2 : vp_in (x4 + 2) (gsL G)) (i3 : vp_in (x4 + 3) (gsL G)) (i4 : vp_in (x4 + 4) (gsL G)) (i5 : vp_in (x4 + 5) (gsL G)) (hb : 1000 ≤ b) (k : ∀ b' T' s', b ≤ b' + 1000 → LW A CA ad o out T' s' → At G (mL nm hh) 210 Q X b' 2703 (lsL G (A 0) o out x4) [] s') : At G (mL nm hh) 210 Q X b 1159 (lsL G (A 0) o out x4) [] σ := by
  obtain ⟨E, F, L, I, J, f, hC, hW, hM, hf⟩ := h
  have hP := hC.2.2.2.1
  have hN := (hC.2.2.2.2.1 0 (by decide)).1
  have hF := hC.2.2.2.2.2.2.1
  refine bL_law_1159 ⟨i1, 1000, hb, z_often ⟨_, hC.1.1⟩ (c_often hC (by decide) (fun p9 h1 h2 τ hC2 hK => ?_) (fun h1 τ q9 hC2 hK => ?_))⟩
  · refine okJ d hf hK ⟨i1, tailJ d (hC2.outw d) ((hW.kp hK d.1).outw d) up_eq (m_often hM (fun p9' h1' h2' F2 L2 I2 J2 hM2 h0 => ?_) (fun h1' F2 L2 I2 J2 hM2 h0 => ?_)) (fun s' h' => k _ _ _ (by omega) h')⟩
    · obtain rfl : p9' = p9 := nI_one h2 h2' (by omega) (by omega)
      exact ⟨_, rfl, hM2, h0, fun _ => upL0⟩
    · exact absurd ⟨p9, h1, h2⟩ h1'
  · refine ⟨rfl, 1, rfl, i1, tailJ d hC2 (hW.kp hK d.1) (hK _ _ _ hf d.2.1) (m_often hM (fun p9' h1' h2' F2 L2 I2 J2 hM2 h0 => ?_) (fun h1' F2 L2 I2 J2 hM2 h0 => ?_)) (fun s' h' => k _ _ _ (by omega) h')⟩
    · exact absurd ⟨p9', h1', h2'⟩ h1
    · exact ⟨_, rfl, hM2, h0, fun q9 => absurd q9 (by decide)⟩
set_option maxHeartbeats 4000000 in
theorem l_since {G : GC} {Q : Option Value → PS → Prop} {X : String → Nat → PS → Prop} {b : Nat} {nm : String} {hh : List (Nat × Nat × Nat × Nat)} {A : Nat → Nat} {CA : Nat → Nat × Nat × Nat} {ad : Nat → Nat} {o out : Nat} {x4 : Int32} {T : TS} {σ : PS} (d : DS A CA ad o out) (h : LW A CA ad o out T σ) (i1 : vp_in (x4 + 1) (gsL G)) (i2 : vp_in (x4 + 2) (gsL G)) (i3 : vp_in (x4 + 3) (gsL G)) (i4 : vp_in (x4 + 4) (gsL G)) (i5 : vp_in (x4 + 5) (gsL G)) (hb : 1000 ≤ b) (k : ∀ b' T' s', b ≤ b' + 1000 → LW A CA ad o out T' s' → At G (mL nm hh) 210 Q X b' 2703 (lsL G (A 0) o out x4) [] s') : At G (mL nm hh) 210 Q X b 1214 (lsL G (A 0) o out x4) [] σ := by
  obtain ⟨E, F, L, I, J, f, hC, hW, hM, hf⟩ := h
  have hP := hC.2.2.2.1
  have hN := (hC.2.2.2.2.1 0 (by decide)).1
  have hF := hC.2.2.2.2.2.2.1
  refine bL_law_1214 ⟨1000, hb, ⟨_, hC.1.1⟩, c_since hC (by decide) (fun τ hC2 hK => ?_)⟩
  · refine ⟨_, rfl, tail2 d hC2 (hW.kp hK d.1) (hK _ _ _ hf d.2.1) (m_since hM (fun F2 L2 I2 J2 hM2 h0 => ?_)) (fun s' h' => k _ _ _ (by omega) h')⟩
    · exact ⟨rfl, hM2⟩
set_option maxHeartbeats 4000000 in
theorem l_drunk {G : GC} {Q : Option Value → PS → Prop} {X : String → Nat → PS → Prop} {b : Nat} {nm : String} {hh : List (Nat × Nat × Nat × Nat)} {A : Nat → Nat} {CA : Nat → Nat × Nat × Nat} {ad : Nat → Nat} {o out : Nat} {x4 : Int32} {T : TS} {σ : PS} (d : DS A CA ad o out) (h : LW A CA ad o out T σ) (i1 : vp_in (x4 + 1) (gsL G)) (i2 : vp_in (x4 + 2) (gsL G)) (i3 : vp_in (x4 + 3) (gsL G)) (i4 : vp_in (x4 + 4) (gsL G)) (i5 : vp_in (x4 + 5) (gsL G)) (hb : 1000 ≤ b) (k : ∀ b' T' s', b ≤ b' + 1000 → LW A CA ad o out T' s' → At G (mL nm hh) 210 Q X b' 2703 (lsL G (A 0) o out x4) [] s') : At G (mL nm hh) 210 Q X b 1227 (lsL G (A 0) o out x4) [] σ := by
  obtain ⟨E, F, L, I, J, f, hC, hW, hM, hf⟩ := h
  have hP := hC.2.2.2.1
  have hN := (hC.2.2.2.2.1 0 (by decide)).1
  have hF := hC.2.2.2.2.2.2.1
  refine bL_law_1227 ⟨i1, i2, 1000, hb, z_drunk ⟨_, hC.1.1⟩ (c_drunk hC (by decide) (fun v9 p9 h1 h2 h3 h4 τ hC2 hK => ?_) (fun h1 τ q9 hC2 hK => ?_) (fun h1 h2 τ q9 hC2 hK => ?_))⟩
  · refine okJ d hf hK ⟨i1, i2, tailJ d (hC2.outw d) ((hW.kp hK d.1).outw d) up_eq (m_drunk hM (fun v9' p9' h1' h2' h3' h4' F2 L2 I2 J2 hM2 h0 => ?_) (fun h1' F2 L2 I2 J2 hM2 h0 => ?_) (fun h1' h2' F2 L2 I2 J2 hM2 h0 => ?_)) (fun s' h' => k _ _ _ (by omega) h')⟩
    · obtain rfl : v9' = v9 := nI_one h2 h2' (by omega) (by omega)
      obtain rfl : p9' = p9 := nI_one h4 h4' (by omega) (by omega)
      exact ⟨_, rfl, hM2, h0, fun _ => upL0⟩
    · exact absurd ⟨v9, h1, h2⟩ h1'
    · exact absurd ⟨p9, h3, h4⟩ h2'
  · refine Or.inl ⟨rfl, 1, rfl, i1, i2, tailJ d hC2 (hW.kp hK d.1) (hK _ _ _ hf d.2.1) (m_drunk hM (fun v9' p9' h1' h2' h3' h4' F2 L2 I2 J2 hM2 h0 => ?_) (fun h1' F2 L2 I2 J2 hM2 h0 => ?_) (fun h1' h2' F2 L2 I2 J2 hM2 h0 => ?_)) (fun s' h' => k _ _ _ (by omega) h')⟩
    · exact absurd ⟨v9', h1', h2'⟩ h1
    · exact ⟨_, rfl, hM2, h0, fun q9 => absurd q9 (by decide)⟩
    · exact absurd h1' h1
  · refine Or.inr ⟨rfl, 2, rfl, i1, i2, tailJ d hC2 (hW.kp hK d.1) (hK _ _ _ hf d.2.1) (m_drunk hM (fun v9' p9' h1' h2' h3' h4' F2 L2 I2 J2 hM2 h0 => ?_) (fun h1' F2 L2 I2 J2 hM2 h0 => ?_) (fun h1' h2' F2 L2 I2 J2 hM2 h0 => ?_)) (fun s' h' => k _ _ _ (by omega) h')⟩
    · exact absurd ⟨p9', h3', h4'⟩ h2
    · exact absurd h1 h1'
    · exact ⟨_, rfl, hM2, h0, fun q9 => absurd q9 (by decide)⟩
set_option maxHeartbeats 4000000 in
theorem l_done {G : GC} {Q : Option Value → PS → Prop} {X : String → Nat → PS → Prop} {b : Nat} {nm : String} {hh : List (Nat × Nat × Nat × Nat)} {A : Nat → Nat} {CA : Nat → Nat × Nat × Nat} {ad : Nat → Nat} {o out : Nat} {x4 : Int32} {T : TS} {σ : PS} (d : DS A CA ad o out) (h : LW A CA ad o out T σ) (i1 : vp_in (x4 + 1) (gsL G)) (i2 : vp_in (x4 + 2) (gsL G)) (i3 : vp_in (x4 + 3) (gsL G)) (i4 : vp_in (x4 + 4) (gsL G)) (i5 : vp_in (x4 + 5) (gsL G)) (hb : 1000 ≤ b) (k : ∀ b' T' s', b ≤ b' + 1000 → LW A CA ad o out T' s' → At G (mL nm hh) 210 Q X b' 2703 (lsL G (A 0) o out x4) [] s') : At G (mL nm hh) 210 Q X b 1294 (lsL G (A 0) o out x4) [] σ := by
  obtain ⟨E, F, L, I, J, f, hC, hW, hM, hf⟩ := h
  have hP := hC.2.2.2.1
  have hN := (hC.2.2.2.2.1 0 (by decide)).1
  have hF := hC.2.2.2.2.2.2.1
  refine bL_law_1294 ⟨i1, i2, 1000, hb, z_done ⟨_, hC.1.1⟩ (c_done hC (by decide) (fun w9 p9 h1 h2 h3 h4 τ hC2 hK => ?_) (fun h1 τ q9 hC2 hK => ?_))⟩
  · refine okJ d hf hK ⟨i1, i2, tailJ d (hC2.outw d) ((hW.kp hK d.1).outw d) up_eq (m_done hM (fun w9' p9' h1' h2' h3' h4' F2 L2 I2 J2 hM2 h0 => ?_) (fun h1' F2 L2 I2 J2 hM2 h0 => ?_)) (fun s' h' => k _ _ _ (by omega) h')⟩
    · obtain rfl : w9' = w9 := nI_one h2 h2' (by omega) (by omega)
      obtain rfl : p9' = p9 := nI_one h4 h4' (by omega) (by omega)
      exact ⟨_, rfl, hM2, h0, fun _ => upL0⟩
    · exact absurd ⟨⟨w9, h1, h2⟩, ⟨p9, h3, h4⟩⟩ h1'
  · refine ⟨rfl, 1, rfl, i1, i2, tailJ d hC2 (hW.kp hK d.1) (hK _ _ _ hf d.2.1) (m_done hM (fun w9' p9' h1' h2' h3' h4' F2 L2 I2 J2 hM2 h0 => ?_) (fun h1' F2 L2 I2 J2 hM2 h0 => ?_)) (fun s' h' => k _ _ _ (by omega) h')⟩
    · exact absurd ⟨⟨w9', h1', h2'⟩, ⟨p9', h3', h4'⟩⟩ h1
    · exact ⟨_, rfl, hM2, h0, fun q9 => absurd q9 (by decide)⟩
set_option maxHeartbeats 4000000 in
theorem l_cost {G : GC} {Q : Option Value → PS → Prop} {X : String → Nat → PS → Prop} {b : Nat} {nm : String} {hh : List (Nat × Nat × Nat × Nat)} {A : Nat → Nat} {CA : Nat → Nat × Nat × Nat} {ad : Nat → Nat} {o out : Nat} {x4 : Int32} {T : TS} {σ : PS} (d : DS A CA ad o out) (h : LW A CA ad o out T σ) (i1 : vp_in (x4 + 1) (gsL G)) (i2 : vp_in (x4 + 2) (gsL G)) (i3 : vp_in (x4 + 3) (gsL G)) (i4 : vp_in (x4 + 4) (gsL G)) (i5 : vp_in (x4 + 5) (gsL G)) (hb : 1000 ≤ b) (k : ∀ b' T' s', b ≤ b' + 1000 → LW A CA ad o out T' s' → At G (mL nm hh) 210 Q X b' 2703 (lsL G (A 0) o out x4) [] s') : At G (mL nm hh) 210 Q X b 1361 (lsL G (A 0) o out x4) [] σ := by
  obtain ⟨E, F, L, I, J, f, hC, hW, hM, hf⟩ := h
  have hP := hC.2.2.2.1
  have hN := (hC.2.2.2.2.1 0 (by decide)).1
  have hF := hC.2.2.2.2.2.2.1
  refine bL_law_1361 ⟨i1, 1000, hb, z_cost ⟨_, hC.1.1⟩ (c_cost hC (by decide) (fun p9 h1 h2 τ hC2 hK => ?_) (fun h1 τ q9 hC2 hK => ?_))⟩
  · refine okJ d hf hK ⟨i1, tailJ d (hC2.outw d) ((hW.kp hK d.1).outw d) up_eq (m_cost hM (fun p9' h1' h2' F2 L2 I2 J2 hM2 h0 => ?_) (fun h1' F2 L2 I2 J2 hM2 h0 => ?_)) (fun s' h' => k _ _ _ (by omega) h')⟩
    · obtain rfl : p9' = p9 := nI_one h2 h2' (by omega) (by omega)
      exact ⟨_, rfl, hM2, h0, fun _ => upL0⟩
    · exact absurd ⟨p9, h1, h2⟩ h1'
  · refine ⟨rfl, 1, rfl, i1, tailJ d hC2 (hW.kp hK d.1) (hK _ _ _ hf d.2.1) (m_cost hM (fun p9' h1' h2' F2 L2 I2 J2 hM2 h0 => ?_) (fun h1' F2 L2 I2 J2 hM2 h0 => ?_)) (fun s' h' => k _ _ _ (by omega) h')⟩
    · exact absurd ⟨p9', h1', h2'⟩ h1
    · exact ⟨_, rfl, hM2, h0, fun q9 => absurd q9 (by decide)⟩
set_option maxHeartbeats 4000000 in
theorem l_fits {G : GC} {Q : Option Value → PS → Prop} {X : String → Nat → PS → Prop} {b : Nat} {nm : String} {hh : List (Nat × Nat × Nat × Nat)} {A : Nat → Nat} {CA : Nat → Nat × Nat × Nat} {ad : Nat → Nat} {o out : Nat} {x4 : Int32} {T : TS} {σ : PS} (d : DS A CA ad o out) (h : LW A CA ad o out T σ) (i1 : vp_in (x4 + 1) (gsL G)) (i2 : vp_in (x4 + 2) (gsL G)) (i3 : vp_in (x4 + 3) (gsL G)) (i4 : vp_in (x4 + 4) (gsL G)) (i5 : vp_in (x4 + 5) (gsL G)) (hb : 1000 ≤ b) (k : ∀ b' T' s', b ≤ b' + 1000 → LW A CA ad o out T' s' → At G (mL nm hh) 210 Q X b' 2703 (lsL G (A 0) o out x4) [] s') : At G (mL nm hh) 210 Q X b 1416 (lsL G (A 0) o out x4) [] σ := by
  obtain ⟨E, F, L, I, J, f, hC, hW, hM, hf⟩ := h
  have hP := hC.2.2.2.1
  have hN := (hC.2.2.2.2.1 0 (by decide)).1
  have hF := hC.2.2.2.2.2.2.1
  refine bL_law_1416 ⟨i1, 1000, hb, z_fits ⟨_, hC.1.1⟩ (c_fits hC (by decide) (fun p9 h1 h2 τ hC2 hK => ?_) (fun h1 τ q9 hC2 hK => ?_))⟩
  · refine okJ d hf hK ⟨i1, tailJ d (hC2.outw d) ((hW.kp hK d.1).outw d) up_eq (m_fits hM (fun p9' h1' h2' F2 L2 I2 J2 hM2 h0 => ?_) (fun h1' F2 L2 I2 J2 hM2 h0 => ?_)) (fun s' h' => k _ _ _ (by omega) h')⟩
    · obtain rfl : p9' = p9 := nI_one h2 h2' (by omega) (by omega)
      exact ⟨_, rfl, hM2, h0, fun _ => upL0⟩
    · exact absurd ⟨p9, h1, h2⟩ h1'
  · refine ⟨rfl, 1, rfl, i1, tailJ d hC2 (hW.kp hK d.1) (hK _ _ _ hf d.2.1) (m_fits hM (fun p9' h1' h2' F2 L2 I2 J2 hM2 h0 => ?_) (fun h1' F2 L2 I2 J2 hM2 h0 => ?_)) (fun s' h' => k _ _ _ (by omega) h')⟩
    · exact absurd ⟨p9', h1', h2'⟩ h1
    · exact ⟨_, rfl, hM2, h0, fun q9 => absurd q9 (by decide)⟩
set_option maxHeartbeats 4000000 in
theorem l_given {G : GC} {Q : Option Value → PS → Prop} {X : String → Nat → PS → Prop} {b : Nat} {nm : String} {hh : List (Nat × Nat × Nat × Nat)} {A : Nat → Nat} {CA : Nat → Nat × Nat × Nat} {ad : Nat → Nat} {o out : Nat} {x4 : Int32} {T : TS} {σ : PS} (d : DS A CA ad o out) (h : LW A CA ad o out T σ) (i1 : vp_in (x4 + 1) (gsL G)) (i2 : vp_in (x4 + 2) (gsL G)) (i3 : vp_in (x4 + 3) (gsL G)) (i4 : vp_in (x4 + 4) (gsL G)) (i5 : vp_in (x4 + 5) (gsL G)) (hb : 1000 ≤ b) (k : ∀ b' T' s', b ≤ b' + 1000 → LW A CA ad o out T' s' → At G (mL nm hh) 210 Q X b' 2703 (lsL G (A 0) o out x4) [] s') : At G (mL nm hh) 210 Q X b 1471 (lsL G (A 0) o out x4) [] σ := by
  obtain ⟨E, F, L, I, J, f, hC, hW, hM, hf⟩ := h
  have hP := hC.2.2.2.1
  have hN := (hC.2.2.2.2.1 0 (by decide)).1
  have hF := hC.2.2.2.2.2.2.1
  refine bL_law_1471 ⟨i1, i2, i3, 1000, hb, z_given ⟨_, hC.1.1⟩ (c_given hC (by decide) (fun v9 w9 p9 h1 h2 h3 h4 h5 h6 τ hC2 hK => ?_) (fun h1 τ q9 hC2 hK => ?_) (fun h1 h2 τ q9 hC2 hK => ?_))⟩
  · refine okJ d hf hK ⟨i1, i2, i3, tailJ d (hC2.outw d) ((hW.kp hK d.1).outw d) up_eq (m_given hM (fun v9' w9' p9' h1' h2' h3' h4' h5' h6' F2 L2 I2 J2 hM2 h0 => ?_) (fun h1' F2 L2 I2 J2 hM2 h0 => ?_) (fun h1' h2' F2 L2 I2 J2 hM2 h0 => ?_)) (fun s' h' => k _ _ _ (by omega) h')⟩
    · obtain rfl : v9' = v9 := nI_one h2 h2' (by omega) (by omega)
      obtain rfl : w9' = w9 := nI_one h4 h4' (by omega) (by omega)
      obtain rfl : p9' = p9 := nI_one h6 h6' (by omega) (by omega)
      exact ⟨_, rfl, hM2, h0, fun _ => upL0⟩
    · exact absurd ⟨v9, h1, h2⟩ h1'
    · exact absurd ⟨⟨w9, h3, h4⟩, ⟨p9, h5, h6⟩⟩ h2'
  · refine Or.inl ⟨rfl, 1, rfl, i1, i2, i3, tailJ d hC2 (hW.kp hK d.1) (hK _ _ _ hf d.2.1) (m_given hM (fun v9' w9' p9' h1' h2' h3' h4' h5' h6' F2 L2 I2 J2 hM2 h0 => ?_) (fun h1' F2 L2 I2 J2 hM2 h0 => ?_) (fun h1' h2' F2 L2 I2 J2 hM2 h0 => ?_)) (fun s' h' => k _ _ _ (by omega) h')⟩
    · exact absurd ⟨v9', h1', h2'⟩ h1
    · exact ⟨_, rfl, hM2, h0, fun q9 => absurd q9 (by decide)⟩
    · exact absurd h1' h1
  · refine Or.inr ⟨rfl, 2, rfl, i1, i2, i3, tailJ d hC2 (hW.kp hK d.1) (hK _ _ _ hf d.2.1) (m_given hM (fun v9' w9' p9' h1' h2' h3' h4' h5' h6' F2 L2 I2 J2 hM2 h0 => ?_) (fun h1' F2 L2 I2 J2 hM2 h0 => ?_) (fun h1' h2' F2 L2 I2 J2 hM2 h0 => ?_)) (fun s' h' => k _ _ _ (by omega) h')⟩
    · exact absurd ⟨⟨w9', h3', h4'⟩, ⟨p9', h5', h6'⟩⟩ h2
    · exact absurd h1 h1'
    · exact ⟨_, rfl, hM2, h0, fun q9 => absurd q9 (by decide)⟩
set_option maxHeartbeats 4000000 in
theorem l_best {G : GC} {Q : Option Value → PS → Prop} {X : String → Nat → PS → Prop} {b : Nat} {nm : String} {hh : List (Nat × Nat × Nat × Nat)} {A : Nat → Nat} {CA : Nat → Nat × Nat × Nat} {ad : Nat → Nat} {o out : Nat} {x4 : Int32} {T : TS} {σ : PS} (d : DS A CA ad o out) (h : LW A CA ad o out T σ) (i1 : vp_in (x4 + 1) (gsL G)) (i2 : vp_in (x4 + 2) (gsL G)) (i3 : vp_in (x4 + 3) (gsL G)) (i4 : vp_in (x4 + 4) (gsL G)) (i5 : vp_in (x4 + 5) (gsL G)) (hb : 1000 ≤ b) (k : ∀ b' T' s', b ≤ b' + 1000 → LW A CA ad o out T' s' → At G (mL nm hh) 210 Q X b' 2703 (lsL G (A 0) o out x4) [] s') : At G (mL nm hh) 210 Q X b 1550 (lsL G (A 0) o out x4) [] σ := by
  obtain ⟨E, F, L, I, J, f, hC, hW, hM, hf⟩ := h
  have hP := hC.2.2.2.1
  have hN := (hC.2.2.2.2.1 0 (by decide)).1
  have hF := hC.2.2.2.2.2.2.1
  refine bL_law_1550 ⟨i1, 1000, hb, z_best ⟨_, hC.1.1⟩ (c_best hC (by decide) (fun v9 h1 h2 τ hC2 hK => ?_) (fun h1 τ q9 hC2 hK => ?_))⟩
  · refine okI d hf hK ⟨i1, tailI d (hC2.outw d) ((hW.kp hK d.1).outw d) up_eq (m_best hM (fun v9' h1' h2' F2 L2 I2 J2 hM2 h0 => ?_) (fun h1' F2 L2 I2 J2 hM2 h0 => ?_)) (fun s' h' => k _ _ _ (by omega) h')⟩
    · obtain rfl : v9' = v9 := nI_one h2 h2' (by omega) (by omega)
      exact ⟨_, rfl, hM2, h0, fun _ => upL0⟩
    · exact absurd ⟨v9, h1, h2⟩ h1'
  · refine ⟨rfl, 1, rfl, i1, tailI d hC2 (hW.kp hK d.1) (hK _ _ _ hf d.2.1) (m_best hM (fun v9' h1' h2' F2 L2 I2 J2 hM2 h0 => ?_) (fun h1' F2 L2 I2 J2 hM2 h0 => ?_)) (fun s' h' => k _ _ _ (by omega) h')⟩
    · exact absurd ⟨v9', h1', h2'⟩ h1
    · exact ⟨_, rfl, hM2, h0, fun q9 => absurd q9 (by decide)⟩
set_option maxHeartbeats 4000000 in
theorem l_worth {G : GC} {Q : Option Value → PS → Prop} {X : String → Nat → PS → Prop} {b : Nat} {nm : String} {hh : List (Nat × Nat × Nat × Nat)} {A : Nat → Nat} {CA : Nat → Nat × Nat × Nat} {ad : Nat → Nat} {o out : Nat} {x4 : Int32} {T : TS} {σ : PS} (d : DS A CA ad o out) (h : LW A CA ad o out T σ) (i1 : vp_in (x4 + 1) (gsL G)) (i2 : vp_in (x4 + 2) (gsL G)) (i3 : vp_in (x4 + 3) (gsL G)) (i4 : vp_in (x4 + 4) (gsL G)) (i5 : vp_in (x4 + 5) (gsL G)) (hb : 1000 ≤ b) (k : ∀ b' T' s', b ≤ b' + 1000 → LW A CA ad o out T' s' → At G (mL nm hh) 210 Q X b' 2703 (lsL G (A 0) o out x4) [] s') : At G (mL nm hh) 210 Q X b 1606 (lsL G (A 0) o out x4) [] σ := by
  obtain ⟨E, F, L, I, J, f, hC, hW, hM, hf⟩ := h
  have hP := hC.2.2.2.1
  have hN := (hC.2.2.2.2.1 0 (by decide)).1
  have hF := hC.2.2.2.2.2.2.1
  refine bL_law_1606 ⟨i1, i2, i3, 1000, hb, z_worth ⟨_, hC.1.1⟩ (c_worth hC (by decide) (fun v9 w9 p9 h1 h2 h3 h4 h5 h6 τ hC2 hK => ?_) (fun h1 τ q9 hC2 hK => ?_) (fun h1 h2 τ q9 hC2 hK => ?_))⟩
  · refine okJ d hf hK ⟨i1, i2, i3, tailJ d (hC2.outw d) ((hW.kp hK d.1).outw d) up_eq (m_worth hM (fun v9' w9' p9' h1' h2' h3' h4' h5' h6' F2 L2 I2 J2 hM2 h0 => ?_) (fun h1' F2 L2 I2 J2 hM2 h0 => ?_) (fun h1' h2' F2 L2 I2 J2 hM2 h0 => ?_)) (fun s' h' => k _ _ _ (by omega) h')⟩
    · obtain rfl : v9' = v9 := nI_one h2 h2' (by omega) (by omega)
      obtain rfl : w9' = w9 := nI_one h4 h4' (by omega) (by omega)
      obtain rfl : p9' = p9 := nI_one h6 h6' (by omega) (by omega)
      exact ⟨_, rfl, hM2, h0, fun _ => upL0⟩
    · exact absurd ⟨v9, h1, h2⟩ h1'
    · exact absurd ⟨⟨w9, h3, h4⟩, ⟨p9, h5, h6⟩⟩ h2'
  · refine Or.inl ⟨rfl, 1, rfl, i1, i2, i3, tailJ d hC2 (hW.kp hK d.1) (hK _ _ _ hf d.2.1) (m_worth hM (fun v9' w9' p9' h1' h2' h3' h4' h5' h6' F2 L2 I2 J2 hM2 h0 => ?_) (fun h1' F2 L2 I2 J2 hM2 h0 => ?_) (fun h1' h2' F2 L2 I2 J2 hM2 h0 => ?_)) (fun s' h' => k _ _ _ (by omega) h')⟩
    · exact absurd ⟨v9', h1', h2'⟩ h1
    · exact ⟨_, rfl, hM2, h0, fun q9 => absurd q9 (by decide)⟩
    · exact absurd h1' h1
  · refine Or.inr ⟨rfl, 2, rfl, i1, i2, i3, tailJ d hC2 (hW.kp hK d.1) (hK _ _ _ hf d.2.1) (m_worth hM (fun v9' w9' p9' h1' h2' h3' h4' h5' h6' F2 L2 I2 J2 hM2 h0 => ?_) (fun h1' F2 L2 I2 J2 hM2 h0 => ?_) (fun h1' h2' F2 L2 I2 J2 hM2 h0 => ?_)) (fun s' h' => k _ _ _ (by omega) h')⟩
    · exact absurd ⟨⟨w9', h3', h4'⟩, ⟨p9', h5', h6'⟩⟩ h2
    · exact absurd h1 h1'
    · exact ⟨_, rfl, hM2, h0, fun q9 => absurd q9 (by decide)⟩
set_option maxHeartbeats 4000000 in
theorem l_gain {G : GC} {Q : Option Value → PS → Prop} {X : String → Nat → PS → Prop} {b : Nat} {nm : String} {hh : List (Nat × Nat × Nat × Nat)} {A : Nat → Nat} {CA : Nat → Nat × Nat × Nat} {ad : Nat → Nat} {o out : Nat} {x4 : Int32} {T : TS} {σ : PS} (d : DS A CA ad o out) (h : LW A CA ad o out T σ) (i1 : vp_in (x4 + 1) (gsL G)) (i2 : vp_in (x4 + 2) (gsL G)) (i3 : vp_in (x4 + 3) (gsL G)) (i4 : vp_in (x4 + 4) (gsL G)) (i5 : vp_in (x4 + 5) (gsL G)) (hb : 1000 ≤ b) (k : ∀ b' T' s', b ≤ b' + 1000 → LW A CA ad o out T' s' → At G (mL nm hh) 210 Q X b' 2703 (lsL G (A 0) o out x4) [] s') : At G (mL nm hh) 210 Q X b 1685 (lsL G (A 0) o out x4) [] σ := by
  obtain ⟨E, F, L, I, J, f, hC, hW, hM, hf⟩ := h
  have hP := hC.2.2.2.1
  have hN := (hC.2.2.2.2.1 0 (by decide)).1
  have hF := hC.2.2.2.2.2.2.1
  refine bL_law_1685 ⟨i1, i2, 1000, hb, z_gain ⟨_, hC.1.1⟩ (c_gain hC (by decide) (fun v9 p9 h1 h2 h3 h4 τ hC2 hK => ?_) (fun h1 τ q9 hC2 hK => ?_) (fun h1 h2 τ q9 hC2 hK => ?_))⟩
  · refine okJ d hf hK ⟨i1, i2, tailJ d (hC2.outw d) ((hW.kp hK d.1).outw d) up_eq (m_gain hM (fun v9' p9' h1' h2' h3' h4' F2 L2 I2 J2 hM2 h0 => ?_) (fun h1' F2 L2 I2 J2 hM2 h0 => ?_) (fun h1' h2' F2 L2 I2 J2 hM2 h0 => ?_)) (fun s' h' => k _ _ _ (by omega) h')⟩
    · obtain rfl : v9' = v9 := nI_one h2 h2' (by omega) (by omega)
      obtain rfl : p9' = p9 := nI_one h4 h4' (by omega) (by omega)
      exact ⟨_, rfl, hM2, h0, fun _ => upL0⟩
    · exact absurd ⟨v9, h1, h2⟩ h1'
    · exact absurd ⟨p9, h3, h4⟩ h2'
  · refine Or.inl ⟨rfl, 1, rfl, i1, i2, tailJ d hC2 (hW.kp hK d.1) (hK _ _ _ hf d.2.1) (m_gain hM (fun v9' p9' h1' h2' h3' h4' F2 L2 I2 J2 hM2 h0 => ?_) (fun h1' F2 L2 I2 J2 hM2 h0 => ?_) (fun h1' h2' F2 L2 I2 J2 hM2 h0 => ?_)) (fun s' h' => k _ _ _ (by omega) h')⟩
    · exact absurd ⟨v9', h1', h2'⟩ h1
    · exact ⟨_, rfl, hM2, h0, fun q9 => absurd q9 (by decide)⟩
    · exact absurd h1' h1
  · refine Or.inr ⟨rfl, 2, rfl, i1, i2, tailJ d hC2 (hW.kp hK d.1) (hK _ _ _ hf d.2.1) (m_gain hM (fun v9' p9' h1' h2' h3' h4' F2 L2 I2 J2 hM2 h0 => ?_) (fun h1' F2 L2 I2 J2 hM2 h0 => ?_) (fun h1' h2' F2 L2 I2 J2 hM2 h0 => ?_)) (fun s' h' => k _ _ _ (by omega) h')⟩
    · exact absurd ⟨p9', h3', h4'⟩ h2
    · exact absurd h1 h1'
    · exact ⟨_, rfl, hM2, h0, fun q9 => absurd q9 (by decide)⟩
set_option maxHeartbeats 4000000 in
theorem l_without {G : GC} {Q : Option Value → PS → Prop} {X : String → Nat → PS → Prop} {b : Nat} {nm : String} {hh : List (Nat × Nat × Nat × Nat)} {A : Nat → Nat} {CA : Nat → Nat × Nat × Nat} {ad : Nat → Nat} {o out : Nat} {x4 : Int32} {T : TS} {σ : PS} (d : DS A CA ad o out) (h : LW A CA ad o out T σ) (i1 : vp_in (x4 + 1) (gsL G)) (i2 : vp_in (x4 + 2) (gsL G)) (i3 : vp_in (x4 + 3) (gsL G)) (i4 : vp_in (x4 + 4) (gsL G)) (i5 : vp_in (x4 + 5) (gsL G)) (hb : 1000 ≤ b) (k : ∀ b' T' s', b ≤ b' + 1000 → LW A CA ad o out T' s' → At G (mL nm hh) 210 Q X b' 2703 (lsL G (A 0) o out x4) [] s') : At G (mL nm hh) 210 Q X b 1752 (lsL G (A 0) o out x4) [] σ := by
  obtain ⟨E, F, L, I, J, f, hC, hW, hM, hf⟩ := h
  have hP := hC.2.2.2.1
  have hN := (hC.2.2.2.2.1 0 (by decide)).1
  have hF := hC.2.2.2.2.2.2.1
  refine bL_law_1752 ⟨i1, i2, 1000, hb, z_without ⟨_, hC.1.1⟩ (c_without9 hC (by decide) (fun v9 w9 h1 h2 h3 h4 τ hC2 hK => ?_) (fun h1 τ q9 hC2 hK => ?_) (fun h1 h2 τ q9 hC2 hK => ?_))⟩
  · refine okJ d hf hK ⟨i1, i2, tailJ d (hC2.outw d) ((hW.kp hK d.1).outw d) up_eq (m_without hM (fun v9' w9' h1' h2' h3' h4' F2 L2 I2 J2 hM2 h0 => ?_) (fun h1' F2 L2 I2 J2 hM2 h0 => ?_) (fun h1' h2' F2 L2 I2 J2 hM2 h0 => ?_)) (fun s' h' => k _ _ _ (by omega) h')⟩
    · obtain rfl : v9' = v9 := nI_one h2 h2' (by omega) (by omega)
      obtain rfl : w9' = w9 := nI_one h4 h4' (by omega) (by omega)
      exact ⟨_, rfl, hM2, h0, fun _ => upL0⟩
    · exact absurd ⟨v9, h1, h2⟩ h1'
    · exact absurd ⟨w9, h3, h4⟩ h2'
  · refine Or.inl ⟨rfl, 1, rfl, i1, i2, tailJ d hC2 (hW.kp hK d.1) (hK _ _ _ hf d.2.1) (m_without hM (fun v9' w9' h1' h2' h3' h4' F2 L2 I2 J2 hM2 h0 => ?_) (fun h1' F2 L2 I2 J2 hM2 h0 => ?_) (fun h1' h2' F2 L2 I2 J2 hM2 h0 => ?_)) (fun s' h' => k _ _ _ (by omega) h')⟩
    · exact absurd ⟨v9', h1', h2'⟩ h1
    · exact ⟨_, rfl, hM2, h0, fun q9 => absurd q9 (by decide)⟩
    · exact absurd h1' h1
  · refine Or.inr ⟨rfl, 2, rfl, i1, i2, tailJ d hC2 (hW.kp hK d.1) (hK _ _ _ hf d.2.1) (m_without hM (fun v9' w9' h1' h2' h3' h4' F2 L2 I2 J2 hM2 h0 => ?_) (fun h1' F2 L2 I2 J2 hM2 h0 => ?_) (fun h1' h2' F2 L2 I2 J2 hM2 h0 => ?_)) (fun s' h' => k _ _ _ (by omega) h')⟩
    · exact absurd ⟨w9', h3', h4'⟩ h2
    · exact absurd h1 h1'
    · exact ⟨_, rfl, hM2, h0, fun q9 => absurd q9 (by decide)⟩
set_option maxHeartbeats 4000000 in
theorem l_keeper {G : GC} {Q : Option Value → PS → Prop} {X : String → Nat → PS → Prop} {b : Nat} {nm : String} {hh : List (Nat × Nat × Nat × Nat)} {A : Nat → Nat} {CA : Nat → Nat × Nat × Nat} {ad : Nat → Nat} {o out : Nat} {x4 : Int32} {T : TS} {σ : PS} (d : DS A CA ad o out) (h : LW A CA ad o out T σ) (i1 : vp_in (x4 + 1) (gsL G)) (i2 : vp_in (x4 + 2) (gsL G)) (i3 : vp_in (x4 + 3) (gsL G)) (i4 : vp_in (x4 + 4) (gsL G)) (i5 : vp_in (x4 + 5) (gsL G)) (hb : 1000 ≤ b) (k : ∀ b' T' s', b ≤ b' + 1000 → LW A CA ad o out T' s' → At G (mL nm hh) 210 Q X b' 2703 (lsL G (A 0) o out x4) [] s') : At G (mL nm hh) 210 Q X b 1819 (lsL G (A 0) o out x4) [] σ := by
  obtain ⟨E, F, L, I, J, f, hC, hW, hM, hf⟩ := h
  have hP := hC.2.2.2.1
  have hN := (hC.2.2.2.2.1 0 (by decide)).1
  have hF := hC.2.2.2.2.2.2.1
  refine bL_law_1819 ⟨1000, hb, ⟨_, hC.1.1⟩, c_keeper hC (by decide) (fun τ hC2 hK => ?_)⟩
  · refine ⟨_, rfl, tail2 d hC2 (hW.kp hK d.1) (hK _ _ _ hf d.2.1) (m_keeper hM (fun F2 L2 I2 J2 hM2 h0 => ?_)) (fun s' h' => k _ _ _ (by omega) h')⟩
    · exact ⟨rfl, hM2⟩
set_option maxHeartbeats 4000000 in
theorem l_spoiler {G : GC} {Q : Option Value → PS → Prop} {X : String → Nat → PS → Prop} {b : Nat} {nm : String} {hh : List (Nat × Nat × Nat × Nat)} {A : Nat → Nat} {CA : Nat → Nat × Nat × Nat} {ad : Nat → Nat} {o out : Nat} {x4 : Int32} {T : TS} {σ : PS} (d : DS A CA ad o out) (h : LW A CA ad o out T σ) (i1 : vp_in (x4 + 1) (gsL G)) (i2 : vp_in (x4 + 2) (gsL G)) (i3 : vp_in (x4 + 3) (gsL G)) (i4 : vp_in (x4 + 4) (gsL G)) (i5 : vp_in (x4 + 5) (gsL G)) (hb : 1000 ≤ b) (k : ∀ b' T' s', b ≤ b' + 1000 → LW A CA ad o out T' s' → At G (mL nm hh) 210 Q X b' 2703 (lsL G (A 0) o out x4) [] s') : At G (mL nm hh) 210 Q X b 1832 (lsL G (A 0) o out x4) [] σ := by
  obtain ⟨E, F, L, I, J, f, hC, hW, hM, hf⟩ := h
  have hP := hC.2.2.2.1
  have hN := (hC.2.2.2.2.1 0 (by decide)).1
  have hF := hC.2.2.2.2.2.2.1
  refine bL_law_1832 ⟨1000, hb, ⟨_, hC.1.1⟩, c_spoiler hC (by decide) (fun τ hC2 hK => ?_)⟩
  · refine ⟨_, rfl, tail2 d hC2 (hW.kp hK d.1) (hK _ _ _ hf d.2.1) (m_spoiler hM (fun F2 L2 I2 J2 hM2 h0 => ?_)) (fun s' h' => k _ _ _ (by omega) h')⟩
    · exact ⟨rfl, hM2⟩
set_option maxHeartbeats 4000000 in
theorem l_falling {G : GC} {Q : Option Value → PS → Prop} {X : String → Nat → PS → Prop} {b : Nat} {nm : String} {hh : List (Nat × Nat × Nat × Nat)} {A : Nat → Nat} {CA : Nat → Nat × Nat × Nat} {ad : Nat → Nat} {o out : Nat} {x4 : Int32} {T : TS} {σ : PS} (d : DS A CA ad o out) (h : LW A CA ad o out T σ) (i1 : vp_in (x4 + 1) (gsL G)) (i2 : vp_in (x4 + 2) (gsL G)) (i3 : vp_in (x4 + 3) (gsL G)) (i4 : vp_in (x4 + 4) (gsL G)) (i5 : vp_in (x4 + 5) (gsL G)) (hb : 1000 ≤ b) (k : ∀ b' T' s', b ≤ b' + 1000 → LW A CA ad o out T' s' → At G (mL nm hh) 210 Q X b' 2703 (lsL G (A 0) o out x4) [] s') : At G (mL nm hh) 210 Q X b 1845 (lsL G (A 0) o out x4) [] σ := by
  obtain ⟨E, F, L, I, J, f, hC, hW, hM, hf⟩ := h
  have hP := hC.2.2.2.1
  have hN := (hC.2.2.2.2.1 0 (by decide)).1
  have hF := hC.2.2.2.2.2.2.1
  refine bL_law_1845 ⟨i1, 1000, hb, z_falling ⟨_, hC.1.1⟩ (c_falling hC (by decide) (fun q9 h1 h2 τ hC2 hK => ?_) (fun h1 τ q9 hC2 hK => ?_))⟩
  · refine okJ d hf hK ⟨i1, tailJ d (hC2.outw d) ((hW.kp hK d.1).outw d) up_eq (m_falling hM (fun q9' h1' h2' F2 L2 I2 J2 hM2 h0 => ?_) (fun h1' F2 L2 I2 J2 hM2 h0 => ?_)) (fun s' h' => k _ _ _ (by omega) h')⟩
    · obtain rfl : q9' = q9 := nI_one h2 h2' (by omega) (by omega)
      exact ⟨_, rfl, hM2, h0, fun _ => upL0⟩
    · exact absurd ⟨q9, h1, h2⟩ h1'
  · refine ⟨rfl, 1, rfl, i1, tailJ d hC2 (hW.kp hK d.1) (hK _ _ _ hf d.2.1) (m_falling hM (fun q9' h1' h2' F2 L2 I2 J2 hM2 h0 => ?_) (fun h1' F2 L2 I2 J2 hM2 h0 => ?_)) (fun s' h' => k _ _ _ (by omega) h')⟩
    · exact absurd ⟨q9', h1', h2'⟩ h1
    · exact ⟨_, rfl, hM2, h0, fun q9 => absurd q9 (by decide)⟩
set_option maxHeartbeats 4000000 in
theorem l_seeing {G : GC} {Q : Option Value → PS → Prop} {X : String → Nat → PS → Prop} {b : Nat} {nm : String} {hh : List (Nat × Nat × Nat × Nat)} {A : Nat → Nat} {CA : Nat → Nat × Nat × Nat} {ad : Nat → Nat} {o out : Nat} {x4 : Int32} {T : TS} {σ : PS} (d : DS A CA ad o out) (h : LW A CA ad o out T σ) (i1 : vp_in (x4 + 1) (gsL G)) (i2 : vp_in (x4 + 2) (gsL G)) (i3 : vp_in (x4 + 3) (gsL G)) (i4 : vp_in (x4 + 4) (gsL G)) (i5 : vp_in (x4 + 5) (gsL G)) (hb : 1000 ≤ b) (k : ∀ b' T' s', b ≤ b' + 1000 → LW A CA ad o out T' s' → At G (mL nm hh) 210 Q X b' 2703 (lsL G (A 0) o out x4) [] s') : At G (mL nm hh) 210 Q X b 1900 (lsL G (A 0) o out x4) [] σ := by
  obtain ⟨E, F, L, I, J, f, hC, hW, hM, hf⟩ := h
  have hP := hC.2.2.2.1
  have hN := (hC.2.2.2.2.1 0 (by decide)).1
  have hF := hC.2.2.2.2.2.2.1
  refine bL_law_1900 ⟨i1, i2, 1000, hb, z_seeing ⟨_, hC.1.1⟩ (c_seeing hC (by decide) (fun q9 p9 h1 h2 h3 h4 τ hC2 hK => ?_) (fun h1 τ q9 hC2 hK => ?_))⟩
  · refine okJ d hf hK ⟨i1, i2, tailJ d (hC2.outw d) ((hW.kp hK d.1).outw d) up_eq (m_seeing hM (fun q9' p9' h1' h2' h3' h4' F2 L2 I2 J2 hM2 h0 => ?_) (fun h1' F2 L2 I2 J2 hM2 h0 => ?_)) (fun s' h' => k _ _ _ (by omega) h')⟩
    · obtain rfl : q9' = q9 := nI_one h2 h2' (by omega) (by omega)
      obtain rfl : p9' = p9 := nI_one h4 h4' (by omega) (by omega)
      exact ⟨_, rfl, hM2, h0, fun _ => upL0⟩
    · exact absurd ⟨⟨q9, h1, h2⟩, ⟨p9, h3, h4⟩⟩ h1'
  · refine ⟨rfl, 1, rfl, i1, i2, tailJ d hC2 (hW.kp hK d.1) (hK _ _ _ hf d.2.1) (m_seeing hM (fun q9' p9' h1' h2' h3' h4' F2 L2 I2 J2 hM2 h0 => ?_) (fun h1' F2 L2 I2 J2 hM2 h0 => ?_)) (fun s' h' => k _ _ _ (by omega) h')⟩
    · exact absurd ⟨⟨q9', h1', h2'⟩, ⟨p9', h3', h4'⟩⟩ h1
    · exact ⟨_, rfl, hM2, h0, fun q9 => absurd q9 (by decide)⟩
set_option maxHeartbeats 4000000 in
theorem l_filled {G : GC} {Q : Option Value → PS → Prop} {X : String → Nat → PS → Prop} {b : Nat} {nm : String} {hh : List (Nat × Nat × Nat × Nat)} {A : Nat → Nat} {CA : Nat → Nat × Nat × Nat} {ad : Nat → Nat} {o out : Nat} {x4 : Int32} {T : TS} {σ : PS} (d : DS A CA ad o out) (h : LW A CA ad o out T σ) (i1 : vp_in (x4 + 1) (gsL G)) (i2 : vp_in (x4 + 2) (gsL G)) (i3 : vp_in (x4 + 3) (gsL G)) (i4 : vp_in (x4 + 4) (gsL G)) (i5 : vp_in (x4 + 5) (gsL G)) (hb : 1000 ≤ b) (k : ∀ b' T' s', b ≤ b' + 1000 → LW A CA ad o out T' s' → At G (mL nm hh) 210 Q X b' 2703 (lsL G (A 0) o out x4) [] s') : At G (mL nm hh) 210 Q X b 1967 (lsL G (A 0) o out x4) [] σ := by
  obtain ⟨E, F, L, I, J, f, hC, hW, hM, hf⟩ := h
  have hP := hC.2.2.2.1
  have hN := (hC.2.2.2.2.1 0 (by decide)).1
  have hF := hC.2.2.2.2.2.2.1
  refine bL_law_1967 ⟨i1, i2, 1000, hb, z_filled ⟨_, hC.1.1⟩ (c_filled hC (by decide) (fun q9 p9 h1 h2 h3 h4 τ hC2 hK => ?_) (fun h1 τ q9 hC2 hK => ?_))⟩
  · refine okJ d hf hK ⟨i1, i2, tailJ d (hC2.outw d) ((hW.kp hK d.1).outw d) up_eq (m_filled hM (fun q9' p9' h1' h2' h3' h4' F2 L2 I2 J2 hM2 h0 => ?_) (fun h1' F2 L2 I2 J2 hM2 h0 => ?_)) (fun s' h' => k _ _ _ (by omega) h')⟩
    · obtain rfl : q9' = q9 := Nat.succ.inj (nI_one h2 h2' (by omega) (by omega))
      obtain rfl : p9' = p9 := nI_one h4 h4' (by omega) (by omega)
      exact ⟨_, rfl, hM2, h0, fun _ => upL0⟩
    · exact absurd ⟨⟨q9, h1, h2⟩, ⟨p9, h3, h4⟩⟩ h1'
  · refine ⟨rfl, 1, rfl, i1, i2, tailJ d hC2 (hW.kp hK d.1) (hK _ _ _ hf d.2.1) (m_filled hM (fun q9' p9' h1' h2' h3' h4' F2 L2 I2 J2 hM2 h0 => ?_) (fun h1' F2 L2 I2 J2 hM2 h0 => ?_)) (fun s' h' => k _ _ _ (by omega) h')⟩
    · exact absurd ⟨⟨q9', h1', h2'⟩, ⟨p9', h3', h4'⟩⟩ h1
    · exact ⟨_, rfl, hM2, h0, fun q9 => absurd q9 (by decide)⟩
set_option maxHeartbeats 4000000 in
theorem l_fill {G : GC} {Q : Option Value → PS → Prop} {X : String → Nat → PS → Prop} {b : Nat} {nm : String} {hh : List (Nat × Nat × Nat × Nat)} {A : Nat → Nat} {CA : Nat → Nat × Nat × Nat} {ad : Nat → Nat} {o out : Nat} {x4 : Int32} {T : TS} {σ : PS} (d : DS A CA ad o out) (h : LW A CA ad o out T σ) (i1 : vp_in (x4 + 1) (gsL G)) (i2 : vp_in (x4 + 2) (gsL G)) (i3 : vp_in (x4 + 3) (gsL G)) (i4 : vp_in (x4 + 4) (gsL G)) (i5 : vp_in (x4 + 5) (gsL G)) (hb : 1000 ≤ b) (k : ∀ b' T' s', b ≤ b' + 1000 → LW A CA ad o out T' s' → At G (mL nm hh) 210 Q X b' 2703 (lsL G (A 0) o out x4) [] s') : At G (mL nm hh) 210 Q X b 2034 (lsL G (A 0) o out x4) [] σ := by
  obtain ⟨E, F, L, I, J, f, hC, hW, hM, hf⟩ := h
  have hP := hC.2.2.2.1
  have hN := (hC.2.2.2.2.1 0 (by decide)).1
  have hF := hC.2.2.2.2.2.2.1
  refine bL_law_2034 ⟨1000, hb, ⟨_, hC.1.1⟩, c_fill hC (by decide) (fun τ hC2 hK => ?_)⟩
  · refine ⟨_, rfl, tail2 d hC2 (hW.kp hK d.1) (hK _ _ _ hf d.2.1) (m_fill hM (fun F2 L2 I2 J2 hM2 h0 => ?_)) (fun s' h' => k _ _ _ (by omega) h')⟩
    · exact ⟨rfl, hM2⟩
set_option maxHeartbeats 4000000 in
theorem l_ruled {G : GC} {Q : Option Value → PS → Prop} {X : String → Nat → PS → Prop} {b : Nat} {nm : String} {hh : List (Nat × Nat × Nat × Nat)} {A : Nat → Nat} {CA : Nat → Nat × Nat × Nat} {ad : Nat → Nat} {o out : Nat} {x4 : Int32} {T : TS} {σ : PS} (d : DS A CA ad o out) (h : LW A CA ad o out T σ) (i1 : vp_in (x4 + 1) (gsL G)) (i2 : vp_in (x4 + 2) (gsL G)) (i3 : vp_in (x4 + 3) (gsL G)) (i4 : vp_in (x4 + 4) (gsL G)) (i5 : vp_in (x4 + 5) (gsL G)) (hb : 1000 ≤ b) (k : ∀ b' T' s', b ≤ b' + 1000 → LW A CA ad o out T' s' → At G (mL nm hh) 210 Q X b' 2703 (lsL G (A 0) o out x4) [] s') : At G (mL nm hh) 210 Q X b 2047 (lsL G (A 0) o out x4) [] σ := by
  obtain ⟨E, F, L, I, J, f, hC, hW, hM, hf⟩ := h
  have hP := hC.2.2.2.1
  have hN := (hC.2.2.2.2.1 0 (by decide)).1
  have hF := hC.2.2.2.2.2.2.1
  refine bL_law_2047 ⟨i1, 1000, hb, z_ruled ⟨_, hC.1.1⟩ (c_ruled hC (by decide) (fun w9 h1 h2 τ hC2 hK => ?_) (fun h1 τ q9 hC2 hK => ?_))⟩
  · refine okJ d hf hK ⟨i1, tailJ d (hC2.outw d) ((hW.kp hK d.1).outw d) up_eq (m_ruled hM (fun w9' h1' h2' F2 L2 I2 J2 hM2 h0 => ?_) (fun h1' F2 L2 I2 J2 hM2 h0 => ?_)) (fun s' h' => k _ _ _ (by omega) h')⟩
    · obtain rfl : w9' = w9 := nI_one h2 h2' (by omega) (by omega)
      exact ⟨_, rfl, hM2, h0, fun _ => upL0⟩
    · exact absurd ⟨w9, h1, h2⟩ h1'
  · refine ⟨rfl, 1, rfl, i1, tailJ d hC2 (hW.kp hK d.1) (hK _ _ _ hf d.2.1) (m_ruled hM (fun w9' h1' h2' F2 L2 I2 J2 hM2 h0 => ?_) (fun h1' F2 L2 I2 J2 hM2 h0 => ?_)) (fun s' h' => k _ _ _ (by omega) h')⟩
    · exact absurd ⟨w9', h1', h2'⟩ h1
    · exact ⟨_, rfl, hM2, h0, fun q9 => absurd q9 (by decide)⟩
set_option maxHeartbeats 4000000 in
theorem l_swapped {G : GC} {Q : Option Value → PS → Prop} {X : String → Nat → PS → Prop} {b : Nat} {nm : String} {hh : List (Nat × Nat × Nat × Nat)} {A : Nat → Nat} {CA : Nat → Nat × Nat × Nat} {ad : Nat → Nat} {o out : Nat} {x4 : Int32} {T : TS} {σ : PS} (d : DS A CA ad o out) (h : LW A CA ad o out T σ) (i1 : vp_in (x4 + 1) (gsL G)) (i2 : vp_in (x4 + 2) (gsL G)) (i3 : vp_in (x4 + 3) (gsL G)) (i4 : vp_in (x4 + 4) (gsL G)) (i5 : vp_in (x4 + 5) (gsL G)) (hb : 1000 ≤ b) (k : ∀ b' T' s', b ≤ b' + 1000 → LW A CA ad o out T' s' → At G (mL nm hh) 210 Q X b' 2703 (lsL G (A 0) o out x4) [] s') : At G (mL nm hh) 210 Q X b 2102 (lsL G (A 0) o out x4) [] σ := by
  obtain ⟨E, F, L, I, J, f, hC, hW, hM, hf⟩ := h
  have hP := hC.2.2.2.1
  have hN := (hC.2.2.2.2.1 0 (by decide)).1
  have hF := hC.2.2.2.2.2.2.1
  refine bL_law_2102 ⟨i1, i2, i3, 1000, hb, z_swapped ⟨_, hC.1.1⟩ (c_swapped hC (by decide) (fun v9 w9 p9 h1 h2 h3 h4 h5 h6 h7 τ hC2 hK => ?_) (fun h1 τ q9 hC2 hK => ?_) (fun h1 h2 h3 τ q9 hC2 hK => ?_))⟩
  · refine okJ d hf hK ⟨i1, i2, i3, tailJ d (hC2.outw d) ((hW.kp hK d.1).outw d) up_eq (m_swapped hM (fun v9' w9' p9' h1' h2' h3' h4' h5' h6' h7' F2 L2 I2 J2 hM2 h0 => ?_) (fun h1' F2 L2 I2 J2 hM2 h0 => ?_) (fun h1' h2' h3' F2 L2 I2 J2 hM2 h0 => ?_)) (fun s' h' => k _ _ _ (by omega) h')⟩
    · obtain rfl : v9' = v9 := nI_one h2 h2' (by omega) (by omega)
      obtain rfl : w9' = w9 := nI_one h4 h4' (by omega) (by omega)
      obtain rfl : p9' = p9 := nI_one h7 h7' (by omega) (by omega)
      exact ⟨_, rfl, hM2, h0, fun _ => upL0⟩
    · exact absurd ⟨⟨v9, h1, h2⟩, ⟨w9, h3, h4⟩⟩ h1'
    · exact absurd ⟨(fun e9 => h5 ((nI_eq (by omega) (by omega)).mp (h2.symm.trans (e9.trans h4)))), ⟨p9, h6, h7⟩⟩ h3'
  · refine Or.inl ⟨rfl, 1, rfl, i1, i2, i3, tailJ d hC2 (hW.kp hK d.1) (hK _ _ _ hf d.2.1) (m_swapped hM (fun v9' w9' p9' h1' h2' h3' h4' h5' h6' h7' F2 L2 I2 J2 hM2 h0 => ?_) (fun h1' F2 L2 I2 J2 hM2 h0 => ?_) (fun h1' h2' h3' F2 L2 I2 J2 hM2 h0 => ?_)) (fun s' h' => k _ _ _ (by omega) h')⟩
    · exact absurd ⟨⟨v9', h1', h2'⟩, ⟨w9', h3', h4'⟩⟩ h1
    · exact ⟨_, rfl, hM2, h0, fun q9 => absurd q9 (by decide)⟩
    · exact absurd ⟨h1', h2'⟩ h1
  · refine Or.inr ⟨rfl, 2, rfl, i1, i2, i3, tailJ d hC2 (hW.kp hK d.1) (hK _ _ _ hf d.2.1) (m_swapped hM (fun v9' w9' p9' h1' h2' h3' h4' h5' h6' h7' F2 L2 I2 J2 hM2 h0 => ?_) (fun h1' F2 L2 I2 J2 hM2 h0 => ?_) (fun h1' h2' h3' F2 L2 I2 J2 hM2 h0 => ?_)) (fun s' h' => k _ _ _ (by omega) h')⟩
    · exact absurd ⟨(fun e9 => h5' ((nI_eq (by omega) (by omega)).mp (h2'.symm.trans (e9.trans h4')))), ⟨p9', h6', h7'⟩⟩ h3
    · exact absurd ⟨h1, h2⟩ h1'
    · exact ⟨_, rfl, hM2, h0, fun q9 => absurd q9 (by decide)⟩
set_option maxHeartbeats 4000000 in
theorem l_swap {G : GC} {Q : Option Value → PS → Prop} {X : String → Nat → PS → Prop} {b : Nat} {nm : String} {hh : List (Nat × Nat × Nat × Nat)} {A : Nat → Nat} {CA : Nat → Nat × Nat × Nat} {ad : Nat → Nat} {o out : Nat} {x4 : Int32} {T : TS} {σ : PS} (d : DS A CA ad o out) (h : LW A CA ad o out T σ) (i1 : vp_in (x4 + 1) (gsL G)) (i2 : vp_in (x4 + 2) (gsL G)) (i3 : vp_in (x4 + 3) (gsL G)) (i4 : vp_in (x4 + 4) (gsL G)) (i5 : vp_in (x4 + 5) (gsL G)) (hb : 1000 ≤ b) (k : ∀ b' T' s', b ≤ b' + 1000 → LW A CA ad o out T' s' → At G (mL nm hh) 210 Q X b' 2703 (lsL G (A 0) o out x4) [] s') : At G (mL nm hh) 210 Q X b 2181 (lsL G (A 0) o out x4) [] σ := by
  obtain ⟨E, F, L, I, J, f, hC, hW, hM, hf⟩ := h
  have hP := hC.2.2.2.1
  have hN := (hC.2.2.2.2.1 0 (by decide)).1
  have hF := hC.2.2.2.2.2.2.1
  refine bL_law_2181 ⟨1000, hb, ⟨_, hC.1.1⟩, c_swap hC (by decide) (fun τ hC2 hK => ?_)⟩
  · refine ⟨_, rfl, tail2 d hC2 (hW.kp hK d.1) (hK _ _ _ hf d.2.1) (m_swap hM (fun F2 L2 I2 J2 hM2 h0 => ?_)) (fun s' h' => k _ _ _ (by omega) h')⟩
    · exact ⟨rfl, hM2⟩
set_option maxHeartbeats 4000000 in
theorem l_day {G : GC} {Q : Option Value → PS → Prop} {X : String → Nat → PS → Prop} {b : Nat} {nm : String} {hh : List (Nat × Nat × Nat × Nat)} {A : Nat → Nat} {CA : Nat → Nat × Nat × Nat} {ad : Nat → Nat} {o out : Nat} {x4 : Int32} {T : TS} {σ : PS} (d : DS A CA ad o out) (h : LW A CA ad o out T σ) (i1 : vp_in (x4 + 1) (gsL G)) (i2 : vp_in (x4 + 2) (gsL G)) (i3 : vp_in (x4 + 3) (gsL G)) (i4 : vp_in (x4 + 4) (gsL G)) (i5 : vp_in (x4 + 5) (gsL G)) (hb : 1000 ≤ b) (k : ∀ b' T' s', b ≤ b' + 1000 → LW A CA ad o out T' s' → At G (mL nm hh) 210 Q X b' 2703 (lsL G (A 0) o out x4) [] s') : At G (mL nm hh) 210 Q X b 2194 (lsL G (A 0) o out x4) [] σ := by
  obtain ⟨E, F, L, I, J, f, hC, hW, hM, hf⟩ := h
  have hP := hC.2.2.2.1
  have hN := (hC.2.2.2.2.1 0 (by decide)).1
  have hF := hC.2.2.2.2.2.2.1
  refine bL_law_2194 ⟨i1, i2, i3, 1000, hb, z_day ⟨_, hC.1.1⟩ (c_day hC (by decide) (fun v9 w9 h1 h2 h3 h4 τ hC2 hK => ?_) (fun h1 τ q9 hC2 hK => ?_) (fun h1 h2 τ q9 hC2 hK => ?_))⟩
  · refine okI d hf hK ⟨i1, i2, i3, tailI d (hC2.outw d) ((hW.kp hK d.1).outw d) up_eq (m_day hM (fun v9' w9' h1' h2' h3' h4' F2 L2 I2 J2 hM2 h0 => ?_) (fun h1' F2 L2 I2 J2 hM2 h0 => ?_) (fun h1' h2' F2 L2 I2 J2 hM2 h0 => ?_)) (fun s' h' => k _ _ _ (by omega) h')⟩
    · obtain rfl : v9' = v9 := nI_one h2 h2' (by omega) (by omega)
      obtain rfl : w9' = w9 := nI_one h4 h4' (by omega) (by omega)
      exact ⟨_, rfl, hM2, h0, fun _ => upL0⟩
    · exact absurd ⟨v9, h1, h2⟩ h1'
    · exact absurd ⟨w9, h3, h4⟩ h2'
  · refine Or.inl ⟨rfl, 1, rfl, i1, i2, i3, tailI d hC2 (hW.kp hK d.1) (hK _ _ _ hf d.2.1) (m_day hM (fun v9' w9' h1' h2' h3' h4' F2 L2 I2 J2 hM2 h0 => ?_) (fun h1' F2 L2 I2 J2 hM2 h0 => ?_) (fun h1' h2' F2 L2 I2 J2 hM2 h0 => ?_)) (fun s' h' => k _ _ _ (by omega) h')⟩
    · exact absurd ⟨v9', h1', h2'⟩ h1
    · exact ⟨_, rfl, hM2, h0, fun q9 => absurd q9 (by decide)⟩
    · exact absurd h1' h1
  · refine Or.inr ⟨rfl, 2, rfl, i1, i2, i3, tailI d hC2 (hW.kp hK d.1) (hK _ _ _ hf d.2.1) (m_day hM (fun v9' w9' h1' h2' h3' h4' F2 L2 I2 J2 hM2 h0 => ?_) (fun h1' F2 L2 I2 J2 hM2 h0 => ?_) (fun h1' h2' F2 L2 I2 J2 hM2 h0 => ?_)) (fun s' h' => k _ _ _ (by omega) h')⟩
    · exact absurd ⟨w9', h3', h4'⟩ h2
    · exact absurd h1 h1'
    · exact ⟨_, rfl, hM2, h0, fun q9 => absurd q9 (by decide)⟩
set_option maxHeartbeats 4000000 in
theorem l_span {G : GC} {Q : Option Value → PS → Prop} {X : String → Nat → PS → Prop} {b : Nat} {nm : String} {hh : List (Nat × Nat × Nat × Nat)} {A : Nat → Nat} {CA : Nat → Nat × Nat × Nat} {ad : Nat → Nat} {o out : Nat} {x4 : Int32} {T : TS} {σ : PS} (d : DS A CA ad o out) (h : LW A CA ad o out T σ) (i1 : vp_in (x4 + 1) (gsL G)) (i2 : vp_in (x4 + 2) (gsL G)) (i3 : vp_in (x4 + 3) (gsL G)) (i4 : vp_in (x4 + 4) (gsL G)) (i5 : vp_in (x4 + 5) (gsL G)) (hb : 1000 ≤ b) (k : ∀ b' T' s', b ≤ b' + 1000 → LW A CA ad o out T' s' → At G (mL nm hh) 210 Q X b' 2703 (lsL G (A 0) o out x4) [] s') : At G (mL nm hh) 210 Q X b 2274 (lsL G (A 0) o out x4) [] σ := by
  obtain ⟨E, F, L, I, J, f, hC, hW, hM, hf⟩ := h
  have hP := hC.2.2.2.1
  have hN := (hC.2.2.2.2.1 0 (by decide)).1
  have hF := hC.2.2.2.2.2.2.1
  refine bL_law_2274 ⟨i1, i2, i3, 1000, hb, z_span ⟨_, hC.1.1⟩ (c_span hC (by decide) (fun m9 w9 h1 h2 h3 h4 τ hC2 hK => ?_) (fun h1 τ q9 hC2 hK => ?_))⟩
  · refine okI d hf hK ⟨i1, i2, i3, tailI d (hC2.outw d) ((hW.kp hK d.1).outw d) up_eq (m_span hM (fun m9' w9' h1' h2' h3' h4' F2 L2 I2 J2 hM2 h0 => ?_) (fun h1' F2 L2 I2 J2 hM2 h0 => ?_)) (fun s' h' => k _ _ _ (by omega) h')⟩
    · obtain rfl : m9' = m9 := Nat.succ.inj (nI_one h2 h2' (by omega) (by omega))
      obtain rfl : w9' = w9 := nI_one h4 h4' (by omega) (by omega)
      exact ⟨_, rfl, hM2, h0, fun _ => upL0⟩
    · exact absurd ⟨⟨m9, h1, h2⟩, ⟨w9, h3, h4⟩⟩ h1'
  · refine ⟨rfl, 1, rfl, i1, i2, i3, tailI d hC2 (hW.kp hK d.1) (hK _ _ _ hf d.2.1) (m_span hM (fun m9' w9' h1' h2' h3' h4' F2 L2 I2 J2 hM2 h0 => ?_) (fun h1' F2 L2 I2 J2 hM2 h0 => ?_)) (fun s' h' => k _ _ _ (by omega) h')⟩
    · exact absurd ⟨⟨m9', h1', h2'⟩, ⟨w9', h3', h4'⟩⟩ h1
    · exact ⟨_, rfl, hM2, h0, fun q9 => absurd q9 (by decide)⟩
set_option maxHeartbeats 4000000 in
theorem l_come {G : GC} {Q : Option Value → PS → Prop} {X : String → Nat → PS → Prop} {b : Nat} {nm : String} {hh : List (Nat × Nat × Nat × Nat)} {A : Nat → Nat} {CA : Nat → Nat × Nat × Nat} {ad : Nat → Nat} {o out : Nat} {x4 : Int32} {T : TS} {σ : PS} (d : DS A CA ad o out) (h : LW A CA ad o out T σ) (i1 : vp_in (x4 + 1) (gsL G)) (i2 : vp_in (x4 + 2) (gsL G)) (i3 : vp_in (x4 + 3) (gsL G)) (i4 : vp_in (x4 + 4) (gsL G)) (i5 : vp_in (x4 + 5) (gsL G)) (hb : 1000 ≤ b) (k : ∀ b' T' s', b ≤ b' + 1000 → LW A CA ad o out T' s' → At G (mL nm hh) 210 Q X b' 2703 (lsL G (A 0) o out x4) [] s') : At G (mL nm hh) 210 Q X b 2354 (lsL G (A 0) o out x4) [] σ := by
  obtain ⟨E, F, L, I, J, f, hC, hW, hM, hf⟩ := h
  have hP := hC.2.2.2.1
  have hN := (hC.2.2.2.2.1 0 (by decide)).1
  have hF := hC.2.2.2.2.2.2.1
  refine bL_law_2354 ⟨i1, i2, 1000, hb, z_come ⟨_, hC.1.1⟩ (c_come hC (by decide) (fun v9 u9 h1 h2 h3 h4 h5 h6 τ C9 h7 hC2 hK => ?_) (fun h1 h2 h3 τ hC2 hK => ?_) (fun h1 τ q9 hC2 hK => ?_) (fun h1 h2 τ q9 hC2 hK => ?_))⟩
  · have h_s := h7
    refine okI d hf hK ⟨i1, i2, tailI d (hC2.outw d) ((hW.kp hK d.1).outw d) up_eq (m_come hM h_s (fun v9' u9' h1' h2' h3' h4' h5' h6' F2 L2 I2 J2 hM2 h0 => ?_) (fun h1' h2' h3' F2 L2 I2 J2 hM2 h0 => ?_) (fun h1' F2 L2 I2 J2 hM2 h0 => ?_) (fun h1' h2' F2 L2 I2 J2 hM2 h0 => ?_)) (fun s' h' => k _ _ _ (by omega) h')⟩
    · obtain rfl : v9' = v9 := nI_one h2 h2' (by omega) (by omega)
      obtain rfl : u9' = u9 := nI_one h4 h4' (by omega) (by omega)
      exact ⟨_, rfl, hM2, h0, fun _ => upL0⟩
    · omega
    · exact absurd ⟨v9, h1, h2⟩ h1'
    · exact absurd ⟨u9, h3, h4⟩ h2'
  · have h_s := (sameC.rf (C := tsK T 0))
    refine okI d hf hK ⟨i1, i2, tailI d (hC2.outw d) ((hW.kp hK d.1).outw d) up_eq (m_come hM h_s (fun v9' u9' h1' h2' h3' h4' h5' h6' F2 L2 I2 J2 hM2 h0 => ?_) (fun h1' h2' h3' F2 L2 I2 J2 hM2 h0 => ?_) (fun h1' F2 L2 I2 J2 hM2 h0 => ?_) (fun h1' h2' F2 L2 I2 J2 hM2 h0 => ?_)) (fun s' h' => k _ _ _ (by omega) h')⟩
    · omega
    · exact ⟨_, rfl, hM2, h0, fun _ => upL0⟩
    · exact absurd h1 h1'
    · exact absurd h2 h2'
  · have h_s := (sameC.rf (C := tsK T 0))
    refine Or.inl ⟨rfl, 1, rfl, i1, i2, tailI d hC2 (hW.kp hK d.1) (hK _ _ _ hf d.2.1) (m_come hM h_s (fun v9' u9' h1' h2' h3' h4' h5' h6' F2 L2 I2 J2 hM2 h0 => ?_) (fun h1' h2' h3' F2 L2 I2 J2 hM2 h0 => ?_) (fun h1' F2 L2 I2 J2 hM2 h0 => ?_) (fun h1' h2' F2 L2 I2 J2 hM2 h0 => ?_)) (fun s' h' => k _ _ _ (by omega) h')⟩
    · exact absurd ⟨v9', h1', h2'⟩ h1
    · exact absurd h1' h1
    · exact ⟨_, rfl, hM2, h0, fun q9 => absurd q9 (by decide)⟩
    · exact absurd h1' h1
  · have h_s := (sameC.rf (C := tsK T 0))
    refine Or.inr ⟨rfl, 2, rfl, i1, i2, tailI d hC2 (hW.kp hK d.1) (hK _ _ _ hf d.2.1) (m_come hM h_s (fun v9' u9' h1' h2' h3' h4' h5' h6' F2 L2 I2 J2 hM2 h0 => ?_) (fun h1' h2' h3' F2 L2 I2 J2 hM2 h0 => ?_) (fun h1' F2 L2 I2 J2 hM2 h0 => ?_) (fun h1' h2' F2 L2 I2 J2 hM2 h0 => ?_)) (fun s' h' => k _ _ _ (by omega) h')⟩
    · exact absurd ⟨u9', h3', h4'⟩ h2
    · exact absurd h2' h2
    · exact absurd h1 h1'
    · exact ⟨_, rfl, hM2, h0, fun q9 => absurd q9 (by decide)⟩
set_option maxHeartbeats 4000000 in
theorem l_skip {G : GC} {Q : Option Value → PS → Prop} {X : String → Nat → PS → Prop} {b : Nat} {nm : String} {hh : List (Nat × Nat × Nat × Nat)} {A : Nat → Nat} {CA : Nat → Nat × Nat × Nat} {ad : Nat → Nat} {o out : Nat} {x4 : Int32} {T : TS} {σ : PS} (d : DS A CA ad o out) (h : LW A CA ad o out T σ) (i1 : vp_in (x4 + 1) (gsL G)) (i2 : vp_in (x4 + 2) (gsL G)) (i3 : vp_in (x4 + 3) (gsL G)) (i4 : vp_in (x4 + 4) (gsL G)) (i5 : vp_in (x4 + 5) (gsL G)) (hb : 1000 ≤ b) (k : ∀ b' T' s', b ≤ b' + 1000 → LW A CA ad o out T' s' → At G (mL nm hh) 210 Q X b' 2703 (lsL G (A 0) o out x4) [] s') : At G (mL nm hh) 210 Q X b 2422 (lsL G (A 0) o out x4) [] σ := by
  obtain ⟨E, F, L, I, J, f, hC, hW, hM, hf⟩ := h
  have hP := hC.2.2.2.1
  have hN := (hC.2.2.2.2.1 0 (by decide)).1
  have hF := hC.2.2.2.2.2.2.1
  refine bL_law_2422 ⟨i1, 1000, hb, z_skip ⟨_, hC.1.1⟩ (c_skip hC (by decide) (fun v9 h1 h2 h3 τ C9 h4 hC2 hK => ?_) (fun h1 h2 τ hC2 hK => ?_) (fun h1 τ q9 hC2 hK => ?_))⟩
  · have h_s := h4
    refine okI d hf hK ⟨i1, tailI d (hC2.outw d) ((hW.kp hK d.1).outw d) up_eq (m_skip hM h_s (fun v9' h1' h2' h3' F2 L2 I2 J2 hM2 h0 => ?_) (fun h1' h2' F2 L2 I2 J2 hM2 h0 => ?_) (fun h1' F2 L2 I2 J2 hM2 h0 => ?_)) (fun s' h' => k _ _ _ (by omega) h')⟩
    · obtain rfl : v9' = v9 := nI_one h2 h2' (by omega) (by omega)
      exact ⟨_, rfl, hM2, h0, fun _ => upL0⟩
    · omega
    · exact absurd ⟨v9, h1, h2⟩ h1'
  · have h_s := (sameC.rf (C := tsK T 0))
    refine okI d hf hK ⟨i1, tailI d (hC2.outw d) ((hW.kp hK d.1).outw d) up_eq (m_skip hM h_s (fun v9' h1' h2' h3' F2 L2 I2 J2 hM2 h0 => ?_) (fun h1' h2' F2 L2 I2 J2 hM2 h0 => ?_) (fun h1' F2 L2 I2 J2 hM2 h0 => ?_)) (fun s' h' => k _ _ _ (by omega) h')⟩
    · omega
    · exact ⟨_, rfl, hM2, h0, fun _ => upL0⟩
    · exact absurd h1 h1'
  · have h_s := (sameC.rf (C := tsK T 0))
    refine ⟨rfl, 1, rfl, i1, tailI d hC2 (hW.kp hK d.1) (hK _ _ _ hf d.2.1) (m_skip hM h_s (fun v9' h1' h2' h3' F2 L2 I2 J2 hM2 h0 => ?_) (fun h1' h2' F2 L2 I2 J2 hM2 h0 => ?_) (fun h1' F2 L2 I2 J2 hM2 h0 => ?_)) (fun s' h' => k _ _ _ (by omega) h')⟩
    · exact absurd ⟨v9', h1', h2'⟩ h1
    · exact absurd h1' h1
    · exact ⟨_, rfl, hM2, h0, fun q9 => absurd q9 (by decide)⟩
set_option maxHeartbeats 4000000 in
theorem l_shift {G : GC} {Q : Option Value → PS → Prop} {X : String → Nat → PS → Prop} {b : Nat} {nm : String} {hh : List (Nat × Nat × Nat × Nat)} {A : Nat → Nat} {CA : Nat → Nat × Nat × Nat} {ad : Nat → Nat} {o out : Nat} {x4 : Int32} {T : TS} {σ : PS} (d : DS A CA ad o out) (h : LW A CA ad o out T σ) (i1 : vp_in (x4 + 1) (gsL G)) (i2 : vp_in (x4 + 2) (gsL G)) (i3 : vp_in (x4 + 3) (gsL G)) (i4 : vp_in (x4 + 4) (gsL G)) (i5 : vp_in (x4 + 5) (gsL G)) (hb : 1000 ≤ b) (k : ∀ b' T' s', b ≤ b' + 1000 → LW A CA ad o out T' s' → At G (mL nm hh) 210 Q X b' 2703 (lsL G (A 0) o out x4) [] s') : At G (mL nm hh) 210 Q X b 2478 (lsL G (A 0) o out x4) [] σ := by
  obtain ⟨E, F, L, I, J, f, hC, hW, hM, hf⟩ := h
  have hP := hC.2.2.2.1
  have hN := (hC.2.2.2.2.1 0 (by decide)).1
  have hF := hC.2.2.2.2.2.2.1
  refine bL_law_2478 ⟨i1, i2, 1000, hb, z_shift ⟨_, hC.1.1⟩ (c_shift hC (by decide) (fun v9 u9 h1 h2 h3 h4 h5 τ C9 h6 hC2 hK => ?_) (fun h1 h2 h3 τ hC2 hK => ?_) (fun h1 τ q9 hC2 hK => ?_) (fun h1 h2 τ q9 hC2 hK => ?_))⟩
  · have h_s := h6
    refine okI d hf hK ⟨i1, i2, tailI d (hC2.outw d) ((hW.kp hK d.1).outw d) up_eq (m_shift hM h_s (fun v9' u9' h1' h2' h3' h4' h5' F2 L2 I2 J2 hM2 h0 => ?_) (fun h1' h2' h3' F2 L2 I2 J2 hM2 h0 => ?_) (fun h1' F2 L2 I2 J2 hM2 h0 => ?_) (fun h1' h2' F2 L2 I2 J2 hM2 h0 => ?_)) (fun s' h' => k _ _ _ (by omega) h')⟩
    · obtain rfl : v9' = v9 := nI_one h2 h2' (by omega) (by omega)
      obtain rfl : u9' = u9 := nI_one h4 h4' (by omega) (by omega)
      exact ⟨_, rfl, hM2, h0, fun _ => upL0⟩
    · omega
    · exact absurd ⟨v9, h1, h2⟩ h1'
    · exact absurd ⟨u9, h3, h4⟩ h2'
  · have h_s := (sameC.rf (C := tsK T 0))
    refine okI d hf hK ⟨i1, i2, tailI d (hC2.outw d) ((hW.kp hK d.1).outw d) up_eq (m_shift hM h_s (fun v9' u9' h1' h2' h3' h4' h5' F2 L2 I2 J2 hM2 h0 => ?_) (fun h1' h2' h3' F2 L2 I2 J2 hM2 h0 => ?_) (fun h1' F2 L2 I2 J2 hM2 h0 => ?_) (fun h1' h2' F2 L2 I2 J2 hM2 h0 => ?_)) (fun s' h' => k _ _ _ (by omega) h')⟩
    · omega
    · exact ⟨_, rfl, hM2, h0, fun _ => upL0⟩
    · exact absurd h1 h1'
    · exact absurd h2 h2'
  · have h_s := (sameC.rf (C := tsK T 0))
    refine Or.inl ⟨rfl, 1, rfl, i1, i2, tailI d hC2 (hW.kp hK d.1) (hK _ _ _ hf d.2.1) (m_shift hM h_s (fun v9' u9' h1' h2' h3' h4' h5' F2 L2 I2 J2 hM2 h0 => ?_) (fun h1' h2' h3' F2 L2 I2 J2 hM2 h0 => ?_) (fun h1' F2 L2 I2 J2 hM2 h0 => ?_) (fun h1' h2' F2 L2 I2 J2 hM2 h0 => ?_)) (fun s' h' => k _ _ _ (by omega) h')⟩
    · exact absurd ⟨v9', h1', h2'⟩ h1
    · exact absurd h1' h1
    · exact ⟨_, rfl, hM2, h0, fun q9 => absurd q9 (by decide)⟩
    · exact absurd h1' h1
  · have h_s := (sameC.rf (C := tsK T 0))
    refine Or.inr ⟨rfl, 2, rfl, i1, i2, tailI d hC2 (hW.kp hK d.1) (hK _ _ _ hf d.2.1) (m_shift hM h_s (fun v9' u9' h1' h2' h3' h4' h5' F2 L2 I2 J2 hM2 h0 => ?_) (fun h1' h2' h3' F2 L2 I2 J2 hM2 h0 => ?_) (fun h1' F2 L2 I2 J2 hM2 h0 => ?_) (fun h1' h2' F2 L2 I2 J2 hM2 h0 => ?_)) (fun s' h' => k _ _ _ (by omega) h')⟩
    · exact absurd ⟨u9', h3', h4'⟩ h2
    · exact absurd h2' h2
    · exact absurd h1 h1'
    · exact ⟨_, rfl, hM2, h0, fun q9 => absurd q9 (by decide)⟩
set_option maxHeartbeats 4000000 in
theorem l_teach {G : GC} {Q : Option Value → PS → Prop} {X : String → Nat → PS → Prop} {b : Nat} {nm : String} {hh : List (Nat × Nat × Nat × Nat)} {A : Nat → Nat} {CA : Nat → Nat × Nat × Nat} {ad : Nat → Nat} {o out : Nat} {x4 : Int32} {T : TS} {σ : PS} (d : DS A CA ad o out) (h : LW A CA ad o out T σ) (i1 : vp_in (x4 + 1) (gsL G)) (i2 : vp_in (x4 + 2) (gsL G)) (i3 : vp_in (x4 + 3) (gsL G)) (i4 : vp_in (x4 + 4) (gsL G)) (i5 : vp_in (x4 + 5) (gsL G)) (hb : 1000 ≤ b) (k : ∀ b' T' s', b ≤ b' + 1000 → LW A CA ad o out T' s' → At G (mL nm hh) 210 Q X b' 2703 (lsL G (A 0) o out x4) [] s') : At G (mL nm hh) 210 Q X b 2546 (lsL G (A 0) o out x4) [] σ := by
  obtain ⟨E, F, L, I, J, f, hC, hW, hM, hf⟩ := h
  have hP := hC.2.2.2.1
  have hN := (hC.2.2.2.2.1 0 (by decide)).1
  have hF := hC.2.2.2.2.2.2.1
  refine bL_law_2546 ⟨i1, i2, 1000, hb, z_teach ⟨_, hC.1.1⟩ (c_teach hC (by decide) (fun p9 o9 h1 h2 h3 h4 τ hC2 hK => ?_) (fun h1 τ q9 hC2 hK => ?_))⟩
  · refine okI d hf hK ⟨i1, i2, tailI d (hC2.outw d) ((hW.kp hK d.1).outw d) up_eq (m_teach hM (fun p9' o9' h1' h2' h3' h4' F2 L2 I2 J2 hM2 h0 => ?_) (fun h1' F2 L2 I2 J2 hM2 h0 => ?_)) (fun s' h' => k _ _ _ (by omega) h')⟩
    · obtain rfl : p9' = p9 := nI_one h2 h2' (by omega) (by omega)
      obtain rfl : o9' = o9 := nI_one h4 h4' (by omega) (by omega)
      exact ⟨_, rfl, hM2, h0, fun _ => upL0⟩
    · exact absurd ⟨⟨p9, h1, h2⟩, ⟨o9, h3, h4⟩⟩ h1'
  · refine ⟨rfl, 1, rfl, i1, i2, tailI d hC2 (hW.kp hK d.1) (hK _ _ _ hf d.2.1) (m_teach hM (fun p9' o9' h1' h2' h3' h4' F2 L2 I2 J2 hM2 h0 => ?_) (fun h1' F2 L2 I2 J2 hM2 h0 => ?_)) (fun s' h' => k _ _ _ (by omega) h')⟩
    · exact absurd ⟨⟨p9', h1', h2'⟩, ⟨o9', h3', h4'⟩⟩ h1
    · exact ⟨_, rfl, hM2, h0, fun q9 => absurd q9 (by decide)⟩
set_option maxHeartbeats 4000000 in
theorem l_undo {G : GC} {Q : Option Value → PS → Prop} {X : String → Nat → PS → Prop} {b : Nat} {nm : String} {hh : List (Nat × Nat × Nat × Nat)} {A : Nat → Nat} {CA : Nat → Nat × Nat × Nat} {ad : Nat → Nat} {o out : Nat} {x4 : Int32} {T : TS} {σ : PS} (d : DS A CA ad o out) (h : LW A CA ad o out T σ) (i1 : vp_in (x4 + 1) (gsL G)) (i2 : vp_in (x4 + 2) (gsL G)) (i3 : vp_in (x4 + 3) (gsL G)) (i4 : vp_in (x4 + 4) (gsL G)) (i5 : vp_in (x4 + 5) (gsL G)) (hb : 1000 ≤ b) (k : ∀ b' T' s', b ≤ b' + 1000 → LW A CA ad o out T' s' → At G (mL nm hh) 210 Q X b' 2703 (lsL G (A 0) o out x4) [] s') : At G (mL nm hh) 210 Q X b 2614 (lsL G (A 0) o out x4) [] σ := by
  obtain ⟨E, F, L, I, J, f, hC, hW, hM, hf⟩ := h
  have hP := hC.2.2.2.1
  have hN := (hC.2.2.2.2.1 0 (by decide)).1
  have hF := hC.2.2.2.2.2.2.1
  refine bL_law_2614 ⟨⟨_, hC.1.1⟩, c_undo hC (fun h1 τ C9 h2 hC2 hK => ?_) (fun h1 τ hC2 hK => ?_)⟩
  · have h_s := h2
    refine ⟨_, rfl, tail2 d hC2 (hW.kp hK d.1) (hK _ _ _ hf d.2.1) (m_undo hM h_s (fun h1' F2 L2 I2 J2 hM2 h0 => ?_) (fun h1' F2 L2 I2 J2 hM2 h0 => ?_)) (fun s' h' => k _ _ _ (by omega) h')⟩
    · exact ⟨rfl, hM2⟩
    · omega
  · have h_s := (sameC.rf (C := tsK T (1 + (tsC T - 1))))
    refine ⟨_, rfl, tail2 d hC2 (hW.kp hK d.1) (hK _ _ _ hf d.2.1) (m_undo hM h_s (fun h1' F2 L2 I2 J2 hM2 h0 => ?_) (fun h1' F2 L2 I2 J2 hM2 h0 => ?_)) (fun s' h' => k _ _ _ (by omega) h')⟩
    · omega
    · exact ⟨rfl, hM2⟩
set_option maxHeartbeats 4000000 in
theorem l_image {G : GC} {Q : Option Value → PS → Prop} {X : String → Nat → PS → Prop} {b : Nat} {nm : String} {hh : List (Nat × Nat × Nat × Nat)} {A : Nat → Nat} {CA : Nat → Nat × Nat × Nat} {ad : Nat → Nat} {o out : Nat} {x4 : Int32} {T : TS} {σ : PS} (d : DS A CA ad o out) (h : LW A CA ad o out T σ) (i1 : vp_in (x4 + 1) (gsL G)) (i2 : vp_in (x4 + 2) (gsL G)) (i3 : vp_in (x4 + 3) (gsL G)) (i4 : vp_in (x4 + 4) (gsL G)) (i5 : vp_in (x4 + 5) (gsL G)) (hb : 1000 ≤ b) (k : ∀ b' T' s', b ≤ b' + 1000 → LW A CA ad o out T' s' → At G (mL nm hh) 210 Q X b' 2703 (lsL G (A 0) o out x4) [] s') : At G (mL nm hh) 210 Q X b 2627 (lsL G (A 0) o out x4) [] σ := by
  obtain ⟨E, F, L, I, J, f, hC, hW, hM, hf⟩ := h
  have hP := hC.2.2.2.1
  have hN := (hC.2.2.2.2.1 0 (by decide)).1
  have hF := hC.2.2.2.2.2.2.1
  refine bL_law_2627 ⟨⟨_, hC.1.1⟩, c_image hC (fun h1 τ K9 C9 h2 h3 hC2 hK => ?_) (fun h1 τ hC2 hK => ?_)⟩
  · refine ⟨_, rfl, tail2 d hC2 (hW.kp hK d.1) (hK _ _ _ hf d.2.1) (m_image hM h2 h3 (fun h1' F2 L2 I2 J2 hM2 h0 => ?_) (fun h1' F2 L2 I2 J2 hM2 h0 => ?_)) (fun s' h' => k _ _ _ (by omega) h')⟩
    · exact ⟨rfl, hM2⟩
    · omega
  · obtain ⟨K9, h_k⟩ : ∃ K, imR T K (tsC T) := imR_ex
    refine ⟨_, rfl, tail2 d hC2 (hW.kp hK d.1) (hK _ _ _ hf d.2.1) (m_image hM (K := K9) h_k sameC.rf (fun h1' F2 L2 I2 J2 hM2 h0 => ?_) (fun h1' F2 L2 I2 J2 hM2 h0 => ?_)) (fun s' h' => k _ _ _ (by omega) h')⟩
    · omega
    · exact ⟨rfl, hM2⟩
set_option maxHeartbeats 4000000 in
theorem l_restore {G : GC} {Q : Option Value → PS → Prop} {X : String → Nat → PS → Prop} {b : Nat} {nm : String} {hh : List (Nat × Nat × Nat × Nat)} {A : Nat → Nat} {CA : Nat → Nat × Nat × Nat} {ad : Nat → Nat} {o out : Nat} {x4 : Int32} {T : TS} {σ : PS} (d : DS A CA ad o out) (h : LW A CA ad o out T σ) (i1 : vp_in (x4 + 1) (gsL G)) (i2 : vp_in (x4 + 2) (gsL G)) (i3 : vp_in (x4 + 3) (gsL G)) (i4 : vp_in (x4 + 4) (gsL G)) (i5 : vp_in (x4 + 5) (gsL G)) (hb : 1000 ≤ b) (k : ∀ b' T' s', b ≤ b' + 1000 → LW A CA ad o out T' s' → At G (mL nm hh) 210 Q X b' 2703 (lsL G (A 0) o out x4) [] s') : At G (mL nm hh) 210 Q X b 2640 (lsL G (A 0) o out x4) [] σ := by
  obtain ⟨E, F, L, I, J, f, hC, hW, hM, hf⟩ := h
  have hP := hC.2.2.2.1
  have hN := (hC.2.2.2.2.1 0 (by decide)).1
  have hF := hC.2.2.2.2.2.2.1
  refine bL_law_2640 ⟨⟨_, hC.1.1⟩, c_restore hC (fun h1 τ K9 C9 h2 h3 hC2 hK => ?_) (fun h1 τ hC2 hK => ?_)⟩
  · refine ⟨_, rfl, tail2 d hC2 (hW.kp hK d.1) (hK _ _ _ hf d.2.1) (m_restore hM (fun _ => ⟨h2, h3⟩) (fun h1' F2 L2 I2 J2 hM2 h0 => ?_) (fun h1' F2 L2 I2 J2 hM2 h0 => ?_)) (fun s' h' => k _ _ _ (by omega) h')⟩
    · exact ⟨rfl, hM2⟩
    · omega
  · refine ⟨_, rfl, tail2 d hC2 (hW.kp hK d.1) (hK _ _ _ hf d.2.1) (m_restore hM (K := tsK T) (C := tsK T 0) (fun q9 => absurd h1 q9) (fun h1' F2 L2 I2 J2 hM2 h0 => ?_) (fun h1' F2 L2 I2 J2 hM2 h0 => ?_)) (fun s' h' => k _ _ _ (by omega) h')⟩
    · omega
    · exact ⟨rfl, hM2⟩
set_option maxHeartbeats 4000000 in
theorem l_status {G : GC} {Q : Option Value → PS → Prop} {X : String → Nat → PS → Prop} {b : Nat} {nm : String} {hh : List (Nat × Nat × Nat × Nat)} {A : Nat → Nat} {CA : Nat → Nat × Nat × Nat} {ad : Nat → Nat} {o out : Nat} {x4 : Int32} {T : TS} {σ : PS} (d : DS A CA ad o out) (h : LW A CA ad o out T σ) (i1 : vp_in (x4 + 1) (gsL G)) (i2 : vp_in (x4 + 2) (gsL G)) (i3 : vp_in (x4 + 3) (gsL G)) (i4 : vp_in (x4 + 4) (gsL G)) (i5 : vp_in (x4 + 5) (gsL G)) (hb : 1000 ≤ b) (k : ∀ b' T' s', b ≤ b' + 1000 → LW A CA ad o out T' s' → At G (mL nm hh) 210 Q X b' 2703 (lsL G (A 0) o out x4) [] s') : At G (mL nm hh) 210 Q X b 2653 (lsL G (A 0) o out x4) [] σ := by
  obtain ⟨E, F, L, I, J, f, hC, hW, hM, hf⟩ := h
  have hP := hC.2.2.2.1
  have hN := (hC.2.2.2.2.1 0 (by decide)).1
  have hF := hC.2.2.2.2.2.2.1
  refine bL_law_2653 ⟨i1, ⟨_, hC.1.1⟩, c_status0 hC ?_⟩
  exact ⟨_, rfl, i1, tail2 d hC hW hf (m_status hM (fun F2 L2 I2 J2 hM2 h0 => ⟨rfl, hM2⟩)) (fun s' h' => k _ _ _ (by omega) h')⟩
set_option maxHeartbeats 4000000 in
theorem l_count {G : GC} {Q : Option Value → PS → Prop} {X : String → Nat → PS → Prop} {b : Nat} {nm : String} {hh : List (Nat × Nat × Nat × Nat)} {A : Nat → Nat} {CA : Nat → Nat × Nat × Nat} {ad : Nat → Nat} {o out : Nat} {x4 : Int32} {T : TS} {σ : PS} (d : DS A CA ad o out) (h : LW A CA ad o out T σ) (i1 : vp_in (x4 + 1) (gsL G)) (i2 : vp_in (x4 + 2) (gsL G)) (i3 : vp_in (x4 + 3) (gsL G)) (i4 : vp_in (x4 + 4) (gsL G)) (i5 : vp_in (x4 + 5) (gsL G)) (hb : 1000 ≤ b) (k : ∀ b' T' s', b ≤ b' + 1000 → LW A CA ad o out T' s' → At G (mL nm hh) 210 Q X b' 2703 (lsL G (A 0) o out x4) [] s') : At G (mL nm hh) 210 Q X b 2678 (lsL G (A 0) o out x4) [] σ := by
  obtain ⟨E, F, L, I, J, f, hC, hW, hM, hf⟩ := h
  have hP := hC.2.2.2.1
  have hN := (hC.2.2.2.2.1 0 (by decide)).1
  have hF := hC.2.2.2.2.2.2.1
  refine bL_law_2678 ⟨i1, ⟨_, hC.1.1⟩, c_count0 hC ?_⟩
  exact ⟨_, rfl, i1, tail2 d hC hW hf (m_count hM (fun F2 L2 I2 J2 hM2 h0 => ⟨rfl, hM2⟩)) (fun s' h' => k _ _ _ (by omega) h')⟩
