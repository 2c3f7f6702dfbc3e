set_option maxRecDepth 100000
theorem z_in : vp_in 0 1 := by unfold vp_in; decide
theorem z_office {G : GC} {σ : PS} {Q : Option Value → PS → Prop} {X : String → Nat → PS → Prop} {b a0 out : Nat} {p1 : Int32} (hO : ∃ fs, Ob σ 1 a0 fs) (hC : Call G mX1_office 13 b [.ref a0, .int p1] σ (wI out Q) (wX1 Q)) : Call G mX0_office 14 b [.ref a0, .int p1, .ref out] σ Q X := by
  refine eX0_office (bX0_office_0 ⟨b, Nat.le_refl _, hO, hC.post (fun v s h => ?_) (fun E q s h => ?_)⟩)
  · obtain ⟨x, hx, f, hf, hq⟩ := h
    exact ⟨x, hx, 1, f, hf, z_in, fun s1 e => by rw [e]; exact hq⟩
  · obtain ⟨rfl, hq⟩ := h
    exact AtX.catch [] ⟨0, 9, 12, 13⟩ [] rfl (fun z hz => absurd hz (by simp)) rfl (by decide) q827 q839 (At.sub [] rfl (bX0_office_12 hq))
theorem z_habit {G : GC} {σ : PS} {Q : Option Value → PS → Prop} {X : String → Nat → PS → Prop} {b a0 out : Nat} {p1 p2 : Int32} (hO : ∃ fs, Ob σ 1 a0 fs) (hC : Call G mX1_habit 152 b [.ref a0, .int p1, .int p2] σ (wI out Q) (wX2 Q)) : Call G mX0_habit 153 b [.ref a0, .int p1, .int p2, .ref out] σ Q X := by
  refine eX0_habit (bX0_habit_0 ⟨b, Nat.le_refl _, hO, hC.post (fun v s h => ?_) (fun E q s h => ?_)⟩)
  · obtain ⟨x, hx, f, hf, hq⟩ := h
    exact ⟨x, hx, 1, f, hf, z_in, fun s1 e => by rw [e]; exact hq⟩
  · rcases h with ⟨rfl, hq⟩ | ⟨rfl, hq⟩
    · exact AtX.catch [] ⟨0, 10, 13, 19⟩ [⟨0, 10, 17, 13⟩] rfl (fun z hz => absurd hz (by simp)) rfl (by decide) q1102 q1117 (At.sub [] rfl (bX0_habit_13 hq))
    · exact AtX.catch [⟨0, 10, 13, 19⟩] ⟨0, 10, 17, 13⟩ [] rfl (fun z hz => by rw [List.mem_singleton.mp hz]; exact Or.inr ⟨by decide, _, q1102, fun U h => h.2.2.2.2.2.2.2.2.2.2.1⟩) rfl (by decide) q827 q839 (At.sub [] rfl (bX0_habit_17 hq))
theorem z_rule {G : GC} {σ : PS} {Q : Option Value → PS → Prop} {X : String → Nat → PS → Prop} {b a0 out : Nat} {p1 : Int32} (hO : ∃ fs, Ob σ 1 a0 fs) (hC : Call G mX1_rule 152 b [.ref a0, .int p1] σ (wI out Q) (wX1 Q)) : Call G mX0_rule 153 b [.ref a0, .int p1, .ref out] σ Q X := by
  refine eX0_rule (bX0_rule_0 ⟨b, Nat.le_refl _, hO, hC.post (fun v s h => ?_) (fun E q s h => ?_)⟩)
  · obtain ⟨x, hx, f, hf, hq⟩ := h
    exact ⟨x, hx, 1, f, hf, z_in, fun s1 e => by rw [e]; exact hq⟩
  · obtain ⟨rfl, hq⟩ := h
    exact AtX.catch [] ⟨0, 9, 12, 13⟩ [] rfl (fun z hz => absurd hz (by simp)) rfl (by decide) q827 q839 (At.sub [] rfl (bX0_rule_12 hq))
theorem z_book {G : GC} {σ : PS} {Q : Option Value → PS → Prop} {X : String → Nat → PS → Prop} {b a0 out : Nat} {p1 : Int32} (hO : ∃ fs, Ob σ 1 a0 fs) (hC : Call G mX1_book 12 b [.ref a0, .int p1] σ (wI out Q) (wX1 Q)) : Call G mX0_book 13 b [.ref a0, .int p1, .ref out] σ Q X := by
  refine eX0_book (bX0_book_0 ⟨b, Nat.le_refl _, hO, hC.post (fun v s h => ?_) (fun E q s h => ?_)⟩)
  · obtain ⟨x, hx, f, hf, hq⟩ := h
    exact ⟨x, hx, 1, f, hf, z_in, fun s1 e => by rw [e]; exact hq⟩
  · obtain ⟨rfl, hq⟩ := h
    exact AtX.catch [] ⟨0, 9, 12, 13⟩ [] rfl (fun z hz => absurd hz (by simp)) rfl (by decide) q827 q839 (At.sub [] rfl (bX0_book_12 hq))
theorem z_told {G : GC} {σ : PS} {Q : Option Value → PS → Prop} {X : String → Nat → PS → Prop} {b a0 out : Nat} {p1 : Int32} (hO : ∃ fs, Ob σ 1 a0 fs) (hC : Call G mX1_told 11 b [.ref a0, .int p1] σ (wI out Q) (wX1 Q)) : Call G mX0_told 12 b [.ref a0, .int p1, .ref out] σ Q X := by
  refine eX0_told (bX0_told_0 ⟨b, Nat.le_refl _, hO, hC.post (fun v s h => ?_) (fun E q s h => ?_)⟩)
  · obtain ⟨x, hx, f, hf, hq⟩ := h
    exact ⟨x, hx, 1, f, hf, z_in, fun s1 e => by rw [e]; exact hq⟩
  · obtain ⟨rfl, hq⟩ := h
    exact AtX.catch [] ⟨0, 9, 12, 13⟩ [] rfl (fun z hz => absurd hz (by simp)) rfl (by decide) q827 q839 (At.sub [] rfl (bX0_told_12 hq))
theorem z_visit {G : GC} {σ : PS} {Q : Option Value → PS → Prop} {X : String → Nat → PS → Prop} {b a0 out : Nat} {p1 p2 : Int32} (hO : ∃ fs, Ob σ 1 a0 fs) (hC : Call G mX1_visit 12 b [.ref a0, .int p1, .int p2] σ (wI out Q) (wX2 Q)) : Call G mX0_visit 13 b [.ref a0, .int p1, .int p2, .ref out] σ Q X := by
  refine eX0_visit (bX0_visit_0 ⟨b, Nat.le_refl _, hO, hC.post (fun v s h => ?_) (fun E q s h => ?_)⟩)
  · obtain ⟨x, hx, f, hf, hq⟩ := h
    exact ⟨x, hx, 1, f, hf, z_in, fun s1 e => by rw [e]; exact hq⟩
  · rcases h with ⟨rfl, hq⟩ | ⟨rfl, hq⟩
    · exact AtX.catch [] ⟨0, 10, 13, 19⟩ [⟨0, 10, 17, 13⟩] rfl (fun z hz => absurd hz (by simp)) rfl (by decide) q1102 q1117 (At.sub [] rfl (bX0_visit_13 hq))
    · exact AtX.catch [⟨0, 10, 13, 19⟩] ⟨0, 10, 17, 13⟩ [] rfl (fun z hz => by rw [List.mem_singleton.mp hz]; exact Or.inr ⟨by decide, _, q1102, fun U h => h.2.2.2.2.2.2.2.2.2.2.1⟩) rfl (by decide) q827 q839 (At.sub [] rfl (bX0_visit_17 hq))
theorem z_person {G : GC} {σ : PS} {Q : Option Value → PS → Prop} {X : String → Nat → PS → Prop} {b a0 out : Nat} {p1 p2 : Int32} (hO : ∃ fs, Ob σ 1 a0 fs) (hC : Call G mX1_person 12 b [.ref a0, .int p1, .int p2] σ (wI out Q) (wX2 Q)) : Call G mX0_person 13 b [.ref a0, .int p1, .int p2, .ref out] σ Q X := by
  refine eX0_person (bX0_person_0 ⟨b, Nat.le_refl _, hO, hC.post (fun v s h => ?_) (fun E q s h => ?_)⟩)
  · obtain ⟨x, hx, f, hf, hq⟩ := h
    exact ⟨x, hx, 1, f, hf, z_in, fun s1 e => by rw [e]; exact hq⟩
  · rcases h with ⟨rfl, hq⟩ | ⟨rfl, hq⟩
    · exact AtX.catch [] ⟨0, 10, 13, 19⟩ [⟨0, 10, 17, 13⟩] rfl (fun z hz => absurd hz (by simp)) rfl (by decide) q1102 q1117 (At.sub [] rfl (bX0_person_13 hq))
    · exact AtX.catch [⟨0, 10, 13, 19⟩] ⟨0, 10, 17, 13⟩ [] rfl (fun z hz => by rw [List.mem_singleton.mp hz]; exact Or.inr ⟨by decide, _, q1102, fun U h => h.2.2.2.2.2.2.2.2.2.2.1⟩) rfl (by decide) q827 q839 (At.sub [] rfl (bX0_person_17 hq))
theorem z_price {G : GC} {σ : PS} {Q : Option Value → PS → Prop} {X : String → Nat → PS → Prop} {b a0 out : Nat} {p1 : Int32} (hO : ∃ fs, Ob σ 1 a0 fs) (hC : Call G mX1_price 11 b [.ref a0, .int p1] σ (wI out Q) (wX1 Q)) : Call G mX0_price 12 b [.ref a0, .int p1, .ref out] σ Q X := by
  refine eX0_price (bX0_price_0 ⟨b, Nat.le_refl _, hO, hC.post (fun v s h => ?_) (fun E q s h => ?_)⟩)
  · obtain ⟨x, hx, f, hf, hq⟩ := h
    exact ⟨x, hx, 1, f, hf, z_in, fun s1 e => by rw [e]; exact hq⟩
  · obtain ⟨rfl, hq⟩ := h
    exact AtX.catch [] ⟨0, 9, 12, 13⟩ [] rfl (fun z hz => absurd hz (by simp)) rfl (by decide) q827 q839 (At.sub [] rfl (bX0_price_12 hq))
theorem z_states {G : GC} {σ : PS} {Q : Option Value → PS → Prop} {X : String → Nat → PS → Prop} {b a0 out : Nat} {p1 : Int32} (hO : ∃ fs, Ob σ 1 a0 fs) (hC : Call G mX1_states 205 b [.ref a0, .int p1] σ (wI out Q) (wX0 Q)) : Call G mX0_states 206 b [.ref a0, .int p1, .ref out] σ Q X := by
  refine eX0_states (bX0_states_0 ⟨b, Nat.le_refl _, hO, hC.post (fun v s h => ?_) (fun E q s h => ?_)⟩)
  · obtain ⟨x, hx, f, hf, hq⟩ := h
    exact ⟨x, hx, 1, f, hf, z_in, fun s1 e => by rw [e]; exact hq⟩
  · obtain ⟨rfl, hq⟩ := h
    exact AtX.catch [] ⟨0, 9, 12, 19⟩ [] rfl (fun z hz => absurd hz (by simp)) rfl (by decide) q1102 q1117 (At.sub [] rfl (bX0_states_12 hq))
theorem z_likely {G : GC} {σ : PS} {Q : Option Value → PS → Prop} {X : String → Nat → PS → Prop} {b a0 out : Nat} {p1 p2 : Int32} (hO : ∃ fs, Ob σ 1 a0 fs) (hC : Call G mX1_likely 205 b [.ref a0, .int p1, .int p2] σ (wJ out Q) (wX2 Q)) : Call G mX0_likely 206 b [.ref a0, .int p1, .int p2, .ref out] σ Q X := by
  refine eX0_likely (bX0_likely_0 ⟨b, Nat.le_refl _, hO, hC.post (fun v s h => ?_) (fun E q s h => ?_)⟩)
  · obtain ⟨x, hx, f, hf, hq⟩ := h
    exact ⟨x, hx, 1, f, hf, z_in, fun s1 e => by rw [e]; exact hq⟩
  · rcases h with ⟨rfl, hq⟩ | ⟨rfl, hq⟩
    · exact AtX.catch [] ⟨0, 9, 12, 19⟩ [⟨0, 9, 16, 13⟩] rfl (fun z hz => absurd hz (by simp)) rfl (by decide) q1102 q1117 (At.sub [] rfl (bX0_likely_12 hq))
    · exact AtX.catch [⟨0, 9, 12, 19⟩] ⟨0, 9, 16, 13⟩ [] rfl (fun z hz => by rw [List.mem_singleton.mp hz]; exact Or.inr ⟨by decide, _, q1102, fun U h => h.2.2.2.2.2.2.2.2.2.2.1⟩) rfl (by decide) q827 q839 (At.sub [] rfl (bX0_likely_16 hq))
theorem z_state {G : GC} {σ : PS} {Q : Option Value → PS → Prop} {X : String → Nat → PS → Prop} {b a0 out : Nat} {p1 p2 p3 p4 : Int32} (hO : ∃ fs, Ob σ 1 a0 fs) (hC : Call G mX1_state 205 b [.ref a0, .int p1, .int p2, .int p3, .int p4] σ (wJ out Q) (wX2 Q)) : Call G mX0_state 206 b [.ref a0, .int p1, .int p2, .int p3, .int p4, .ref out] σ Q X := by
  refine eX0_state (bX0_state_0 ⟨b, Nat.le_refl _, hO, hC.post (fun v s h => ?_) (fun E q s h => ?_)⟩)
  · obtain ⟨x, hx, f, hf, hq⟩ := h
    exact ⟨x, hx, 1, f, hf, z_in, fun s1 e => by rw [e]; exact hq⟩
  · rcases h with ⟨rfl, hq⟩ | ⟨rfl, hq⟩
    · exact AtX.catch [] ⟨0, 13, 16, 19⟩ [⟨0, 13, 20, 13⟩] rfl (fun z hz => absurd hz (by simp)) rfl (by decide) q1102 q1117 (At.sub [] rfl (bX0_state_16 hq))
    · exact AtX.catch [⟨0, 13, 16, 19⟩] ⟨0, 13, 20, 13⟩ [] rfl (fun z hz => by rw [List.mem_singleton.mp hz]; exact Or.inr ⟨by decide, _, q1102, fun U h => h.2.2.2.2.2.2.2.2.2.2.1⟩) rfl (by decide) q827 q839 (At.sub [] rfl (bX0_state_20 hq))
theorem z_likeliest {G : GC} {σ : PS} {Q : Option Value → PS → Prop} {X : String → Nat → PS → Prop} {b a0 out : Nat} {p1 : Int32} (hO : ∃ fs, Ob σ 1 a0 fs) (hC : Call G mX1_likeliest 205 b [.ref a0, .int p1] σ (wI out Q) (wX0 Q)) : Call G mX0_likeliest 206 b [.ref a0, .int p1, .ref out] σ Q X := by
  refine eX0_likeliest (bX0_likeliest_0 ⟨b, Nat.le_refl _, hO, hC.post (fun v s h => ?_) (fun E q s h => ?_)⟩)
  · obtain ⟨x, hx, f, hf, hq⟩ := h
    exact ⟨x, hx, 1, f, hf, z_in, fun s1 e => by rw [e]; exact hq⟩
  · obtain ⟨rfl, hq⟩ := h
    exact AtX.catch [] ⟨0, 9, 12, 19⟩ [] rfl (fun z hz => absurd hz (by simp)) rfl (by decide) q1102 q1117 (At.sub [] rfl (bX0_likeliest_12 hq))
theorem z_mean {G : GC} {σ : PS} {Q : Option Value → PS → Prop} {X : String → Nat → PS → Prop} {b a0 out : Nat} {p1 p2 p3 : Int32} (hO : ∃ fs, Ob σ 1 a0 fs) (hC : Call G mX1_mean 205 b [.ref a0, .int p1, .int p2, .int p3] σ (wJ out Q) (wX2 Q)) : Call G mX0_mean 206 b [.ref a0, .int p1, .int p2, .int p3, .ref out] σ Q X := by
  refine eX0_mean (bX0_mean_0 ⟨b, Nat.le_refl _, hO, hC.post (fun v s h => ?_) (fun E q s h => ?_)⟩)
  · obtain ⟨x, hx, f, hf, hq⟩ := h
    exact ⟨x, hx, 1, f, hf, z_in, fun s1 e => by rw [e]; exact hq⟩
  · rcases h with ⟨rfl, hq⟩ | ⟨rfl, hq⟩
    · exact AtX.catch [] ⟨0, 11, 14, 19⟩ [⟨0, 11, 18, 13⟩] rfl (fun z hz => absurd hz (by simp)) rfl (by decide) q1102 q1117 (At.sub [] rfl (bX0_mean_14 hq))
    · exact AtX.catch [⟨0, 11, 14, 19⟩] ⟨0, 11, 18, 13⟩ [] rfl (fun z hz => by rw [List.mem_singleton.mp hz]; exact Or.inr ⟨by decide, _, q1102, fun U h => h.2.2.2.2.2.2.2.2.2.2.1⟩) rfl (by decide) q827 q839 (At.sub [] rfl (bX0_mean_18 hq))
theorem z_often {G : GC} {σ : PS} {Q : Option Value → PS → Prop} {X : String → Nat → PS → Prop} {b a0 out : Nat} {p1 : Int32} (hO : ∃ fs, Ob σ 1 a0 fs) (hC : Call G mX1_often 205 b [.ref a0, .int p1] σ (wJ out Q) (wX1 Q)) : Call G mX0_often 206 b [.ref a0, .int p1, .ref out] σ Q X := by
  refine eX0_often (bX0_often_0 ⟨b, Nat.le_refl _, hO, hC.post (fun v s h => ?_) (fun E q s h => ?_)⟩)
  · obtain ⟨x, hx, f, hf, hq⟩ := h
    exact ⟨x, hx, 1, f, hf, z_in, fun s1 e => by rw [e]; exact hq⟩
  · obtain ⟨rfl, hq⟩ := h
    exact AtX.catch [] ⟨0, 8, 11, 13⟩ [] rfl (fun z hz => absurd hz (by simp)) rfl (by decide) q827 q839 (At.sub [] rfl (bX0_often_11 hq))
theorem z_drunk {G : GC} {σ : PS} {Q : Option Value → PS → Prop} {X : String → Nat → PS → Prop} {b a0 out : Nat} {p1 p2 : Int32} (hO : ∃ fs, Ob σ 1 a0 fs) (hC : Call G mX1_drunk 205 b [.ref a0, .int p1, .int p2] σ (wJ out Q) (wX2 Q)) : Call G mX0_drunk 206 b [.ref a0, .int p1, .int p2, .ref out] σ Q X := by
  refine eX0_drunk (bX0_drunk_0 ⟨b, Nat.le_refl _, hO, hC.post (fun v s h => ?_) (fun E q s h => ?_)⟩)
  · obtain ⟨x, hx, f, hf, hq⟩ := h
    exact ⟨x, hx, 1, f, hf, z_in, fun s1 e => by rw [e]; exact hq⟩
  · rcases h with ⟨rfl, hq⟩ | ⟨rfl, hq⟩
    · exact AtX.catch [] ⟨0, 9, 12, 19⟩ [⟨0, 9, 16, 13⟩] rfl (fun z hz => absurd hz (by simp)) rfl (by decide) q1102 q1117 (At.sub [] rfl (bX0_drunk_12 hq))
    · exact AtX.catch [⟨0, 9, 12, 19⟩] ⟨0, 9, 16, 13⟩ [] rfl (fun z hz => by rw [List.mem_singleton.mp hz]; exact Or.inr ⟨by decide, _, q1102, fun U h => h.2.2.2.2.2.2.2.2.2.2.1⟩) rfl (by decide) q827 q839 (At.sub [] rfl (bX0_drunk_16 hq))
theorem z_done {G : GC} {σ : PS} {Q : Option Value → PS → Prop} {X : String → Nat → PS → Prop} {b a0 out : Nat} {p1 p2 : Int32} (hO : ∃ fs, Ob σ 1 a0 fs) (hC : Call G mX1_done 205 b [.ref a0, .int p1, .int p2] σ (wJ out Q) (wX1 Q)) : Call G mX0_done 206 b [.ref a0, .int p1, .int p2, .ref out] σ Q X := by
  refine eX0_done (bX0_done_0 ⟨b, Nat.le_refl _, hO, hC.post (fun v s h => ?_) (fun E q s h => ?_)⟩)
  · obtain ⟨x, hx, f, hf, hq⟩ := h
    exact ⟨x, hx, 1, f, hf, z_in, fun s1 e => by rw [e]; exact hq⟩
  · obtain ⟨rfl, hq⟩ := h
    exact AtX.catch [] ⟨0, 9, 12, 13⟩ [] rfl (fun z hz => absurd hz (by simp)) rfl (by decide) q827 q839 (At.sub [] rfl (bX0_done_12 hq))
theorem z_cost {G : GC} {σ : PS} {Q : Option Value → PS → Prop} {X : String → Nat → PS → Prop} {b a0 out : Nat} {p1 : Int32} (hO : ∃ fs, Ob σ 1 a0 fs) (hC : Call G mX1_cost 205 b [.ref a0, .int p1] σ (wJ out Q) (wX1 Q)) : Call G mX0_cost 206 b [.ref a0, .int p1, .ref out] σ Q X := by
  refine eX0_cost (bX0_cost_0 ⟨b, Nat.le_refl _, hO, hC.post (fun v s h => ?_) (fun E q s h => ?_)⟩)
  · obtain ⟨x, hx, f, hf, hq⟩ := h
    exact ⟨x, hx, 1, f, hf, z_in, fun s1 e => by rw [e]; exact hq⟩
  · obtain ⟨rfl, hq⟩ := h
    exact AtX.catch [] ⟨0, 8, 11, 13⟩ [] rfl (fun z hz => absurd hz (by simp)) rfl (by decide) q827 q839 (At.sub [] rfl (bX0_cost_11 hq))
theorem z_fits {G : GC} {σ : PS} {Q : Option Value → PS → Prop} {X : String → Nat → PS → Prop} {b a0 out : Nat} {p1 : Int32} (hO : ∃ fs, Ob σ 1 a0 fs) (hC : Call G mX1_fits 205 b [.ref a0, .int p1] σ (wJ out Q) (wX1 Q)) : Call G mX0_fits 206 b [.ref a0, .int p1, .ref out] σ Q X := by
  refine eX0_fits (bX0_fits_0 ⟨b, Nat.le_refl _, hO, hC.post (fun v s h => ?_) (fun E q s h => ?_)⟩)
  · obtain ⟨x, hx, f, hf, hq⟩ := h
    exact ⟨x, hx, 1, f, hf, z_in, fun s1 e => by rw [e]; exact hq⟩
  · obtain ⟨rfl, hq⟩ := h
    exact AtX.catch [] ⟨0, 8, 11, 13⟩ [] rfl (fun z hz => absurd hz (by simp)) rfl (by decide) q827 q839 (At.sub [] rfl (bX0_fits_11 hq))
theorem z_given {G : GC} {σ : PS} {Q : Option Value → PS → Prop} {X : String → Nat → PS → Prop} {b a0 out : Nat} {p1 p2 p3 : Int32} (hO : ∃ fs, Ob σ 1 a0 fs) (hC : Call G mX1_given 206 b [.ref a0, .int p1, .int p2, .int p3] σ (wJ out Q) (wX2 Q)) : Call G mX0_given 207 b [.ref a0, .int p1, .int p2, .int p3, .ref out] σ Q X := by
  refine eX0_given (bX0_given_0 ⟨b, Nat.le_refl _, hO, hC.post (fun v s h => ?_) (fun E q s h => ?_)⟩)
  · obtain ⟨x, hx, f, hf, hq⟩ := h
    exact ⟨x, hx, 1, f, hf, z_in, fun s1 e => by rw [e]; exact hq⟩
  · rcases h with ⟨rfl, hq⟩ | ⟨rfl, hq⟩
    · exact AtX.catch [] ⟨0, 11, 14, 19⟩ [⟨0, 11, 18, 13⟩] rfl (fun z hz => absurd hz (by simp)) rfl (by decide) q1102 q1117 (At.sub [] rfl (bX0_given_14 hq))
    · exact AtX.catch [⟨0, 11, 14, 19⟩] ⟨0, 11, 18, 13⟩ [] rfl (fun z hz => by rw [List.mem_singleton.mp hz]; exact Or.inr ⟨by decide, _, q1102, fun U h => h.2.2.2.2.2.2.2.2.2.2.1⟩) rfl (by decide) q827 q839 (At.sub [] rfl (bX0_given_18 hq))
theorem z_best {G : GC} {σ : PS} {Q : Option Value → PS → Prop} {X : String → Nat → PS → Prop} {b a0 out : Nat} {p1 : Int32} (hO : ∃ fs, Ob σ 1 a0 fs) (hC : Call G mX1_best 206 b [.ref a0, .int p1] σ (wI out Q) (wX0 Q)) : Call G mX0_best 207 b [.ref a0, .int p1, .ref out] σ Q X := by
  refine eX0_best (bX0_best_0 ⟨b, Nat.le_refl _, hO, hC.post (fun v s h => ?_) (fun E q s h => ?_)⟩)
  · obtain ⟨x, hx, f, hf, hq⟩ := h
    exact ⟨x, hx, 1, f, hf, z_in, fun s1 e => by rw [e]; exact hq⟩
  · obtain ⟨rfl, hq⟩ := h
    exact AtX.catch [] ⟨0, 9, 12, 19⟩ [] rfl (fun z hz => absurd hz (by simp)) rfl (by decide) q1102 q1117 (At.sub [] rfl (bX0_best_12 hq))
theorem z_worth {G : GC} {σ : PS} {Q : Option Value → PS → Prop} {X : String → Nat → PS → Prop} {b a0 out : Nat} {p1 p2 p3 : Int32} (hO : ∃ fs, Ob σ 1 a0 fs) (hC : Call G mX1_worth 206 b [.ref a0, .int p1, .int p2, .int p3] σ (wJ out Q) (wX2 Q)) : Call G mX0_worth 207 b [.ref a0, .int p1, .int p2, .int p3, .ref out] σ Q X := by
  refine eX0_worth (bX0_worth_0 ⟨b, Nat.le_refl _, hO, hC.post (fun v s h => ?_) (fun E q s h => ?_)⟩)
  · obtain ⟨x, hx, f, hf, hq⟩ := h
    exact ⟨x, hx, 1, f, hf, z_in, fun s1 e => by rw [e]; exact hq⟩
  · rcases h with ⟨rfl, hq⟩ | ⟨rfl, hq⟩
    · exact AtX.catch [] ⟨0, 11, 14, 19⟩ [⟨0, 11, 18, 13⟩] rfl (fun z hz => absurd hz (by simp)) rfl (by decide) q1102 q1117 (At.sub [] rfl (bX0_worth_14 hq))
    · exact AtX.catch [⟨0, 11, 14, 19⟩] ⟨0, 11, 18, 13⟩ [] rfl (fun z hz => by rw [List.mem_singleton.mp hz]; exact Or.inr ⟨by decide, _, q1102, fun U h => h.2.2.2.2.2.2.2.2.2.2.1⟩) rfl (by decide) q827 q839 (At.sub [] rfl (bX0_worth_18 hq))
theorem z_gain {G : GC} {σ : PS} {Q : Option Value → PS → Prop} {X : String → Nat → PS → Prop} {b a0 out : Nat} {p1 p2 : Int32} (hO : ∃ fs, Ob σ 1 a0 fs) (hC : Call G mX1_gain 206 b [.ref a0, .int p1, .int p2] σ (wJ out Q) (wX2 Q)) : Call G mX0_gain 207 b [.ref a0, .int p1, .int p2, .ref out] σ Q X := by
  refine eX0_gain (bX0_gain_0 ⟨b, Nat.le_refl _, hO, hC.post (fun v s h => ?_) (fun E q s h => ?_)⟩)
  · obtain ⟨x, hx, f, hf, hq⟩ := h
    exact ⟨x, hx, 1, f, hf, z_in, fun s1 e => by rw [e]; exact hq⟩
  · rcases h with ⟨rfl, hq⟩ | ⟨rfl, hq⟩
    · exact AtX.catch [] ⟨0, 9, 12, 19⟩ [⟨0, 9, 16, 13⟩] rfl (fun z hz => absurd hz (by simp)) rfl (by decide) q1102 q1117 (At.sub [] rfl (bX0_gain_12 hq))
    · exact AtX.catch [⟨0, 9, 12, 19⟩] ⟨0, 9, 16, 13⟩ [] rfl (fun z hz => by rw [List.mem_singleton.mp hz]; exact Or.inr ⟨by decide, _, q1102, fun U h => h.2.2.2.2.2.2.2.2.2.2.1⟩) rfl (by decide) q827 q839 (At.sub [] rfl (bX0_gain_16 hq))
theorem z_without {G : GC} {σ : PS} {Q : Option Value → PS → Prop} {X : String → Nat → PS → Prop} {b a0 out : Nat} {p1 p2 : Int32} (hO : ∃ fs, Ob σ 1 a0 fs) (hC : Call G mX1_without 205 b [.ref a0, .int p1, .int p2] σ (wJ out Q) (wX2 Q)) : Call G mX0_without 206 b [.ref a0, .int p1, .int p2, .ref out] σ Q X := by
  refine eX0_without (bX0_without_0 ⟨b, Nat.le_refl _, hO, hC.post (fun v s h => ?_) (fun E q s h => ?_)⟩)
  · obtain ⟨x, hx, f, hf, hq⟩ := h
    exact ⟨x, hx, 1, f, hf, z_in, fun s1 e => by rw [e]; exact hq⟩
  · rcases h with ⟨rfl, hq⟩ | ⟨rfl, hq⟩
    · exact AtX.catch [] ⟨0, 9, 12, 19⟩ [⟨0, 9, 16, 13⟩] rfl (fun z hz => absurd hz (by simp)) rfl (by decide) q1102 q1117 (At.sub [] rfl (bX0_without_12 hq))
    · exact AtX.catch [⟨0, 9, 12, 19⟩] ⟨0, 9, 16, 13⟩ [] rfl (fun z hz => by rw [List.mem_singleton.mp hz]; exact Or.inr ⟨by decide, _, q1102, fun U h => h.2.2.2.2.2.2.2.2.2.2.1⟩) rfl (by decide) q827 q839 (At.sub [] rfl (bX0_without_16 hq))
theorem z_falling {G : GC} {σ : PS} {Q : Option Value → PS → Prop} {X : String → Nat → PS → Prop} {b a0 out : Nat} {p1 : Int32} (hO : ∃ fs, Ob σ 1 a0 fs) (hC : Call G mX1_falling 205 b [.ref a0, .int p1] σ (wJ out Q) (wX1 Q)) : Call G mX0_falling 206 b [.ref a0, .int p1, .ref out] σ Q X := by
  refine eX0_falling (bX0_falling_0 ⟨b, Nat.le_refl _, hO, hC.post (fun v s h => ?_) (fun E q s h => ?_)⟩)
  · obtain ⟨x, hx, f, hf, hq⟩ := h
    exact ⟨x, hx, 1, f, hf, z_in, fun s1 e => by rw [e]; exact hq⟩
  · obtain ⟨rfl, hq⟩ := h
    exact AtX.catch [] ⟨0, 8, 11, 13⟩ [] rfl (fun z hz => absurd hz (by simp)) rfl (by decide) q827 q839 (At.sub [] rfl (bX0_falling_11 hq))
theorem z_seeing {G : GC} {σ : PS} {Q : Option Value → PS → Prop} {X : String → Nat → PS → Prop} {b a0 out : Nat} {p1 p2 : Int32} (hO : ∃ fs, Ob σ 1 a0 fs) (hC : Call G mX1_seeing 205 b [.ref a0, .int p1, .int p2] σ (wJ out Q) (wX1 Q)) : Call G mX0_seeing 206 b [.ref a0, .int p1, .int p2, .ref out] σ Q X := by
  refine eX0_seeing (bX0_seeing_0 ⟨b, Nat.le_refl _, hO, hC.post (fun v s h => ?_) (fun E q s h => ?_)⟩)
  · obtain ⟨x, hx, f, hf, hq⟩ := h
    exact ⟨x, hx, 1, f, hf, z_in, fun s1 e => by rw [e]; exact hq⟩
  · obtain ⟨rfl, hq⟩ := h
    exact AtX.catch [] ⟨0, 9, 12, 13⟩ [] rfl (fun z hz => absurd hz (by simp)) rfl (by decide) q827 q839 (At.sub [] rfl (bX0_seeing_12 hq))
theorem z_filled {G : GC} {σ : PS} {Q : Option Value → PS → Prop} {X : String → Nat → PS → Prop} {b a0 out : Nat} {p1 p2 : Int32} (hO : ∃ fs, Ob σ 1 a0 fs) (hC : Call G mX1_filled 206 b [.ref a0, .int p1, .int p2] σ (wJ out Q) (wX1 Q)) : Call G mX0_filled 207 b [.ref a0, .int p1, .int p2, .ref out] σ Q X := by
  refine eX0_filled (bX0_filled_0 ⟨b, Nat.le_refl _, hO, hC.post (fun v s h => ?_) (fun E q s h => ?_)⟩)
  · obtain ⟨x, hx, f, hf, hq⟩ := h
    exact ⟨x, hx, 1, f, hf, z_in, fun s1 e => by rw [e]; exact hq⟩
  · obtain ⟨rfl, hq⟩ := h
    exact AtX.catch [] ⟨0, 9, 12, 13⟩ [] rfl (fun z hz => absurd hz (by simp)) rfl (by decide) q827 q839 (At.sub [] rfl (bX0_filled_12 hq))
theorem z_ruled {G : GC} {σ : PS} {Q : Option Value → PS → Prop} {X : String → Nat → PS → Prop} {b a0 out : Nat} {p1 : Int32} (hO : ∃ fs, Ob σ 1 a0 fs) (hC : Call G mX1_ruled 205 b [.ref a0, .int p1] σ (wJ out Q) (wX1 Q)) : Call G mX0_ruled 206 b [.ref a0, .int p1, .ref out] σ Q X := by
  refine eX0_ruled (bX0_ruled_0 ⟨b, Nat.le_refl _, hO, hC.post (fun v s h => ?_) (fun E q s h => ?_)⟩)
  · obtain ⟨x, hx, f, hf, hq⟩ := h
    exact ⟨x, hx, 1, f, hf, z_in, fun s1 e => by rw [e]; exact hq⟩
  · obtain ⟨rfl, hq⟩ := h
    exact AtX.catch [] ⟨0, 8, 11, 13⟩ [] rfl (fun z hz => absurd hz (by simp)) rfl (by decide) q827 q839 (At.sub [] rfl (bX0_ruled_11 hq))
theorem z_swapped {G : GC} {σ : PS} {Q : Option Value → PS → Prop} {X : String → Nat → PS → Prop} {b a0 out : Nat} {p1 p2 p3 : Int32} (hO : ∃ fs, Ob σ 1 a0 fs) (hC : Call G mX1_swapped 205 b [.ref a0, .int p1, .int p2, .int p3] σ (wJ out Q) (wX2 Q)) : Call G mX0_swapped 206 b [.ref a0, .int p1, .int p2, .int p3, .ref out] σ Q X := by
  refine eX0_swapped (bX0_swapped_0 ⟨b, Nat.le_refl _, hO, hC.post (fun v s h => ?_) (fun E q s h => ?_)⟩)
  · obtain ⟨x, hx, f, hf, hq⟩ := h
    exact ⟨x, hx, 1, f, hf, z_in, fun s1 e => by rw [e]; exact hq⟩
  · rcases h with ⟨rfl, hq⟩ | ⟨rfl, hq⟩
    · exact AtX.catch [] ⟨0, 11, 14, 19⟩ [⟨0, 11, 18, 13⟩] rfl (fun z hz => absurd hz (by simp)) rfl (by decide) q1102 q1117 (At.sub [] rfl (bX0_swapped_14 hq))
    · exact AtX.catch [⟨0, 11, 14, 19⟩] ⟨0, 11, 18, 13⟩ [] rfl (fun z hz => by rw [List.mem_singleton.mp hz]; exact Or.inr ⟨by decide, _, q1102, fun U h => h.2.2.2.2.2.2.2.2.2.2.1⟩) rfl (by decide) q827 q839 (At.sub [] rfl (bX0_swapped_18 hq))
theorem z_day {G : GC} {σ : PS} {Q : Option Value → PS → Prop} {X : String → Nat → PS → Prop} {b a0 out : Nat} {p1 p2 p3 : Int32} (hO : ∃ fs, Ob σ 1 a0 fs) (hC : Call G mX1_day 204 b [.ref a0, .int p1, .int p2, .int p3] σ (wI out Q) (wX2 Q)) : Call G mX0_day 205 b [.ref a0, .int p1, .int p2, .int p3, .ref out] σ Q X := by
  refine eX0_day (bX0_day_0 ⟨b, Nat.le_refl _, hO, hC.post (fun v s h => ?_) (fun E q s h => ?_)⟩)
  · obtain ⟨x, hx, f, hf, hq⟩ := h
    exact ⟨x, hx, 1, f, hf, z_in, fun s1 e => by rw [e]; exact hq⟩
  · rcases h with ⟨rfl, hq⟩ | ⟨rfl, hq⟩
    · exact AtX.catch [] ⟨0, 12, 15, 19⟩ [⟨0, 12, 19, 13⟩] rfl (fun z hz => absurd hz (by simp)) rfl (by decide) q1102 q1117 (At.sub [] rfl (bX0_day_15 hq))
    · exact AtX.catch [⟨0, 12, 15, 19⟩] ⟨0, 12, 19, 13⟩ [] rfl (fun z hz => by rw [List.mem_singleton.mp hz]; exact Or.inr ⟨by decide, _, q1102, fun U h => h.2.2.2.2.2.2.2.2.2.2.1⟩) rfl (by decide) q827 q839 (At.sub [] rfl (bX0_day_19 hq))
theorem z_span {G : GC} {σ : PS} {Q : Option Value → PS → Prop} {X : String → Nat → PS → Prop} {b a0 out : Nat} {p1 p2 p3 : Int32} (hO : ∃ fs, Ob σ 1 a0 fs) (hC : Call G mX1_span 204 b [.ref a0, .int p1, .int p2, .int p3] σ (wI out Q) (wX1 Q)) : Call G mX0_span 205 b [.ref a0, .int p1, .int p2, .int p3, .ref out] σ Q X := by
  refine eX0_span (bX0_span_0 ⟨b, Nat.le_refl _, hO, hC.post (fun v s h => ?_) (fun E q s h => ?_)⟩)
  · obtain ⟨x, hx, f, hf, hq⟩ := h
    exact ⟨x, hx, 1, f, hf, z_in, fun s1 e => by rw [e]; exact hq⟩
  · obtain ⟨rfl, hq⟩ := h
    exact AtX.catch [] ⟨0, 12, 15, 13⟩ [] rfl (fun z hz => absurd hz (by simp)) rfl (by decide) q827 q839 (At.sub [] rfl (bX0_span_15 hq))
theorem z_come {G : GC} {σ : PS} {Q : Option Value → PS → Prop} {X : String → Nat → PS → Prop} {b a0 out : Nat} {p1 p2 : Int32} (hO : ∃ fs, Ob σ 1 a0 fs) (hC : Call G mX1_come 12 b [.ref a0, .int p1, .int p2] σ (wI out Q) (wX2 Q)) : Call G mX0_come 13 b [.ref a0, .int p1, .int p2, .ref out] σ Q X := by
  refine eX0_come (bX0_come_0 ⟨b, Nat.le_refl _, hO, hC.post (fun v s h => ?_) (fun E q s h => ?_)⟩)
  · obtain ⟨x, hx, f, hf, hq⟩ := h
    exact ⟨x, hx, 1, f, hf, z_in, fun s1 e => by rw [e]; exact hq⟩
  · rcases h with ⟨rfl, hq⟩ | ⟨rfl, hq⟩
    · exact AtX.catch [] ⟨0, 10, 13, 19⟩ [⟨0, 10, 17, 13⟩] rfl (fun z hz => absurd hz (by simp)) rfl (by decide) q1102 q1117 (At.sub [] rfl (bX0_come_13 hq))
    · exact AtX.catch [⟨0, 10, 13, 19⟩] ⟨0, 10, 17, 13⟩ [] rfl (fun z hz => by rw [List.mem_singleton.mp hz]; exact Or.inr ⟨by decide, _, q1102, fun U h => h.2.2.2.2.2.2.2.2.2.2.1⟩) rfl (by decide) q827 q839 (At.sub [] rfl (bX0_come_17 hq))
theorem z_skip {G : GC} {σ : PS} {Q : Option Value → PS → Prop} {X : String → Nat → PS → Prop} {b a0 out : Nat} {p1 : Int32} (hO : ∃ fs, Ob σ 1 a0 fs) (hC : Call G mX1_skip 12 b [.ref a0, .int p1] σ (wI out Q) (wX0 Q)) : Call G mX0_skip 13 b [.ref a0, .int p1, .ref out] σ Q X := by
  refine eX0_skip (bX0_skip_0 ⟨b, Nat.le_refl _, hO, hC.post (fun v s h => ?_) (fun E q s h => ?_)⟩)
  · obtain ⟨x, hx, f, hf, hq⟩ := h
    exact ⟨x, hx, 1, f, hf, z_in, fun s1 e => by rw [e]; exact hq⟩
  · obtain ⟨rfl, hq⟩ := h
    exact AtX.catch [] ⟨0, 9, 12, 19⟩ [] rfl (fun z hz => absurd hz (by simp)) rfl (by decide) q1102 q1117 (At.sub [] rfl (bX0_skip_12 hq))
theorem z_shift {G : GC} {σ : PS} {Q : Option Value → PS → Prop} {X : String → Nat → PS → Prop} {b a0 out : Nat} {p1 p2 : Int32} (hO : ∃ fs, Ob σ 1 a0 fs) (hC : Call G mX1_shift 12 b [.ref a0, .int p1, .int p2] σ (wI out Q) (wX2 Q)) : Call G mX0_shift 13 b [.ref a0, .int p1, .int p2, .ref out] σ Q X := by
  refine eX0_shift (bX0_shift_0 ⟨b, Nat.le_refl _, hO, hC.post (fun v s h => ?_) (fun E q s h => ?_)⟩)
  · obtain ⟨x, hx, f, hf, hq⟩ := h
    exact ⟨x, hx, 1, f, hf, z_in, fun s1 e => by rw [e]; exact hq⟩
  · rcases h with ⟨rfl, hq⟩ | ⟨rfl, hq⟩
    · exact AtX.catch [] ⟨0, 10, 13, 19⟩ [⟨0, 10, 17, 13⟩] rfl (fun z hz => absurd hz (by simp)) rfl (by decide) q1102 q1117 (At.sub [] rfl (bX0_shift_13 hq))
    · exact AtX.catch [⟨0, 10, 13, 19⟩] ⟨0, 10, 17, 13⟩ [] rfl (fun z hz => by rw [List.mem_singleton.mp hz]; exact Or.inr ⟨by decide, _, q1102, fun U h => h.2.2.2.2.2.2.2.2.2.2.1⟩) rfl (by decide) q827 q839 (At.sub [] rfl (bX0_shift_17 hq))
theorem z_teach {G : GC} {σ : PS} {Q : Option Value → PS → Prop} {X : String → Nat → PS → Prop} {b a0 out : Nat} {p1 p2 : Int32} (hO : ∃ fs, Ob σ 1 a0 fs) (hC : Call G mX1_teach 12 b [.ref a0, .int p1, .int p2] σ (wI out Q) (wX0 Q)) : Call G mX0_teach 13 b [.ref a0, .int p1, .int p2, .ref out] σ Q X := by
  refine eX0_teach (bX0_teach_0 ⟨b, Nat.le_refl _, hO, hC.post (fun v s h => ?_) (fun E q s h => ?_)⟩)
  · obtain ⟨x, hx, f, hf, hq⟩ := h
    exact ⟨x, hx, 1, f, hf, z_in, fun s1 e => by rw [e]; exact hq⟩
  · obtain ⟨rfl, hq⟩ := h
    exact AtX.catch [] ⟨0, 10, 13, 19⟩ [] rfl (fun z hz => absurd hz (by simp)) rfl (by decide) q1102 q1117 (At.sub [] rfl (bX0_teach_13 hq))
