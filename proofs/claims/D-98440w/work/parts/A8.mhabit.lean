/-! Part B: the reference's habit, rule -/
theorem MI.put {F F' : Nat → Int32} {L : Nat → Int64} {I I' : Nat → Nat → Int32} {J : Nat → Nat → Int64} {T T' : TS} (h : MI F L I J T) (f35 : F' 35 = F 35) (f36 : F' 36 = F 36) (i33 : I' 33 = I 33) (i34 : I' 34 = I 34) (i1 : I' 1 = I 1)
    (mc : MCx (tsO T') (tsK T' 0).2.1 (tsK T' 0).2.2 (tsK T' 0).1 I') (fs : F' 18 = nI (tsP T') ∧ F' 19 = nI (tsK T' 0).1) (hab : ∀ p, p < 7 → HabM I' p (tsH T' p)) (bk : BkM F' I' (tsB T')) (tp : F' 2 = nI (tsF T') ∧ (∀ i, i < tsF T' → I' 9 i = nI (tsT T' i)) ∧ F' 8 = tsL T') (ps : F' 62 = nI (tsC T') ∧ ∀ k, k < tsC T' → pastR I' k (tsK T' (1 + k))) (im : F' 64 = nI (tsI T') ∧ ∀ i, i < tsI T' → imgR I' i (tsK T') (tsQ T' i)) (r0 : tsR0 T' = tsR0 T) (r1 : tsR1 T' = tsR1 T) (ok : tsOK T') : MI F' L I' J T' := by
  obtain ⟨-, -, -, -, e0, -, -, -, ⟨q1, q2⟩, -⟩ := h
  exact ⟨mc, fs, hab, bk, e0.oth f35 f36 rfl rfl i33 i34 rfl rfl rfl, tp, ps, im, ⟨by rw [i1, r0]; exact q1, by rw [i1, r1]; exact q2⟩, ok⟩
/-- a text was taken, nothing else counts -/
theorem MI.tx {F F' : Nat → Int32} {L : Nat → Int64} {I I' : Nat → Nat → Int32} {J : Nat → Nat → Int64} {T : TS} {l : Int32} (h : MI F L I J T) (hF : ∀ j, (j = 18 ∨ j = 19 ∨ j = 32 ∨ j = 35 ∨ j = 36 ∨ j = 62 ∨ j = 64) → F' j = F j) (hI : ∀ a, (a = 1 ∨ a = 11 ∨ a = 14 ∨ a = 15 ∨ a = 24 ∨ a = 25 ∨ a = 26 ∨ a = 27 ∨ a = 31 ∨ a = 33 ∨ a = 34 ∨ a = 61 ∨ a = 63) → I' a = I a) (f2 : F' 2 = 0) (f8 : F' 8 = l) : MI F' L I' J (txS T l) := by
  obtain ⟨a, ⟨b1, b2⟩, c, d, e0, -, ⟨p1, p2⟩, ⟨q1, q2⟩, -, ok⟩ := id h
  refine h.put (T' := txS T l) (hF 35 (by decide)) (hF 36 (by decide)) (hI 33 (by decide)) (hI 34 (by decide)) (hI 1 (by decide)) ⟨fun j hj => ?_, fun j hj => ?_⟩ ⟨(hF 18 (by decide)).trans b1, (hF 19 (by decide)).trans b2⟩ (fun p hp => (c p hp).cong (hI 27 (by decide)) (hI 26 (by decide)) (hI 24 (by decide)) (hI 25 (by decide))) (d.keep (hF 32 (by decide)) (hI 31 (by decide))) ⟨f2, fun i hi => absurd hi (Nat.not_lt_zero i), f8⟩ ⟨(hF 62 (by decide)).trans p1, fun k hk => ?_⟩ ⟨(hF 64 (by decide)).trans q1, fun i hi => ?_⟩ rfl rfl (txS_ok ok)
  · rw [hI 11 (by decide)]
    exact a.1 j hj
  · rw [hI 14 (by decide), hI 15 (by decide)]
    exact a.2 j hj
  · have q := p2 k hk
    unfold pastR at *
    rw [hI 61 (by decide)]
    exact q
  · have q := q2 i hi
    unfold imgR at *
    rw [hI 63 (by decide)]
    exact q
/-- a habit is another one -/
theorem MI.hab {F F' : Nat → Int32} {L : Nat → Int64} {I I' : Nat → Nat → Int32} {J : Nat → Nat → Int64} {T : TS} {l : Int32} {p : Nat} {LL : List StT} (h : MI F L I J T) (hp : p < 7) (hF : ∀ j, (j = 18 ∨ j = 19 ∨ j = 32 ∨ j = 35 ∨ j = 36 ∨ j = 62 ∨ j = 64) → F' j = F j) (hI : ∀ a, (a = 1 ∨ a = 11 ∨ a = 14 ∨ a = 15 ∨ a = 31 ∨ a = 33 ∨ a = 34 ∨ a = 61 ∨ a = 63) → I' a = I a) (f2 : F' 2 = 0) (f8 : F' 8 = l) (hn : HabM I' p LL) (ho : ∀ q l, q < 7 → q ≠ p → HabM I q l → HabM I' q l) (hL : (∀ Z, Z ∈ LL → stOK Z) ∧ LL.length ≤ 8) : MI F' L I' J (tsHb (txS T l) (hbU (tsH T) p LL)) := by
  obtain ⟨a, ⟨b1, b2⟩, c, d, e0, -, ⟨p1, p2⟩, ⟨q1, q2⟩, -, ok⟩ := id h
  refine h.put (T' := tsHb (txS T l) (hbU (tsH T) p LL)) (hF 35 (by decide)) (hF 36 (by decide)) (hI 33 (by decide)) (hI 34 (by decide)) (hI 1 (by decide)) ⟨fun j hj => ?_, fun j hj => ?_⟩ ⟨(hF 18 (by decide)).trans b1, (hF 19 (by decide)).trans b2⟩ (fun q hq => ?_) (d.keep (hF 32 (by decide)) (hI 31 (by decide))) ⟨f2, fun i hi => absurd hi (Nat.not_lt_zero i), f8⟩ ⟨(hF 62 (by decide)).trans p1, fun k hk => ?_⟩ ⟨(hF 64 (by decide)).trans q1, fun i hi => ?_⟩ rfl rfl (tsHb_ok (T := txS T l) (txS_ok ok) hL)
  · rw [hI 11 (by decide)]
    exact a.1 j hj
  · rw [hI 14 (by decide), hI 15 (by decide)]
    exact a.2 j hj
  · show HabM I' q (if q = p then LL else tsH T q)
    by_cases z : q = p
    · rw [if_pos z, z]
      exact hn
    · rw [if_neg z]
      exact ho q _ hq z (c q hq)
  · have q := p2 k hk
    unfold pastR at *
    rw [hI 61 (by decide)]
    exact q
  · have q := q2 i hi
    unfold imgR at *
    rw [hI 63 (by decide)]
    exact q
theorem MI.tape {F : Nat → Int32} {L : Nat → Int64} {I : Nat → Nat → Int32} {J : Nat → Nat → Int64} {T : TS} {n : Nat} (h : MI F L I J T) (hn : n ≤ tsF T) : (∀ i, i < n → I 9 i = nI (tsT T i)) ∧ n ≤ 600 ∧ ∀ i, i < n → tsT T i < 256 := by
  have ok := h.ok.2.2.2.2
  exact ⟨fun i hi => h.2.2.2.2.2.1.2.1 i (by omega), by have := ok.1; omega, fun i hi => ok.2.1 i (by omega)⟩
theorem w_isTold {G : GC} {ad : Nat → Nat} {o : Nat} {F : Nat → Int32} {L : Nat → Int64} {I : Nat → Nat → Int32} {J : Nat → Nat → Int64} {P : Option Value → Prop} {T : TS} {x : Int32} (h : MI F L I J T) (k1 : ∀ n, n < min (tsF T) 150 + 1 → x = nI n → P (some (.int 1))) (k0 : ¬ inN x (min (tsF T) 150 + 1) → P (some (.int 0))) : CallMO G mX9_isTold 3 ad o [.ref o, .int x] F L I J P := by
  have hF6 := h.ok.2.2.2.2.1
  have f2 := h.2.2.2.2.2.1.1
  refine eX9_isTold (fun σ0 => bX9_isTold_0 ⟨fun z => ⟨rfl, rfl, rfl, rfl, k0 (fun ⟨j, hj, e⟩ => ?_)⟩, fun z => ⟨fun y => ⟨rfl, rfl, rfl, rfl, k0 (fun ⟨j, hj, e⟩ => ?_)⟩, fun y => ⟨fun w => ⟨rfl, rfl, rfl, rfl, k0 (fun ⟨j, hj, e⟩ => ?_)⟩, fun w => ⟨rfl, rfl, rfl, rfl, ?_⟩⟩⟩⟩)
  · rw [e] at z
    exact nI_pos (by omega) z
  · rw [e, f2] at y
    have := (nI_ltI (by omega) (by omega)).mp y
    omega
  · rw [e] at w
    have := (nI_ltI (a := 150) (by decide) (by omega)).mp w
    omega
  · obtain ⟨j, hj, rfl⟩ := nI_of z
    rw [f2] at y
    have y1 : ¬ tsF T < j := fun u => y ((nI_ltI (by omega) (by omega)).mpr u)
    have w1 : ¬ 150 < j := fun u => w ((nI_ltI (a := 150) (by decide) (by omega)).mpr u)
    exact k1 j (by omega) rfl
theorem m_habit {G : GC} {ad : Nat → Nat} {o : Nat} {F : Nat → Int32} {L : Nat → Int64} {I : Nat → Nat → Int32} {J : Nat → Nat → Int64} {Q : MPost} {T : TS} {x y : Int32} (hM : MI F L I J T)
    (kq : ∀ p n, p < tsP T → x = nI p → n < min (tsF T) 150 + 1 → y = nI n → ∀ L' a', habR T n = .inr (L', a') → ∀ F' L9 I' J', MI F' L9 I' J' (tsHb (txS T (-1)) (hbU (tsH T) p L')) → F' 0 = 0 → Q (some (.int (nI L'.length))) F' L9 I' J')
    (kw : ∀ p n, p < tsP T → x = nI p → n < min (tsF T) 150 + 1 → y = nI n → ∀ w u, habR T n = .inl (w, u) → ∀ F' L9 I' J', MI F' L9 I' J' (txS T (nI u)) → F' 0 = 0 → Q (some (.int (nI w - 10))) F' L9 I' J')
    (k0 : ¬ inN x (tsP T) → ∀ F' L' I' J', MI F' L' I' J' (bu0 T) → F' 0 = 1 → Q (some (.int 0)) F' L' I' J') (k1 : inN x (tsP T) → ¬ inN y (min (tsF T) 150 + 1) → ∀ F' L' I' J', MI F' L' I' J' (bu1 T) → F' 0 = 2 → Q (some (.int 0)) F' L' I' J') : CallM G mX9_habit 153 ad o [.ref o, .int x, .int y] F L I J Q := by
  have hP6 := hM.ok.2.1
  have M0 : MI (fU F 0 0) L I J T := hM.th
  refine eX9_habit (fun σ0 => bX9_habit_0 (fun F1 e1 => ?_))
  subst e1
  refine w_isPerson M0 fU_at (fun p hp hx => ⟨_, rfl, fun z => absurd z (by decide), fun _ => w_isTold M0 (fun n hn hy => ⟨_, rfl, w_mayY fU_at ⟨_, rfl, fun _ => ?_, fun z => absurd z (by decide)⟩⟩) (fun h => ⟨_, rfl, w_may1 M0 fU_at (by decide) (fun F' I' q1 q2 => ⟨_, rfl, fun z => absurd rfl z, fun _ => k1 ⟨p, hp, hx⟩ h F' L I' J q1 q2⟩)⟩)⟩) (fun h F' I' q1 q2 => ⟨_, rfl, fun _ => k0 h F' L I' J q1 q2, fun z => absurd rfl z⟩)
  obtain ⟨t1, t2, t3⟩ := M0.tape (n := n) (by omega)
  subst hx
  subst hy
  refine m_readHabit (t := tsT T) (by omega) t1 (by omega) t3 (fun L' a' h1 F' I' fz z2 z8 hI hn' ho => ⟨_, rfl, ?_⟩) (fun w u h1 F' I' fz z2 z8 hI => ⟨_, rfl, ?_⟩)
  · refine kq p n hp rfl hn rfl L' a' h1 F' L I' J (M0.hab (p := p) (LL := L') (by omega) (fun j hj => fz j (by omega) (by omega) (by omega) (by omega) (by omega) (by omega) (by omega) (by omega) (by omega)) (fun a ha => hI a (by omega) (by omega) (by omega) (by omega) (by omega) (by omega) (by omega)) z2 z8 hn' ho (pHab_ok _ _ _ (Nat.zero_le _) ⟨fun Z hZ => by simp at hZ, by simp⟩ _ _ h1)) ?_
    exact (fz 0 (by decide) (by decide) (by decide) (by decide) (by decide) (by decide) (by decide) (by decide) (by decide)).trans fU_at
  · refine kw p n hp rfl hn rfl w u h1 F' L I' J (M0.tx (fun j hj => fz j (by omega) (by omega) (by omega) (by omega) (by omega) (by omega) (by omega) (by omega) (by omega)) (fun a ha => hI a (by omega) (by omega) (by omega)) z2 z8) ?_
    exact (fz 0 (by decide) (by decide) (by decide) (by decide) (by decide) (by decide) (by decide) (by decide) (by decide)).trans fU_at
theorem m_rule {G : GC} {ad : Nat → Nat} {o : Nat} {F : Nat → Int32} {L : Nat → Int64} {I : Nat → Nat → Int32} {J : Nat → Nat → Int64} {Q : MPost} {T : TS} {x : Int32} (hM : MI F L I J T)
    (kq : ∀ n, n < min (tsF T) 150 + 1 → x = nI n → ∀ L' a', habR T n = .inr (L', a') → ∀ F' L9 I' J', MI F' L9 I' J' (tsHb (txS T (-1)) (hbU (tsH T) 6 L')) → F' 0 = 0 → Q (some (.int (nI L'.length))) F' L9 I' J')
    (kw : ∀ n, n < min (tsF T) 150 + 1 → x = nI n → ∀ w u, habR T n = .inl (w, u) → ∀ F' L9 I' J', MI F' L9 I' J' (txS T (nI u)) → F' 0 = 0 → Q (some (.int (nI w - 10))) F' L9 I' J')
    (k1 : ¬ inN x (min (tsF T) 150 + 1) → ∀ F' L' I' J', MI F' L' I' J' (bu1 T) → F' 0 = 1 → Q (some (.int 0)) F' L' I' J') : CallM G mX9_rule 153 ad o [.ref o, .int x] F L I J Q := by
  have M0 : MI (fU F 0 0) L I J T := hM.th
  refine eX9_rule (fun σ0 => bX9_rule_0 (fun F1 e1 => ?_))
  subst e1
  refine w_isTold M0 (fun n hn hy => ⟨_, rfl, w_mayY fU_at ⟨_, rfl, fun _ => ?_, fun z => absurd z (by decide)⟩⟩) (fun h => ⟨_, rfl, w_may1 M0 fU_at (by decide) (fun F' I' q1 q2 => ⟨_, rfl, fun z => absurd rfl z, fun _ => k1 h F' L I' J q1 q2⟩)⟩)
  obtain ⟨t1, t2, t3⟩ := M0.tape (n := n) (by omega)
  subst hy
  refine m_readHabit (p := 6) (t := tsT T) (by decide) t1 (by omega) t3 (fun L' a' h1 F' I' fz z2 z8 hI hn' ho => ⟨_, rfl, ?_⟩) (fun w u h1 F' I' fz z2 z8 hI => ⟨_, rfl, ?_⟩)
  · refine kq n hn rfl L' a' h1 F' L I' J (M0.hab (p := 6) (LL := L') (by decide) (fun j hj => fz j (by omega) (by omega) (by omega) (by omega) (by omega) (by omega) (by omega) (by omega) (by omega)) (fun a ha => hI a (by omega) (by omega) (by omega) (by omega) (by omega) (by omega) (by omega)) z2 z8 hn' ho (pHab_ok _ _ _ (Nat.zero_le _) ⟨fun Z hZ => by simp at hZ, by simp⟩ _ _ h1)) ?_
    exact (fz 0 (by decide) (by decide) (by decide) (by decide) (by decide) (by decide) (by decide) (by decide) (by decide)).trans fU_at
  · refine kw n hn rfl w u h1 F' L I' J (M0.tx (fun j hj => fz j (by omega) (by omega) (by omega) (by omega) (by omega) (by omega) (by omega) (by omega) (by omega)) (fun a ha => hI a (by omega) (by omega) (by omega)) z2 z8) ?_
    exact (fz 0 (by decide) (by decide) (by decide) (by decide) (by decide) (by decide) (by decide) (by decide) (by decide)).trans fU_at
