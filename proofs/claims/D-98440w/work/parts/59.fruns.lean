/-! Part B: Flow.runs -/
def HowO (σ : PS) (hw hb : Nat) (bk : Option Nat) (to wo : Int32) (fall see : Nat) (sta bg : Int32) : Prop := σ 6 hw = some (.inl [.ref hb, va_rf bk, .int to, .int wo, .int (nI fall), .int (nI see), .int sta, .int bg])
def BkQ (σ : PS) (u : Option Nat) (B : Option BK) : Prop := (u = none ∧ B = none) ∨ ∃ z c, u = some z ∧ B = some c ∧ BkO σ z c
theorem BkQ.kept {σ τ : PS} {u : Option Nat} {B : Option BK} (f8 : Kp 8 σ τ) (f1 : Kp 100 σ τ) (h : BkQ σ u B) : BkQ τ u B := by
  rcases h with h | ⟨z, c, h1, h2, h3⟩
  · exact Or.inl h
  · exact Or.inr ⟨z, c, h1, h2, h3.kept f8 f1⟩
theorem HabO.ok {σ : PS} {u : Nat} {L : List StT} (h : HabO σ u L) : (∀ Z, Z ∈ L → stOK Z) ∧ L.length ≤ 8 := by
  obtain ⟨ar, h1, h2, F, h3, h4⟩ := h
  refine ⟨fun Z hZ => ?_, h2⟩
  obtain ⟨i, hi, e⟩ := List.getElem_of_mem hZ
  exact (h4 i Z (by rw [List.getElem?_eq_getElem hi, e])).1
theorem HabQ.ok {σ : PS} {u : Option Nat} {L : List StT} (h : HabQ σ u L) : (∀ Z, Z ∈ L → stOK Z) ∧ L.length ≤ 8 := by
  rcases h with ⟨_, rfl⟩ | ⟨z, _, h⟩
  · exact ⟨fun Z hZ => (by cases hZ), Nat.zero_le _⟩
  · exact h.ok
theorem lN_any (x : Int64) : lN x.toBitVec.toNat = x := by
  apply Int64.toBitVec_inj.mp
  show BitVec.ofNat 64 x.toBitVec.toNat = x.toBitVec
  simp
theorem nI_any (x : Int32) : nI x.toBitVec.toNat = x := by
  apply Int32.toBitVec_inj.mp
  show BitVec.ofNat 32 x.toBitVec.toNat = x.toBitVec
  simp
/-- a run's end -/
def fRes (O : Nat → Nat) (h : HW) (fw fm : Nat → Int32) (bg : Int32) (T : Nat) : FS := if bg = 0 then fRun O h fw fm T else fBeg O h fm T (fRun O h fw fm T)
def FlA (σ : PS) (a st dr n1 n2 : Nat) : Prop := ∃ (x4 x5 : Value) (x6 x7 : Int64) (x8 x9 x10 : Int32) (l : List Value) (f g h : Nat → Int64), σ 3 a = some (.inl [.ref st, .ref dr, .ref n1, .ref n2, x4, x5, .long x6, .long x7, .int x8, .int x9, .int x10]) ∧ σ 4 st = some (.inl l) ∧ l.length = 5 ∧ σ 101 dr = some (.inr (6, .inr (.inl f))) ∧ σ 101 n1 = some (.inr (16900, .inr (.inl g))) ∧ σ 101 n2 = some (.inr (16900, .inr (.inl h))) ∧ n1 ≠ n2 ∧ dr ≠ n1 ∧ dr ≠ n2
set_option maxRecDepth 8000 in
set_option maxHeartbeats 2000000 in
theorem k_fruns {G : GC} {σ : PS} {Q : Option Value → PS → Prop} {X : String → Nat → PS → Prop} {b a st dr n1 n2 o p P' cl w m n hw hb T : Nat} {O : Nat → Nat} {fw fm : (Nat → Int32)} {hf : Nat → Option Nat} {h : HW} {bk : Option Nat} {to sta bg : Int32}
    (hO : OffO σ o p O P') (hC : CalO σ cl w m n fw fm) (hn : n ≤ 24) (hwho : ∀ i, i < n → ∃ p, p < 6 ∧ fw i = nI p) (hHow : HowO σ hw hb bk to h.2.2.2.1 h.1 h.2.1 sta bg) (hH : σ 105 hb = some (.inr (6, .inr (.inr hf)))) (hL : ∀ p, p < 6 → HabQ σ (hf p) (h.2.2.2.2.1 p)) (hB : BkQ σ bk h.2.2.2.2.2) (hst : stt h.2.2.1 sta)
    (hA : FlA σ a st dr n1 n2) (hN : O 0 ≤ 12) (hcd : O 1 + O 2 ≤ 12) (hk : O 3 < 2) (hfa : h.1 ≤ 16) (hse : h.2.1 ≤ 16) (hbud : T + 1 ≤ b) (hTn : T ≤ n)
    (hto : (bg = 0 ∧ ∀ i, i ≤ 24 → (to < nI i ↔ T ≤ i)) ∨ (bg = 1 ∧ T < n ∧ to = nI T ∧ ¬ fw T = h.2.2.2.1))
    (k : ∀ τ nw nx V who, ((nw = n1 ∧ nx = n2) ∨ (nw = n2 ∧ nx = n1)) → FlP τ a st dr nw nx o cl V h.2.1 who (fRes O h fw fm bg T).1 (fun _ => 0) (fRes O h fw fm bg T).2.1 (fRes O h fw fm bg T).2.2.1 (fRes O h fw fm bg T).2.2.2 → Fr (FlW a st dr n1 n2) σ τ → Q none τ) : Call G mX3_runs 203 b [.ref a, .ref o, .ref cl, .ref hw] σ Q X := by
  have hLok : ∀ p, p < 6 → (∀ Z, Z ∈ h.2.2.2.2.1 p → stOK Z) ∧ (h.2.2.2.2.1 p).length ≤ 8 := fun p hp => (hL p hp).ok
  have hRok := fRun_ok (fm := fm) hN hcd hk hfa hse hn hwho hLok
  have sW : ∀ {nw nx : Nat} {σ' τ' : PS}, ((nw = n1 ∧ nx = n2) ∨ (nw = n2 ∧ nx = n1)) → Fr (FlW a st dr nw nx) σ' τ' → Fr (FlW a st dr n1 n2) σ' τ' := by
    intro nw nx σ' τ' e hF
    rcases e with ⟨rfl, rfl⟩ | ⟨rfl, rfl⟩
    · exact hF
    · exact hF.sw
  have sw : ∀ {nw nx : Nat}, ((nw = n1 ∧ nx = n2) ∨ (nw = n2 ∧ nx = n1)) → ((nx = n1 ∧ nw = n2) ∨ (nx = n2 ∧ nw = n1)) := by
    intro nw nx e
    omega
  have hto1 : ∀ i, i ≤ T → i < n → (bg = 1 ∨ i < T) → ¬ to < nI i := by
    intro i h1 h2 h3 z
    rcases hto with ⟨q1, q2⟩ | ⟨q1, q2, q3, q4⟩
    · have := (q2 i (by omega)).mp z
      rcases h3 with h3 | h3
      · rw [q1] at h3; exact absurd h3 (by decide)
      · omega
    · rw [q3] at z
      exact nI_nlt h1 (by omega) z
  -- to where the steps begin
  have BEG : ∀ i, i < n → ¬ fw i = h.2.2.2.1 → ¬ to < nI i → ∀ (S : FS), GP i S.1 → ∀ b' τ nw nx who, 1 ≤ b' → ((nw = n1 ∧ nx = n2) ∨ (nw = n2 ∧ nx = n1)) → FlP τ a st dr nw nx o cl i h.2.1 who S.1 (fun _ => 0) S.2.1 S.2.2.1 S.2.2.2 → Fr (FlW a st dr n1 n2) σ τ →
      (∀ υ sg s1, FlP υ a st dr nx nw o cl i h.2.1 (fw i) (fBeg O h fm i S).1 (fun _ => 0) S.2.1 S.2.2.1 S.2.2.2 → SigO υ sg o cl i fw fm s1 → Fr (FlW a st dr n1 n2) σ υ → At G mX3_runs 203 Q X (b' - 1) 193 [(0, .ref a), (1, .ref o), (2, .ref cl), (3, .ref hw), (4, .ref sg)] [] υ) → At G mX3_runs 203 Q X b' 115 [(0, .ref a), (1, .ref o), (2, .ref cl), (3, .ref hw)] [] τ := by
    intro i hi hne htoi S hGS b' τ nw nx who hb' e hT hF nxt
    have h1 := hT.1
    have hHow1 := hF.kpF (κ := 6) (by decide) (by decide) (by decide) (by decide) _ _ hHow
    have hC1 := hC.kept (hF.kpF (by decide) (by decide) (by decide) (by decide)) (hF.kpF (by decide) (by decide) (by decide) (by decide))
    have p1 := vp_in_nI (show i < 24 by omega) (by decide)
    have c1 := nI_clamp (show i < 2 ^ 31 by omega)
    refine bX3_runs_115 ⟨nI i, ⟨_, h1, rfl⟩, to, ⟨_, hHow1, rfl⟩, fun z => absurd z htoi, fun _ => ⟨w, ⟨_, hC1.1, rfl⟩, nI i, ⟨_, h1, rfl⟩, 24, fw, hC1.2.1, p1, _, h1, by simp, fun s1 hs1 => ?_⟩⟩
    rw [c1] at hs1
    subst hs1
    have hT1 := hT.fld (o' := o) (cl' := cl) (v' := i) (see' := h.2.1) (wa' := S.2.2.1) (lo' := S.2.2.2) (who' := fw i) rfl
    have hF1 := hF.up (κ := 3) (a := a) (e := .inl [.ref st, .ref dr, .ref nw, .ref nx, .ref o, .ref cl, .long (lN S.2.2.1), .long (lN S.2.2.2), .int (nI i), .int (nI h.2.1), .int (fw i)]) (Or.inl (Or.inl ⟨rfl, rfl⟩))
    refine ⟨fw i, ⟨_, hT1.1, rfl⟩, h.2.2.2.1, ⟨_, (up_k (by decide)).trans hHow1, rfl⟩, fun _ => ⟨hb', fun q hq s2 hs2 => ?_⟩, fun z => absurd z hne⟩
    subst hs2
    have hT2 := hT1.oth (κ := 26) (x := q) (e := .inl [.null, .null, .int 0, .int 0, .int 0, .null]) (by decide) (by decide) (by decide)
    have hF2 := hF1.up (κ := 26) (a := q) (e := .inl [.null, .null, .int 0, .int 0, .int 0, .null]) (Or.inr rfl)
    have hC2 := hC.kept (hF2.kpF (by decide) (by decide) (by decide) (by decide)) (hF2.kpF (by decide) (by decide) (by decide) (by decide))
    refine ⟨nI i, ⟨_, hT2.1, rfl⟩, k_sight rfl rfl up_eq hC2 (by omega) ⟨rfl, ?_⟩⟩
    have hT3 := hT2.oth (κ := 26) (x := q) (e := .inl [.ref o, .ref cl, .int (nI i), .int (nI (cn fw (fw i) (i + 1))), .int (la fw fm i i), .null]) (by decide) (by decide) (by decide)
    have hF3 := hF2.up (κ := 26) (a := q) (e := .inl [.ref o, .ref cl, .int (nI i), .int (nI (cn fw (fw i) (i + 1))), .int (la fw fm i i), .null]) (Or.inr rfl)
    have hS3 : SigO (up (up (up τ 3 a (.inl [.ref st, .ref dr, .ref nw, .ref nx, .ref o, .ref cl, .long (lN S.2.2.1), .long (lN S.2.2.2), .int (nI i), .int (nI h.2.1), .int (fw i)])) 26 q (.inl [.null, .null, .int 0, .int 0, .int 0, .null])) 26 q (.inl [.ref o, .ref cl, .int (nI i), .int (nI (cn fw (fw i) (i + 1))), .int (la fw fm i i), .null])) q o cl i fw fm .null := up_eq
    refine ⟨nI h.1, ⟨_, (hF3.kpF (κ := 6) (by decide) (by decide) (by decide) (by decide)) _ _ hHow, rfl⟩, ⟨_, hT3.1⟩, k_ffalls hT3 (by omega) hGS hfa (fun υ hU hFU => ⟨rfl, ?_⟩)⟩
    have hFU2 : Fr (FlW a st dr n1 n2) σ υ := hF3.tr (sW e hFU.toW)
    have hSU : SigO υ q o cl i fw fm .null := (hFU 26 q (by simp [FlD])).trans hS3
    have hHU := hFU2.kpF (κ := 6) (by decide) (by decide) (by decide) (by decide) _ _ hHow
    have hBU := hB.kept (hFU2.kpF (by decide) (by decide) (by decide) (by decide)) (hFU2.kpF (by decide) (by decide) (by decide) (by decide))
    refine ⟨bk, ⟨_, hHU, rfl⟩, fun z => ?_, fun z hz => ⟨bk, ⟨_, hHU, rfl⟩, ⟨_, hU.1⟩, ?_⟩⟩
    · refine nxt υ q .null (hU.cong (fun x _ => ?_) (fun _ _ => rfl) (fun _ _ => rfl) rfl rfl) hSU hFU2
      rcases hBU with ⟨_, hb2⟩ | ⟨z', c, hz', _⟩
      · show _ = fBook (O 5) fm i h.2.2.2.2.2 _ x
        rw [hb2]
        rfl
      · rw [hz'] at z; cases z
    · rcases hBU with ⟨hb1, _⟩ | ⟨z', c, hz', hb2, hb3⟩
      · rw [hb1] at hz; cases hz
      · rw [hz']
        refine k_fonly (O := O) hb3 hU (by omega) (fall_GP hGS hfa (by omega)) hSU (hO.kept (hFU2.kpF (by decide) (by decide) (by decide) (by decide)) (hFU2.kpF (by decide) (by decide) (by decide) (by decide))) (hC.kept (hFU2.kpF (by decide) (by decide) (by decide) (by decide)) (hFU2.kpF (by decide) (by decide) (by decide) (by decide))) (fun ω s1 hW hsW hFW => ⟨rfl, nxt ω q s1 (hW.cong (fun x _ => ?_) (fun _ _ => rfl) (fun _ _ => rfl) rfl rfl) hsW (hFU2.tr (sW (sw e) hFW))⟩)
        show _ = fBook (O 5) fm i h.2.2.2.2.2 _ x
        rw [hb2]
  -- the steps of a visit, its end
  have STP : ∀ i, i < n → ∀ pw, pw < 6 → fw i = nI pw → ∀ (S : FS), GP (i + 1) S.1 → ∀ b' sg, (∀ υ nw nx who, ((nw = n1 ∧ nx = n2) ∨ (nw = n2 ∧ nx = n1)) → FlP υ a st dr nw nx o cl (i + 1) h.2.1 who (fEnd h.2.2.1 i ((h.2.2.2.2.1 pw).foldl (fStep O h.2.1 fw fm i) S)).1 (fun _ => 0) (fEnd h.2.2.1 i ((h.2.2.2.2.1 pw).foldl (fStep O h.2.1 fw fm i) S)).2.1 (fEnd h.2.2.1 i ((h.2.2.2.2.1 pw).foldl (fStep O h.2.1 fw fm i) S)).2.2.1 (fEnd h.2.2.1 i ((h.2.2.2.2.1 pw).foldl (fStep O h.2.1 fw fm i) S)).2.2.2 → Fr (FlW a st dr n1 n2) σ υ → At G mX3_runs 203 Q X b' 115 [(0, .ref a), (1, .ref o), (2, .ref cl), (3, .ref hw)] [] υ) →
      ∀ D j, j + D = (h.2.2.2.2.1 pw).length → ∀ τ nw nx s1, ((nw = n1 ∧ nx = n2) ∨ (nw = n2 ∧ nx = n1)) → FlP τ a st dr nw nx o cl i h.2.1 (nI pw) (((h.2.2.2.2.1 pw).take j).foldl (fStep O h.2.1 fw fm i) S).1 (fun _ => 0) (((h.2.2.2.2.1 pw).take j).foldl (fStep O h.2.1 fw fm i) S).2.1 (((h.2.2.2.2.1 pw).take j).foldl (fStep O h.2.1 fw fm i) S).2.2.1 (((h.2.2.2.2.1 pw).take j).foldl (fStep O h.2.1 fw fm i) S).2.2.2 → SigO τ sg o cl i fw fm s1 → Fr (FlW a st dr n1 n2) σ τ → At G mX3_runs 203 Q X b' 226 [(0, .ref a), (1, .ref o), (2, .ref cl), (3, .ref hw), (4, .ref sg), (5, va_rf (hf pw)), (6, .int (nI j))] [] τ := by
    intro i hi pw hp hpw S hGS b' sg nxt D
    have fin : ∀ τ nw nx, ((nw = n1 ∧ nx = n2) ∨ (nw = n2 ∧ nx = n1)) → FlP τ a st dr nw nx o cl i h.2.1 (nI pw) ((h.2.2.2.2.1 pw).foldl (fStep O h.2.1 fw fm i) S).1 (fun _ => 0) ((h.2.2.2.2.1 pw).foldl (fStep O h.2.1 fw fm i) S).2.1 ((h.2.2.2.2.1 pw).foldl (fStep O h.2.1 fw fm i) S).2.2.1 ((h.2.2.2.2.1 pw).foldl (fStep O h.2.1 fw fm i) S).2.2.2 → Fr (FlW a st dr n1 n2) σ τ →
        ∃ x_starter : Int32, Fg τ 6 hw 6 (.int x_starter) ∧ ((∃ fs_2 : List Value, Ob τ 3 a fs_2) ∧ Call G mX3_ends 6 0 [.ref a, .int x_starter] τ (qV (fun s1 => ∃ x_visit : Int32, Fg s1 3 a 8 (.int x_visit) ∧ (∃ fs : List Value, Ob s1 3 a fs ∧ 8 < fs.length ∧ (∀ s1_1 : PS, s1_1 = up s1 3 a (.inl (fs.set 8 (.int (x_visit + 1)))) → At G mX3_runs 203 Q X b' 115 [(0, .ref a), (1, .ref o), (2, .ref cl), (3, .ref hw)] [] s1_1)))) X) := by
      intro τ nw nx e hT hF
      have hGE := (fSteps_ok (O := O) (see := h.2.1) (v := i) (fw := fw) (fm := fm) hN hse (by omega) (h.2.2.2.2.1 pw) (S.2.2.1 + S.2.2.2) S (hLok pw hp).1 hGS)
      refine ⟨sta, ⟨_, hF.kpF (κ := 6) (by decide) (by decide) (by decide) (by decide) _ _ hHow, rfl⟩, ⟨_, hT.1⟩, ?_⟩
      have hG' : GP (i + 1) ((h.2.2.2.2.1 pw).foldl (fStep O h.2.1 fw fm i) S).1 := by
        have : ∀ (l : List StT) (S : FS), (∀ Z, Z ∈ l → stOK Z) → GP (i + 1) S.1 → GP (i + 1) (l.foldl (fStep O h.2.1 fw fm i) S).1 := by
          intro l
          induction l with
          | nil => exact fun S _ hS => hS
          | cons Z l ihl => exact fun S hZ hS => ihl _ (fun Z' h' => hZ Z' (List.mem_cons_of_mem _ h')) (step_GP hS hN (hZ Z List.mem_cons_self).2 hse (by omega))
        exact this _ _ (hLok pw hp).1 hGS
      refine k_fends hst hT (by omega) hG' (fun υ hU hFU => ⟨rfl, nI i, ⟨_, hU.1, rfl⟩, _, hU.1, by simp, fun s5 hs5 => ?_⟩)
      subst hs5
      refine nxt _ nx nw (nI pw) (sw e) (hU.fld (o' := o) (cl' := cl) (v' := i + 1) (see' := h.2.1) (wa' := ((h.2.2.2.2.1 pw).foldl (fStep O h.2.1 fw fm i) S).2.2.1 + sm (endW h.2.2.1 ((h.2.2.2.2.1 pw).foldl (fStep O h.2.1 fw fm i) S).1) 16900) (lo' := ((h.2.2.2.2.1 pw).foldl (fStep O h.2.1 fw fm i) S).2.2.2) (who' := nI pw) (by simp [nI_1])) ((hF.tr (sW e hFU.toW)).up (Or.inl (Or.inl ⟨rfl, rfl⟩)))
    induction D with
    | zero =>
      intro j hj τ nw nx s1 e hT hsg hF
      have hj : j = (h.2.2.2.2.1 pw).length := by omega
      subst hj
      rw [List.take_length] at hT
      have hq := (hL pw hp).kept (fun κ a1 a2 => hF.kpF (by omega) (by omega) (by omega) (by omega)) (hF.kpF (by decide) (by decide) (by decide) (by decide))
      refine bX3_runs_226 ⟨fun _ => fin τ nw nx e hT hF, fun z hz => ?_⟩
      rcases hq with ⟨h1, _⟩ | ⟨z', h1, ar, h2, h3, -⟩
      · rw [h1] at hz; cases hz
      · rw [h1] at hz
        cases hz
        exact ⟨_, ⟨_, h2, rfl⟩, fun _ => fin τ nw nx e hT hF, fun c => absurd (nI_le (Nat.le_refl _) (by omega)) c⟩
    | succ D ih =>
      intro j hj τ nw nx s1 e hT hsg hF
      have hq := (hL pw hp).kept (fun κ a1 a2 => hF.kpF (by omega) (by omega) (by omega) (by omega)) (hF.kpF (by decide) (by decide) (by decide) (by decide))
      rcases hq with ⟨_, h1⟩ | ⟨z, hz, ar, h2, h3, f, h4, h5⟩
      · rw [h1] at hj; simp at hj
      have hjl : j < (h.2.2.2.2.1 pw).length := by omega
      obtain ⟨hstj, q', hq1, hq2⟩ := h5 j _ (List.getElem?_eq_getElem hjl)
      have t1 : ((h.2.2.2.2.1 pw).take (j + 1)).foldl (fStep O h.2.1 fw fm i) S = fStep O h.2.1 fw fm i (((h.2.2.2.2.1 pw).take j).foldl (fStep O h.2.1 fw fm i) S) (h.2.2.2.2.1 pw)[j] := by
        rw [List.take_succ_eq_append_getElem hjl, List.foldl_append]
        rfl
      have ih1 := ih (j + 1) (by omega)
      rw [t1] at ih1
      have hGj : GP (i + 1) (((h.2.2.2.2.1 pw).take j).foldl (fStep O h.2.1 fw fm i) S).1 := by
        have : ∀ (l : List StT) (S : FS), (∀ Z, Z ∈ l → stOK Z) → GP (i + 1) S.1 → GP (i + 1) (l.foldl (fStep O h.2.1 fw fm i) S).1 := by
          intro l
          induction l with
          | nil => exact fun S _ hS => hS
          | cons Z l ihl => exact fun S hZ hS => ihl _ (fun Z' h' => hZ Z' (List.mem_cons_of_mem _ h')) (step_GP hS hN (hZ Z List.mem_cons_self).2 hse (by omega))
        exact this _ _ (fun Z hZ => (hLok pw hp).1 Z (List.mem_of_mem_take hZ)) hGS
      revert hT ih1 hGj
      generalize ((h.2.2.2.2.1 pw).take j).foldl (fStep O h.2.1 fw fm i) S = S2
      intro hT ih1 hGj
      have pj := vp_in_nI (show j < 8 by omega) (by decide)
      have fj : f (nI j).toNatClampNeg = some q' := by rw [nI_clamp (by omega)]; exact hq1
      have hO1 := hO.kept (hF.kpF (by decide) (by decide) (by decide) (by decide)) (hF.kpF (by decide) (by decide) (by decide) (by decide))
      have hC1 := hC.kept (hF.kpF (by decide) (by decide) (by decide) (by decide)) (hF.kpF (by decide) (by decide) (by decide) (by decide))
      refine bX3_runs_226 ⟨fun y => (by rw [hz] at y; cases y), fun z' hz' => ?_⟩
      rw [hz] at hz'
      cases hz'
      refine ⟨_, ⟨_, h2, rfl⟩, fun c => absurd c (nI_ge hjl (by omega)), fun _ => ⟨ar, ⟨_, h2, rfl⟩, 8, f, q', h4, pj, fj, ⟨_, hT.1⟩, ?_⟩⟩
      refine k_fsteps hq2 hstj hT (by omega) hGj hsg hO1 hC1 hN hse hp (fun υ s2 hU hsU hFU => ⟨rfl, fun v6 h6 => ?_⟩)
      rw [h6, nI_1, ← hz]
      refine ih1 υ nx nw s2 (sw e) (hU.cong (fun _ _ => rfl) (fun _ _ => rfl) (fun x hx => ?_) rfl rfl) hsU (hF.tr (sW e hFU))
      show S2.2.1 x + _ = S2.2.1 x + if nI x = fw i then _ else 0
      rw [hpw]
      by_cases q : x = pw
      · rw [if_pos q, if_pos (by rw [q])]
      · rw [if_neg q, if_neg (fun y => q ((nI_eq (by omega) (by omega)).mp y))]
  have Lp : ∀ D i, i + D = T → ∀ b', D + 1 ≤ b' → ∀ τ nw nx who, ((nw = n1 ∧ nx = n2) ∨ (nw = n2 ∧ nx = n1)) → FlP τ a st dr nw nx o cl i h.2.1 who (fRun O h fw fm i).1 (fun _ => 0) (fRun O h fw fm i).2.1 (fRun O h fw fm i).2.2.1 (fRun O h fw fm i).2.2.2 → Fr (FlW a st dr n1 n2) σ τ → At G mX3_runs 203 Q X b' 115 [(0, .ref a), (1, .ref o), (2, .ref cl), (3, .ref hw)] [] τ := by
    intro D
    induction D with
    | zero =>
      intro i hi b' hb' τ nw nx who e hT hF
      have hi : i = T := by omega
      subst hi
      have hHow1 := hF.kpF (κ := 6) (by decide) (by decide) (by decide) (by decide) _ _ hHow
      rcases hto with ⟨q1, q2⟩ | ⟨q1, q2, q3, q4⟩
      · refine bX3_runs_115 ⟨nI i, ⟨_, hT.1, rfl⟩, to, ⟨_, hHow1, rfl⟩, fun _ => k τ nw nx i who e ?_ hF, fun z => absurd ((q2 i (by omega)).mpr (Nat.le_refl _)) z⟩
        unfold fRes
        rw [if_pos q1]
        exact hT
      · refine BEG i q2 q4 (hto1 i (Nat.le_refl _) q2 (Or.inl q1)) _ (hRok i (by omega)).1 b' τ nw nx who (by omega) e hT hF (fun υ sg s1 hU hsU hFU => ?_)
        have hHU := hFU.kpF (κ := 6) (by decide) (by decide) (by decide) (by decide) _ _ hHow
        refine bX3_runs_193 ⟨bg, ⟨_, hHU, rfl⟩, fun z => absurd z (by rw [q1]; decide), fun _ => ⟨nI i, ⟨_, hU.1, rfl⟩, to, ⟨_, hHU, rfl⟩, fun z => absurd q3.symm z, fun _ => k υ nx nw i (fw i) (sw e) ?_ hFU⟩⟩
        unfold fRes
        rw [if_neg (by rw [q1]; decide)]
        exact hU
    | succ D ih =>
      intro i hi b' hb' τ nw nx who e hT hF
      have htoi := hto1 i (by omega) (by omega) (Or.inr (by omega))
      obtain ⟨pw, hp, hpw⟩ := hwho i (by omega)
      have ih1 := ih (i + 1) (by omega)
      by_cases hne : fw i = h.2.2.2.1
      · have hHow1 := hF.kpF (κ := 6) (by decide) (by decide) (by decide) (by decide) _ _ hHow
        have hC1 := hC.kept (hF.kpF (by decide) (by decide) (by decide) (by decide)) (hF.kpF (by decide) (by decide) (by decide) (by decide))
        have p1 := vp_in_nI (show i < 24 by omega) (by decide)
        have c1 := nI_clamp (show i < 2 ^ 31 by omega)
        simp only [fRun, if_pos hne] at ih1
        refine bX3_runs_115 ⟨nI i, ⟨_, hT.1, rfl⟩, to, ⟨_, hHow1, rfl⟩, fun z => absurd z htoi, fun _ => ⟨w, ⟨_, hC1.1, rfl⟩, nI i, ⟨_, hT.1, rfl⟩, 24, fw, hC1.2.1, p1, _, hT.1, by simp, fun s1 hs1 => ?_⟩⟩
        rw [c1] at hs1
        subst hs1
        have hT1 := hT.fld (o' := o) (cl' := cl) (v' := i) (see' := h.2.1) (wa' := (fRun O h fw fm i).2.2.1) (lo' := (fRun O h fw fm i).2.2.2) (who' := fw i) rfl
        have hF1 := hF.up (κ := 3) (a := a) (e := .inl [.ref st, .ref dr, .ref nw, .ref nx, .ref o, .ref cl, .long (lN (fRun O h fw fm i).2.2.1), .long (lN (fRun O h fw fm i).2.2.2), .int (nI i), .int (nI h.2.1), .int (fw i)]) (Or.inl (Or.inl ⟨rfl, rfl⟩))
        refine ⟨fw i, ⟨_, hT1.1, rfl⟩, h.2.2.2.1, ⟨_, (up_k (by decide)).trans hHow1, rfl⟩, fun z => absurd hne z, fun _ => ⟨nI i, ⟨_, hT1.1, rfl⟩, _, hT1.1, by simp, fun s2 hs2 => ?_⟩⟩
        subst hs2
        exact ih1 b' (by omega) _ nw nx (fw i) e (hT1.fld (o' := o) (cl' := cl) (v' := i + 1) (see' := h.2.1) (wa' := (fRun O h fw fm i).2.2.1) (lo' := (fRun O h fw fm i).2.2.2) (who' := fw i) (by simp [nI_1])) (hF1.up (Or.inl (Or.inl ⟨rfl, rfl⟩)))
      · have hGi := (hRok i (by omega)).1
        have hcl : (fw i).toNatClampNeg = pw := by rw [hpw, nI_clamp (by omega)]
        have ih2 := ih1 (b' - 1) (by omega)
        simp only [fRun, if_neg hne] at ih2
        unfold fVis at ih2
        rw [hcl] at ih2
        refine BEG i (by omega) hne htoi _ hGi b' τ nw nx who (by omega) e hT hF (fun υ sg s1 hU hsU hFU => ?_)
        have hHU := hFU.kpF (κ := 6) (by decide) (by decide) (by decide) (by decide) _ _ hHow
        have hhb := hFU.kpF (κ := 105) (by decide) (by decide) (by decide) (by decide) _ _ hH
        have pp := vp_in_nI hp (by decide)
        rw [hpw] at hU
        have GO := STP i (by omega) pw hp hpw (fBeg O h fm i (fRun O h fw fm i)) (((book_GP (fall_GP hGi hfa (by omega))).mono (by omega))) (b' - 1) sg ih2 (h.2.2.2.2.1 pw).length 0 (by omega) υ nx nw s1 (sw e) hU hsU hFU
        have cp := nI_clamp (show pw < 2 ^ 31 by omega)
        refine bX3_runs_193 ⟨bg, ⟨_, hHU, rfl⟩, fun _ => ⟨hb, ⟨_, hHU, rfl⟩, nI pw, ⟨_, hU.1, rfl⟩, 6, hf, hhb, pp, ?_⟩, fun z => ⟨nI i, ⟨_, hU.1, rfl⟩, to, ⟨_, hHU, rfl⟩, fun _ => ⟨hb, ⟨_, hHU, rfl⟩, nI pw, ⟨_, hU.1, rfl⟩, 6, hf, hhb, pp, ?_⟩, fun z2 => ?_⟩⟩
        · rw [cp]; exact GO
        · rw [cp]; exact GO
        · rcases hto with ⟨q1, q2⟩ | ⟨q1, q2, q3, q4⟩
          · exact absurd q1 z
          · rw [q3] at z2
            have := (nI_eq (by omega) (by omega)).mp z2
            omega
  -- all is cleared
  obtain ⟨x4, x5, x6, x7, x8, x9, x10, l, f, g, h', e3, e4, e4', e5, e6, e7, ne1, ne2, ne3⟩ := hA
  refine eX3_runs (bX3_runs_0 ⟨_, e3, by simp, fun s1 hs1 => ?_⟩)
  subst hs1
  refine ⟨_, up_eq, by simp, fun s1 hs1 => ?_⟩
  rw [up_up] at hs1
  subst hs1
  refine ⟨nI h.2.1, ⟨_, (up_k (by decide)).trans hHow, rfl⟩, _, up_eq, by simp, fun s1 hs1 => ?_⟩
  rw [up_up] at hs1
  subst hs1
  refine ⟨_, up_eq, by simp, fun s1 hs1 => ?_⟩
  rw [up_up] at hs1
  subst hs1
  refine ⟨_, up_eq, by simp, fun s1 hs1 => ?_⟩
  rw [up_up] at hs1
  subst hs1
  have T0 : FlP (up σ 3 a (.inl [.ref st, .ref dr, .ref n1, .ref n2, .ref o, .ref cl, .long (lN 0), .long (lN 0), .int (nI x8.toBitVec.toNat), .int (nI h.2.1), .int x10])) a st dr n1 n2 o cl x8.toBitVec.toNat h.2.1 x10 (fun x => (g x).toBitVec.toNat) (fun x => (h' x).toBitVec.toNat) (fun x => (f x).toBitVec.toNat) 0 0 :=
    ⟨up_eq, ⟨l, (up_k (by decide)).trans e4, e4'⟩, ⟨f, (up_k (by decide)).trans e5, fun x _ => (lN_any _).symm⟩, ⟨g, (up_k (by decide)).trans e6, fun x _ => (lN_any _).symm⟩, ⟨h', (up_k (by decide)).trans e7, fun x _ => (lN_any _).symm⟩, ne1, ne2, ne3⟩
  have F0 : Fr (FlW a st dr n1 n2) σ (up σ 3 a (.inl [.ref st, .ref dr, .ref n1, .ref n2, .ref o, .ref cl, .long (lN 0), .long (lN 0), .int (nI x8.toBitVec.toNat), .int (nI h.2.1), .int x10])) := Fr.rf.up (Or.inl (Or.inl ⟨rfl, rfl⟩))
  have L55 : ∀ D i, i + D = 16900 → ∀ τ V who (P N : Nat → Nat), FlP τ a st dr n1 n2 o cl V h.2.1 who (fun x => if x < i then 0 else P x) (fun x => if x < i then 0 else N x) (fun _ => 0) 0 0 → Fr (FlW a st dr n1 n2) σ τ → At G mX3_runs 203 Q X b 55 [(0, .ref a), (1, .ref o), (2, .ref cl), (3, .ref hw), (4, .int (nI i))] [] τ := by
    intro D
    induction D with
    | zero =>
      intro i hi τ V who P N hT hF
      have hi : i = 16900 := by omega
      subst hi
      have hO1 := hO.kept (hF.kpF (by decide) (by decide) (by decide) (by decide)) (hF.kpF (by decide) (by decide) (by decide) (by decide))
      obtain ⟨g2, h6, h7⟩ := hT.2.2.2.1
      have hlt : cd 0 (O 1) (O 2) (O 3) 0 < 16900 := (gd_cd (v := 0) (Nat.le_refl _) hcd hk (by decide)).lt2 (by omega)
      refine bX3_runs_55 ⟨fun _ => ⟨n1, ⟨_, hT.1, rfl⟩, nI (O 1), ⟨_, hO1.1, rfl⟩, nI (O 2), ⟨_, hO1.1, rfl⟩, nI (O 3), ⟨_, hO1.1, rfl⟩, k_codeOf (s := 0) (e := 0) ⟨_, rfl, 16900, g2, h6, vp_in_nI hlt (by decide), fun s1 hs1 => ?_⟩⟩, fun q => absurd (nI_le (a := 16900) (Nat.le_refl _) (by decide)) q⟩
      subst hs1
      rw [nI_clamp (by omega)]
      have hT1 := hT.putN (y := cd 0 (O 1) (O 2) (O 3) 0) (t := 2 ^ 40) (w := 1099511627776) h6 rfl
      refine ⟨_, hT1.1, by simp, fun s2 hs2 => ?_⟩
      subst hs2
      refine Lp T 0 (by omega) b hbud _ n1 n2 who (Or.inl ⟨rfl, rfl⟩) ((hT1.fld (o' := o) (cl' := cl) (v' := 0) (see' := h.2.1) (wa' := 0) (lo' := 0) (who' := who) rfl).cong (fun x hx => ?_) (fun x hx => ?_) (fun _ _ => rfl) rfl rfl) ((hF.up (Or.inl (Or.inr (Or.inr ⟨rfl, Or.inr (Or.inl rfl)⟩)))).up (Or.inl (Or.inl ⟨rfl, rfl⟩)))
      · show (if x = _ then _ else if x < 16900 then 0 else P x) = if x = _ then _ else 0
        rw [if_pos hx]
      · show (if x < 16900 then 0 else N x) = 0
        rw [if_pos hx]
    | succ D ih =>
      intro i hi τ V who P N hT hF
      obtain ⟨g2, h6, h7⟩ := hT.2.2.2.1
      have p1 := vp_in_nI (show i < 16900 by omega) (by decide)
      have c1 := nI_clamp (show i < 2 ^ 31 by omega)
      refine bX3_runs_55 ⟨fun q => absurd q (nI_ge (b := 16900) (by omega) (by decide)), fun _ => ⟨n1, ⟨_, hT.1, rfl⟩, 16900, g2, h6, p1, fun s1 hs1 => ?_⟩⟩
      subst hs1
      rw [c1]
      have hT1 := hT.putN (y := i) (t := 0) (w := 0) h6 rfl
      obtain ⟨h2, h8, h9⟩ := hT1.2.2.2.2.1
      refine ⟨n2, ⟨_, hT1.1, rfl⟩, 16900, h2, h8, p1, fun s2 hs2 v4 h4 => ?_⟩
      subst hs2
      rw [h4, nI_1]
      have e : ∀ (R : Nat → Nat) (x : Nat), (if x = i then 0 else if x < i then 0 else R x) = if x < i + 1 then 0 else R x := by
        intro R x
        by_cases q : x = i
        · rw [if_pos q, if_pos (by omega)]
        · by_cases q2 : x < i
          · rw [if_neg q, if_pos q2, if_pos (by omega)]
          · rw [if_neg q, if_neg q2, if_neg (by omega)]
      exact ih (i + 1) (by omega) _ V who P N ((hT1.put (y := i) (t := 0) (w := 0) h8 rfl).cong (fun x _ => e P x) (fun x _ => e N x) (fun _ _ => rfl) rfl rfl) ((hF.up (Or.inl (Or.inr (Or.inr ⟨rfl, Or.inr (Or.inl rfl)⟩)))).up (Or.inl (Or.inr (Or.inr ⟨rfl, Or.inr (Or.inr rfl)⟩))))
  have L31 : ∀ D i, i + D = 6 → ∀ τ V who (P N D0 : Nat → Nat), FlP τ a st dr n1 n2 o cl V h.2.1 who P N (fun x => if x < i then 0 else D0 x) 0 0 → Fr (FlW a st dr n1 n2) σ τ → At G mX3_runs 203 Q X b 31 [(0, .ref a), (1, .ref o), (2, .ref cl), (3, .ref hw), (4, .int (nI i))] [] τ := by
    intro D
    induction D with
    | zero =>
      intro i hi τ V who P N D0 hT hF
      have hi : i = 6 := by omega
      subst hi
      refine bX3_runs_31 ⟨fun _ => L55 16900 0 (by omega) τ V who P N (hT.cong (fun _ _ => rfl) (fun _ _ => rfl) (fun x hx => ?_) rfl rfl) hF, fun q => absurd (nI_le (a := 6) (Nat.le_refl _) (by decide)) q⟩
      show (if x < 6 then 0 else D0 x) = 0
      rw [if_pos hx]
    | succ D ih =>
      intro i hi τ V who P N D0 hT hF
      obtain ⟨f2, h6, h7⟩ := hT.2.2.1
      have p1 := vp_in_nI (show i < 6 by omega) (by decide)
      have c1 := nI_clamp (show i < 2 ^ 31 by omega)
      refine bX3_runs_31 ⟨fun q => absurd q (nI_ge (b := 6) (by omega) (by decide)), fun _ => ⟨dr, ⟨_, hT.1, rfl⟩, 6, f2, h6, p1, fun s1 hs1 v4 h4 => ?_⟩⟩
      subst hs1
      rw [c1, h4, nI_1]
      refine ih (i + 1) (by omega) _ V who P N D0 ((hT.putD (y := i) (t := 0) (w := 0) h6 rfl).cong (fun _ _ => rfl) (fun _ _ => rfl) (fun x _ => ?_) rfl rfl) (hF.up (Or.inl (Or.inr (Or.inr ⟨rfl, Or.inl rfl⟩))))
      show (if x = i then 0 else if x < i then 0 else D0 x) = if x < i + 1 then 0 else D0 x
      by_cases q : x = i
      · rw [if_pos q, if_pos (by omega)]
      · by_cases q2 : x < i
        · rw [if_neg q, if_pos q2, if_pos (by omega)]
        · rw [if_neg q, if_neg q2, if_neg (by omega)]
  have fin := L31 6 0 (by omega) _ _ _ _ _ (fun x => (f x).toBitVec.toNat) (T0.cong (fun _ _ => rfl) (fun _ _ => rfl) (fun x _ => by show _ = if x < 0 then 0 else _; rw [if_neg (by omega)]) rfl rfl) F0
  rw [nI_any] at fin
  exact fin
