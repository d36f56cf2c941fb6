set_option maxRecDepth 100000
/-! ===== no page was touched ===== -/
/-- the book with r frames, all free; o: which pages are on the disk -/
def b00 (r : Nat) (o : Nat → Bool) : Pb := mkPb r (fun _ => none) (fun _ => false) (fun _ => false) o 0 [] 0 0 0 0
theorem b00_OK {r : Nat} {o : Nat → Bool} (h1 : 2 ≤ r) (h2 : r ≤ 64) : bOK (b00 r o) := ⟨h1, h2, by show 0 < r; omega, (fun f p h => by cases h), (fun f g p h => by cases h), List.nodup_nil, Nat.zero_le _, fun p h => by cases h⟩
/-! M -/
def fPl (c k : Nat) : Prop := (c = 167 ∧ (k = 23 ∨ (25 ≤ k ∧ k ≤ 29))) ∨ (175 ≤ c ∧ c ≤ 179)
theorem m_free_31 : ∀ (d i n : Nat) (S : Sx), i + d = 64 → d < n → (∀ f, f < i → gI S 177 f = -1 ∧ gI S 178 f = 0 ∧ gI S 179 f = 0) → ∃ S', X12_freePages_31 n (nI i) S = rt () S' ∧ (∀ f, f < 64 → gI S' 177 f = -1 ∧ gI S' 178 f = 0 ∧ gI S' 179 f = 0) ∧ gI S' 167 23 = 0 ∧ gI S' 167 25 = 0 ∧ gI S' 167 26 = 0 ∧ gI S' 167 27 = 0 ∧ gI S' 167 28 = 0 ∧ gI S' 167 29 = 0 ∧ Sm (fun c k => (c = 167 ∧ (k = 23 ∨ (25 ≤ k ∧ k ≤ 29))) ∨ (177 ≤ c ∧ c ≤ 179)) S S' := by
  intro d
  induction d with
  | zero =>
    intro i n S hi hn h
    obtain ⟨n, rfl⟩ : ∃ j, n = j + 1 := ⟨n - 1, by omega⟩
    obtain rfl : i = 64 := by omega
    refine ⟨pI (pI (pI (pI (pI (pI S 167 23 0) 167 25 0) 167 26 0) 167 27 0) 167 28 0) 167 29 0, ?_, ?_, ?_, ?_, ?_, ?_, ?_, ?_, ?_⟩
    · show X12_freePages_31b (X12_freePages_31 n) (nI 64) S = _
      unfold X12_freePages_31b
      rw [if_pos (by decide)]
      rfl
    · intro f hf
      simp [gI_pI]
      exact h f hf
    all_goals first | (simp [gI_pI]; done) | skip
    refine Sm.trans (Sm.trans (Sm.trans (Sm.trans (Sm.trans (Sm.pI ?_) (Sm.pI ?_)) (Sm.pI ?_)) (Sm.pI ?_)) (Sm.pI ?_)) (Sm.pI ?_) <;> omega
  | succ d ih =>
    intro i n S hi hn h
    obtain ⟨n, rfl⟩ : ∃ j, n = j + 1 := ⟨n - 1, by omega⟩
    obtain ⟨S', e1, e2⟩ := ih (i + 1) n (pI (pI (pI S 177 i (-1)) 178 i 0) 179 i 0) (by omega) (by omega) (fun f hf => by
      by_cases hfi : f = i
      · subst hfi; simp [gI_pI]
      · simp [gI_pI, hfi]; exact h f (by omega))
    refine ⟨S', ?_, e2.1, e2.2.1, e2.2.2.1, e2.2.2.2.1, e2.2.2.2.2.1, e2.2.2.2.2.2.1, e2.2.2.2.2.2.2.1, Sm.trans (Sm.trans (Sm.trans (Sm.pI (by omega)) (Sm.pI (by omega))) (Sm.pI (by omega))) e2.2.2.2.2.2.2.2⟩
    show X12_freePages_31b (X12_freePages_31 n) (nI i) S = _
    unfold X12_freePages_31b
    rw [if_neg (show ¬ (64 : Int32) ≤ nI i from nI_ge (a := i) (b := 64) (by omega) (by omega)), sI_n (by omega) (by omega), sI_n (by omega) (by omega), sI_n (by omega) (by omega), nz_0, vl_e, nI_1]
    exact e1
theorem m_free_2 : ∀ (d i n : Nat) (S : Sx), i + d = 1024 → d < n → (∀ p, p < i → gI S 175 p = -1 ∧ gI S 176 p = 0) → ∃ S1, X12_freePages_2 n (nI i) S = X12_freePages_31 FU (nI 0) S1 ∧ (∀ p, p < 1024 → gI S1 175 p = -1 ∧ gI S1 176 p = 0) ∧ Sm (fun c _ => 175 ≤ c ∧ c ≤ 176) S S1 := by
  intro d
  induction d with
  | zero =>
    intro i n S hi hn h
    obtain ⟨n, rfl⟩ : ∃ j, n = j + 1 := ⟨n - 1, by omega⟩
    obtain rfl : i = 1024 := by omega
    refine ⟨S, ?_, h, Sm.rfl' S⟩
    show X12_freePages_2b (X12_freePages_2 n) (nI 1024) S = _
    unfold X12_freePages_2b
    rw [if_pos (by decide)]
    rfl
  | succ d ih =>
    intro i n S hi hn h
    obtain ⟨n, rfl⟩ : ∃ j, n = j + 1 := ⟨n - 1, by omega⟩
    obtain ⟨S1, e1, e2, e3⟩ := ih (i + 1) n (pI (pI S 175 i (-1)) 176 i 0) (by omega) (by omega) (fun f hf => by
      by_cases hfi : f = i
      · subst hfi; simp [gI_pI]
      · simp [gI_pI, hfi]; exact h f (by omega))
    refine ⟨S1, ?_, e2, Sm.trans (Sm.trans (Sm.pI (by omega)) (Sm.pI (by omega))) e3⟩
    show X12_freePages_2b (X12_freePages_2 n) (nI i) S = _
    unfold X12_freePages_2b
    rw [if_neg (show ¬ (1024 : Int32) ≤ nI i from nI_ge (a := i) (b := 1024) (by omega) (by omega)), sI_n (by omega) (by omega), sI_n (by omega) (by omega), nz_0, vl_e, nI_1]
    exact e1
theorem m_freePages {S : Sx} {r : Nat} (hr : gI S 167 17 = nI r) : ∃ S', X12_freePages S = rt () S' ∧ MP S' (b00 r (fun _ => false)) ∧ Sm fPl S S' := by
  obtain ⟨S1, e1, e2, e3⟩ := m_free_2 1024 0 FU S (by omega) (by have := FU_ge; omega) (fun p hp => by omega)
  obtain ⟨S', a1, a2, a3, a4, a5, a6, a7, a8, a9⟩ := m_free_31 64 0 FU S1 (by omega) (by have := FU_ge; omega) (fun p hp => by omega)
  refine ⟨S', ?_, ⟨?_, a3, ⟨a4, Nat.zero_le _, fun i hi => absurd hi (Nat.not_lt_zero _)⟩, a5, a6, a7, a8, fun f hf => ?_, fun p hp => ⟨(fun f hf => by cases hf), fun _ => ?_⟩⟩, (e3.mono fun c k x => by unfold fPl; omega).trans (a9.mono fun c k x => by unfold fPl; omega)⟩
  · unfold X12_freePages
    rw [← nI_0, e1, a1]
  · rw [a9.I (by omega), e3.I (by omega)]; exact hr
  · exact ⟨(a2 f hf).1, (a2 f hf).2.1, (a2 f hf).2.2⟩
  · rw [a9.I (by omega), a9.I (by omega)]
    exact e2 p hp
/-! X -/
theorem x_reset_24 : ∀ (d i n : Nat) (S : Sx), i + d = 64 → d < n → XF S → (∀ f, f < i → gI S (10 + 2 * f) 1 = -1) → ∃ S', X2_reset_24 n (nI i) S = rt () S' ∧ (∀ f, f < 64 → gI S' (10 + 2 * f) 1 = -1) ∧ gI S' 7 2 = 0 ∧ gI S' 2 2 = 0 ∧ gI S' 2 7 = 0 ∧ gI S' 2 8 = 0 ∧ gI S' 2 9 = 0 ∧ gI S' 2 10 = 0 ∧ Sm (fun c k => (c = 7 ∧ k = 2) ∨ (c = 2 ∧ (k = 2 ∨ (7 ≤ k ∧ k ≤ 10))) ∨ (10 ≤ c ∧ c ≤ 136 ∧ c % 2 = 0 ∧ k = 1)) S S' := by
  intro d
  induction d with
  | zero =>
    intro i n S hi hn hF h
    obtain ⟨n, rfl⟩ : ∃ j, n = j + 1 := ⟨n - 1, by omega⟩
    obtain rfl : i = 64 := by omega
    refine ⟨pI (pI (pI (pI (pI (pI S 7 2 0) 2 2 0) 2 7 0) 2 8 0) 2 9 0) 2 10 0, ?_, ?_, ?_, ?_, ?_, ?_, ?_, ?_, ?_⟩
    · show X2_reset_24b (X2_reset_24 n) (nI 64) S = _
      unfold X2_reset_24b X3_clear
      rw [if_pos (by decide)]
      rfl
    · intro f hf
      have h2 : ¬ 10 + 2 * f = 2 := by omega
      have h7 : ¬ 10 + 2 * f = 7 := by omega
      simp [gI_pI, h2, h7]
      exact h f hf
    all_goals first | (simp [gI_pI]; done) | skip
    refine Sm.trans (Sm.trans (Sm.trans (Sm.trans (Sm.trans (Sm.pI ?_) (Sm.pI ?_)) (Sm.pI ?_)) (Sm.pI ?_)) (Sm.pI ?_)) (Sm.pI ?_) <;> omega
  | succ d ih =>
    intro i n S hi hn hF h
    obtain ⟨n, rfl⟩ : ∃ j, n = j + 1 := ⟨n - 1, by omega⟩
    have hs : Sm (fun c k => (c = 7 ∧ k = 2) ∨ (c = 2 ∧ (k = 2 ∨ (7 ≤ k ∧ k ≤ 10))) ∨ (10 ≤ c ∧ c ≤ 136 ∧ c % 2 = 0 ∧ k = 1)) S (pI S (10 + 2 * i) 1 (-1)) := Sm.pI (by omega)
    obtain ⟨S', e1, e2⟩ := ih (i + 1) n (pI S (10 + 2 * i) 1 (-1)) (by omega) (by omega) (hF.sm hs (fun f hf => ⟨by omega, by omega⟩)) (fun f hf => by
      rw [gI_pI]
      by_cases hfi : f = i
      · rw [if_pos (by omega)]
      · rw [if_neg (by omega)]; exact h f (by omega))
    refine ⟨S', ?_, e2.1, e2.2.1, e2.2.2.1, e2.2.2.2.1, e2.2.2.2.2.1, e2.2.2.2.2.2.1, e2.2.2.2.2.2.2.1, hs.trans e2.2.2.2.2.2.2.2⟩
    show X2_reset_24b (X2_reset_24 n) (nI i) S = _
    unfold X2_reset_24b
    obtain ⟨q1, q2, -⟩ := hF.2.2 i (by omega)
    rw [if_neg (show ¬ (64 : Int32) ≤ nI i from nI_ge (a := i) (b := 64) (by omega) (by omega)), lR_n (by omega) (by omega), q1, dO_s q2, pt_e, vl_e, nI_1]
    exact e1
theorem x_reset_2 : ∀ (d i n : Nat) (S : Sx), i + d = 1024 → d < n → (∀ p, p < i → gR S 6 p = none) → ∃ S1, X2_reset_2 n (nI i) S = X2_reset_24 FU (nI 0) S1 ∧ (∀ p, p < 1024 → gR S1 6 p = none) ∧ Sm (fun c _ => c = 6) S S1 := by
  intro d
  induction d with
  | zero =>
    intro i n S hi hn h
    obtain ⟨n, rfl⟩ : ∃ j, n = j + 1 := ⟨n - 1, by omega⟩
    obtain rfl : i = 1024 := by omega
    refine ⟨S, ?_, h, Sm.rfl' S⟩
    show X2_reset_2b (X2_reset_2 n) (nI 1024) S = _
    unfold X2_reset_2b
    rw [if_pos (by decide)]
    rfl
  | succ d ih =>
    intro i n S hi hn h
    obtain ⟨n, rfl⟩ : ∃ j, n = j + 1 := ⟨n - 1, by omega⟩
    obtain ⟨S1, e1, e2, e3⟩ := ih (i + 1) n (pR S 6 i none) (by omega) (by omega) (fun f hf => by
      rw [gR_pR]
      by_cases hfi : f = i
      · rw [if_pos ⟨rfl, hfi⟩]
      · rw [if_neg (fun e => hfi e.2)]; exact h f (by omega))
    refine ⟨S1, ?_, e2, Sm.trans (Sm.pR (P := fun c _ => c = 6) rfl) e3⟩
    show X2_reset_2b (X2_reset_2 n) (nI i) S = _
    unfold X2_reset_2b
    rw [if_neg (show ¬ (1024 : Int32) ≤ nI i from nI_ge (a := i) (b := 1024) (by omega) (by omega)), dOn_0, sR_n (by omega) (by omega), vl_e, nI_1]
    exact e1
/-- what is on the disk counts: all frames become free -/
theorem x_reset {S : Sx} {r : Nat} {o : Nat → Bool} {mem : Nat → Nat} (hF : XF S) (hr : gI S 2 1 = nI r) (ho : ∀ p, p < 1024 → gI S 5 p = b1 (o p)) (hm : ∀ a, a < 65536 → gI S 4 a = by8 (mem a)) : ∃ S', X2_reset S = rt () S' ∧ XP S' (b00 r o) mem ∧ Sm xPl S S' := by
  obtain ⟨S1, e1, e2, e3⟩ := x_reset_2 1024 0 FU S (by omega) (by have := FU_ge; omega) (fun p hp => by omega)
  have hF1 : XF S1 := hF.sm e3 (fun f hf => ⟨by omega, by omega⟩)
  obtain ⟨S', a1, a2, a3, a4, a5, a6, a7, a8, a9⟩ := x_reset_24 64 0 FU S1 (by omega) (by have := FU_ge; omega) hF1 (fun p hp => by omega)
  refine ⟨S', ?_, ⟨hF1.sm a9 (fun f hf => ⟨by omega, by omega⟩), ⟨?_, a4, a5, a6, a7, a8, fun f hf => ⟨a2 f hf, fun h => absurd rfl h⟩, fun p hp => ⟨(fun f hf => by cases hf), fun _ => ⟨?_, ?_⟩⟩⟩, ⟨[], ⟨a3, Nat.zero_le _, (fun q hq => by cases hq), fun i hi => absurd hi (Nat.not_lt_zero _)⟩, rfl, fun q hq => by cases hq⟩, fun p hp => ⟨(fun f hf => by cases hf), fun _ k hk => ?_⟩⟩, (e3.mono fun c k x => by unfold xPl; omega).trans (a9.mono fun c k x => by unfold xPl; omega)⟩
  · unfold X2_reset
    rw [← nI_0, e1, a1]
  · rw [a9.I (by omega), e3.I (by omega)]; exact hr
  · rw [a9.R (by omega)]; exact e2 p hp
  · rw [a9.I (by omega), e3.I (by omega)]; exact ho p hp
  · rw [a9.I (by omega), e3.I (by omega)]; exact hm _ (by omega)
theorem x_clear_23 : ∀ (d i n : Nat) (S : Sx), i + d = 1024 → d < n → (∀ p, p < i → gI S 5 p = 0) → ∃ S1, X2_clear_23 n (nI i) S = bd (X2_reset S1) (fun _ S2 => rt () S2) ∧ (∀ p, p < 1024 → gI S1 5 p = 0) ∧ Sm (fun c _ => c = 5) S S1 := by
  intro d
  induction d with
  | zero =>
    intro i n S hi hn h
    obtain ⟨n, rfl⟩ : ∃ j, n = j + 1 := ⟨n - 1, by omega⟩
    obtain rfl : i = 1024 := by omega
    refine ⟨S, ?_, h, Sm.rfl' S⟩
    show X2_clear_23b (X2_clear_23 n) (nI 1024) S = _
    unfold X2_clear_23b
    rw [if_pos (by decide)]
  | succ d ih =>
    intro i n S hi hn h
    obtain ⟨n, rfl⟩ : ∃ j, n = j + 1 := ⟨n - 1, by omega⟩
    obtain ⟨S1, e1, e2, e3⟩ := ih (i + 1) n (pI S 5 i 0) (by omega) (by omega) (fun f hf => by
      rw [gI_pI]
      by_cases hfi : f = i
      · rw [if_pos ⟨rfl, hfi⟩]
      · rw [if_neg (fun e => hfi e.2)]; exact h f (by omega))
    refine ⟨S1, ?_, e2, Sm.trans (Sm.pI (P := fun c _ => c = 5) rfl) e3⟩
    show X2_clear_23b (X2_clear_23 n) (nI i) S = _
    unfold X2_clear_23b
    rw [if_neg (show ¬ (1024 : Int32) ≤ nI i from nI_ge (a := i) (b := 1024) (by omega) (by omega)), sI_n (by omega) (by omega), nz_0, vl_e, nI_1]
    exact e1
theorem x_clear_2 : ∀ (d i n : Nat) (S : Sx), i + d = 65536 → d < n → (∀ p, p < i → gI S 4 p = 0) → ∃ S1, X2_clear_2 n (nI i) S = X2_clear_23 FU (nI 0) S1 ∧ (∀ p, p < 65536 → gI S1 4 p = 0) ∧ Sm (fun c _ => c = 4) S S1 := by
  intro d
  induction d with
  | zero =>
    intro i n S hi hn h
    obtain ⟨n, rfl⟩ : ∃ j, n = j + 1 := ⟨n - 1, by omega⟩
    obtain rfl : i = 65536 := by omega
    refine ⟨S, ?_, h, Sm.rfl' S⟩
    show X2_clear_2b (X2_clear_2 n) (nI 65536) S = _
    unfold X2_clear_2b
    rw [if_pos (by decide)]
    rfl
  | succ d ih =>
    intro i n S hi hn h
    obtain ⟨n, rfl⟩ : ∃ j, n = j + 1 := ⟨n - 1, by omega⟩
    have e0 : ((0 : Int32).toInt8.toInt32) = 0 := by decide
    obtain ⟨S1, e1, e2, e3⟩ := ih (i + 1) n (pI S 4 i 0) (by omega) (by omega) (fun f hf => by
      rw [gI_pI]
      by_cases hfi : f = i
      · rw [if_pos ⟨rfl, hfi⟩]
      · rw [if_neg (fun e => hfi e.2)]; exact h f (by omega))
    refine ⟨S1, ?_, e2, Sm.trans (Sm.pI (P := fun c _ => c = 4) rfl) e3⟩
    show X2_clear_2b (X2_clear_2 n) (nI i) S = _
    unfold X2_clear_2b
    rw [if_neg (show ¬ (65536 : Int32) ≤ nI i from nI_ge (a := i) (b := 65536) (by omega) (by omega)), sI_n (by omega) (by omega), e0, vl_e, nI_1]
    exact e1
theorem x_clear {S : Sx} {r : Nat} (hF : XF S) (hr : gI S 2 1 = nI r) : ∃ S', X2_clear S = rt () S' ∧ XP S' (b00 r (fun _ => false)) (fun _ => 0) ∧ Sm xPl S S' := by
  obtain ⟨S1, e1, e2, e3⟩ := x_clear_2 65536 0 FU S (by omega) (by have := FU_ge; omega) (fun p hp => by omega)
  obtain ⟨S2, a1, a2, a3⟩ := x_clear_23 1024 0 FU S1 (by omega) (by have := FU_ge; omega) (fun p hp => by omega)
  have hF2 : XF S2 := (hF.sm e3 (fun f hf => ⟨by omega, by omega⟩)).sm a3 (fun f hf => ⟨by omega, by omega⟩)
  obtain ⟨S', c1, c2, c3⟩ := x_reset (r := r) (o := fun _ => false) (mem := fun _ => 0) hF2 (by rw [a3.I (by omega), e3.I (by omega)]; exact hr) a2 (fun a ha => by rw [a3.I (by omega), e2 a ha]; decide)
  refine ⟨S', ?_, c2, ((e3.mono fun c k x => by unfold xPl; omega).trans (a3.mono fun c k x => by unfold xPl; omega)).trans c3⟩
  unfold X2_clear
  rw [← nI_0, e1, a1, c1, bd_rt]
