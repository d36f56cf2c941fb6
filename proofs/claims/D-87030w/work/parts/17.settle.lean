set_option maxRecDepth 100000
/-- on the disk, when all frames become free -/
noncomputable def bO (b : Pb) (p : Nat) : Bool := @decide (∃ f, pin b f = some p) (Classical.propDecidable _) || ot b p
theorem bO_in {b : Pb} {f p : Nat} (h : pin b f = some p) : bO b p = true := by
  unfold bO
  rw [@decide_eq_true _ (Classical.propDecidable _) ⟨f, h⟩]
  rfl
theorem bO_out {b : Pb} {p : Nat} (h : ∀ f, pin b f ≠ some p) : bO b p = ot b p := by
  unfold bO
  rw [@decide_eq_false _ (Classical.propDecidable _) (fun ⟨f, e⟩ => h f e)]
  rfl
def SI (b : Pb) (mem : Nat → Nat) (i : Nat) (S : Sx) : Prop := XF S ∧ gI S 2 1 = nI (fr b) ∧ (∀ f, f < 64 → gI S (10 + 2 * f) 1 = pg (pin b f)) ∧ (∀ f p, pin b f = some p → ∀ k, k < 64 → gI S (11 + 2 * f) k = by8 (mem (64 * p + k))) ∧
  ∀ p, p < 1024 → ((∀ f, pin b f ≠ some p) ∨ ∃ f, f < i ∧ pin b f = some p) → gI S 5 p = b1 (bO b p) ∧ ∀ k, k < 64 → gI S 4 (64 * p + k) = by8 (mem (64 * p + k))
theorem x_settle_loop {b : Pb} {mem : Nat → Nat} (hO : bOK b) : ∀ (d i n : Nat) (S : Sx), i + d = fr b → d < n → SI b mem i S → ∃ S1, X2_settle_2 n (nI i) S = bd (X2_reset S1) (fun _ S2 => rt () S2) ∧ SI b mem (fr b) S1 ∧ Sm xPl S S1 := by
  obtain ⟨o1, o2, o3, o4, o5, o6, o7, o8⟩ := id hO
  intro d
  induction d with
  | zero =>
    intro i n S hi hn h
    obtain ⟨n, rfl⟩ : ∃ j, n = j + 1 := ⟨n - 1, by omega⟩
    obtain rfl : i = fr b := by omega
    refine ⟨S, ?_, h, Sm.rfl' S⟩
    show X2_settle_2b (X2_settle_2 n) (nI (fr b)) S = _
    unfold X2_settle_2b
    rw [h.2.1, if_pos (nI_le (Nat.le_refl _) (by omega))]
  | succ d ih =>
    intro i n S hi hn h
    obtain ⟨n, rfl⟩ : ∃ j, n = j + 1 := ⟨n - 1, by omega⟩
    obtain ⟨hF, h1, h2, h3, h4⟩ := id h
    have hi64 : i < 64 := by omega
    obtain ⟨q1, q2, q3, q4, q5⟩ := hF.2.2 i hi64
    have hstep : X2_settle_2 (n + 1) (nI i) S = if pg (pin b i) < 0 then X2_settle_2 n (nI (i + 1)) S else bd (X2_keep (some (10 + 2 * i)) S) (fun _ S1 => X2_settle_2 n (nI (i + 1)) S1) := by
      show X2_settle_2b (X2_settle_2 n) (nI i) S = _
      unfold X2_settle_2b
      rw [h1, if_neg (nI_ge (by omega) (by omega)), lR_n hi64 (by omega), q1, dO_s q2, h2 i hi64, lR_n hi64 (by omega), q1, nI_1]
      rfl
    cases hp : pin b i with
    | none =>
      obtain ⟨S1, e1, e2, e3⟩ := ih (i + 1) n S (by omega) (by omega) ⟨hF, h1, h2, h3, fun p hp2 hc => h4 p hp2 (by
        rcases hc with hc | ⟨f, hf, hfp⟩
        · exact Or.inl hc
        · refine Or.inr ⟨f, ?_, hfp⟩
          rcases Nat.lt_or_eq_of_le (Nat.le_of_lt_succ hf) with h | h
          · exact h
          · rw [h, hp] at hfp; cases hfp)⟩
      refine ⟨S1, ?_, e2, e3⟩
      rw [hstep, hp, if_pos (by decide)]
      exact e1
    | some p =>
      have hp2 : p < 1024 := (o4 i p hp).2
      have hkeep := x_keep (b := b) (S := S) (f := i) (p := p) hF hi64 hp2 (by rw [h2 i hi64, hp]; rfl)
      generalize hS3 : pI (cpI S (11 + 2 * i) 0 4 (64 * p) 64) 5 p 1 = S3 at hkeep
      have hs3 : Sm (fun c k => c = 4 ∨ c = 5) S S3 := by
        rw [← hS3]
        exact Sm.trans (Sm.cpI (fun k _ _ => Or.inl rfl)) (Sm.pI (Or.inr rfl))
      have hSI : SI b mem (i + 1) S3 := by
        refine ⟨hF.sm hs3 (fun f hf => ⟨by omega, by omega⟩), by rw [hs3.I (by omega)]; exact h1, fun f hf => by rw [hs3.I (by omega)]; exact h2 f hf, fun f q hfq k hk => ?_, fun q hq hc => ?_⟩
        · have := (o4 f q hfq).1
          rw [hs3.I (by omega)]
          exact h3 f q hfq k hk
        · by_cases hqp : q = p
          · subst hqp
            rw [← hS3]
            refine ⟨by rw [gI_pI, if_pos ⟨rfl, rfl⟩, bO_in hp]; rfl, fun k hk => ?_⟩
            rw [gI_pI, if_neg (by omega), gI_cpI, if_pos ⟨rfl, by omega, by omega⟩, show 0 + (64 * q + k - 64 * q) = k by omega]
            exact h3 i q hp k hk
          · have := h4 q hq (by
              rcases hc with hc | ⟨f, hf, hfp⟩
              · exact Or.inl hc
              · refine Or.inr ⟨f, ?_, hfp⟩
                rcases Nat.lt_or_eq_of_le (Nat.le_of_lt_succ hf) with h | h
                · exact h
                · rw [h, hp] at hfp; exact absurd (Option.some.inj hfp).symm hqp)
            rw [← hS3]
            refine ⟨by rw [gI_pI, if_neg (by omega), gI_cpI, if_neg (by omega)]; exact this.1, fun k hk => ?_⟩
            rw [gI_pI, if_neg (by omega), gI_cpI, if_neg (by omega)]
            exact this.2 k hk
      obtain ⟨S1, e1, e2, e3⟩ := ih (i + 1) n S3 (by omega) (by omega) hSI
      refine ⟨S1, ?_, e2, (hs3.mono fun c k x => by unfold xPl; omega).trans e3⟩
      rw [hstep, hp, pg_s, if_neg (nI_pos (n := p) (by omega)), hkeep, bd_rt]
      exact e1
theorem x_settle {S : Sx} {b : Pb} {mem : Nat → Nat} (h : XP S b mem) (hO : bOK b) : ∃ S', X2_settle S = rt () S' ∧ XP S' (b00 (fr b) (bO b)) mem ∧ Sm xPl S S' := by
  obtain ⟨o1, o2, o3, o4, o5, o6, o7, o8⟩ := id hO
  obtain ⟨hF, ⟨a1, a2, a3, a4, a5, a6, a7, a8⟩, hC, hM⟩ := h
  obtain ⟨S1, e1, e2, e3⟩ := x_settle_loop hO (fr b) 0 FU S (by omega) (by have := FU_ge; omega) (mem := mem) ⟨hF, a1, fun f hf => (a7 f hf).1, fun f p hfp k hk => (hM p (o4 f p hfp).2).1 f hfp k hk, fun p hp hc => by
    rcases hc with hc | ⟨f, hf, -⟩
    · refine ⟨by rw [bO_out hc]; exact ((a8 p hp).2 hc).2, (hM p hp).2 hc⟩
    · omega⟩
  obtain ⟨hF1, b1', b2', b3', b4'⟩ := e2
  have hall : ∀ p, p < 1024 → (∀ f, pin b f ≠ some p) ∨ ∃ f, f < fr b ∧ pin b f = some p := fun p hp => by
    by_cases hx : ∃ f, pin b f = some p
    · obtain ⟨f, hf⟩ := hx
      exact Or.inr ⟨f, (o4 f p hf).1, hf⟩
    · exact Or.inl fun f e => hx ⟨f, e⟩
  obtain ⟨S', c1, c2, c3⟩ := x_reset (r := fr b) (o := bO b) (mem := mem) hF1 b1' (fun p hp => (b4' p hp (hall p hp)).1) (fun a ha => by
    have := (b4' (a / 64) (by omega) (hall _ (by omega))).2 (a % 64) (by omega)
    rwa [show 64 * (a / 64) + a % 64 = a by omega] at this)
  refine ⟨S', ?_, c2, e3.trans c3⟩
  unfold X2_settle
  rw [← nI_0, e1, c1, bd_rt]
/-! ===== loops ===== -/
theorem loopD {σ β : Type} {F : Nat → σ → Rs β} {Inv : Nat → σ → Prop} {Done : Rs β → Prop}
    (step : ∀ d n s, Inv d s → Done (F (n + 1) s) ∨ ∃ d' s', d' < d ∧ F (n + 1) s = F n s' ∧ Inv d' s') : ∀ d n s, Inv d s → d < n → Done (F n s) := by
  intro d
  induction d using Nat.strongRecOn with
  | ind d ih =>
    intro n s hs hn
    obtain ⟨n, rfl⟩ : ∃ j, n = j + 1 := ⟨n - 1, by omega⟩
    rcases step d n s hs with h | ⟨d', s', h1, h2, h3⟩
    · exact h
    · rw [h2]
      exact ih d' h1 n s' h3 (by omega)
/-- a loop that counts an int up to N -/
theorem loopN {β : Type} {F : Nat → Int32 → Sx → Rs β} {B : (Int32 → Sx → Rs β) → Int32 → Sx → Rs β} {Inv : Nat → Sx → Prop} {N : Nat} (hN : N < 1000000) (hF : ∀ n i S, F (n + 1) i S = B (F n) i S)
    (step : ∀ k i S, i < N → Inv i S → ∃ S', B k (nI i) S = k (nI (i + 1)) S' ∧ Inv (i + 1) S') {S : Sx} (h : Inv 0 S) : ∃ k S', F FU 0 S = B k (nI N) S' ∧ Inv N S' := by
  have key : ∀ d i n S, i + d = N → d < n → Inv i S → ∃ k S', F n (nI i) S = B k (nI N) S' ∧ Inv N S' := by
    intro d
    induction d with
    | zero =>
      intro i n S hi hn h
      obtain ⟨n, rfl⟩ : ∃ j, n = j + 1 := ⟨n - 1, by omega⟩
      obtain rfl : i = N := by omega
      exact ⟨F n, S, hF n _ S, h⟩
    | succ d ih =>
      intro i n S hi hn h
      obtain ⟨n, rfl⟩ : ∃ j, n = j + 1 := ⟨n - 1, by omega⟩
      obtain ⟨S1, e1, e2⟩ := step (F n) i S (by omega) h
      obtain ⟨k, S2, e3, e4⟩ := ih (i + 1) n S1 (by omega) (by omega) e2
      exact ⟨k, S2, by rw [hF, e1, e3], e4⟩
  rw [← nI_0]
  exact key N 0 FU S (by omega) (by have := FU_ge; omega) h
theorem lit_ge {i N : Nat} (h : i < N) (hN : N < 2 ^ 31) : ¬ (OfNat.ofNat N : Int32) ≤ nI i := nI_ge (a := i) (b := N) h hN
theorem lit_gt {i N : Nat} (h : N ≤ i) (hi : i < 2 ^ 31) : ¬ nI i < (OfNat.ofNat N : Int32) := nI_nlt (a := i) (b := N) h hi
theorem lit_le {i N : Nat} (h : N ≤ i) (hi : i < 2 ^ 31) : (OfNat.ofNat N : Int32) ≤ nI i := nI_le (a := N) (b := i) h hi
theorem lit_lt {i N : Nat} (h : i < N) (hi : N < 2 ^ 31) : nI i < (OfNat.ofNat N : Int32) := nI_lt (a := i) (b := N) h hi
/-! M settles -/
theorem m_settle {S : Sx} {r : Nat} {o : Nat → Bool} (hr : gI S 167 17 = nI r) (ho : ∀ p, p < 1024 → gI S 182 p = b1 (o p)) : ∃ S', X12_settle S = rt () S' ∧ MP S' (b00 r o) ∧ Sm fPl S S' := by
  obtain ⟨S1, e1, e2, e3⟩ := m_freePages hr
  obtain ⟨k, S2, h1, h2, h3⟩ := loopN (F := X12_settle_6) (B := X12_settle_6b) (N := 1024) (Inv := fun i T => (∀ p, p < i → gI T 176 p = b1 (o p)) ∧ Sm (fun c _ => c = 176) S1 T) (by omega) (fun _ _ _ => rfl) (fun k i T hi ⟨a, b⟩ => by
    refine ⟨pI T 176 i (b1 (o i)), ?_, fun p hp => ?_, b.trans (Sm.pI rfl)⟩
    · unfold X12_settle_6b
      rw [if_neg (lit_ge hi (by omega)), lI_n hi (by omega), b.I (by omega), e3.I (by unfold fPl; omega), ho i hi, sI_n hi (by omega), nz_b, vl_e, nI_1]
    · rw [gI_pI]
      split
      · rename_i h; rw [h.2]
      · exact a p (by omega)) ⟨(fun p hp => by omega), Sm.rfl' S1⟩
  refine ⟨S2, ?_, ?_, e3.trans (h3.mono fun c k x => by unfold fPl; omega)⟩
  · unfold X12_settle
    rw [e1, bd_rt, h1]
    unfold X12_settle_6b
    rw [if_pos (by decide)]
  · obtain ⟨a1, a2, ⟨k1, k2, k3⟩, a4, a5, a6, a7, a8, a9⟩ := e2
    refine ⟨by rw [h3.I (by omega)]; exact a1, by rw [h3.I (by omega)]; exact a2, ⟨by rw [h3.I (by omega)]; exact k1, k2, fun i hi => absurd hi (Nat.not_lt_zero _)⟩, by rw [h3.I (by omega)]; exact a4, by rw [h3.I (by omega)]; exact a5, by rw [h3.I (by omega)]; exact a6, by rw [h3.I (by omega)]; exact a7, fun f hf => ?_, fun p hp => ⟨(fun f hf => by cases hf), fun q => ⟨?_, h2 p hp⟩⟩⟩
    · rw [h3.I (by omega), h3.I (by omega), h3.I (by omega)]; exact a8 f hf
    · rw [h3.I (by omega)]; exact ((a9 p hp).2 (fun f hf => by cases hf)).1
