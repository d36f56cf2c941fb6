set_option maxRecDepth 100000
/-! ===== M's loader ===== -/
/-- M's fault and its place -/
def mF (S : Sx) (c p : Int32) : Sx := pI (pI (xs (nw S 69 0 8) (gn S) 19) (gn S) 6 c) (gn S) 7 p
theorem m_must0 {S : Sx} (h : roomM S) (c p : Int32) : X12_must 0 c p S = th (gn S) (mF S c p) := by
  unfold X12_must
  rw [if_pos rfl, al_e h.1 h.2]
  unfold X13_init xi
  rw [if_pos (show gK (nw S (13 + 50 + 6) 0 8) (gn S) = 13 + 50 + 6 by rw [gK_nw, if_pos rfl])]
  dsimp only
  rw [kd_e (by rw [gK_xs, if_pos rfl]), pt_e, kd_e (by rw [gK_pI, gK_xs, if_pos rfl]), pt_e, bd_rt]
  rfl
theorem m_must1 (S : Sx) (c p : Int32) : X12_must 1 c p S = rt () S := if_neg (by decide)
theorem mF_sg {P : Nat → Nat → Prop} (S : Sx) (c p : Int32) : Sg P S (mF S c p) := by
  unfold mF
  refine Sg.new ?_ (fun x h => ?_) (fun x h => ?_) (fun x k h => ?_) (fun x k h => ?_) (fun x k h => ?_)
  · exact Nat.le_succ _
  · rw [gK_pI, gK_pI, gK_xs, if_neg h, gK_nw, if_neg h]
  · rw [gN_pI, gN_pI, gN_xs, gN_nw, if_neg h]
  · rw [gI_pI, if_neg (fun e => h e.1), gI_pI, if_neg (fun e => h e.1), gI_xs, if_neg h, gI_nw, if_neg h]
  · rw [gL_pI, gL_pI, gL_xs, gL_nw, if_neg h]
  · rw [gR_pI, gR_pI, gR_xs, gR_nw, if_neg h]
theorem mF_gn (S : Sx) (c p : Int32) : gn (mF S c p) = gn S + 1 := rfl
theorem mF_gu (S : Sx) (c p : Int32) : gu (mF S c p) = gu S + 8 := rfl
theorem mF_K (S : Sx) (c p : Int32) : gK (mF S c p) (gn S) = 19 := by unfold mF; rw [gK_pI, gK_pI, gK_xs, if_pos rfl]
theorem mF_6 (S : Sx) (c p : Int32) : gI (mF S c p) (gn S) 6 = c := by unfold mF; rw [gI_pI, if_neg (by omega), gI_pI, if_pos ⟨rfl, rfl⟩]
theorem mF_7 (S : Sx) (c p : Int32) : gI (mF S c p) (gn S) 7 = p := by unfold mF; rw [gI_pI, if_pos ⟨rfl, rfl⟩]
def ML (B : Sx) (tg : Nat) (f : List Nat) (s : Ls) : Prop := gR B 167 37 = some tg ∧ gK B tg = 1 ∧ gN B tg = 65536 ∧ (tg = 169 ∨ tg = 183) ∧ (∀ a, a < 65536 → gI B tg a = nI (s.1 a)) ∧ (∀ p, p < 1024 → gI B 182 p = b1 (s.2.1 p)) ∧ gL B 167 38 = lN s.2.2 ∧ gI B 167 1 = nI f.length ∧ ∀ i, i < f.length → gI B 168 i = nI (fG f i)
def mLd (tg c k : Nat) : Prop := (c = 167 ∧ k = 38) ∨ c = tg ∨ c = 182
theorem ML.ad {B : Sx} {tg : Nat} {f : List Nat} {s : Ls} (h : ML B tg f s) (a : Nat) : ML (pL B 167 38 (lN a)) tg f (s.1, s.2.1, a) ∧ Sm (mLd tg) B (pL B 167 38 (lN a)) := by
  obtain ⟨h1, h2, h3, h4, h5, h6, h7, h8, h9⟩ := h
  exact ⟨⟨h1, h2, h3, h4, h5, h6, by rw [gL_pL, if_pos ⟨rfl, rfl⟩], h8, h9⟩, Sm.pL (Or.inl ⟨rfl, rfl⟩)⟩
theorem m_put_loop {tg a m : Nat} {f : List Nat} {s : Ls} {v : Int64} (ham : a + m ≤ 65536) : ∀ (d i n : Nat) (B : Sx), i + d = m → d < n → ML B tg f (putI s.1 a m i v, layL s.2.1 a i, s.2.2) → ∃ B', X12_put_3 n (nI a) (nI m) v (nI i) B = rt () B' ∧ ML B' tg f (fixA s a m v) ∧ Sm (mLd tg) B B' := by
  intro d
  induction d with
  | zero =>
    intro i n B hi hn h
    obtain ⟨n, rfl⟩ : ∃ j, n = j + 1 := ⟨n - 1, by omega⟩
    obtain rfl : i = m := by omega
    refine ⟨B, ?_, h, Sm.rfl' B⟩
    show X12_put_3b (X12_put_3 n) (nI a) (nI i) v (nI i) B = _
    unfold X12_put_3b
    rw [if_pos (nI_le (Nat.le_refl _) (by omega))]
  | succ d ih =>
    intro i n B hi hn h
    obtain ⟨n, rfl⟩ : ∃ j, n = j + 1 := ⟨n - 1, by omega⟩
    obtain ⟨h1, h2, h3, h4, h5, h6, h7, h8, h9⟩ := h
    have hs : Sm (mLd tg) B (pI (pI B tg (a + i) (nI (bN v m i))) 182 ((a + i) / 64) 1) := (Sm.pI (Or.inr (Or.inl rfl))).trans (Sm.pI (Or.inr (Or.inr rfl)))
    have hI : ML (pI (pI B tg (a + i) (nI (bN v m i))) 182 ((a + i) / 64) 1) tg f (putI s.1 a m (i + 1) v, layL s.2.1 a (i + 1), s.2.2) := by
      refine ⟨h1, h2, h3, h4, fun x hx => ?_, fun p hp => ?_, h7, ?_, fun j hj => ?_⟩
      · rw [gI_pI, if_neg (by omega), gI_pI]
        show _ = nI (putI s.1 a m (i + 1) v x)
        rw [putI_s]
        unfold up
        split
        · rename_i q; rw [if_pos q.2]
        · rename_i q; rw [if_neg (fun e => q ⟨rfl, e⟩)]; exact h5 x hx
      · rw [gI_pI]
        show _ = b1 (up (layL s.2.1 a i) ((a + i) / 64) true p)
        unfold up
        split
        · rename_i q; rw [if_pos q.2]; rfl
        · rename_i q; rw [if_neg (fun e => q ⟨rfl, e⟩), gI_pI, if_neg (by omega)]; exact h6 p hp
      · rw [gI_pI, if_neg (by omega), gI_pI, if_neg (by omega)]; exact h8
      · rw [gI_pI, if_neg (by omega), gI_pI, if_neg (by omega)]; exact h9 j hj
    obtain ⟨B', e1, e2, e3⟩ := ih (i + 1) n _ (by omega) (by omega) hI
    refine ⟨B', ?_, e2, hs.trans e3⟩
    show X12_put_3b (X12_put_3 n) (nI a) (nI m) v (nI i) B = _
    unfold X12_put_3b
    rw [if_neg (nI_ge (by omega) (by omega)), h1, dO_s h2, h3, nI_add, sI_n (by omega) (by omega), bN_i, show nI (a + i) / 64 = nI ((a + i) / 64) from pk_div (d := 64) (by omega) (by omega) (by omega), sI_n (by omega) (by omega), nz_1, vl_e, nI_1]
    exact e1
theorem m_put {B : Sx} {tg a m : Nat} {f : List Nat} {s : Ls} (v : Int64) (h : ML B tg f s) (ham : a + m ≤ 65536) : ∃ B', X12_put (nI a) (nI m) v B = rt () B' ∧ ML B' tg f (fixA s a m v) ∧ Sm (mLd tg) B B' :=
  m_put_loop (s := s) ham m 0 FU B (by omega) (by have := FU_ge; omega) (by rw [putI_0]; exact h)
theorem m_goes {B : Sx} {tg a w : Nat} {f : List Nat} {s : Ls} {bits : Int32} (to : Int64) (h : ML B tg f s) (ha : a + 4 ≤ 65536) (hw : (w = 2 ∧ bits = 16) ∨ (w = 3 ∧ bits = 24)) : (¬ wayOK bits (to - lN a) = true → X12_goesTo (nI a) bits to B = rt 0 B) ∧ (wayOK bits (to - lN a) = true → ∃ B', X12_goesTo (nI a) bits to B = rt 1 B' ∧ ML B' tg f (fixA s (a + (4 - w)) w (q4 (to - lN a))) ∧ Sm (mLd tg) B B') := by
  have e0 : X12_goesTo (nI a) bits to B = if wayOK bits (to - lN a) = true then bd (X12_put (nI (a + (4 - w))) (nI w) (q4 (to - lN a)) B) (fun _ S1 => rt 1 S1) else rt 0 B := by
    have eP : ((nI a + 4) - (bits / 8)) = nI (a + (4 - w)) ∧ bits / 8 = nI w := by
      have e8 : bits / 8 = nI w := by rcases hw with ⟨rfl, rfl⟩ | ⟨rfl, rfl⟩ <;> decide
      refine ⟨?_, e8⟩
      rw [e8, show (4 : Int32) = nI 4 from rfl, nI_add, pk_sub (by omega)]
      congr 1; omega
    unfold X12_goesTo
    rw [vl_e, vl_e, nI_l (by omega), eP.1, eP.2]
    unfold wayOK
    show (if ((to - lN a) &&& 3) = 0 then (if q4 (to - lN a) < _ then _ else if q4 (to - lN a) < _ then _ else _) else _) = _
    by_cases h1 : ((to - lN a) &&& 3) = 0
    · rw [if_pos h1]
      by_cases h2 : q4 (to - lN a) < (-(((1 : Int64)) <<< ((bits - 1).toInt64 &&& 63)))
      · rw [if_pos h2, if_neg]
        rw [decide_eq_true_iff]
        exact fun x => x.2.1 h2
      · rw [if_neg h2]
        by_cases h3 : q4 (to - lN a) < (((1 : Int64)) <<< ((bits - 1).toInt64 &&& 63))
        · rw [if_pos h3, if_pos]
          · rfl
          · rw [decide_eq_true_iff]; exact ⟨h1, h2, h3⟩
        · rw [if_neg h3, if_neg]
          rw [decide_eq_true_iff]
          exact fun x => h3 x.2.2
    · rw [if_neg h1, if_neg]
      rw [decide_eq_true_iff]
      exact fun x => h1 x.1
  constructor
  · intro hc
    rw [e0, if_neg hc]
  · intro hc
    obtain ⟨B', c1, c2, c3⟩ := m_put (a := a + (4 - w)) (m := w) (q4 (to - lN a)) h (by omega)
    exact ⟨B', by rw [e0, if_pos hc, c1, bd_rt], c2, c3⟩
theorem m_eight {B : Sx} {tg k : Nat} {f : List Nat} {s : Ls} (hf : fOK f) (h : ML B tg f s) (hl : f.length ≤ 20000) (hk : k + 8 ≤ f.length) : X12_eight (nI k) B = rt (numL (fG f) k 8) B := by
  have : ∀ d i n, i + d = 8 → d < n → X12_eight_5 n (nI k) (numL (fG f) k i) (nI i) B = rt (numL (fG f) k 8) B := by
    intro d
    induction d with
    | zero =>
      intro i n hi hn
      obtain ⟨n, rfl⟩ : ∃ j, n = j + 1 := ⟨n - 1, by omega⟩
      obtain rfl : i = 8 := by omega
      show X12_eight_5b (X12_eight_5 n) _ _ _ B = _
      unfold X12_eight_5b
      rw [if_pos (lit_le (N := 8) (Nat.le_refl _) (by omega))]
    | succ d ih =>
      intro i n hi hn
      obtain ⟨n, rfl⟩ : ∃ j, n = j + 1 := ⟨n - 1, by omega⟩
      show X12_eight_5b (X12_eight_5 n) _ _ _ B = _
      unfold X12_eight_5b
      have hx := hf.2 (k + i)
      rw [if_neg (lit_ge (N := 8) (by omega) (by omega)), nI_add, lI_n (by omega) (by omega), h.2.2.2.2.2.2.2.2 _ (by omega), nI_l (by omega), vl_e, vl_e, nI_1]
      exact ih (i + 1) n (by omega) (by omega)
  exact this 8 0 FU (by omega) (by have := FU_ge; omega)
theorem m_row_loop {k2 : Int32 → Sx → Rs Int64} {tg k n adr : Nat} {f : List Nat} {mem : Nat → Nat} {laid : Nat → Bool} (hf : fOK f) (hl : f.length ≤ 20000) (hk : k + 2 + n ≤ f.length) (ha : adr + n ≤ 65536) : ∀ (d i N : Nat) (B : Sx), i + d = n → d < N → ML B tg f (rowM mem adr (fun j => fG f (k + 2 + j)) i, layL laid adr i, adr) → ∃ B', X12_records_129 k2 N (nI k) (nI n) (nI i) B = k2 (nI (k + 2 + n)) B' ∧ ML B' tg f (rowM mem adr (fun j => fG f (k + 2 + j)) n, layL laid adr n, adr + n) ∧ Sm (mLd tg) B B' := by
  intro d
  induction d with
  | zero =>
    intro i N B hi hN h
    obtain ⟨N, rfl⟩ : ∃ j, N = j + 1 := ⟨N - 1, by omega⟩
    obtain rfl : i = n := by omega
    obtain ⟨g1, g2⟩ := h.ad (adr + i)
    refine ⟨_, ?_, g1, g2⟩
    show X12_records_129b k2 (X12_records_129 k2 N) _ _ _ B = _
    unfold X12_records_129b
    rw [if_pos (nI_le (Nat.le_refl _) (by omega)), pt_e, show gL B 167 38 = lN adr from h.2.2.2.2.2.2.1, nI_l (by omega), lN_add, vl_e, show (2 : Int32) = nI 2 from rfl, nI_add, nI_add, Nat.add_assoc k 2 i]
  | succ d ih =>
    intro i N B hi hN h
    obtain ⟨N, rfl⟩ : ∃ j, N = j + 1 := ⟨N - 1, by omega⟩
    obtain ⟨B1, c1, c2, c3⟩ := m_put (a := adr + i) (m := 1) ((nI (fG f (k + 2 + i))).toInt64) h (by omega)
    have h2 : fixA (rowM mem adr (fun j => fG f (k + 2 + j)) i, layL laid adr i, adr) (adr + i) 1 ((nI (fG f (k + 2 + i))).toInt64) = (rowM mem adr (fun j => fG f (k + 2 + j)) (i + 1), layL laid adr (i + 1), adr) := by
      unfold fixA
      rw [putB_1, bN_one _ (hf.2 _)]
      rfl
    rw [h2] at c2
    obtain ⟨B', e1, e2, e3⟩ := ih (i + 1) N B1 (by omega) (by omega) c2
    refine ⟨B', ?_, e2, c3.trans e3⟩
    show X12_records_129b k2 (X12_records_129 k2 N) _ _ _ B = _
    unfold X12_records_129b
    replace c1 : X12_put (nI (adr + i)) 1 ((nI (fG f (k + 2 + i))).toInt64) B = rt () B1 := c1
    rw [if_neg (nI_ge (by omega) (by omega)), show (nI k + 2) = nI (k + 2) from nI_add k 2, nI_add, lI_n (by omega) (by omega), h.2.2.2.2.2.2.2.2 _ (by omega), show gL B 167 38 = lN adr from h.2.2.2.2.2.2.1, lN_i, nI_add, c1, bd_rt, vl_e, nI_1]
    exact e1
def MLo (B : Sx) (tg : Nat) (f : List Nat) (s : Ls) (n : Nat) (r : Rs Int64) (o : (Nat × Nat) ⊕ (Nat × Nat × Int64 × Ls)) : Prop := match o with
  | .inl (c, p) => ∃ B', r = th (gn B') (mF B' (nI c) (nI p)) ∧ ML B' tg f s ∧ Sm (mLd tg) B B'
  | .inr (q, k', v, s') => ∃ B', (¬ q = 6 → r = X12_records_2 n (nI k') B') ∧ (q = 6 → r = if k' = f.length then rt v B' else th (gn B') (mF B' 12 (nI k'))) ∧ ML B' tg f s' ∧ Sm (mLd tg) B B'
theorem mlo_f {B B' : Sx} {tg : Nat} {f : List Nat} {s : Ls} {n c p : Nat} {r : Rs Int64} (h : r = th (gn B') (mF B' (nI c) (nI p))) (hx : ML B' tg f s) (hs : Sm (mLd tg) B B') : MLo B tg f s n r (.inl (c, p)) := ⟨B', h, hx, hs⟩
theorem m_376 {B B0 : Sx} {tg n k q : Nat} {f : List Nat} {s s' : Ls} {v : Int64} (h : ML B tg f s') (h0 : Sm (mLd tg) B0 B) (hr : roomM B0) (hl : f.length ≤ 20000) (hk : k + 9 ≤ f.length) (hq : q < 256) : MLo B0 tg f s n (X12_records_376 (X12_records_2 n) (nI k) (nI q) v B) (.inr (q, k + 9, v, s')) := by
  have e6 : nI q = 6 ↔ q = 6 := nI_eq (b := 6) (by omega) (by omega)
  have e9 : nI k + 9 = nI (k + 9) := nI_add k 9
  refine ⟨B, fun h6 => ?_, fun h6 => ?_, h, h0⟩
  · unfold X12_records_376
    rw [vl_e, if_neg (fun x => h6 (e6.mp x)), e9]
  · unfold X12_records_376 X12_records_401
    rw [vl_e, if_pos (e6.mpr h6), e9, h.2.2.2.2.2.2.2.1]
    by_cases hc : k + 9 = f.length
    · rw [if_pos hc, if_pos (by rw [hc]), m_must1, bd_rt]
    · rw [if_neg hc, if_neg (fun x => hc ((nI_eq (by omega) (by omega)).mp x)), m_must0 (hr.sm h0), bd_th]
theorem m_303 {B B0 : Sx} {tg n k r : Nat} {f : List Nat} {s : Ls} {v : Int64} (h : ML B tg f s) (h0 : Sm (mLd tg) B0 B) (hr : roomM B0) (hl : f.length ≤ 20000) (hk : k + 9 ≤ f.length) (hq : 1 ≤ r ∧ r ≤ 6) (hq2 : ¬ r = 2) (ha : s.2.2 ≤ 65536) :
    MLo B0 tg f s n (if nI r = 1 then X12_records_260 (X12_records_2 n) (nI k) (nI r) v 65536 0 v B else if nI r = 6 then X12_records_260 (X12_records_2 n) (nI k) (nI r) v 65536 0 v B else X12_records_260 (X12_records_2 n) (nI k) (nI r) v 65535 0 v B) (ldW r k s v) := by
  have e1 : nI r = 1 ↔ r = 1 := nI_eq (b := 1) (by omega) (by omega)
  have e3 : nI r = 3 ↔ r = 3 := nI_eq (b := 3) (by omega) (by omega)
  have e4 : nI r = 4 ↔ r = 4 := nI_eq (b := 4) (by omega) (by omega)
  have e6 : nI r = 6 ↔ r = 6 := nI_eq (b := 6) (by omega) (by omega)
  have hr1 : roomM B := hr.sm h0
  have f13 : X12_records_303 (X12_records_2 n) (nI k) (nI r) v 0 B = th (gn B) (mF B 13 (nI k)) := by
    unfold X12_records_303
    rw [m_must0 hr1, bd_th]
  have t1 : X12_records_303 (X12_records_2 n) (nI k) (nI r) v 1 B = if nI r = 1 then pt (pL B 167 38 v) (fun S2 => X12_records_376 (X12_records_2 n) (nI k) (nI r) v S2) else if nI r = 3 then bd (X12_put v.toInt32 8 (gL B 167 38) B) (fun _ S2 => X12_records_376 (X12_records_2 n) (nI k) (nI r) v S2) else if 6 ≤ nI r then X12_records_376 (X12_records_2 n) (nI k) (nI r) v B else if nI r = 4 then X12_records_363 (X12_records_2 n) (nI k) (nI r) v 16 v.toInt32 B else X12_records_363 (X12_records_2 n) (nI k) (nI r) v 24 v.toInt32 B := by
    unfold X12_records_303
    rw [m_must1, bd_rt]
  unfold ldW
  by_cases hc : r = 1 ∨ r = 6
  · have e : (if nI r = 1 then X12_records_260 (X12_records_2 n) (nI k) (nI r) v 65536 0 v B else if nI r = 6 then X12_records_260 (X12_records_2 n) (nI k) (nI r) v 65536 0 v B else X12_records_260 (X12_records_2 n) (nI k) (nI r) v 65535 0 v B) = X12_records_260 (X12_records_2 n) (nI k) (nI r) v 65536 0 v B := by
      rcases hc with hc | hc
      · rw [if_pos (e1.mpr hc)]
      · rw [if_neg (fun x => by have := e1.mp x; omega), if_pos (e6.mpr hc)]
    rw [e, if_pos hc]
    unfold X12_records_260 X12_isIn
    by_cases hv : v < 0 ∨ 65536 < v
    · rw [if_pos hv]
      have e2 : (if v < 0 then (rt 0 B : Rs Int32) else if 65536 < v then rt 0 B else rt 1 B) = rt 0 B := by
        by_cases h1 : v < 0
        · rw [if_pos h1]
        · rw [if_neg h1, if_pos (hv.resolve_left h1)]
      rw [e2, bd_rt, if_pos rfl, f13]
      exact mlo_f (c := 13) rfl h h0
    · rw [if_neg hv, if_neg (fun x => hv (Or.inl x)), if_neg (fun x => hv (Or.inr x)), bd_rt, if_neg (by decide)]
      have e2 : (if nI r = 1 then X12_records_303 (X12_records_2 n) (nI k) (nI r) v 1 B else if nI r = 6 then X12_records_303 (X12_records_2 n) (nI k) (nI r) v 1 B else if nI r = 3 then X12_records_292 (X12_records_2 n) (nI k) (nI r) v 8 v B else X12_records_292 (X12_records_2 n) (nI k) (nI r) v 4 v B) = X12_records_303 (X12_records_2 n) (nI k) (nI r) v 1 B := by
        rcases hc with hc | hc
        · rw [if_pos (e1.mpr hc)]
        · rw [if_neg (fun x => by have := e1.mp x; omega), if_pos (e6.mpr hc)]
      rw [e2, t1]
      obtain ⟨a, ha2, rfl⟩ := pk_lOf (fun x => hv (Or.inl x))
      have ha3 : ¬ 65536 < a := fun x => hv (Or.inr ((pk_lLT (a := 65536) (by omega) (by omega)).mpr x))
      by_cases h1 : r = 1
      · rw [if_pos (e1.mpr h1), if_pos h1, pt_e, lN_tn (by omega)]
        obtain ⟨g1, g2⟩ := h.ad a
        exact m_376 g1 (h0.trans g2) hr hl hk (by omega)
      · obtain rfl : r = 6 := by omega
        rw [if_neg (fun x => h1 (e1.mp x)), if_neg h1, if_neg (by decide), if_pos (by decide)]
        exact m_376 h h0 hr hl hk (by omega)
  · have h1 : ¬ r = 1 := fun x => hc (Or.inl x)
    have h6 : ¬ r = 6 := fun x => hc (Or.inr x)
    rw [if_neg (fun x => h1 (e1.mp x)), if_neg (fun x => h6 (e6.mp x)), if_neg hc]
    unfold X12_records_260 X12_isIn
    by_cases hA : isA v = true
    · obtain ⟨a, ha2, rfl⟩ := isA_of hA
      rw [lN_tn (by omega), if_neg (fun x => by have := (pk_lLT (b := 0) (by omega) (by omega)).mp x; omega), if_neg (fun x => by have := (pk_lLT (a := 65535) (by omega) (by omega)).mp x; omega), bd_rt, if_neg (by decide), if_neg (fun x => h1 (e1.mp x)), if_neg (fun x => h6 (e6.mp x))]
      have u6 : ¬ (6 : Int32) ≤ nI r := lit_ge (N := 6) (by omega) (by omega)
      by_cases h3 : r = 3
      · subst h3
        rw [if_pos (rfl : (3 : Nat) = 3), if_pos (show nI 3 = 3 from rfl)]
        unfold X12_records_292
        rw [if_neg (by decide), show (8 : Int64) = lN 8 from rfl, pk_lRem (by omega) (by omega) (by omega)]
        by_cases h8 : a % 8 = 0
        · rw [if_pos ((lN_0 (by omega)).mpr h8), if_pos ⟨hA, h8⟩, if_pos rfl, t1, if_neg (by decide), if_pos (by decide), lN_i, show gL B 167 38 = lN s.2.2 from h.2.2.2.2.2.2.1]
          obtain ⟨B', c1, c2, c3⟩ := m_put (a := a) (m := 8) (lN s.2.2) h (by omega)
          replace c1 : X12_put (nI a) 8 (lN s.2.2) B = rt () B' := c1
          rw [c1, bd_rt]
          exact m_376 c2 (h0.trans c3) hr hl hk (by omega)
        · rw [if_neg (fun x => h8 ((lN_0 (by omega)).mp x)), if_neg (fun x => h8 x.2), f13]
          exact mlo_f (c := 13) rfl h h0
      · rw [if_neg (fun x => h3 (e3.mp x)), if_neg h3]
        unfold X12_records_292
        rw [if_neg (by decide), show (4 : Int64) = lN 4 from rfl, pk_lRem (by omega) (by omega) (by omega)]
        by_cases h4 : a % 4 = 0
        · rw [if_pos ((lN_0 (by omega)).mpr h4), if_pos ⟨hA, h4⟩, if_neg h3, t1, if_neg (fun x => h1 (e1.mp x)), if_neg (fun x => h3 (e3.mp x)), if_neg u6, lN_i]
          unfold X12_records_363
          rw [show gL B 167 38 = lN s.2.2 from h.2.2.2.2.2.2.1]
          by_cases q4' : r = 4
          · subst q4'
            obtain ⟨f3, f4⟩ := m_goes (w := 2) (bits := 16) (lN s.2.2) h (show a + 4 ≤ 65536 by omega) (Or.inl ⟨rfl, rfl⟩)
            rw [if_pos (rfl : (4 : Nat) = 4), if_pos (show nI 4 = 4 from rfl)]
            by_cases hw : wayOK 16 (lN s.2.2 - lN a) = true
            · rw [if_pos hw]
              obtain ⟨B', c1, c2, c3⟩ := f4 hw
              rw [c1, bd_rt, m_must1, bd_rt]
              exact m_376 c2 (h0.trans c3) hr hl hk (by omega)
            · rw [if_neg hw, f3 hw, bd_rt, m_must0 hr1, bd_th]
              exact mlo_f (c := 14) rfl h h0
          · obtain rfl : r = 5 := by omega
            obtain ⟨f3, f4⟩ := m_goes (w := 3) (bits := 24) (lN s.2.2) h (show a + 4 ≤ 65536 by omega) (Or.inr ⟨rfl, rfl⟩)
            rw [if_neg q4', if_neg (fun x => q4' (e4.mp x))]
            by_cases hw : wayOK 24 (lN s.2.2 - lN a) = true
            · rw [if_pos hw]
              obtain ⟨B', c1, c2, c3⟩ := f4 hw
              rw [c1, bd_rt, m_must1, bd_rt]
              exact m_376 c2 (h0.trans c3) hr hl hk (by omega)
            · rw [if_neg hw, f3 hw, bd_rt, m_must0 hr1, bd_th]
              exact mlo_f (c := 14) rfl h h0
        · rw [if_neg (fun x => h4 ((lN_0 (by omega)).mp x)), if_neg (fun x => h4 x.2), f13]
          exact mlo_f (c := 13) rfl h h0
    · rw [if_neg (show ¬ (isA v = true ∧ v.toInt.toNat % (if r = 3 then 8 else 4) = 0) from fun x => hA x.1)]
      have e2 : (if v < 0 then (rt 0 B : Rs Int32) else if 65535 < v then rt 0 B else rt 1 B) = rt 0 B := by
        by_cases h1 : v < 0
        · rw [if_pos h1]
        · rw [if_neg h1]
          by_cases h2 : 65535 < v
          · rw [if_pos h2]
          · exfalso
            apply hA
            unfold isA
            rw [decide_eq_true_iff]
            obtain ⟨a, ha2, rfl⟩ := pk_lOf h1
            refine ⟨h1, (pk_lLT (b := 65536) (by omega) (by omega)).mpr ?_⟩
            have : ¬ 65535 < a := fun x => h2 ((pk_lLT (a := 65535) (by omega) (by omega)).mpr x)
            omega
      rw [e2, bd_rt, if_pos rfl, f13]
      exact mlo_f (c := 13) rfl h h0
/-- one record, in M -/
theorem m_ld {B : Sx} {tg n k : Nat} {f : List Nat} {s : Ls} (h : ML B tg f s) (hf : fOK f) (hl : f.length ≤ 20000) (hr : roomM B) (hk : k ≤ f.length) (ha : s.2.2 ≤ 65536) : MLo B tg f s n (X12_records_2 (n + 1) (nI k) B) (ldS f k s) := by
  have h8 := h.2.2.2.2.2.2.2.1
  have h9 := h.2.2.2.2.2.2.2.2
  show MLo B tg f s n (X12_records_2b (X12_records_2 n) (nI k) B) (ldS f k s)
  unfold X12_records_2b ldS X12_records_15
  rw [h8]
  by_cases c0 : f.length ≤ k
  · rw [if_pos c0, if_pos (nI_le c0 (by omega)), m_must0 hr, bd_th]
    exact mlo_f (c := 11) rfl h (Sm.rfl' B)
  · have hx := hf.2 k
    rw [if_neg c0, if_neg (nI_ge (by omega) (by omega)), m_must1, bd_rt, lI_n (by omega) (by omega), h9 k (by omega), vl_e]
    have e2 : nI (fG f k) = 2 ↔ fG f k = 2 := nI_eq (b := 2) (by omega) (by omega)
    by_cases c2 : fG f k = 2
    · rw [if_pos (e2.mpr c2), if_pos c2, show nI k + 1 = nI (k + 1) from nI_1 k, h8]
      unfold X12_records_48
      by_cases d0 : f.length ≤ k + 1
      · rw [if_pos d0, if_pos (nI_le d0 (by omega)), m_must0 hr, bd_th]
        exact mlo_f (c := 11) rfl h (Sm.rfl' B)
      · have hx1 := hf.2 (k + 1)
        rw [if_neg d0, if_neg (nI_ge (by omega) (by omega)), m_must1, bd_rt, show nI k + 1 = nI (k + 1) from nI_1 k, lI_n (by omega) (by omega), h9 _ (by omega), vl_e]
        unfold X12_records_72
        by_cases d1 : fG f (k + 1) = 0
        · rw [if_pos d1, d1, if_pos (show nI 0 ≤ 0 by decide), m_must0 hr, bd_th]
          exact mlo_f (c := 12) rfl h (Sm.rfl' B)
        · rw [if_neg d1, if_neg (nI_nle (by omega) (by omega)), m_must1, bd_rt, h8, show nI k + 2 = nI (k + 2) from nI_add k 2, nI_add]
          unfold X12_records_95
          by_cases d2 : f.length < k + 2 + fG f (k + 1)
          · rw [if_pos d2, if_pos (nI_lt d2 (by omega)), m_must0 hr, bd_th]
            exact mlo_f (c := 11) rfl h (Sm.rfl' B)
          · rw [if_neg d2, if_neg (nI_nlt (by omega) (by omega)), m_must1, bd_rt, show gL B 167 38 = lN s.2.2 from h.2.2.2.2.2.2.1, nI_l (by omega), lN_add]
            unfold X12_records_120
            by_cases d3 : 65536 < s.2.2 + fG f (k + 1)
            · rw [if_pos d3, if_pos (show (65536 : Int64) < lN _ from (pk_lLT (a := 65536) (by omega) (by omega)).mpr d3), m_must0 hr, bd_th]
              exact mlo_f (c := 13) rfl h (Sm.rfl' B)
            · rw [if_neg d3, if_neg (show ¬ (65536 : Int64) < lN _ from fun x => d3 ((pk_lLT (a := 65536) (by omega) (by omega)).mp x)), m_must1, bd_rt]
              obtain ⟨B', c1, c2', c3⟩ := m_row_loop (k2 := X12_records_2 n) (tg := tg) (k := k) (n := fG f (k + 1)) (adr := s.2.2) (mem := s.1) (laid := s.2.1) hf hl (by omega) (by omega) (fG f (k + 1)) 0 FU B (by omega) (by have := FU_ge; omega) h
              exact ⟨B', fun _ => c1, fun x => absurd x (by decide), c2', c3⟩
    · rw [if_neg (fun x => c2 (e2.mp x)), if_neg c2]
      unfold X12_records_202
      by_cases c12 : fG f k < 1 ∨ 6 < fG f k
      · have f12 : (bd (X12_must 0 12 (nI k) B) (fun _ S1 => if (gI S1 167 1) < (nI k + 9) then X12_records_224 (X12_records_2 n) (nI k) (nI (fG f k)) 0 S1 else X12_records_224 (X12_records_2 n) (nI k) (nI (fG f k)) 1 S1)) = th (gn B) (mF B 12 (nI k)) := by rw [m_must0 hr, bd_th]
        rw [if_pos c12, f12]
        by_cases h1 : fG f k < 1
        · rw [if_pos (lit_lt (N := 1) h1 (by omega))]
          exact mlo_f (c := 12) rfl h (Sm.rfl' B)
        · rw [if_neg (lit_gt (N := 1) (by omega) (by omega)), if_pos ((n_lt (N := 6) (by omega) (by omega)).mpr (c12.resolve_left h1))]
          exact mlo_f (c := 12) rfl h (Sm.rfl' B)
      · rw [if_neg (lit_gt (N := 1) (by omega) (by omega)), if_neg (fun x => c12 (Or.inr ((n_lt (N := 6) (by omega) (by omega)).mp x))), if_neg c12, m_must1, bd_rt, h8, show nI k + 9 = nI (k + 9) from nI_add k 9]
        unfold X12_records_224
        by_cases d0 : f.length < k + 9
        · rw [if_pos d0, if_pos (nI_lt d0 (by omega)), m_must0 hr, bd_th]
          exact mlo_f (c := 11) rfl h (Sm.rfl' B)
        · rw [if_neg d0, if_neg (nI_nlt (by omega) (by omega)), m_must1, bd_rt, show nI k + 1 = nI (k + 1) from nI_1 k, m_eight hf h hl (by omega), bd_rt, vl_e]
          exact m_303 h (Sm.rfl' B) hr hl (by omega) (by omega) c2 ha
