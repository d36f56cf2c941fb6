set_option maxRecDepth 100000
/-! ===== X's loader ===== -/
def XL (A : Sx) (r0 : Nat) (f : List Nat) (k : Nat) (s : Ls) : Prop := ∃ r b, gR A 164 2 = some r ∧ 146 ≤ r ∧ r ≠ 164 ∧ gK A r = 1 ∧ f.length ≤ gN A r ∧ gN A r < 2 ^ 30 ∧ (∀ i, i < f.length → gI A r i = nI (fG f i)) ∧ gI A 164 3 = nI f.length ∧ gI A 164 4 = nI k ∧ gL A 164 5 = lN s.2.2 ∧ gK A 1 = 7 ∧ bOK b ∧ fr b = r0 ∧ XP A b s.1 ∧ ∀ p, p < 1024 → s.2.1 p = bO b p
def xLd (c _ : Nat) : Prop := (1 ≤ c ∧ c ≤ 137) ∨ c = 164
theorem xl_want0 {S : Sx} (h : gK S 1 = 7) (c p : Int32) : X11_want 0 c p S = th 1 (xF S c p) := by
  unfold X11_want X1_of
  rw [if_pos rfl, pt_e, pt_e, bd_rt, dO_s (show gK (pI (pI S 1 6 c) 1 7 p) 1 = 7 from h)]
  rfl
theorem xl_want1 (S : Sx) (c p : Int32) : X11_want 1 c p S = rt () S := if_neg (by decide)
theorem XL.K {A : Sx} {r0 k : Nat} {f : List Nat} {s : Ls} (h : XL A r0 f k s) : gK A 1 = 7 := by
  obtain ⟨r, b, h1, h2, h3, h4, h5, h6, h7, h8, h9, h10, h11, h12⟩ := h
  exact h11
theorem XL.a {A : Sx} {r0 k : Nat} {f : List Nat} {s : Ls} (h : XL A r0 f k s) : gI A 164 3 = nI f.length ∧ gI A 164 4 = nI k ∧ gL A 164 5 = lN s.2.2 := by
  obtain ⟨r, b, h1, h2, h3, h4, h5, h6, h7, h8, h9, h10, h11, h12⟩ := h
  exact ⟨h8, h9, h10⟩
theorem XL.chg {A A' : Sx} {r0 k k' a : Nat} {f : List Nat} {s : Ls} (h : XL A r0 f k s) (hs : Sm (fun c _ => c = 164 ∨ c = 1) A A') (hR : gR A' 164 2 = gR A 164 2) (h3' : gI A' 164 3 = gI A 164 3) (h4' : gI A' 164 4 = nI k') (h5' : gL A' 164 5 = lN a) : XL A' r0 f k' (s.1, s.2.1, a) := by
  obtain ⟨r, b, h1, h2, h3, h4, h5, h6, h7, h8, h9, h10, h11, h12, h13, h14, h15⟩ := h
  refine ⟨r, b, by rw [hR]; exact h1, h2, h3, by rw [hs.K]; exact h4, by rw [hs.N]; exact h5, by rw [hs.N]; exact h6, fun i hi => by rw [hs.I (by omega)]; exact h7 i hi, by rw [h3']; exact h8, h4', h5', by rw [hs.K]; exact h11, h12, h13, h14.sm h12 hs (by intro c k; omega), h15⟩
theorem XL.at {A : Sx} {r0 k : Nat} {f : List Nat} {s : Ls} (h : XL A r0 f k s) (k' : Nat) : XL (pI A 164 4 (nI k')) r0 f k' s ∧ Sm xLd A (pI A 164 4 (nI k')) :=
  ⟨h.chg (a := s.2.2) (Sm.pI (Or.inl rfl)) rfl (by rw [gI_pI, if_neg (by omega)]) (by rw [gI_pI, if_pos ⟨rfl, rfl⟩]) h.a.2.2, Sm.pI (Or.inr rfl)⟩
theorem XL.ad {A : Sx} {r0 k : Nat} {f : List Nat} {s : Ls} (h : XL A r0 f k s) (a : Nat) : XL (pL A 164 5 (lN a)) r0 f k (s.1, s.2.1, a) ∧ Sm xLd A (pL A 164 5 (lN a)) :=
  ⟨h.chg (Sm.pL (Or.inl rfl)) rfl rfl h.a.2.1 (by rw [gL_pL, if_pos ⟨rfl, rfl⟩]), Sm.pL (Or.inr rfl)⟩
theorem XL.F {A : Sx} {r0 k : Nat} {f : List Nat} {s : Ls} (h : XL A r0 f k s) (c p : Int32) : XL (xF A c p) r0 f k s ∧ Sm xLd A (xF A c p) :=
  ⟨h.chg (a := s.2.2) ((Sm.pI (Or.inr rfl)).trans (Sm.pI (Or.inr rfl))) rfl (by unfold xF; rw [gI_pI, if_neg (by omega), gI_pI, if_neg (by omega)]) (by unfold xF; rw [gI_pI, if_neg (by omega), gI_pI, if_neg (by omega)]; exact h.a.2.1) h.a.2.2, (Sm.pI (by unfold xLd; omega)).trans (Sm.pI (by unfold xLd; omega))⟩
theorem xl_get {A : Sx} {r0 k : Nat} {f : List Nat} {s : Ls} {β : Type} {g : Int32 → Rs β} (h : XL A r0 f k s) (hk : k < f.length) : dO A 1 (gR A 164 2) (fun c2 => lI A c2 (gN A c2) (gI A 164 4) g) = g (nI (fG f k)) := by
  obtain ⟨r, b, h1, h2, h3, h4, h5, h6, h7, h8, h9, h10, h11, h12⟩ := h
  rw [h1, dO_s h4, h9, lI_n (by omega) (by omega), h7 k hk]
theorem xl_set {A : Sx} {r0 k a m : Nat} {f : List Nat} {s : Ls} (v : Int64) (h : XL A r0 f k s) (ha : a < 65536) (hm : 0 < m) (ham : a % 64 + m ≤ 64) : ∃ A', X2_set (nI a) (nI m) v A = rt () A' ∧ XL A' r0 f k (fixA s a m v) ∧ Sm xLd A A' := by
  obtain ⟨r, b, h1, h2, h3, h4, h5, h6, h7, h8, h9, h10, h11, h12, h13, h14, h15⟩ := h
  obtain ⟨fm, b', hT⟩ := bTouch_ex b (a / 64) true h12
  obtain ⟨A', e1, e2, e3⟩ := x_set (v := v) h14 h12 ha hT ham
  obtain ⟨o1, o2, o3, o4⟩ := bTouch_OK h12 (by omega) hT
  unfold xPl at e3
  refine ⟨A', e1, ⟨r, b', by rw [e3.R (by omega)]; exact h1, h2, h3, by rw [e3.K]; exact h4, by rw [e3.N]; exact h5, by rw [e3.N]; exact h6, fun i hi => by rw [e3.I (by omega)]; exact h7 i hi, by rw [e3.I (by omega)]; exact h8, by rw [e3.I (by omega)]; exact h9, by rw [e3.L (by omega)]; exact h10, by rw [e3.K]; exact h11, o1, by rw [o4]; exact h13, e2, fun p hp => ?_⟩, e3.mono (by unfold xLd; intro c k; omega)⟩
  show layL s.2.1 a m p = _
  rw [layL_p hm ham, bO_touch h12 hT]
  unfold up
  split
  · rfl
  · exact h15 p hp
theorem i255 : ∀ x, x < 256 → (nI x).toInt64 &&& 255 = lN x := by decide +kernel
theorem x_octa_loop {r0 k : Nat} {f : List Nat} {s : Ls} (hf : fOK f) (hk : k + 8 ≤ f.length) : ∀ (d i n : Nat) (A : Sx), i + d = 8 → d < n → XL A r0 f (k + i) s → ∃ A', X11_octa_31 n (numL (fG f) k i) (nI i) A = rt (numL (fG f) k 8) A' ∧ XL A' r0 f (k + 8) s ∧ Sm xLd A A' := by
  intro d
  induction d with
  | zero =>
    intro i n A hi hn h
    obtain ⟨n, rfl⟩ : ∃ j, n = j + 1 := ⟨n - 1, by omega⟩
    obtain rfl : i = 8 := by omega
    refine ⟨A, ?_, h, Sm.rfl' A⟩
    show X11_octa_31b (X11_octa_31 n) (numL (fG f) k 8) (nI 8) A = _
    unfold X11_octa_31b
    rw [if_pos (lit_le (N := 8) (Nat.le_refl _) (by omega))]
  | succ d ih =>
    intro i n A hi hn h
    obtain ⟨n, rfl⟩ : ∃ j, n = j + 1 := ⟨n - 1, by omega⟩
    obtain ⟨g1, g2⟩ := h.at (k + i + 1)
    obtain ⟨A', e1, e2, e3⟩ := ih (i + 1) n _ (by omega) (by omega) g1
    refine ⟨A', ?_, e2, g2.trans e3⟩
    show X11_octa_31b (X11_octa_31 n) (numL (fG f) k i) (nI i) A = _
    unfold X11_octa_31b
    rw [if_neg (lit_ge (N := 8) (by omega) (by omega)), xl_get h (by omega), i255 _ (hf.2 _), vl_e, pt_e, vl_e, h.a.2.1, nI_1, nI_1]
    exact e1
theorem x_octa {A : Sx} {r0 k : Nat} {f : List Nat} {s : Ls} (p : Int32) (hf : fOK f) (h : XL A r0 f k s) (hk : k ≤ f.length) : (k + 8 ≤ f.length → ∃ A', X11_octa p A = rt (numL (fG f) k 8) A' ∧ XL A' r0 f (k + 8) s ∧ Sm xLd A A') ∧ (¬ k + 8 ≤ f.length → X11_octa p A = th 1 (xF A 11 p)) := by
  have hl := hf.1
  constructor
  · intro h8
    obtain ⟨A', e1, e2, e3⟩ := x_octa_loop hf h8 8 0 FU A (by omega) (by have := FU_ge; omega) h
    refine ⟨A', ?_, e2, e3⟩
    unfold X11_octa X11_octa_20
    rw [h.a.1, h.a.2.1, pk_sub (by omega), if_neg (lit_gt (N := 8) (by omega) (by omega)), xl_want1, bd_rt]
    exact e1
  · intro h8
    unfold X11_octa X11_octa_20
    rw [h.a.1, h.a.2.1, pk_sub (by omega), if_pos (lit_lt (N := 8) (by omega) (by omega)), xl_want0 h.K, bd_th]
theorem x_row_loop {r0 k n adr : Nat} {f : List Nat} {mem : Nat → Nat} {laid : Nat → Bool} (hf : fOK f) (hk : k + n ≤ f.length) (ha : adr + n ≤ 65536) : ∀ (d i N : Nat) (A : Sx), i + d = n → d < N → XL A r0 f (k + i) (rowM mem adr (fun j => fG f (k + j)) i, layL laid adr i, adr + i) → ∃ A', X11_row_112 N (nI n) (nI i) A = rt () A' ∧ XL A' r0 f (k + n) (rowM mem adr (fun j => fG f (k + j)) n, layL laid adr n, adr + n) ∧ Sm xLd A A' := by
  intro d
  induction d with
  | zero =>
    intro i N A hi hN h
    obtain ⟨N, rfl⟩ : ∃ j, N = j + 1 := ⟨N - 1, by omega⟩
    obtain rfl : i = n := by omega
    refine ⟨A, ?_, h, Sm.rfl' A⟩
    show X11_row_112b (X11_row_112 N) (nI i) (nI i) A = _
    unfold X11_row_112b
    rw [if_pos (nI_le (Nat.le_refl _) (by omega))]
  | succ d ih =>
    intro i N A hi hN h
    obtain ⟨N, rfl⟩ : ∃ j, N = j + 1 := ⟨N - 1, by omega⟩
    obtain ⟨A1, c1, c2, c3⟩ := xl_set (a := adr + i) (m := 1) ((nI (fG f (k + i))).toInt64) h (by omega) (by omega) (by omega)
    have h2 : fixA (rowM mem adr (fun j => fG f (k + j)) i, layL laid adr i, adr + i) (adr + i) 1 ((nI (fG f (k + i))).toInt64) = (rowM mem adr (fun j => fG f (k + j)) (i + 1), layL laid adr (i + 1), adr + i) := by
      unfold fixA
      rw [putB_1, bN_one _ (hf.2 _)]
      rfl
    rw [h2] at c2
    obtain ⟨d1, d2⟩ := c2.ad (adr + (i + 1))
    obtain ⟨g1, g2⟩ := d1.at (k + (i + 1))
    obtain ⟨A', e1, e2, e3⟩ := ih (i + 1) N _ (by omega) (by omega) g1
    refine ⟨A', ?_, e2, ((c3.trans d2).trans g2).trans e3⟩
    show X11_row_112b (X11_row_112 N) (nI n) (nI i) A = _
    unfold X11_row_112b
    have e5 : (gL A 164 5) = lN (adr + i) := h.a.2.2
    rw [if_neg (nI_ge (by omega) (by omega)), xl_get h (by omega), e5, lN_i]
    replace c1 : X2_set (nI (adr + i)) 1 ((nI (fG f (k + i))).toInt64) A = rt () A1 := c1
    rw [c1, bd_rt, pt_e, show gL A1 164 5 = lN (adr + i) from c2.a.2.2, lN_1, pt_e, gI_pL, c2.a.2.1, nI_1, vl_e, nI_1]
    exact e1
/-- the row of bytes behind its kind -/
theorem x_row {A : Sx} {r0 k : Nat} {f : List Nat} {s : Ls} (p : Int32) (hf : fOK f) (h : XL A r0 f k s) (hk : k ≤ f.length) (ha : s.2.2 ≤ 65536) :
    (f.length ≤ k → X11_row p A = th 1 (xF A 11 p)) ∧
    (¬ f.length ≤ k → ∃ A1, XL A1 r0 f (k + 1) s ∧ Sm xLd A A1 ∧
      (fG f k = 0 → X11_row p A = th 1 (xF A1 12 p)) ∧
      (¬ fG f k = 0 → f.length < k + 1 + fG f k → X11_row p A = th 1 (xF A1 11 p)) ∧
      (¬ fG f k = 0 → ¬ f.length < k + 1 + fG f k → 65536 < s.2.2 + fG f k → X11_row p A = th 1 (xF A1 13 p)) ∧
      (¬ fG f k = 0 → ¬ f.length < k + 1 + fG f k → ¬ 65536 < s.2.2 + fG f k → ∃ A', X11_row p A = rt () A' ∧ XL A' r0 f (k + 1 + fG f k) (rowM s.1 s.2.2 (fun i => fG f (k + 1 + i)) (fG f k), layL s.2.1 s.2.2 (fG f k), s.2.2 + fG f k) ∧ Sm xLd A A')) := by
  have hl := hf.1
  constructor
  · intro hc
    unfold X11_row X11_row_17
    rw [h.a.1, h.a.2.1, if_pos (nI_le hc (by omega)), xl_want0 h.K, bd_th]
  · intro hc
    obtain ⟨g1, g2⟩ := h.at (k + 1)
    have hx := hf.2 k
    have e0 : X11_row p A = if (nI (fG f k)) ≤ 0 then X11_row_53 p (nI (fG f k)) 0 (pI A 164 4 (nI (k + 1))) else X11_row_53 p (nI (fG f k)) 1 (pI A 164 4 (nI (k + 1))) := by
      unfold X11_row X11_row_17
      have q : ¬ gI A 164 3 ≤ gI A 164 4 := by rw [h.a.1, h.a.2.1]; exact nI_ge (by omega) (by omega)
      rw [if_neg q, xl_want1, bd_rt, xl_get h (by omega), vl_e, pt_e, h.a.2.1, nI_1]
    have e1 : ∀ y, X11_row_53 p (nI (fG f k)) y (pI A 164 4 (nI (k + 1))) = bd (X11_want y 12 p (pI A 164 4 (nI (k + 1)))) (fun _ S1 => if ((gI S1 164 3) - (gI S1 164 4)) < (nI (fG f k)) then X11_row_78 p (nI (fG f k)) 0 S1 else X11_row_78 p (nI (fG f k)) 1 S1) := fun _ => rfl
    refine ⟨pI A 164 4 (nI (k + 1)), g1, g2, fun h0 => ?_, fun h0 h1 => ?_, fun h0 h1 h2 => ?_, fun h0 h1 h2 => ?_⟩
    · rw [e0, h0, if_pos (show nI 0 ≤ 0 by decide), ← h0, e1, xl_want0 g1.K, bd_th]
    all_goals rw [e0, if_neg (nI_nle (by omega) (by omega)), e1, xl_want1, bd_rt, g1.a.1, g1.a.2.1, pk_sub (by omega)]
    · rw [if_pos (nI_lt (by omega) (by omega))]
      unfold X11_row_78
      rw [xl_want0 g1.K, bd_th]
    all_goals rw [if_neg (nI_nlt (by omega) (by omega))]
    all_goals unfold X11_row_78 X11_row_104
    all_goals rw [xl_want1, bd_rt, g1.a.2.2, nI_l (by omega), lN_add]
    · rw [if_pos (show (65536 : Int64) < lN (s.2.2 + fG f k) from (pk_lLT (a := 65536) (by omega) (by omega)).mpr h2), xl_want0 g1.K, bd_th]
    · obtain ⟨A', c1, c2, c3⟩ := x_row_loop (r0 := r0) (k := k + 1) (n := fG f k) (adr := s.2.2) (mem := s.1) (laid := s.2.1) hf (by omega) (by omega) (fG f k) 0 FU (pI A 164 4 (nI (k + 1))) (by omega) (by have := FU_ge; omega) g1
      refine ⟨A', ?_, c2, g2.trans c3⟩
      rw [if_neg (show ¬ (65536 : Int64) < lN (s.2.2 + fG f k) from fun e => h2 ((pk_lLT (a := 65536) (by omega) (by omega)).mp e)), xl_want1, bd_rt]
      exact c1
theorem fix_b {q : Int64} {w i : Nat} (hw : w ≤ 4) (hi : i < w) : bN (q >>> ((8 * (3 - nI (4 - w + i))).toInt64 &&& 63)) 1 0 = bN q w i := by
  have e1 : (3 : Int32) - nI (4 - w + i) = nI (w - 1 - i) := by
    rw [show (3 : Int32) = nI 3 from rfl, pk_sub (by omega)]
    congr 1; omega
  have e2 : (nI w - 1) - nI i = nI (w - 1 - i) := by
    obtain ⟨w, rfl⟩ : ∃ j, w = j + 1 := ⟨w - 1, by omega⟩
    rw [nI_pred, pk_sub (by omega)]
    rfl
  have e3 : ∀ v : Int64, bN v 1 0 = v.toInt32.toBitVec.toNat % 256 := by
    intro v
    unfold bN
    rw [show (8 * ((nI 1 - 1) - nI 0)).toInt64 &&& 63 = 0 by decide, show v >>> (0 : Int64) = v from Int64.toBitVec_inj.mp (by rw [Int64.toBitVec_shiftRight]; exact BitVec.sshiftRight_zero)]
  rw [e3, e1]
  unfold bN
  rw [e2]
theorem x_fix_loop {r0 k a w : Nat} {f : List Nat} {s : Ls} {x7 : Int64} (ha : a + 4 ≤ 65536) (ha4 : a % 4 = 0) (hw : w ≤ 4) : ∀ (d i n : Nat) (A : Sx), i + d = w → d < n → XL A r0 f k (putI s.1 (a + (4 - w)) w i (x7 / 4), layL s.2.1 (a + (4 - w)) i, s.2.2) → ∃ A', X11_fix_159 n (lN a) x7 (nI (4 - w + i)) A = rt () A' ∧ XL A' r0 f k (fixA s (a + (4 - w)) w (x7 / 4)) ∧ Sm xLd A A' := by
  intro d
  induction d with
  | zero =>
    intro i n A hi hn h
    obtain ⟨n, rfl⟩ : ∃ j, n = j + 1 := ⟨n - 1, by omega⟩
    obtain rfl : i = w := by omega
    refine ⟨A, ?_, h, Sm.rfl' A⟩
    show X11_fix_159b (X11_fix_159 n) (lN a) x7 (nI (4 - i + i)) A = _
    unfold X11_fix_159b
    rw [if_pos (lit_le (N := 4) (by omega) (by omega))]
  | succ d ih =>
    intro i n A hi hn h
    obtain ⟨n, rfl⟩ : ∃ j, n = j + 1 := ⟨n - 1, by omega⟩
    obtain ⟨A1, c1, c2, c3⟩ := xl_set (a := a + (4 - w + i)) (m := 1) ((x7 / 4) >>> ((8 * (3 - nI (4 - w + i))).toInt64 &&& 63)) h (by omega) (by omega) (by omega)
    have h2 : fixA (putI s.1 (a + (4 - w)) w i (x7 / 4), layL s.2.1 (a + (4 - w)) i, s.2.2) (a + (4 - w + i)) 1 ((x7 / 4) >>> ((8 * (3 - nI (4 - w + i))).toInt64 &&& 63)) = (putI s.1 (a + (4 - w)) w (i + 1) (x7 / 4), layL s.2.1 (a + (4 - w)) (i + 1), s.2.2) := by
      unfold fixA
      rw [putB_1, fix_b hw (by omega), putI_s, ← Nat.add_assoc]
      rfl
    rw [h2] at c2
    obtain ⟨A', e1, e2, e3⟩ := ih (i + 1) n A1 (by omega) (by omega) c2
    refine ⟨A', ?_, e2, c3.trans e3⟩
    show X11_fix_159b (X11_fix_159 n) (lN a) x7 (nI (4 - w + i)) A = _
    unfold X11_fix_159b
    replace c1 : X2_set (nI (a + (4 - w + i))) 1 ((x7 / 4) >>> ((8 * (3 - nI (4 - w + i))).toInt64 &&& 63)) A = rt () A1 := c1
    rw [if_neg (lit_ge (N := 4) (by omega) (by omega)), lN_i, nI_add, c1, bd_rt, vl_e, nI_1]
    exact e1
