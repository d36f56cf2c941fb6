set_option maxRecDepth 100000
/-! ===== bytes ===== -/
theorem by8_l : ∀ v, v < 256 → ((nI v).toInt8.toInt32).toInt64 &&& 255 = lN v := by decide +kernel
theorem by8_i : ∀ v, v < 256 → (nI v).toInt8.toInt32 &&& 255 = nI v := by decide +kernel
theorem by8_8 (x : Int32) : x.toInt8.toInt32.toInt8.toInt32 = x.toInt8.toInt32 := by
  have := pk_vb x
  rwa [vp_nar_byte] at this
theorem by8_of (x : Int32) : x.toInt8.toInt32 = by8 (x.toBitVec.toNat % 256) := by
  unfold by8
  have : x.toInt8 = (nI (x.toBitVec.toNat % 256)).toInt8 := by
    apply Int8.toBitVec_inj.mp
    rw [Int32.toBitVec_toInt8, Int32.toBitVec_toInt8]
    apply BitVec.eq_of_toNat_eq
    rw [BitVec.signExtend_eq_setWidth_of_le _ (by decide), BitVec.signExtend_eq_setWidth_of_le _ (by decide), BitVec.toNat_setWidth, BitVec.toNat_setWidth, pk_tn (by omega)]
    omega
  rw [this]
/-- the byte k of m of a number -/
def bN (v : Int64) (m k : Nat) : Nat := (v >>> ((8 * ((nI m - 1) - nI k)).toInt64 &&& 63)).toInt32.toBitVec.toNat % 256
theorem bN_lt (v : Int64) (m k : Nat) : bN v m k < 256 := Nat.mod_lt _ (by decide)
theorem bN_i (v : Int64) (m k : Nat) : (v >>> ((8 * ((nI m - 1) - nI k)).toInt64 &&& 63)).toInt32 &&& 255 = nI (bN v m k) := pk_and _ 8 (by decide)
theorem bN_8 (v : Int64) (m k : Nat) : ((v >>> ((8 * ((nI m - 1) - nI k)).toInt64 &&& 63)).toInt32).toInt8.toInt32.toInt8.toInt32 = by8 (bN v m k) := by
  rw [by8_8, by8_of]
  rfl
/-- a number of k bytes from a on -/
def numL (mem : Nat → Nat) (a : Nat) : Nat → Int64
  | 0 => 0
  | k + 1 => (numL mem a k <<< (((8 : Int32)).toInt64 &&& 63)) ||| lN (mem (a + k))
/-- m bytes of v from a on -/
def putB (mem : Nat → Nat) (a m : Nat) (v : Int64) : Nat → Nat := fun j => if a ≤ j ∧ j < a + m then bN v m (j - a) else mem j
def memOK (mem : Nat → Nat) : Prop := ∀ a, mem a < 256
theorem putB_OK {mem : Nat → Nat} (h : memOK mem) (a m : Nat) (v : Int64) : memOK (putB mem a m v) := by
  intro j
  unfold putB
  split
  · exact bN_lt _ _ _
  · exact h j
/-! ===== M's memory ===== -/
def MM (S : Sx) (mem : Nat → Nat) : Prop := ∀ a, a < 65536 → gI S 169 a = nI (mem a)
theorem m_number_loop {S : Sx} {mem : Nat → Nat} {a m : Nat} (hM : MM S mem) (hO : memOK mem) (ham : a + m ≤ 65536) (hm : m ≤ 8) : ∀ (d i n : Nat), i + d = m → d < n → X12_number_5 n (nI a) (nI m) (numL mem a i) (nI i) S = rt (numL mem a m) S := by
  intro d
  induction d with
  | zero =>
    intro i n hi hn
    obtain ⟨n, rfl⟩ : ∃ j, n = j + 1 := ⟨n - 1, by omega⟩
    obtain rfl : i = m := by omega
    show X12_number_5b (X12_number_5 n) (nI a) (nI i) (numL mem a i) (nI i) S = _
    unfold X12_number_5b
    rw [if_pos (nI_le (Nat.le_refl _) (by omega))]
  | succ d ih =>
    intro i n hi hn
    obtain ⟨n, rfl⟩ : ∃ j, n = j + 1 := ⟨n - 1, by omega⟩
    show X12_number_5b (X12_number_5 n) (nI a) (nI m) (numL mem a i) (nI i) S = _
    unfold X12_number_5b
    have h256 := hO (a + i)
    rw [if_neg (nI_ge (by omega) (by omega)), nI_add, lI_n (by omega) (by omega), hM _ (by omega), nI_l (by omega), vl_e, vl_e, nI_1]
    exact ih (i + 1) n (by omega) (by omega)
theorem m_number {S : Sx} {mem : Nat → Nat} {a m : Nat} (hM : MM S mem) (hO : memOK mem) (ham : a + m ≤ 65536) (hm : m ≤ 8) : X12_number (nI a) (nI m) S = rt (numL mem a m) S := by
  unfold X12_number
  exact m_number_loop hM hO ham hm m 0 FU (by omega) (by have := FU_ge; omega)
/-- i of m bytes of v -/
def putI (mem : Nat → Nat) (a m i : Nat) (v : Int64) : Nat → Nat := fun j => if a ≤ j ∧ j < a + i then bN v m (j - a) else mem j
theorem putI_0 (mem : Nat → Nat) (a m : Nat) (v : Int64) : putI mem a m 0 v = mem := by
  funext j
  unfold putI
  rw [if_neg (by omega)]
theorem putI_s (mem : Nat → Nat) (a m i : Nat) (v : Int64) : putI mem a m (i + 1) v = up (putI mem a m i v) (a + i) (bN v m i) := by
  funext j
  unfold putI up
  by_cases h : j = a + i
  · rw [if_pos (by omega), if_pos h, h, Nat.add_sub_cancel_left]
  · rw [if_neg h]
    show _ = if a ≤ j ∧ j < a + i then bN v m (j - a) else mem j
    by_cases h2 : a ≤ j ∧ j < a + i
    · rw [if_pos h2, if_pos (by omega)]
    · rw [if_neg h2, if_neg (by omega)]
theorem putI_m (mem : Nat → Nat) (a m : Nat) (v : Int64) : putI mem a m m v = putB mem a m v := rfl
theorem MM_up {S : Sx} {mem : Nat → Nat} {a x : Nat} (hM : MM S mem) : MM (pI S 169 a (nI x)) (up mem a x) := by
  intro j hj
  rw [gI_pI]
  by_cases h : j = a
  · rw [if_pos ⟨rfl, h⟩, h, up_s]
  · rw [if_neg (fun e => h e.2), up_n _ _ h]
    exact hM j hj
theorem m_lay_loop {mem : Nat → Nat} {a m : Nat} {v : Int64} (ham : a + m ≤ 65536) (hm : m ≤ 8) : ∀ (d i n : Nat) (S : Sx), i + d = m → d < n → MM S (putI mem a m i v) → ∃ S', X12_lay_3 n (nI a) (nI m) v (nI i) S = rt () S' ∧ MM S' (putB mem a m v) ∧ Sm (fun c _ => c = 169) S S' := by
  intro d
  induction d with
  | zero =>
    intro i n S hi hn hM
    obtain ⟨n, rfl⟩ : ∃ j, n = j + 1 := ⟨n - 1, by omega⟩
    obtain rfl : i = m := by omega
    refine ⟨S, ?_, hM, Sm.rfl' S⟩
    show X12_lay_3b (X12_lay_3 n) (nI a) (nI i) v (nI i) S = _
    unfold X12_lay_3b
    rw [if_pos (nI_le (Nat.le_refl _) (by omega))]
  | succ d ih =>
    intro i n S hi hn hM
    obtain ⟨n, rfl⟩ : ∃ j, n = j + 1 := ⟨n - 1, by omega⟩
    obtain ⟨S', e1, e2, e3⟩ := ih (i + 1) n (pI S 169 (a + i) (nI (bN v m i))) (by omega) (by omega) (by rw [putI_s]; exact MM_up hM)
    refine ⟨S', ?_, e2, Sm.trans (Sm.pI (P := fun c _ => c = 169) rfl) e3⟩
    show X12_lay_3b (X12_lay_3 n) (nI a) (nI m) v (nI i) S = _
    unfold X12_lay_3b
    rw [if_neg (nI_ge (by omega) (by omega)), nI_add, sI_n (by omega) (by omega), bN_i, vl_e, nI_1]
    exact e1
theorem m_lay {S : Sx} {mem : Nat → Nat} {a m : Nat} {v : Int64} (ham : a + m ≤ 65536) (hm : m ≤ 8) (hM : MM S mem) : ∃ S', X12_lay (nI a) (nI m) v S = rt () S' ∧ MM S' (putB mem a m v) ∧ Sm (fun c _ => c = 169) S S' := by
  unfold X12_lay
  exact m_lay_loop ham hm m 0 FU S (by omega) (by have := FU_ge; omega) (by rw [putI_0]; exact hM)
/-! ===== X's bytes ===== -/
theorem XP.byte {S : Sx} {b : Pb} {mem : Nat → Nat} {f p k x : Nat} (h : XP S b mem) (hO : bOK b) (hf : pin b f = some p) (hk : k < 64) : XP (pI S (11 + 2 * f) k (by8 x)) b (up mem (64 * p + k) x) := by
  obtain ⟨o1, o2, o3, o4, o5, o6, o7, o8⟩ := id hO
  obtain ⟨h1, h2, h3, h4⟩ := h
  have hf64 : f < 64 := by have := (o4 f p hf).1; omega
  have hs : Sm (fun c _ => c = 11 + 2 * f) S (pI S (11 + 2 * f) k (by8 x)) := Sm.pI rfl
  refine ⟨h1.sm hs (fun f hf => ⟨by omega, by omega⟩), h2.sm hs (fun c k x q => by omega), h3.sm hs (fun c k x q => by omega), fun q hq => ⟨fun g hg j hj => ?_, fun hg j hj => ?_⟩⟩
  · by_cases hgf : g = f
    · subst hgf
      rw [hf] at hg
      cases hg
      rw [gI_pI]
      by_cases hjk : j = k
      · rw [if_pos ⟨rfl, hjk⟩, hjk, up_s]
      · rw [if_neg (fun e => hjk e.2), up_n _ _ (by omega)]
        exact (h4 p hq).1 g hf j hj
    · rw [hs.I (by omega)]
      have hqp : q ≠ p := fun e => hgf (o5 g f p (by rw [← e]; exact hg) hf)
      rw [up_n _ _ (by omega)]
      exact (h4 q hq).1 g hg j hj
  · have hqp : q ≠ p := fun e => hg f (by rw [e]; exact hf)
    rw [hs.I (by omega), up_n _ _ (by omega)]
    exact (h4 q hq).2 hg j hj
def bW (b : Pb) (f : Nat) : Pb := mkPb (fr b) (pin b) (tch b) (up (wrt b) f true) (ot b) (hd b) (kn b) (fa b) (re b) (wr b) (mi b)
theorem bTouch_w {b b' : Pb} {p f : Nat} (h : bTouch b p true f b') : ∃ b0, bTouch b p false f b0 ∧ b' = bW b0 f := by
  rcases h with ⟨t1, t2, rfl⟩ | ⟨t1, t2, rfl⟩ | ⟨t1, t2, t3, rfl⟩
  · exact ⟨_, Or.inl ⟨t1, t2, rfl⟩, rfl⟩
  · exact ⟨_, Or.inr (Or.inl ⟨t1, t2, rfl⟩), rfl⟩
  · exact ⟨_, Or.inr (Or.inr ⟨t1, t2, t3, rfl⟩), rfl⟩
theorem XP.w {S : Sx} {b : Pb} {mem : Nat → Nat} {f p : Nat} (h : XP S b mem) (hO : bOK b) (hf : pin b f = some p) : XP (pI S (10 + 2 * f) 3 1) (bW b f) mem := by
  obtain ⟨o1, o2, o3, o4, o5, o6, o7, o8⟩ := id hO
  have hf64 : f < 64 := by have := (o4 f p hf).1; omega
  obtain ⟨h1, ⟨a1, a2, a3, a4, a5, a6, a7, a8⟩, ⟨l, l1, l2⟩, h4⟩ := h
  have hs : Sm (fun c k => c = 10 + 2 * f ∧ k = 3) S (pI S (10 + 2 * f) 3 1) := Sm.pI ⟨rfl, rfl⟩
  refine ⟨h1.sm hs (fun f hf => ⟨by omega, by omega⟩), ⟨?_, ?_, ?_, ?_, ?_, ?_, fun g hg => ?_, fun q hq => ?_⟩, ⟨l, l1.sm hs (fun c k x => by omega), l2⟩, XM.sm (b := b) h4 (fun f p hf => by have := (o4 f p hf).1; omega) hs (fun c k x => by omega)⟩
  · rw [hs.I (by omega)]; exact a1
  · rw [hs.I (by omega)]; exact a2
  · rw [hs.I (by omega)]; exact a3
  · rw [hs.I (by omega)]; exact a4
  · rw [hs.I (by omega)]; exact a5
  · rw [hs.I (by omega)]; exact a6
  · show _ = pg (pin b g) ∧ (pin b g ≠ none → _ = b1 (tch b g) ∧ _ = b1 (up (wrt b) f true g))
    rw [hs.I (c := 10 + 2 * g) (k := 1) (by omega), hs.I (c := 10 + 2 * g) (k := 2) (by omega)]
    refine ⟨(a7 g hg).1, fun hne => ⟨((a7 g hg).2 hne).1, ?_⟩⟩
    by_cases hgf : g = f
    · rw [hgf, up_s, gI_pI, if_pos ⟨rfl, rfl⟩]; rfl
    · rw [hs.I (by omega), up_n _ _ hgf]; exact ((a7 g hg).2 hne).2
  · rw [hs.R (by omega), hs.I (by omega)]
    exact a8 q hq
theorem x_get_loop {S : Sx} {b : Pb} {mem : Nat → Nat} {a m f : Nat} (h : XP S b mem) (hO : bOK b) (hm : memOK mem) (ha : a < 65536) (hf : pin b f = some (a / 64)) (ham : a % 64 + m ≤ 64) : ∀ (d i n : Nat), i + d = m → d < n → X2_get_15 n (nI a) (nI m) (some (10 + 2 * f)) (numL mem a i) (nI i) S = rt (numL mem a m) S := by
  obtain ⟨hF, hB, hC, hMm⟩ := h
  have hf64 : f < 64 := by have := (hO.2.2.2.1 f _ hf).1; have := hO.2.1; omega
  have e64 : nI a - nI a / 64 * 64 = nI (a % 64) := pk_rem (by omega) (by decide) (by decide)
  intro d
  induction d with
  | zero =>
    intro i n hi hn
    obtain ⟨n, rfl⟩ : ∃ j, n = j + 1 := ⟨n - 1, by omega⟩
    obtain rfl : i = m := by omega
    show X2_get_15b (X2_get_15 n) (nI a) (nI i) (some (10 + 2 * f)) (numL mem a i) (nI i) S = _
    unfold X2_get_15b
    rw [if_pos (nI_le (Nat.le_refl _) (by omega))]
  | succ d ih =>
    intro i n hi hn
    obtain ⟨n, rfl⟩ : ∃ j, n = j + 1 := ⟨n - 1, by omega⟩
    show X2_get_15b (X2_get_15 n) (nI a) (nI m) (some (10 + 2 * f)) (numL mem a i) (nI i) S = _
    unfold X2_get_15b
    obtain ⟨q1, q2, q3, q4, q5⟩ := hF.2.2 f hf64
    have hv := (hMm (a / 64) (by omega)).1 f hf (a % 64 + i) (by omega)
    rw [show 64 * (a / 64) + (a % 64 + i) = a + i by omega] at hv
    rw [if_neg (nI_ge (by omega) (by omega)), dO_s q2, q3, dO_s q4, q5, e64, nI_add, lI_n (by omega) (by omega), hv, vl_e, vl_e, nI_1]
    have e8 : (by8 (mem (a + i))).toInt64 &&& 255 = lN (mem (a + i)) := by8_l _ (hm _)
    rw [e8]
    exact ih (i + 1) n (by omega) (by omega)
/-- X reads m bytes -/
theorem x_get {S : Sx} {b b' : Pb} {mem : Nat → Nat} {a m f : Nat} (h : XP S b mem) (hO : bOK b) (hm : memOK mem) (ha : a < 65536) (hT : bTouch b (a / 64) false f b') (ham : a % 64 + m ≤ 64) : ∃ S', X2_get (nI a) (nI m) S = rt (numL mem a m) S' ∧ XP S' b' mem ∧ Sm xPl S S' := by
  have e64 : nI a / (64 : Int32) = nI (a / 64) := pk_div (by omega) (by decide) (by decide)
  obtain ⟨S', e1, e2, e3⟩ := x_touch h hO (by omega) hT
  obtain ⟨o1, o2, -⟩ := bTouch_OK hO (by omega) hT
  refine ⟨S', ?_, e2, e3⟩
  unfold X2_get
  rw [e64, e1, bd_rt, vl_e]
  exact x_get_loop e2 o1 hm ha o2 ham m 0 FU (by omega) (by have := FU_ge; omega)
theorem x_set_loop {b : Pb} {mem : Nat → Nat} {a m f : Nat} {v : Int64} (hO : bOK b) (ha : a < 65536) (hf : pin b f = some (a / 64)) (ham : a % 64 + m ≤ 64) : ∀ (d i n : Nat) (S : Sx), i + d = m → d < n → XP S b (putI mem a m i v) → ∃ S', X2_set_19 n (nI a) (nI m) v (some (10 + 2 * f)) (nI i) S = rt () S' ∧ XP S' b (putB mem a m v) ∧ Sm xPl S S' := by
  have hf64 : f < 64 := by have := (hO.2.2.2.1 f _ hf).1; have := hO.2.1; omega
  have e64 : nI a - nI a / 64 * 64 = nI (a % 64) := pk_rem (by omega) (by decide) (by decide)
  intro d
  induction d with
  | zero =>
    intro i n S hi hn hM
    obtain ⟨n, rfl⟩ : ∃ j, n = j + 1 := ⟨n - 1, by omega⟩
    obtain rfl : i = m := by omega
    refine ⟨S, ?_, hM, Sm.rfl' S⟩
    show X2_set_19b (X2_set_19 n) (nI a) (nI i) v (some (10 + 2 * f)) (nI i) S = _
    unfold X2_set_19b
    rw [if_pos (nI_le (Nat.le_refl _) (by omega))]
  | succ d ih =>
    intro i n S hi hn hM
    obtain ⟨n, rfl⟩ : ∃ j, n = j + 1 := ⟨n - 1, by omega⟩
    have hB := hM.byte (k := a % 64 + i) (x := bN v m i) hO hf (by omega)
    rw [show 64 * (a / 64) + (a % 64 + i) = a + i by omega, ← putI_s] at hB
    obtain ⟨S', e1, e2, e3⟩ := ih (i + 1) n (pI S (11 + 2 * f) (a % 64 + i) (by8 (bN v m i))) (by omega) (by omega) hB
    refine ⟨S', ?_, e2, Sm.trans (Sm.pI (show xPl (11 + 2 * f) (a % 64 + i) from ⟨by omega, by omega⟩)) e3⟩
    show X2_set_19b (X2_set_19 n) (nI a) (nI m) v (some (10 + 2 * f)) (nI i) S = _
    unfold X2_set_19b
    obtain ⟨q1, q2, q3, q4, q5⟩ := hM.1.2.2 f hf64
    rw [if_neg (nI_ge (by omega) (by omega)), dO_s q2, q3, dO_s q4, q5, e64, nI_add, sI_n (by omega) (by omega), bN_8, vl_e, nI_1]
    exact e1
/-- X writes m bytes -/
theorem x_set {S : Sx} {b b' : Pb} {mem : Nat → Nat} {a m f : Nat} {v : Int64} (h : XP S b mem) (hO : bOK b) (ha : a < 65536) (hT : bTouch b (a / 64) true f b') (ham : a % 64 + m ≤ 64) : ∃ S', X2_set (nI a) (nI m) v S = rt () S' ∧ XP S' b' (putB mem a m v) ∧ Sm xPl S S' := by
  have e64 : nI a / (64 : Int32) = nI (a / 64) := pk_div (by omega) (by decide) (by decide)
  obtain ⟨b0, hT0, rfl⟩ := bTouch_w hT
  obtain ⟨S1, e1, e2, e3⟩ := x_touch h hO (by omega) hT0
  obtain ⟨o1, o2, o3, -⟩ := bTouch_OK hO (by omega) hT0
  have hf64 : f < 64 := by have := o1.2.1; omega
  have hW := e2.w o1 o2
  obtain ⟨S', c1, c2, c3⟩ := x_set_loop (mem := mem) (v := v) (b := bW b0 f) o1 ha o2 ham m 0 FU _ (by omega) (by have := FU_ge; omega) (by rw [putI_0]; exact hW)
  refine ⟨S', ?_, c2, (e3.trans (Sm.pI (show xPl (10 + 2 * f) 3 from ⟨by omega, by omega⟩))).trans c3⟩
  unfold X2_set
  rw [e64, e1, bd_rt, vl_e, dO_s (e2.1.2.2 f hf64).2.1, pt_e]
  exact c1
theorem x_peek {S : Sx} {b : Pb} {mem : Nat → Nat} {a : Nat} (h : XP S b mem) (hO : bOK b) (hm : memOK mem) (ha : a < 65536) : X2_peek (nI a) S = rt (nI (mem a)) S := by
  have e64 : nI a / (64 : Int32) = nI (a / 64) := pk_div (by omega) (by decide) (by decide)
  have e65 : nI a - nI a / 64 * 64 = nI (a % 64) := pk_rem (by omega) (by decide) (by decide)
  obtain ⟨hF, hB, hC, hMm⟩ := h
  have e8 : by8 (mem a) &&& 255 = nI (mem a) := by8_i _ (hm _)
  unfold X2_peek
  rw [e64, lR_n (by omega) (by omega), vl_e]
  by_cases hr : ∃ f, pin b f = some (a / 64)
  · obtain ⟨f, hf⟩ := hr
    have hf64 : f < 64 := by have := (hO.2.2.2.1 f _ hf).1; have := hO.2.1; omega
    obtain ⟨q1, q2, q3, q4, q5⟩ := hF.2.2 f hf64
    have hv := (hMm (a / 64) (by omega)).1 f hf (a % 64) (by omega)
    rw [show 64 * (a / 64) + a % 64 = a by omega] at hv
    rw [(hB.2.2.2.2.2.2.2 _ (by omega)).1 f hf, if_neg (by simp), dO_s q2, q3, dO_s q4, q5, show nI a - nI (a / 64) * 64 = nI (a % 64) by rw [← e64]; exact e65, lI_n (by omega) (by omega), hv, e8]
  · have hr : ∀ f, pin b f ≠ some (a / 64) := fun f e => hr ⟨f, e⟩
    have hv := (hMm (a / 64) (by omega)).2 hr (a % 64) (by omega)
    rw [show 64 * (a / 64) + a % 64 = a by omega] at hv
    rw [((hB.2.2.2.2.2.2.2 _ (by omega)).2 hr).1, if_pos rfl, lI_n (by omega) (by omega), hv, e8]
