set_option maxRecDepth 100000
/-! ===== numbers of 64 bits, unsigned ===== -/
theorem lN_uN (x : Int64) : lN (uN x) = x := uN_inj (by
  have h := uN_lt x
  show (UInt64.ofNat (uN x)).toNat = uN x
  exact u_tn (by omega))
theorem uN_lN (n : Nat) : uN (lN n) = n % 18446744073709551616 := rfl
theorem ult_e (x y : Int64) : y + (-9223372036854775808) ≤ x + (-9223372036854775808) ↔ uN y ≤ uN x := by
  have h1 := uN_lt x
  have h2 := uN_lt y
  have h3 : uN (-9223372036854775808 : Int64) = 9223372036854775808 := by decide +kernel
  rw [Int64.le_iff_toInt_le, uN_int, uN_int, uN_add, uN_add, h3]
  constructor
  · intro h; split at h <;> split at h <;> omega
  · intro h; split <;> split <;> omega
theorem m_less (a b : Int64) (S : Sx) : X12_isLess a b S = rt (b1 (decide (uN a < uN b))) S := by
  unfold X12_isLess
  by_cases h : uN a < uN b
  · rw [if_neg (fun e => by have := (ult_e a b).mp e; omega), decide_eq_true h]; rfl
  · rw [if_pos ((ult_e a b).mpr (by omega)), decide_eq_false h]; rfl
theorem x_below (a b : Int64) (S : Sx) : X7_isBelow a b S = rt (b1 (decide (uN a < uN b))) S := by
  unfold X7_isBelow
  by_cases h : uN a < uN b
  · rw [if_neg (fun e => by have := (ult_e a b).mp e; omega), decide_eq_true h]; rfl
  · rw [if_pos ((ult_e a b).mpr (by omega)), decide_eq_false h]; rfl
/-- the upper half of the product -/
def mulH (a b : Int64) : Int64 := lN (uN a * uN b / 18446744073709551616)
theorem x_mul (a b : Int64) (S : Sx) : X7_multiply a b S = rt () (pL (pL S 143 1 (a * b)) 143 0 (mulH a b)) := by
  unfold X7_multiply
  rw [vl_e, vl_e, vl_e, vl_e, vl_e, vl_e, vl_e, pt_e, pt_e]
  generalize hv1 : a &&& 4294967295 = v1
  generalize hv2 : (a.toUInt64 >>> ((32 : Int32).toInt64.toUInt64 &&& Int64.toUInt64 63)).toInt64 = v2
  generalize hv3 : b &&& 4294967295 = v3
  generalize hv4 : (b.toUInt64 >>> ((32 : Int32).toInt64.toUInt64 &&& Int64.toUInt64 63)).toInt64 = v4
  have u1 : uN v1 = uN a % 4294967296 := by rw [← hv1, uN_lo]
  have u2 : uN v2 = uN a / 4294967296 := by rw [← hv2, uN_s32]
  have u3 : uN v3 = uN b % 4294967296 := by rw [← hv3, uN_lo]
  have u4 : uN v4 = uN b / 4294967296 := by rw [← hv4, uN_s32]
  have la := uN_lt a
  have lb := uN_lt b
  have m1 : uN v1 * uN v3 ≤ 4294967295 * 4294967295 := Nat.mul_le_mul (by omega) (by omega)
  have m2 : uN v2 * uN v3 ≤ 4294967295 * 4294967295 := Nat.mul_le_mul (by omega) (by omega)
  have m3 : uN v1 * uN v4 ≤ 4294967295 * 4294967295 := Nat.mul_le_mul (by omega) (by omega)
  have m4 : uN v2 * uN v4 ≤ 4294967295 * 4294967295 := Nat.mul_le_mul (by omega) (by omega)
  generalize hv5 : v1 * v3 = v5
  have u5 : uN v5 = uN v1 * uN v3 := by rw [← hv5, uN_mul]; omega
  generalize hv6 : v2 * v3 + (v5.toUInt64 >>> ((32 : Int32).toInt64.toUInt64 &&& Int64.toUInt64 63)).toInt64 = v6
  have u6 : uN v6 = uN v2 * uN v3 + uN v5 / 4294967296 := by
    rw [← hv6, uN_add, uN_mul, uN_s32]; omega
  generalize hv7 : v1 * v4 + (v6 &&& 4294967295) = v7
  have u7 : uN v7 = uN v1 * uN v4 + uN v6 % 4294967296 := by
    rw [← hv7, uN_add, uN_mul, uN_lo]; omega
  have hAB : uN a * uN b = uN v2 * uN v4 * 18446744073709551616 + (uN v2 * uN v3 + uN v1 * uN v4) * 4294967296 + uN v1 * uN v3 := by
    have ea : uN a = uN v2 * 4294967296 + uN v1 := by omega
    have eb : uN b = uN v4 * 4294967296 + uN v3 := by omega
    rw [ea, eb]
    generalize uN v1 = p
    generalize uN v2 = q
    generalize uN v3 = r
    generalize uN v4 = s
    have e1 : (q * 4294967296 + p) * (s * 4294967296 + r) = q * s * 18446744073709551616 + (q * r + p * s) * 4294967296 + p * r := by
      rw [Nat.add_mul, Nat.mul_add, Nat.mul_add]
      have x1 : q * 4294967296 * (s * 4294967296) = q * s * 18446744073709551616 := by
        rw [Nat.mul_mul_mul_comm]
      have x2 : q * 4294967296 * r = q * r * 4294967296 := Nat.mul_right_comm _ _ _
      have x3 : p * (s * 4294967296) = p * s * 4294967296 := (Nat.mul_assoc _ _ _).symm
      rw [x1, x2, x3]
      omega
    exact e1
  have hlo : v7 <<< ((32 : Int32).toInt64 &&& 63) ||| v5 &&& 4294967295 = a * b := by
    have e1 : v7 <<< ((32 : Int32).toInt64 &&& 63) = lN (uN v7 % 4294967296 * 4294967296) := by
      have q := wb_shl (uN v7) (k := 32) (by omega)
      rw [lN_uN] at q
      rw [show ((32 : Int32).toInt64 &&& 63) = ((nI 32).toInt64 &&& 63) from rfl, q]
      apply uN_inj
      rw [uN_lN, uN_lN]
      omega
    have e2 : v5 &&& 4294967295 = lN (uN v5 % 4294967296) := by
      apply uN_inj
      rw [uN_lo, uN_lN]
      omega
    rw [e1, e2, g_or (k := 32) (by decide) (by omega) (by omega)]
    apply uN_inj
    rw [uN_lN, uN_mul, hAB]
    omega
  have hhi : v2 * v4 + (v6.toUInt64 >>> ((32 : Int32).toInt64.toUInt64 &&& Int64.toUInt64 63)).toInt64 + (v7.toUInt64 >>> ((32 : Int32).toInt64.toUInt64 &&& Int64.toUInt64 63)).toInt64 = mulH a b := by
    apply uN_inj
    unfold mulH
    rw [uN_add, uN_add, uN_mul, uN_s32, uN_s32, uN_lN, hAB]
    omega
  rw [hlo, hhi]
/-- the lowest bit behind a shift -/
theorem shr_bit (x : Int64) {k : Nat} (hk : k < 64) : (x >>> ((nI k).toInt64 &&& 63)) &&& 1 = lN (uN x / 2 ^ k % 2) := by
  rw [wb_c k hk]
  apply wb_inj
  apply BitVec.eq_of_getLsbD_eq
  intro i hi
  rw [Int64.toBitVec_and, Int64.toBitVec_shiftRight, BitVec.getLsbD_and, wb_tb, wb_sm k hk, BitVec.sshiftRight_eq', BitVec.toNat_ofNat, Nat.mod_eq_of_lt (show k < 2 ^ 64 by omega), BitVec.getLsbD_sshiftRight, wb_tb, BitVec.getLsbD_ofNat]
  by_cases h0 : i = 0
  · subst h0
    have e : x.toBitVec.getLsbD k = (uN x / 2 ^ k % 2).testBit 0 := by
      rw [Nat.testBit_zero, Nat.mod_mod]
      show x.toBitVec.toNat.testBit k = _
      rw [Nat.testBit_eq_decide_div_mod_eq]
      rfl
    rw [← e]
    have : k + 0 < 64 := by omega
    simp [hk]
  · have e1 : (1 : Int64).toBitVec.getLsbD i = false := by
      show (1 : Nat).testBit i = false
      exact Bool.eq_false_iff.mpr (fun e => h0 (Nat.testBit_one_eq_true_iff_self_eq_zero.mp e))
    have e2 : (uN x / 2 ^ k % 2).testBit i = false := Nat.testBit_lt_two_pow (by
      have : 2 ^ 1 ≤ 2 ^ i := Nat.pow_le_pow_right (by omega) (by omega)
      omega)
    rw [e1, e2]
    simp
theorem mu0 {hi lo : Nat} (h1 : lo < 18446744073709551616) (h2 : 2 * (hi * 18446744073709551616 + lo) < 340282366920938463463374607431768211456) : ((2 * hi) % 18446744073709551616 + lo / 9223372036854775808) * 18446744073709551616 + (2 * lo) % 18446744073709551616 = 2 * (hi * 18446744073709551616 + lo) := by omega
theorem mu1 {hi lo x : Nat} (h1 : lo < 18446744073709551616) (hx : x < 18446744073709551616) (h2 : 2 * (hi * 18446744073709551616 + lo) + x < 340282366920938463463374607431768211456) (hc : ((2 * lo) % 18446744073709551616 + x) % 18446744073709551616 < x) : (((2 * hi) % 18446744073709551616 + lo / 9223372036854775808 + 1) % 18446744073709551616) * 18446744073709551616 + ((2 * lo) % 18446744073709551616 + x) % 18446744073709551616 = 2 * (hi * 18446744073709551616 + lo) + x := by omega
theorem mu2 {hi lo x : Nat} (h1 : lo < 18446744073709551616) (hx : x < 18446744073709551616) (h2 : 2 * (hi * 18446744073709551616 + lo) + x < 340282366920938463463374607431768211456) (hc : ¬ ((2 * lo) % 18446744073709551616 + x) % 18446744073709551616 < x) : (((2 * hi) % 18446744073709551616 + lo / 9223372036854775808 + 0) % 18446744073709551616) * 18446744073709551616 + ((2 * lo) % 18446744073709551616 + x) % 18446744073709551616 = 2 * (hi * 18446744073709551616 + lo) + x := by omega
theorem m_upper_loop (x y : Int64) : ∀ (d n : Nat) (hi lo : Int64) (S : Sx), d ≤ 64 → d < n → uN hi * 18446744073709551616 + uN lo = uN x * (uN y / 2 ^ d) → X12_upper_10 n x y hi lo (nI d - 1) S = rt (mulH x y) S := by
  intro d
  induction d with
  | zero =>
    intro n hi lo S hd hn h
    obtain ⟨n, rfl⟩ : ∃ j, n = j + 1 := ⟨n - 1, by omega⟩
    show X12_upper_10b (X12_upper_10 n) x y hi lo (nI 0 - 1) S = _
    unfold X12_upper_10b
    rw [if_pos (by decide)]
    congr 1
    apply uN_inj
    unfold mulH
    rw [Nat.pow_zero, Nat.div_one] at h
    rw [uN_lN, ← h]
    have := uN_lt hi
    have := uN_lt lo
    omega
  | succ d ih =>
    intro n hi lo S hd hn h
    obtain ⟨n, rfl⟩ : ∃ j, n = j + 1 := ⟨n - 1, by omega⟩
    show X12_upper_10b (X12_upper_10 n) x y hi lo (nI (d + 1) - 1) S = _
    unfold X12_upper_10b
    have l1 := uN_lt hi
    have l2 := uN_lt lo
    have l3 := uN_lt x
    have l4 := uN_lt y
    rw [nI_pred, if_neg (nI_pos (by omega)), vl_e, vl_e, shr_bit y (by omega), show nI d + (-1) = nI d - 1 from (Int32.sub_eq_add_neg _ _).symm]
    have hdiv : uN y / 2 ^ d = 2 * (uN y / 2 ^ (d + 1)) + uN y / 2 ^ d % 2 := by
      rw [Nat.pow_succ, ← Nat.div_div_eq_div_mul]
      omega
    have hbig : uN x * (uN y / 2 ^ d) ≤ 18446744073709551615 * 18446744073709551615 := Nat.mul_le_mul (by omega) (Nat.le_trans (Nat.div_le_self _ _) (by omega))
    have hmul : uN x * (uN y / 2 ^ d) = 2 * (uN x * (uN y / 2 ^ (d + 1))) + uN x * (uN y / 2 ^ d % 2) := by
      conv => lhs; rw [hdiv]
      rw [Nat.mul_add, Nat.mul_left_comm]
    have hm2 : uN y / 2 ^ d % 2 < 2 := Nat.mod_lt _ (by omega)
    generalize hbit : uN y / 2 ^ d % 2 = bit at *
    have hv1 : uN (hi <<< ((1 : Int32).toInt64 &&& 63) ||| (lo.toUInt64 >>> ((63 : Int32).toInt64.toUInt64 &&& Int64.toUInt64 63)).toInt64) = (2 * uN hi) % 18446744073709551616 + uN lo / 9223372036854775808 := by
      rw [uN_or (by rw [uN_s63]; omega), uN_s63]
    have hv2 : uN (lo <<< ((1 : Int32).toInt64 &&& 63)) = (2 * uN lo) % 18446744073709551616 := uN_shl lo
    generalize hi <<< ((1 : Int32).toInt64 &&& 63) ||| (lo.toUInt64 >>> ((63 : Int32).toInt64.toUInt64 &&& Int64.toUInt64 63)).toInt64 = w1 at *
    generalize lo <<< ((1 : Int32).toInt64 &&& 63) = w2 at *
    by_cases hb : bit = 0
    · subst hb
      rw [if_pos (by rfl), vl_e]
      refine ih n _ _ S (by omega) (by omega) ?_
      rw [hmul, ← h] at hbig
      rw [Nat.mul_zero, Nat.add_zero] at hbig hmul
      rw [hmul, ← h, hv1, hv2]
      exact mu0 l2 (Nat.lt_of_le_of_lt hbig (by decide))
    · obtain rfl : bit = 1 := by omega
      rw [if_neg (by decide), vl_e, m_less, bd_rt]
      rw [Nat.mul_one] at hmul
      have hv3 : uN (w2 + x) = ((2 * uN lo) % 18446744073709551616 + uN x) % 18446744073709551616 := by rw [uN_add, hv2]
      rw [hmul, ← h] at hbig
      by_cases hc : uN (w2 + x) < uN x
      · rw [decide_eq_true hc, if_neg (by decide), vl_e, vl_e]
        refine ih n _ _ S (by omega) (by omega) ?_
        rw [hv3] at hc
        rw [hmul, ← h, uN_add, hv1, hv3, show uN (1 : Int64) = 1 from rfl]
        exact mu1 l2 l3 (Nat.lt_of_le_of_lt hbig (by decide)) hc
      · rw [decide_eq_false hc, if_pos (by rfl), vl_e, vl_e]
        refine ih n _ _ S (by omega) (by omega) ?_
        rw [hv3] at hc
        rw [hmul, ← h, uN_add, hv1, hv3, show uN (0 : Int64) = 0 from rfl]
        exact mu2 l2 l3 (Nat.lt_of_le_of_lt hbig (by decide)) hc
theorem m_upper (x y : Int64) (S : Sx) : X12_upper x y S = rt (mulH x y) S := by
  have := m_upper_loop x y 64 FU 0 0 S (by omega) (by have := FU_ge; omega) (by
    have := uN_lt y
    rw [Nat.div_eq_of_lt (show uN y < 2 ^ 64 by omega)]
    rfl)
  exact this
/-! ===== the division ===== -/
def dR (r lo : Int64) (k : Nat) : Int64 := r <<< ((1 : Int32).toInt64 &&& 63) ||| lN (uN lo / 2 ^ k % 2)
/-- remainder and quotient after i steps -/
def dv (h lo d : Int64) : Nat → Int64 × Int64
  | 0 => (h, 0)
  | i + 1 => if (dv h lo d i).1 < 0 ∨ uN d ≤ uN (dR (dv h lo d i).1 lo (63 - i)) then (dR (dv h lo d i).1 lo (63 - i) - d, (dv h lo d i).2 <<< ((1 : Int32).toInt64 &&& 63) ||| 1) else (dR (dv h lo d i).1 lo (63 - i), (dv h lo d i).2 <<< ((1 : Int32).toInt64 &&& 63))
theorem dv_s (h lo d : Int64) (i : Nat) : dv h lo d (i + 1) = if (dv h lo d i).1 < 0 ∨ uN d ≤ uN (dR (dv h lo d i).1 lo (63 - i)) then (dR (dv h lo d i).1 lo (63 - i) - d, (dv h lo d i).2 <<< ((1 : Int32).toInt64 &&& 63) ||| 1) else (dR (dv h lo d i).1 lo (63 - i), (dv h lo d i).2 <<< ((1 : Int32).toInt64 &&& 63)) := rfl
theorem m_quot_loop (h lo d : Int64) : ∀ (e n : Nat) (S : Sx), e ≤ 64 → e < n → X12_quotient_10 n lo d (dv h lo d (64 - e)).1 (dv h lo d (64 - e)).2 (nI e - 1) S = rt (dv h lo d 64).2 (pL S 172 2 (dv h lo d 64).1) := by
  intro e
  induction e with
  | zero =>
    intro n S he hn
    obtain ⟨n, rfl⟩ : ∃ j, n = j + 1 := ⟨n - 1, by omega⟩
    show X12_quotient_10b (X12_quotient_10 n) lo d (dv h lo d 64).1 (dv h lo d 64).2 (nI 0 - 1) S = _
    unfold X12_quotient_10b
    rw [if_pos (by decide), show (2 : Int32) = nI 2 from rfl, sL_n (by omega) (by omega)]
  | succ e ih =>
    intro n S he hn
    obtain ⟨n, rfl⟩ : ∃ j, n = j + 1 := ⟨n - 1, by omega⟩
    have ih := ih n S (by omega) (by omega)
    rw [show 64 - e = 64 - (e + 1) + 1 by omega] at ih
    show X12_quotient_10b (X12_quotient_10 n) lo d _ _ (nI (e + 1) - 1) S = _
    unfold X12_quotient_10b X12_quotient_27 X12_quotient_66
    rw [nI_pred, if_neg (nI_pos (by omega)), shr_bit lo (by omega), show nI e + (-1) = nI e - 1 from (Int32.sub_eq_add_neg _ _).symm]
    have e63 : 63 - (64 - (e + 1)) = e := by omega
    rw [dv_s, e63] at ih
    rw [← ih]
    have hdr : (dv h lo d (64 - (e + 1))).1 <<< ((1 : Int32).toInt64 &&& 63) ||| lN (uN lo / 2 ^ e % 2) = dR (dv h lo d (64 - (e + 1))).1 lo e := rfl
    rw [hdr]
    by_cases h1 : (dv h lo d (64 - (e + 1))).1 < 0
    · rw [if_neg (show ¬ 0 ≤ (dv h lo d (64 - (e + 1))).1 from fun q => by rw [l_le] at q; rw [l_lt] at h1; omega), if_pos (Or.inl h1), vl_e, vl_e, vl_e, if_neg (by decide), vl_e, vl_e, vl_e]
    · rw [if_pos (show 0 ≤ (dv h lo d (64 - (e + 1))).1 from by rw [l_lt] at h1; rw [l_le]; omega), vl_e, vl_e, vl_e, if_pos (by rfl), m_less, bd_rt]
      by_cases h2 : uN d ≤ uN (dR (dv h lo d (64 - (e + 1))).1 lo e)
      · rw [if_pos (Or.inr h2), decide_eq_false (by omega), if_pos (by rfl), vl_e, vl_e, vl_e]
      · rw [decide_eq_true (by omega), if_neg (by decide), vl_e, if_neg (fun q => q.elim h1 h2)]
theorem m_quot (h lo d : Int64) (S : Sx) : X12_quotient h lo d S = rt (dv h lo d 64).2 (pL S 172 2 (dv h lo d 64).1) := m_quot_loop h lo d 64 FU S (by omega) (by have := FU_ge; omega)
theorem dv_q (h lo d : Int64) : ∀ i, i ≤ 64 → uN (dv h lo d i).2 < 2 ^ i := by
  intro i
  induction i with
  | zero => intro _; exact Nat.one_pos
  | succ i ih =>
    intro hi
    have ih := ih (by omega)
    have hp : 2 ^ (i + 1) = 2 * 2 ^ i := by rw [Nat.pow_succ, Nat.mul_comm]
    have hq : 2 ^ i ≤ 2 ^ 63 := Nat.pow_le_pow_right (by omega) (by omega)
    unfold dv
    split
    · show uN ((dv h lo d i).2 <<< ((1 : Int32).toInt64 &&& 63) ||| 1) < _
      rw [uN_or (by decide), show uN (1 : Int64) = 1 from rfl]
      omega
    · show uN ((dv h lo d i).2 <<< ((1 : Int32).toInt64 &&& 63)) < _
      rw [uN_shl]
      omega
theorem top_bit {L i q : Nat} (hi : i ≤ 63) (hq : q < 2 ^ i) : (L * 2 ^ i + q) % 18446744073709551616 / 9223372036854775808 = L / 2 ^ (63 - i) % 2 := by
  have e1 : (L * 2 ^ i + q) % (9223372036854775808 * 2) / 9223372036854775808 = (L * 2 ^ i + q) / 9223372036854775808 % 2 := Nat.mod_mul_right_div_self _ _ _
  have e2 : (9223372036854775808 : Nat) = 2 ^ i * 2 ^ (63 - i) := by rw [← Nat.pow_add, show i + (63 - i) = 63 by omega]
  have e3 : (L * 2 ^ i + q) / 2 ^ i = L := by
    rw [Nat.add_comm, Nat.add_mul_div_right _ _ (Nat.two_pow_pos i), Nat.div_eq_of_lt hq, Nat.zero_add]
  rw [show (18446744073709551616 : Nat) = 9223372036854775808 * 2 from rfl, e1]
  conv => lhs; rw [e2]
  rw [← Nat.div_div_eq_div_mul, e3]
theorem x_div_loop (h lo d : Int64) : ∀ (e n : Nat) (x : Int64) (S : Sx), e ≤ 64 → e < n → uN x = (uN lo * 2 ^ (64 - e) + uN (dv h lo d (64 - e)).2) % 18446744073709551616 → X7_divide_9 n d (dv h lo d (64 - e)).1 x (nI (64 - e)) S = rt () (pL (pL S 143 0 (dv h lo d 64).1) 143 1 (dv h lo d 64).2) := by
  intro e
  induction e with
  | zero =>
    intro n x S he hn hx
    obtain ⟨n, rfl⟩ : ∃ j, n = j + 1 := ⟨n - 1, by omega⟩
    show X7_divide_9b (X7_divide_9 n) d (dv h lo d 64).1 x (nI 64) S = _
    unfold X7_divide_9b
    have : x = (dv h lo d 64).2 := by
      apply uN_inj
      have h2 := uN_lt (dv h lo d 64).2
      rw [hx, show 64 - 0 = 64 from rfl, show uN lo * 2 ^ 64 = uN lo * 18446744073709551616 from rfl]
      omega
    rw [if_pos (by decide), pt_e, pt_e, this]
  | succ e ih =>
    intro n x S he hn hx
    obtain ⟨n, rfl⟩ : ∃ j, n = j + 1 := ⟨n - 1, by omega⟩
    have hq := dv_q h lo d (64 - (e + 1)) (by omega)
    have htop : uN x / 9223372036854775808 = uN lo / 2 ^ e % 2 := by
      rw [hx, top_bit (by omega) hq, show 63 - (64 - (e + 1)) = e by omega]
    have hsh : (x.toUInt64 >>> ((63 : Int32).toInt64.toUInt64 &&& Int64.toUInt64 63)).toInt64 = lN (uN lo / 2 ^ e % 2) := by
      apply uN_inj
      rw [uN_s63, htop, uN_lN]
      omega
    have hp : uN lo * 2 ^ (64 - e) = 2 * (uN lo * 2 ^ (64 - (e + 1))) := by
      rw [show 64 - e = 64 - (e + 1) + 1 by omega, Nat.pow_succ, Nat.mul_comm (2 ^ (64 - (e + 1))) 2, Nat.mul_left_comm]
    have hs1 : 64 - e = 64 - (e + 1) + 1 := by omega
    have e63 : 63 - (64 - (e + 1)) = e := by omega
    have hq2 : uN (dv h lo d (64 - (e + 1))).2 < 9223372036854775808 := Nat.lt_of_lt_of_le hq (Nat.pow_le_pow_right (n := 2) (by omega) (show 64 - (e + 1) ≤ 63 by omega))
    show X7_divide_9b (X7_divide_9 n) d _ x (nI (64 - (e + 1))) S = _
    unfold X7_divide_9b X7_divide_28 X7_divide_63
    have hdr : (dv h lo d (64 - (e + 1))).1 <<< ((1 : Int32).toInt64 &&& 63) ||| lN (uN lo / 2 ^ e % 2) = dR (dv h lo d (64 - (e + 1))).1 lo e := rfl
    rw [if_neg (lit_ge (N := 64) (by omega) (by omega)), hsh, nI_1, ← hs1, hdr]
    have step1 : dv h lo d (64 - e) = (dR (dv h lo d (64 - (e + 1))).1 lo e - d, (dv h lo d (64 - (e + 1))).2 <<< ((1 : Int32).toInt64 &&& 63) ||| 1) → X7_divide_9 n d (dR (dv h lo d (64 - (e + 1))).1 lo e - d) (x <<< ((1 : Int32).toInt64 &&& 63) ||| 1) (nI (64 - e)) S = rt () (pL (pL S 143 0 (dv h lo d 64).1) 143 1 (dv h lo d 64).2) := fun q => by
      have := ih n (x <<< ((1 : Int32).toInt64 &&& 63) ||| 1) S (by omega) (by omega) (by
        rw [q, uN_or (by decide), hx, hp, show uN (1 : Int64) = 1 from rfl, uN_or (by decide), show uN (1 : Int64) = 1 from rfl]
        omega)
      rw [q] at this
      exact this
    have step2 : dv h lo d (64 - e) = (dR (dv h lo d (64 - (e + 1))).1 lo e, (dv h lo d (64 - (e + 1))).2 <<< ((1 : Int32).toInt64 &&& 63)) → X7_divide_9 n d (dR (dv h lo d (64 - (e + 1))).1 lo e) (x <<< ((1 : Int32).toInt64 &&& 63)) (nI (64 - e)) S = rt () (pL (pL S 143 0 (dv h lo d 64).1) 143 1 (dv h lo d 64).2) := fun q => by
      have := ih n (x <<< ((1 : Int32).toInt64 &&& 63)) S (by omega) (by omega) (by
        rw [q, uN_shl, hx, hp, uN_shl]
        omega)
      rw [q] at this
      exact this
    by_cases h1 : (dv h lo d (64 - (e + 1))).1 < 0
    · rw [if_neg (show ¬ 0 ≤ (dv h lo d (64 - (e + 1))).1 from fun q => by rw [l_le] at q; rw [l_lt] at h1; omega), vl_e, vl_e, vl_e, if_neg (by decide), vl_e, vl_e, vl_e]
      refine step1 ?_
      rw [hs1]
      rw [dv_s, e63, if_pos (Or.inl h1)]
    · rw [if_pos (show 0 ≤ (dv h lo d (64 - (e + 1))).1 from by rw [l_lt] at h1; rw [l_le]; omega), vl_e, vl_e, vl_e, if_pos (by rfl), x_below, bd_rt]
      by_cases h2 : uN d ≤ uN (dR (dv h lo d (64 - (e + 1))).1 lo e)
      · rw [decide_eq_false (by omega), if_pos (by rfl), vl_e, vl_e, vl_e]
        refine step1 ?_
        rw [hs1]
        rw [dv_s, e63, if_pos (Or.inr h2)]
      · rw [decide_eq_true (by omega), if_neg (by decide), vl_e]
        refine step2 ?_
        rw [hs1]
        rw [dv_s, e63, if_neg (fun q => q.elim h1 h2)]
theorem x_div (h lo d : Int64) (S : Sx) : X7_divide h lo d S = rt () (pL (pL S 143 0 (dv h lo d 64).1) 143 1 (dv h lo d 64).2) := x_div_loop h lo d 64 FU lo S (by omega) (by have := FU_ge; omega) (by
  show uN lo = (uN lo * 1 + 0) % _
  have := uN_lt lo
  omega)
theorem dv64_ex (h lo d : Int64) : ∃ v : Int64 × Int64, v = dv h lo d 64 := ⟨_, rfl⟩
/-- remainder and quotient -/
noncomputable def dvv (h lo d : Int64) : Int64 × Int64 := Classical.choose (dv64_ex h lo d)
theorem dvv_e (h lo d : Int64) : dvv h lo d = dv h lo d 64 := Classical.choose_spec (dv64_ex h lo d)
theorem m_quo (h lo d : Int64) (S : Sx) : X12_quotient h lo d S = rt (dvv h lo d).2 (pL S 172 2 (dvv h lo d).1) := by
  rw [dvv_e]; exact m_quot h lo d S
theorem x_quo (h lo d : Int64) (S : Sx) : X7_divide h lo d S = rt () (pL (pL S 143 0 (dvv h lo d).1) 143 1 (dvv h lo d).2) := by
  rw [dvv_e]; exact x_div h lo d S
