set_option maxRecDepth 100000
/-! ===== the step ===== -/
theorem m_call5 {B : Sx} {sp L x : Nat} {fl gl : Nat → Int64} (h : MR B sp L fl gl) (hr : roomM B) (hL : L ≤ 16) (hx : x < 256) (hsp : sp ≤ 600) (hs : ¬ (dK x L + 1 ≤ L ∨ sp + (dK x L + 1) ≤ 600)) : X12_call (nI x) B = th (gn B) (mE B 5) := by
  have hst : X12_call (nI x) B = X12_call_14 (nI x) (nI (dK x L)) B := by
    unfold X12_call dK
    by_cases hx16 : x < 16
    · rw [if_pos (lit_lt hx16 (by omega)), if_pos hx16]
    · rw [if_neg (lit_gt (N := 16) (by omega) (by omega)), if_neg hx16, m_rL h, bd_rt]
  have hk : dK x L ≤ 16 := by unfold dK; split <;> omega
  rw [hst]
  unfold X12_call_14 J7_max
  rw [vl_e, m_rL h, bd_rt, nI_1, if_neg (nI_nlt (by omega) (by omega)), bd_rt, h.1, nI_add, if_neg (show ¬ nI (sp + (dK x L + 1)) ≤ 600 from nI_ge (a := 600) (b := sp + (dK x L + 1)) (by omega) (by omega)), m_end hr]
theorem m_give8 {B : Sx} {L x : Nat} {fl gl : Nat → Int64} (h : MR B 0 L fl gl) (hr : roomM B) : X12_giveBack (nI x) B = th (gn B) (mE B 8) := by
  unfold X12_giveBack
  rw [h.1, if_pos nI_0, m_end hr]
theorem isA_u (x : Int64) : isA x = decide (uN x < 65536) := by
  unfold isA
  have h := uN_lt x
  apply decide_eq_decide.mpr
  rw [l_lt, l_lt, uN_int, show (0 : Int64).toInt = 0 from rfl, show (65536 : Int64).toInt = 65536 from rfl]
  split <;> omega
theorem and4 (x : Int64) : uN (x &&& (-4)) = uN x / 4 * 4 := by
  have e : uN (x &&& (-4)) = uN x &&& uN (-4 : Int64) := UInt64.toNat_and _ _
  rw [e, show uN (-4 : Int64) = 18446744073709551612 from rfl]
  apply Nat.eq_of_testBit_eq
  intro i
  rw [Nat.testBit_and, show (4 : Nat) = 2 ^ 2 from rfl, Nat.testBit_mul_two_pow, Nat.testBit_div_two_pow]
  have h := uN_lt x
  by_cases hi : i < 64
  · have e3 : ∀ i, i < 64 → (18446744073709551612 : Nat).testBit i = decide (2 ≤ i) := by decide +kernel
    rw [e3 i hi]
    by_cases q : 2 ≤ i
    · simp [q, show i - 2 + 2 = i by omega]
    · simp [q]
  · have : 2 ^ 64 ≤ 2 ^ i := Nat.pow_le_pow_right (by omega) (by omega)
    rw [Nat.testBit_lt_two_pow (x := uN x) (i := i) (by omega), show i - 2 + 2 = i by omega, Nat.testBit_lt_two_pow (x := uN x) (i := i) (by omega)]
    simp
theorem pc4 {x : Int64} : isA (x &&& (-4)) = isA x := by
  rw [isA_u, isA_u, and4]
  apply decide_eq_decide.mpr
  omega
theorem pcA {p : Nat} (h : p < 65536) : lN p &&& (-4) = lN (p / 4 * 4) := by
  apply uN_inj
  rw [and4, uN_lN, uN_lN]
  omega
theorem chk_t (op x y z sp L t : Nat) : chk op x y z sp L t = if chk op x y z sp L 0 = 0 then t else chk op x y z sp L 0 := by
  unfold chk ckR ck78 ck79 ckW
  by_cases h0 : opO op = true
  · rw [if_pos h0, if_pos h0]
    by_cases h1 : (opX op = true ∧ 31 < x) ∨ (opY op = true ∧ 31 < y) ∨ (opZ op = true ∧ 31 < z)
    · rw [if_pos h1, if_pos h1]; rfl
    · rw [if_neg h1, if_neg h1]
      by_cases h2 : op = 78 ∧ 4 < z
      · rw [if_pos h2, if_pos h2]; rfl
      · rw [if_neg h2, if_neg h2]
        by_cases h3 : op = 79 ∧ 4 < x
        · rw [if_pos h3, if_pos h3]; rfl
        · rw [if_neg h3, if_neg h3]
          by_cases h4 : opW op = true ∧ x < 16 ∧ ¬ x < L ∧ ¬ sp + (x + 1) ≤ 600
          · rw [if_pos h4, if_pos h4]; rfl
          · rw [if_neg h4, if_neg h4]; rfl
  · rw [if_neg h0, if_neg h0]; rfl
theorem chk_lt (op x y z sp L t : Nat) (ht : t < 9) : chk op x y z sp L t < 9 := by
  unfold chk ckR ck78 ck79 ckW
  repeat' split
  all_goals omega
