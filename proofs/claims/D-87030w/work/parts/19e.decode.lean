set_option maxRecDepth 100000
/-! ===== four bytes, and what they are ===== -/
def numN (mem : Nat → Nat) (a : Nat) : Nat → Nat
  | 0 => 0
  | i + 1 => numN mem a i * 256 + mem (a + i)
theorem numN_lt {mem : Nat → Nat} (hm : memOK mem) (a : Nat) : ∀ i, numN mem a i < 256 ^ i := by
  intro i
  induction i with
  | zero => exact Nat.one_pos
  | succ i ih =>
    have := hm (a + i)
    unfold numN
    rw [Nat.pow_succ]
    omega
theorem numL_N {mem : Nat → Nat} (hm : memOK mem) (a : Nat) : ∀ i, i ≤ 8 → numL mem a i = lN (numN mem a i) := by
  intro i
  induction i with
  | zero => intro _; rfl
  | succ i ih =>
    intro hi
    have h1 := numN_lt hm a (i + 1)
    have h2 : 256 ^ (i + 1) ≤ 256 ^ 8 := Nat.pow_le_pow_right (by omega) hi
    have h3 := hm (a + i)
    have h4 : numN mem a (i + 1) = numN mem a i * 256 + mem (a + i) := rfl
    unfold numL
    rw [ih (by omega), show (((8 : Int32)).toInt64 &&& 63) = ((nI 8).toInt64 &&& 63) from rfl, wb_shl _ (by omega), g_or (k := 8) (p := 256) (by decide) h3 (by rw [← h4]; omega)]
    rfl
theorem shr32 {w k : Nat} (hw : w < 2 ^ 32) (hk : k ≤ 24) : (nI w >>> (nI k &&& 31)) &&& 255 = nI (w / 2 ^ k % 256) := by
  apply Int32.toBitVec_inj.mp
  apply BitVec.eq_of_getLsbD_eq
  intro i hi
  have hs : ((nI k &&& 31).toBitVec.smod 32).toNat = k := by
    have : ∀ n, n < 32 → ((nI n &&& 31).toBitVec.smod 32).toNat = n := by decide +kernel
    exact this k (by omega)
  rw [Int32.toBitVec_and, Int32.toBitVec_shiftRight, BitVec.getLsbD_and, BitVec.sshiftRight_eq', hs, BitVec.getLsbD_sshiftRight]
  have e0 : (nI (w / 2 ^ k % 256)).toBitVec.getLsbD i = (w / 2 ^ k % 256).testBit i := by
    show (BitVec.ofNat 32 _).getLsbD i = _
    rw [BitVec.getLsbD_ofNat]
    simp [hi]
  have e1 : (255 : Int32).toBitVec.getLsbD i = decide (i < 8) := by
    show (255 : Nat).testBit i = _
    exact Nat.testBit_two_pow_sub_one 8 i
  rw [e0, e1]
  by_cases h8 : i < 8
  · have e2 : (nI w).toBitVec.getLsbD (k + i) = w.testBit (k + i) := by
      show (BitVec.ofNat 32 _).getLsbD _ = _
      rw [BitVec.getLsbD_ofNat]
      simp [show k + i < 32 by omega]
    rw [if_pos (show k + i < 32 by omega), e2, show (256 : Nat) = 2 ^ 8 from rfl, Nat.testBit_mod_two_pow, Nat.testBit_div_two_pow, Nat.add_comm i k]
    simp [h8, show ¬ 32 ≤ i by omega]
  · rw [show (256 : Nat) = 2 ^ 8 from rfl, Nat.testBit_mod_two_pow]
    simp [h8]
/-- op, x, y, z out of four bytes -/
theorem decode {mem : Nat → Nat} (hm : memOK mem) (a : Nat) : (numL mem a 4).toInt32 = nI (numN mem a 4) ∧ ((nI (numN mem a 4)).toUInt32 >>> (((24 : Int32)).toUInt32 &&& Int32.toUInt32 31)).toInt32 = nI (mem a) ∧ ((nI (numN mem a 4) >>> ((16 : Int32) &&& 31)) &&& 255) = nI (mem (a + 1)) ∧ ((nI (numN mem a 4) >>> ((8 : Int32) &&& 31)) &&& 255) = nI (mem (a + 2)) ∧ (nI (numN mem a 4) &&& 255) = nI (mem (a + 3)) := by
  have h0 := hm a
  have h1 := hm (a + 1)
  have h2 := hm (a + 2)
  have h3 := hm (a + 3)
  have hw : numN mem a 4 = ((mem a * 256 + mem (a + 1)) * 256 + mem (a + 2)) * 256 + mem (a + 3) := by
    show (((0 * 256 + mem (a + 0)) * 256 + mem (a + 1)) * 256 + mem (a + 2)) * 256 + mem (a + 3) = _
    rw [Nat.zero_mul, Nat.zero_add, Nat.add_zero]
  have hlt : numN mem a 4 < 2 ^ 32 := by omega
  refine ⟨by rw [numL_N hm a 4 (by omega), lN_i], ?_, ?_, ?_, ?_⟩
  · rw [pk_ushrN hlt 24 24 (by decide)]
    congr 1
    omega
  · rw [show ((16 : Int32) &&& 31) = (nI 16 &&& 31) from rfl, shr32 hlt (by omega)]
    congr 1
    omega
  · rw [show ((8 : Int32) &&& 31) = (nI 8 &&& 31) from rfl, shr32 hlt (by omega)]
    congr 1
    omega
  · rw [pk_andN hlt 8 (by decide)]
    congr 1
    omega
/-! ===== which fields an operation has ===== -/
def opT (op : Nat) : Bool := decide (2 ≤ op ∧ op ≤ 53 ∧ op ≠ 34 ∧ op ≠ 35)
def opO (op : Nat) : Bool := decide (op = 0) || opT op || decide (60 ≤ op ∧ op ≤ 80)
def opX (op : Nat) : Bool := opT op || decide (60 ≤ op ∧ op ≤ 65) || decide (69 ≤ op ∧ op ≤ 78)
def opY (op : Nat) : Bool := opT op && decide (op ≠ 32 ∧ op ≠ 33)
def opZ (op : Nat) : Bool := (opT op && decide (op % 2 = 0)) || decide (op = 79)
def opS (op : Nat) : Bool := decide (44 ≤ op ∧ op ≤ 49)
def opW (op : Nat) : Bool := (opT op && !opS op) || decide (69 ≤ op ∧ op ≤ 78)
def vT (a : Int32) : Int32 := if a < 2 then 0 else if 53 < a then 0 else if a = 34 then 0 else if a = 35 then 0 else 1
theorem vT_e : ∀ op, op < 256 → vT (nI op) = b1 (opT op) := by decide +kernel
theorem x_T {op : Nat} (h : op < 256) (S : Sx) : X5_isThree (nI op) S = rt (b1 (opT op)) S := by
  rw [← vT_e op h]
  unfold X5_isThree vT
  split; rfl; split; rfl; split; rfl; split <;> rfl
def vO (a : Int32) : Int32 := if a = 0 then 1 else if vT a = 0 then if a < 60 then 0 else if 80 < a then 0 else 1 else 1
theorem vO_e : ∀ op, op < 256 → vO (nI op) = b1 (opO op) := by decide +kernel
theorem x_O {op : Nat} (h : op < 256) (S : Sx) : X5_isOp (nI op) S = rt (b1 (opO op)) S := by
  rw [← vO_e op h]
  unfold X5_isOp vO
  rw [x_T h, bd_rt, vT_e op h]
  split; rfl; split; split; rfl; split <;> rfl; rfl
def v69 (a : Int32) : Int32 := if a < 69 then 0 else if 78 < a then 0 else 1
def vX (a : Int32) : Int32 := if vT a = 0 then if a < 60 then v69 a else if a ≤ 65 then 1 else v69 a else 1
theorem vX_e : ∀ op, op < 256 → vX (nI op) = b1 (opX op) := by decide +kernel
theorem x_X {op : Nat} (h : op < 256) (S : Sx) : X5_hasX (nI op) S = rt (b1 (opX op)) S := by
  have h69 : X5_hasX_19 (nI op) S = rt (v69 (nI op)) S := by
    unfold X5_hasX_19 v69
    split; rfl; split <;> rfl
  rw [← vX_e op h]
  unfold X5_hasX vX
  rw [x_T h, bd_rt, vT_e op h, h69]
  split; split; rfl; split <;> rfl; rfl
def vS (a : Int32) : Int32 := if a < 44 then 0 else if 49 < a then 0 else 1
theorem vS_e : ∀ op, op < 256 → vS (nI op) = b1 (opS op) := by decide +kernel
theorem x_S {op : Nat} (h : op < 256) (S : Sx) : X5_isStore (nI op) S = rt (b1 (opS op)) S := by
  rw [← vS_e op h]
  unfold X5_isStore vS
  split; rfl; split <;> rfl
def vW (a : Int32) : Int32 := if vT a = 0 then v69 a else if vS a = 0 then 1 else v69 a
theorem vW_e : ∀ op, op < 256 → vW (nI op) = b1 (opW op) := by decide +kernel
theorem x_W {op : Nat} (h : op < 256) (S : Sx) : X5_writesX (nI op) S = rt (b1 (opW op)) S := by
  have h69 : X5_writesX_14 (nI op) S = rt (v69 (nI op)) S := by
    unfold X5_writesX_14 v69
    split; rfl; split <;> rfl
  rw [← vW_e op h]
  unfold X5_writesX vW
  rw [x_T h, bd_rt, vT_e op h, h69, x_S h, bd_rt, vS_e op h]
  split; rfl; split; rfl; exact h69
def vY (a : Int32) : Int32 := if vT a = 0 then 0 else if a = 32 then 0 else if a = 33 then 0 else 1
theorem vY_e : ∀ op, op < 256 → vY (nI op) = b1 (opY op) := by decide +kernel
theorem x_Y {op : Nat} (h : op < 256) (S : Sx) : X5_hasY (nI op) S = rt (b1 (opY op)) S := by
  rw [← vY_e op h]
  unfold X5_hasY vY
  rw [x_T h, bd_rt, vT_e op h]
  split; rfl; split; rfl; split <;> rfl
def v79 (a : Int32) : Int32 := if a = 79 then 1 else 0
def vZ (a : Int32) : Int32 := if vT a = 0 then v79 a else if a - a / 2 * 2 = 0 then 1 else v79 a
theorem vZ_e : ∀ op, op < 256 → vZ (nI op) = b1 (opZ op) := by decide +kernel
theorem x_Z {op : Nat} (h : op < 256) (S : Sx) : X5_hasZ (nI op) S = rt (b1 (opZ op)) S := by
  have h79 : X5_hasZ_13 (nI op) S = rt (v79 (nI op)) S := by
    unfold X5_hasZ_13 v79
    split <;> rfl
  rw [← vZ_e op h]
  unfold X5_hasZ vZ
  rw [x_T h, bd_rt, vT_e op h, h79]
  split; rfl; split <;> rfl
/-! M -/
def wO1 (a : Int32) : Int32 := if a < 60 then 0 else if 80 < a then 0 else 1
def wO2 (a : Int32) : Int32 := if a < 36 then wO1 a else if a ≤ 53 then 1 else wO1 a
def wO (a : Int32) : Int32 := if a = 0 then 1 else if a < 2 then wO2 a else if a ≤ 33 then 1 else wO2 a
theorem wO_e : ∀ op, op < 256 → wO (nI op) = b1 (opO op) := by decide +kernel
theorem m_O {op : Nat} (h : op < 256) (S : Sx) : X12_isOp (nI op) S = rt (b1 (opO op)) S := by
  have h1 : X12_isOp_27 (nI op) S = rt (wO1 (nI op)) S := by
    unfold X12_isOp_27 wO1
    split; rfl; split <;> rfl
  have h2 : X12_isOp_15 (nI op) S = rt (wO2 (nI op)) S := by
    unfold X12_isOp_15 wO2
    rw [h1]
    split; rfl; split <;> rfl
  rw [← wO_e op h]
  unfold X12_isOp wO
  rw [h2]
  split; rfl; split; rfl; split <;> rfl
def wF1 (a y : Int32) : Int32 := if a - a / 2 * 2 = 0 then y + 4 else y
def wF (a : Int32) : Int32 := if a = 0 then 0 else if a = 66 then 0 else if a = 67 then 0 else if a = 68 then 0 else if a = 80 then 0 else if a = 79 then 4 else if a < 60 then if a < 32 then wF1 a 3 else if 33 < a then wF1 a 3 else wF1 a 1 else 1
theorem m_F (a : Int32) (S : Sx) : X12_fields a S = rt (wF a) S := by
  have h1 : ∀ y, X12_fields_63 a y S = rt (wF1 a y) S := fun y => by
    unfold X12_fields_63 wF1
    rw [vl_e]
    split <;> rfl
  unfold X12_fields wF
  rw [h1, h1]
  split; rfl; split; rfl; split; rfl; split; rfl; split; rfl; split; rfl; split; split; rfl; split <;> rfl; rfl
theorem wF_1 : ∀ op, op < 256 → opO op = true → (wF (nI op) &&& 1 = 0 ↔ opX op = false) := by decide +kernel
theorem wF_2 : ∀ op, op < 256 → opO op = true → (wF (nI op) &&& 2 = 0 ↔ opY op = false) := by decide +kernel
theorem wF_4 : ∀ op, op < 256 → opO op = true → (wF (nI op) &&& 4 = 0 ↔ opZ op = false) := by decide +kernel
