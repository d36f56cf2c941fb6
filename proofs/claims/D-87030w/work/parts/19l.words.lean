set_option maxRecDepth 100000
/-! ===== the fields of a word as numbers ===== -/
theorem nI_mod (a : Nat) : nI a = nI (a % 4294967296) := Int32.toBitVec_inj.mp (by
  apply BitVec.eq_of_toNat_eq
  show (BitVec.ofNat 32 a).toNat = (BitVec.ofNat 32 _).toNat
  rw [BitVec.toNat_ofNat, BitVec.toNat_ofNat]
  omega)
theorem t16 (a : Nat) : (nI a).toInt16 = (nI (a % 65536)).toInt16 := Int16.toBitVec_inj.mp (by
  apply BitVec.eq_of_toNat_eq
  show ((BitVec.ofNat 32 a).signExtend 16).toNat = ((BitVec.ofNat 32 (a % 65536)).signExtend 16).toNat
  rw [BitVec.signExtend_eq_setWidth_of_le _ (by omega), BitVec.signExtend_eq_setWidth_of_le _ (by omega), BitVec.toNat_setWidth, BitVec.toNat_setWidth, BitVec.toNat_ofNat, BitVec.toNat_ofNat]
  omega)
theorem nI_or (a b : Nat) : nI a ||| nI b = nI (a ||| b) := Int32.toBitVec_inj.mp (by
  show BitVec.ofNat 32 a ||| BitVec.ofNat 32 b = BitVec.ofNat 32 (a ||| b)
  apply BitVec.eq_of_toNat_eq
  rw [BitVec.toNat_or, BitVec.toNat_ofNat, BitVec.toNat_ofNat, BitVec.toNat_ofNat, Nat.or_mod_two_pow])
theorem or_add {a b k : Nat} (hb : b < 2 ^ k) : a * 2 ^ k ||| b = a * 2 ^ k + b := by
  rw [Nat.mul_comm, Nat.two_pow_add_eq_or_of_lt hb]
theorem nI_shl (a : Nat) {k : Nat} (hk : k < 32) : nI a <<< (nI k &&& 31) = nI (a * 2 ^ k) := Int32.toBitVec_inj.mp (by
  have hs : ((nI k &&& 31).toBitVec.smod 32).toNat = k := by
    have : ∀ n, n < 32 → ((nI n &&& 31).toBitVec.smod 32).toNat = n := by decide +kernel
    exact this k hk
  rw [Int32.toBitVec_shiftLeft, BitVec.shiftLeft_eq', hs]
  apply BitVec.eq_of_toNat_eq
  show ((BitVec.ofNat 32 a) <<< k).toNat = (BitVec.ofNat 32 (a * 2 ^ k)).toNat
  rw [BitVec.toNat_shiftLeft, BitVec.toNat_ofNat, BitVec.toNat_ofNat, Nat.shiftLeft_eq, Nat.mod_mul_mod])
/-- what a jump's three bytes are -/
theorem jmp_e {op x y z : Nat} (hx : x < 256) (hy : y < 256) (hz : z < 256) : nI (((op * 256 + x) * 256 + y) * 256 + z) <<< ((8 : Int32) &&& 31) = (((nI x <<< ((16 : Int32) &&& 31)) ||| (nI y <<< ((8 : Int32) &&& 31))) ||| nI z) <<< ((8 : Int32) &&& 31) := by
  rw [show ((8 : Int32) &&& 31) = (nI 8 &&& 31) from rfl, show ((16 : Int32) &&& 31) = (nI 16 &&& 31) from rfl, nI_shl _ (by omega), nI_shl _ (by omega), nI_shl _ (by omega), nI_or, nI_or, nI_shl _ (by omega), nI_mod (_ * 2 ^ 8)]
  have e1 : x * 2 ^ 16 ||| y * 2 ^ 8 = (x * 256 + y) * 2 ^ 8 := by
    rw [or_add (by omega)]
    omega
  rw [e1, or_add (by omega), nI_mod (((x * 256 + y) * 2 ^ 8 + z) * 2 ^ 8)]
  congr 1
  omega
theorem low16 {op x y z : Nat} (hy : y < 256) (hz : z < 256) : (((op * 256 + x) * 256 + y) * 256 + z) % 65536 = y * 256 + z := by omega
theorem rel_e {op x y z : Nat} (hy : y < 256) (hz : z < 256) : (nI (((op * 256 + x) * 256 + y) * 256 + z)).toInt16 = ((256 * lN y + lN z).toInt32).toInt16 := by
  rw [t16, low16 hy hz, show (256 : Int64) = lN 256 from rfl, lN_mul, lN_add, lN_i, show 256 * y + z = y * 256 + z by omega]
theorem low_e {op x y z : Nat} (hy : y < 256) (hz : z < 256) : nI (((op * 256 + x) * 256 + y) * 256 + z) &&& 65535 = nI (y * 256 + z) := by
  rw [nI_mod, pk_andN (Nat.mod_lt _ (by decide)) 16 (by decide)]
  congr 1
  omega
theorem z_e {op x y z : Nat} (hz : z < 256) : nI (((op * 256 + x) * 256 + y) * 256 + z) &&& 255 = nI z := by
  rw [nI_mod, pk_andN (Nat.mod_lt _ (by decide)) 8 (by decide)]
  congr 1
  omega
