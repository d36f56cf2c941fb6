set_option maxRecDepth 100000
theorem st_66 {A B : Sx} {b : Pb} {mem : Nat → Nat} {sp L x y z a : Nat} {fl gl s : Nat → Int64} {fs : List Nat} {ou inp : List Int32} {pc : Int64} {n : Int32} (hX : XMc A b mem sp L fl gl s ou inp pc n 0) (hM : MMc B b mem sp L fl gl s ou inp pc n 0) (hO : mcOK b mem sp L fl fs ou inp) (hx : x < 256) (hy : y < 256) (hz : z < 256) (ha : a < 65536) (h30 : gI B 167 30 = nI x) (h31 : gI B 167 31 = nI y) (h32 : gI B 167 32 = nI z) (h33 : gI B 167 33 = nI a) : StR A B n (XE 66 x y z a A) (ME 66 a B) := by
  have hxe : X5_orderElse (nI 66) (nI x) (nI (wd 66 x y z)) (lN a) A = rt (lN a + 4 * (((nI (wd 66 x y z) <<< ((8 : Int32) &&& 31)) >>> ((8 : Int32) &&& 31)).toInt64)) A := by
    unfold X5_orderElse
    rw [vl_e, vl_e, if_pos (show (65 : Int32) < nI 66 by decide), if_pos (show nI 66 = 66 by rfl)]
  have hme : X12_other (nI 66) (lN a + 4) B = rt (lN a + 4 * (((nI (wd 66 x y z) <<< ((8 : Int32) &&& 31)) >>> ((8 : Int32) &&& 31)).toInt64)) B := by
    rw [m_oth hM.2.2.1 hO.2.2.1 hx hy hz ha h30 h31 h32 h33 (by decide) (by decide) (by decide)]
    unfold X12_other_61 wd
    rw [vl_e, if_neg (by decide), if_neg (by decide), if_neg (by decide), if_neg (by decide), if_neg (by decide), if_neg (by decide), if_pos (show nI 66 = 66 by rfl), h30, h31, h32, h33, nI_l (by omega), jmp_e hx hy hz]
  unfold XE ME
  rw [hxe, hme]
  exact st_go _ hX hM hO (by decide)
theorem st_80 {A B : Sx} {b : Pb} {mem : Nat → Nat} {sp L x y z a : Nat} {fl gl s : Nat → Int64} {fs : List Nat} {ou inp : List Int32} {pc : Int64} {n : Int32} (hX : XMc A b mem sp L fl gl s ou inp pc n 0) (hM : MMc B b mem sp L fl gl s ou inp pc n 0) (hO : mcOK b mem sp L fl fs ou inp) (hx : x < 256) (hy : y < 256) (hz : z < 256) (ha : a < 65536) (h30 : gI B 167 30 = nI x) (h31 : gI B 167 31 = nI y) (h32 : gI B 167 32 = nI z) (h33 : gI B 167 33 = nI a) : StR A B n (XE 80 x y z a A) (ME 80 a B) := by
  have hxe : X5_orderElse (nI 80) (nI x) (nI (wd 80 x y z)) (lN a) A = rt (lN a + 4) A := by
    unfold X5_orderElse X5_orderElse_264
    rw [vl_e, vl_e, if_pos (show (65 : Int32) < nI 80 by decide), if_neg (by decide), if_neg (by decide), if_neg (by decide), if_neg (by decide), if_pos (show (74 : Int32) ≤ nI 80 by decide), if_pos (show (77 : Int32) < nI 80 by decide), if_neg (by decide), if_neg (by decide)]
  have hme : X12_other (nI 80) (lN a + 4) B = rt (lN a + 4) B := by
    rw [m_oth hM.2.2.1 hO.2.2.1 hx hy hz ha h30 h31 h32 h33 (by decide) (by decide) (by decide)]
    unfold X12_other_61
    rw [vl_e, if_neg (by decide), if_neg (by decide), if_neg (by decide), if_neg (by decide), if_neg (by decide), if_neg (by decide), if_neg (by decide), if_neg (by decide), if_neg (by decide), if_neg (by decide), if_neg (by decide), if_neg (by decide), if_neg (by decide), if_neg (by decide), if_neg (by decide), if_neg (by decide), if_neg (by decide), if_neg (by decide), if_neg (by decide), if_neg (by decide)]
  unfold XE ME
  rw [hxe, hme]
  exact st_go _ hX hM hO (by decide)
/-- both set register x to v -/
theorem st_v {A B : Sx} {b : Pb} {mem : Nat → Nat} {sp L op x y z a : Nat} {fl gl s : Nat → Int64} {fs : List Nat} {ou inp : List Int32} {pc : Int64} {n : Int32} (v q : Int64) (hX : XMc A b mem sp L fl gl s ou inp pc n 0) (hM : MMc B b mem sp L fl gl s ou inp pc n 0) (hO : mcOK b mem sp L fl fs ou inp) (hop : 0 < op ∧ op < 256) (hx : x < 32) (hs : sp + rL L x ≤ 600) (hxe : X5_orderElse (nI op) (nI x) (nI (wd op x y z)) (lN a) A = bd (X6_set (nI x) v A) (fun _ S1 => rt q S1)) (hme : X12_other (nI op) (lN a + 4) B = bd (X12_set (nI x) v B) (fun _ S1 => rt q S1)) : StR A B n (XE op x y z a A) (ME op a B) := by
  unfold XE ME
  rw [hxe, hme, bd_bd, bd_bd]
  exact st_set v q hX hM hO hop hx hs
theorem st_69 {A B : Sx} {b : Pb} {mem : Nat → Nat} {sp L x y z a : Nat} {fl gl s : Nat → Int64} {fs : List Nat} {ou inp : List Int32} {pc : Int64} {n : Int32} (hX : XMc A b mem sp L fl gl s ou inp pc n 0) (hM : MMc B b mem sp L fl gl s ou inp pc n 0) (hO : mcOK b mem sp L fl fs ou inp) (hx : x < 256) (hy : y < 256) (hz : z < 256) (ha : a < 65536) (h30 : gI B 167 30 = nI x) (h31 : gI B 167 31 = nI y) (h32 : gI B 167 32 = nI z) (h33 : gI B 167 33 = nI a) (hx32 : x < 32) (hs : sp + rL L x ≤ 600) : StR A B n (XE 69 x y z a A) (ME 69 a B) := by
  refine st_v (tg a y z) (lN a + 4) hX hM hO (by decide) hx32 hs ?_ ?_
  · unfold X5_orderElse X5_orderElse_264
    rw [vl_e, vl_e, if_pos (show (65 : Int32) < nI 69 by decide), if_neg (by decide), if_neg (by decide), if_neg (by decide), if_pos (show nI 69 = 69 by rfl), tg_e a hy hz]
  · rw [m_oth hM.2.2.1 hO.2.2.1 hx hy hz ha h30 h31 h32 h33 (by decide) (by decide) (by decide)]
    unfold X12_other_61
    rw [vl_e, if_neg (by decide), if_neg (by decide), if_neg (by decide), if_neg (by decide), if_neg (by decide), if_neg (by decide), if_neg (by decide), if_neg (by decide), if_neg (by decide), if_pos (show nI 69 = 69 by rfl), h30]
theorem st_70 {A B : Sx} {b : Pb} {mem : Nat → Nat} {sp L x y z a : Nat} {fl gl s : Nat → Int64} {fs : List Nat} {ou inp : List Int32} {pc : Int64} {n : Int32} (hX : XMc A b mem sp L fl gl s ou inp pc n 0) (hM : MMc B b mem sp L fl gl s ou inp pc n 0) (hO : mcOK b mem sp L fl fs ou inp) (hx : x < 256) (hy : y < 256) (hz : z < 256) (ha : a < 65536) (h30 : gI B 167 30 = nI x) (h31 : gI B 167 31 = nI y) (h32 : gI B 167 32 = nI z) (h33 : gI B 167 33 = nI a) (hx32 : x < 32) (hs : sp + rL L x ≤ 600) : StR A B n (XE 70 x y z a A) (ME 70 a B) := by
  refine st_v (lN (y * 256 + z) <<< ((16 * (nI 70 - 70)).toInt64 &&& 63)) (lN a + 4) hX hM hO (by decide) hx32 hs ?_ ?_
  · unfold X5_orderElse X5_orderElse_264
    rw [vl_e, vl_e, if_pos (show (65 : Int32) < nI 70 by decide), if_neg (by decide), if_neg (by decide), if_neg (by decide), if_neg (by decide), if_neg (show ¬ (74 : Int32) ≤ nI 70 by decide), show nI (wd 70 x y z) &&& 65535 = nI (y * 256 + z) from low_e hy hz, nI_l (by omega)]
  · rw [m_oth hM.2.2.1 hO.2.2.1 hx hy hz ha h30 h31 h32 h33 (by decide) (by decide) (by decide)]
    unfold X12_other_61 X12_other_335
    rw [vl_e, if_neg (by decide), if_neg (by decide), if_neg (by decide), if_neg (by decide), if_neg (by decide), if_neg (by decide), if_neg (by decide), if_neg (by decide), if_neg (by decide), if_neg (by decide), if_pos (show nI 70 = 70 by rfl), h30]
theorem st_71 {A B : Sx} {b : Pb} {mem : Nat → Nat} {sp L x y z a : Nat} {fl gl s : Nat → Int64} {fs : List Nat} {ou inp : List Int32} {pc : Int64} {n : Int32} (hX : XMc A b mem sp L fl gl s ou inp pc n 0) (hM : MMc B b mem sp L fl gl s ou inp pc n 0) (hO : mcOK b mem sp L fl fs ou inp) (hx : x < 256) (hy : y < 256) (hz : z < 256) (ha : a < 65536) (h30 : gI B 167 30 = nI x) (h31 : gI B 167 31 = nI y) (h32 : gI B 167 32 = nI z) (h33 : gI B 167 33 = nI a) (hx32 : x < 32) (hs : sp + rL L x ≤ 600) : StR A B n (XE 71 x y z a A) (ME 71 a B) := by
  refine st_v (lN (y * 256 + z) <<< ((16 * (nI 71 - 70)).toInt64 &&& 63)) (lN a + 4) hX hM hO (by decide) hx32 hs ?_ ?_
  · unfold X5_orderElse X5_orderElse_264
    rw [vl_e, vl_e, if_pos (show (65 : Int32) < nI 71 by decide), if_neg (by decide), if_neg (by decide), if_neg (by decide), if_neg (by decide), if_neg (show ¬ (74 : Int32) ≤ nI 71 by decide), show nI (wd 71 x y z) &&& 65535 = nI (y * 256 + z) from low_e hy hz, nI_l (by omega)]
  · rw [m_oth hM.2.2.1 hO.2.2.1 hx hy hz ha h30 h31 h32 h33 (by decide) (by decide) (by decide)]
    unfold X12_other_61 X12_other_335
    rw [vl_e, if_neg (by decide), if_neg (by decide), if_neg (by decide), if_neg (by decide), if_neg (by decide), if_neg (by decide), if_neg (by decide), if_neg (by decide), if_neg (by decide), if_neg (by decide), if_neg (by decide), if_pos (show nI 71 = 71 by rfl), h30]
theorem st_72 {A B : Sx} {b : Pb} {mem : Nat → Nat} {sp L x y z a : Nat} {fl gl s : Nat → Int64} {fs : List Nat} {ou inp : List Int32} {pc : Int64} {n : Int32} (hX : XMc A b mem sp L fl gl s ou inp pc n 0) (hM : MMc B b mem sp L fl gl s ou inp pc n 0) (hO : mcOK b mem sp L fl fs ou inp) (hx : x < 256) (hy : y < 256) (hz : z < 256) (ha : a < 65536) (h30 : gI B 167 30 = nI x) (h31 : gI B 167 31 = nI y) (h32 : gI B 167 32 = nI z) (h33 : gI B 167 33 = nI a) (hx32 : x < 32) (hs : sp + rL L x ≤ 600) : StR A B n (XE 72 x y z a A) (ME 72 a B) := by
  refine st_v (lN (y * 256 + z) <<< ((16 * (nI 72 - 70)).toInt64 &&& 63)) (lN a + 4) hX hM hO (by decide) hx32 hs ?_ ?_
  · unfold X5_orderElse X5_orderElse_264
    rw [vl_e, vl_e, if_pos (show (65 : Int32) < nI 72 by decide), if_neg (by decide), if_neg (by decide), if_neg (by decide), if_neg (by decide), if_neg (show ¬ (74 : Int32) ≤ nI 72 by decide), show nI (wd 72 x y z) &&& 65535 = nI (y * 256 + z) from low_e hy hz, nI_l (by omega)]
  · rw [m_oth hM.2.2.1 hO.2.2.1 hx hy hz ha h30 h31 h32 h33 (by decide) (by decide) (by decide)]
    unfold X12_other_61 X12_other_335
    rw [vl_e, if_neg (by decide), if_neg (by decide), if_neg (by decide), if_neg (by decide), if_neg (by decide), if_neg (by decide), if_neg (by decide), if_neg (by decide), if_neg (by decide), if_neg (by decide), if_neg (by decide), if_neg (by decide), if_pos (show nI 72 = 72 by rfl), h30]
theorem st_73 {A B : Sx} {b : Pb} {mem : Nat → Nat} {sp L x y z a : Nat} {fl gl s : Nat → Int64} {fs : List Nat} {ou inp : List Int32} {pc : Int64} {n : Int32} (hX : XMc A b mem sp L fl gl s ou inp pc n 0) (hM : MMc B b mem sp L fl gl s ou inp pc n 0) (hO : mcOK b mem sp L fl fs ou inp) (hx : x < 256) (hy : y < 256) (hz : z < 256) (ha : a < 65536) (h30 : gI B 167 30 = nI x) (h31 : gI B 167 31 = nI y) (h32 : gI B 167 32 = nI z) (h33 : gI B 167 33 = nI a) (hx32 : x < 32) (hs : sp + rL L x ≤ 600) : StR A B n (XE 73 x y z a A) (ME 73 a B) := by
  refine st_v (lN (y * 256 + z) <<< ((16 * (nI 73 - 70)).toInt64 &&& 63)) (lN a + 4) hX hM hO (by decide) hx32 hs ?_ ?_
  · unfold X5_orderElse X5_orderElse_264
    rw [vl_e, vl_e, if_pos (show (65 : Int32) < nI 73 by decide), if_neg (by decide), if_neg (by decide), if_neg (by decide), if_neg (by decide), if_neg (show ¬ (74 : Int32) ≤ nI 73 by decide), show nI (wd 73 x y z) &&& 65535 = nI (y * 256 + z) from low_e hy hz, nI_l (by omega)]
  · rw [m_oth hM.2.2.1 hO.2.2.1 hx hy hz ha h30 h31 h32 h33 (by decide) (by decide) (by decide)]
    unfold X12_other_61 X12_other_335
    rw [vl_e, if_neg (by decide), if_neg (by decide), if_neg (by decide), if_neg (by decide), if_neg (by decide), if_neg (by decide), if_neg (by decide), if_neg (by decide), if_neg (by decide), if_neg (by decide), if_neg (by decide), if_neg (by decide), if_neg (by decide), if_pos (show nI 73 = 73 by rfl), h30]
theorem st_74 {A B : Sx} {b : Pb} {mem : Nat → Nat} {sp L x y z a : Nat} {fl gl s : Nat → Int64} {fs : List Nat} {ou inp : List Int32} {pc : Int64} {n : Int32} (hX : XMc A b mem sp L fl gl s ou inp pc n 0) (hM : MMc B b mem sp L fl gl s ou inp pc n 0) (hO : mcOK b mem sp L fl fs ou inp) (hx : x < 256) (hy : y < 256) (hz : z < 256) (ha : a < 65536) (h30 : gI B 167 30 = nI x) (h31 : gI B 167 31 = nI y) (h32 : gI B 167 32 = nI z) (h33 : gI B 167 33 = nI a) (hx32 : x < 32) (hs : sp + rL L x ≤ 600) : StR A B n (XE 74 x y z a A) (ME 74 a B) := by
  refine st_v (rGet sp L fl gl x + (lN (y * 256 + z) <<< ((16 * (nI 74 - 74)).toInt64 &&& 63))) (lN a + 4) hX hM hO (by decide) hx32 hs ?_ ?_
  · unfold X5_orderElse X5_orderElse_264
    rw [vl_e, vl_e, if_pos (show (65 : Int32) < nI 74 by decide), if_neg (by decide), if_neg (by decide), if_neg (by decide), if_neg (by decide), if_pos (show (74 : Int32) ≤ nI 74 by decide), if_neg (show ¬ (77 : Int32) < nI 74 by decide), x_rget hX.2.2.1 hx32 hO.2.2.1 hO.2.2.2.1, bd_rt, show nI (wd 74 x y z) &&& 65535 = nI (y * 256 + z) from low_e hy hz, nI_l (by omega)]
  · rw [m_oth hM.2.2.1 hO.2.2.1 hx hy hz ha h30 h31 h32 h33 (by decide) (by decide) (by decide), Nat.mod_eq_of_lt hx32]
    unfold X12_other_61 X12_other_356
    rw [vl_e, if_neg (by decide), if_neg (by decide), if_neg (by decide), if_neg (by decide), if_neg (by decide), if_neg (by decide), if_neg (by decide), if_neg (by decide), if_neg (by decide), if_neg (by decide), if_neg (by decide), if_neg (by decide), if_neg (by decide), if_neg (by decide), if_pos (show nI 74 = 74 by rfl), h30]
theorem st_75 {A B : Sx} {b : Pb} {mem : Nat → Nat} {sp L x y z a : Nat} {fl gl s : Nat → Int64} {fs : List Nat} {ou inp : List Int32} {pc : Int64} {n : Int32} (hX : XMc A b mem sp L fl gl s ou inp pc n 0) (hM : MMc B b mem sp L fl gl s ou inp pc n 0) (hO : mcOK b mem sp L fl fs ou inp) (hx : x < 256) (hy : y < 256) (hz : z < 256) (ha : a < 65536) (h30 : gI B 167 30 = nI x) (h31 : gI B 167 31 = nI y) (h32 : gI B 167 32 = nI z) (h33 : gI B 167 33 = nI a) (hx32 : x < 32) (hs : sp + rL L x ≤ 600) : StR A B n (XE 75 x y z a A) (ME 75 a B) := by
  refine st_v (rGet sp L fl gl x + (lN (y * 256 + z) <<< ((16 * (nI 75 - 74)).toInt64 &&& 63))) (lN a + 4) hX hM hO (by decide) hx32 hs ?_ ?_
  · unfold X5_orderElse X5_orderElse_264
    rw [vl_e, vl_e, if_pos (show (65 : Int32) < nI 75 by decide), if_neg (by decide), if_neg (by decide), if_neg (by decide), if_neg (by decide), if_pos (show (74 : Int32) ≤ nI 75 by decide), if_neg (show ¬ (77 : Int32) < nI 75 by decide), x_rget hX.2.2.1 hx32 hO.2.2.1 hO.2.2.2.1, bd_rt, show nI (wd 75 x y z) &&& 65535 = nI (y * 256 + z) from low_e hy hz, nI_l (by omega)]
  · rw [m_oth hM.2.2.1 hO.2.2.1 hx hy hz ha h30 h31 h32 h33 (by decide) (by decide) (by decide), Nat.mod_eq_of_lt hx32]
    unfold X12_other_61 X12_other_356
    rw [vl_e, if_neg (by decide), if_neg (by decide), if_neg (by decide), if_neg (by decide), if_neg (by decide), if_neg (by decide), if_neg (by decide), if_neg (by decide), if_neg (by decide), if_neg (by decide), if_neg (by decide), if_neg (by decide), if_neg (by decide), if_neg (by decide), if_neg (by decide), if_pos (show nI 75 = 75 by rfl), h30]
theorem st_76 {A B : Sx} {b : Pb} {mem : Nat → Nat} {sp L x y z a : Nat} {fl gl s : Nat → Int64} {fs : List Nat} {ou inp : List Int32} {pc : Int64} {n : Int32} (hX : XMc A b mem sp L fl gl s ou inp pc n 0) (hM : MMc B b mem sp L fl gl s ou inp pc n 0) (hO : mcOK b mem sp L fl fs ou inp) (hx : x < 256) (hy : y < 256) (hz : z < 256) (ha : a < 65536) (h30 : gI B 167 30 = nI x) (h31 : gI B 167 31 = nI y) (h32 : gI B 167 32 = nI z) (h33 : gI B 167 33 = nI a) (hx32 : x < 32) (hs : sp + rL L x ≤ 600) : StR A B n (XE 76 x y z a A) (ME 76 a B) := by
  refine st_v (rGet sp L fl gl x + (lN (y * 256 + z) <<< ((16 * (nI 76 - 74)).toInt64 &&& 63))) (lN a + 4) hX hM hO (by decide) hx32 hs ?_ ?_
  · unfold X5_orderElse X5_orderElse_264
    rw [vl_e, vl_e, if_pos (show (65 : Int32) < nI 76 by decide), if_neg (by decide), if_neg (by decide), if_neg (by decide), if_neg (by decide), if_pos (show (74 : Int32) ≤ nI 76 by decide), if_neg (show ¬ (77 : Int32) < nI 76 by decide), x_rget hX.2.2.1 hx32 hO.2.2.1 hO.2.2.2.1, bd_rt, show nI (wd 76 x y z) &&& 65535 = nI (y * 256 + z) from low_e hy hz, nI_l (by omega)]
  · rw [m_oth hM.2.2.1 hO.2.2.1 hx hy hz ha h30 h31 h32 h33 (by decide) (by decide) (by decide), Nat.mod_eq_of_lt hx32]
    unfold X12_other_61 X12_other_356
    rw [vl_e, if_neg (by decide), if_neg (by decide), if_neg (by decide), if_neg (by decide), if_neg (by decide), if_neg (by decide), if_neg (by decide), if_neg (by decide), if_neg (by decide), if_neg (by decide), if_neg (by decide), if_neg (by decide), if_neg (by decide), if_neg (by decide), if_neg (by decide), if_neg (by decide), if_pos (show nI 76 = 76 by rfl), h30]
theorem st_77 {A B : Sx} {b : Pb} {mem : Nat → Nat} {sp L x y z a : Nat} {fl gl s : Nat → Int64} {fs : List Nat} {ou inp : List Int32} {pc : Int64} {n : Int32} (hX : XMc A b mem sp L fl gl s ou inp pc n 0) (hM : MMc B b mem sp L fl gl s ou inp pc n 0) (hO : mcOK b mem sp L fl fs ou inp) (hx : x < 256) (hy : y < 256) (hz : z < 256) (ha : a < 65536) (h30 : gI B 167 30 = nI x) (h31 : gI B 167 31 = nI y) (h32 : gI B 167 32 = nI z) (h33 : gI B 167 33 = nI a) (hx32 : x < 32) (hs : sp + rL L x ≤ 600) : StR A B n (XE 77 x y z a A) (ME 77 a B) := by
  refine st_v (rGet sp L fl gl x + (lN (y * 256 + z) <<< ((16 * (nI 77 - 74)).toInt64 &&& 63))) (lN a + 4) hX hM hO (by decide) hx32 hs ?_ ?_
  · unfold X5_orderElse X5_orderElse_264
    rw [vl_e, vl_e, if_pos (show (65 : Int32) < nI 77 by decide), if_neg (by decide), if_neg (by decide), if_neg (by decide), if_neg (by decide), if_pos (show (74 : Int32) ≤ nI 77 by decide), if_neg (show ¬ (77 : Int32) < nI 77 by decide), x_rget hX.2.2.1 hx32 hO.2.2.1 hO.2.2.2.1, bd_rt, show nI (wd 77 x y z) &&& 65535 = nI (y * 256 + z) from low_e hy hz, nI_l (by omega)]
  · rw [m_oth hM.2.2.1 hO.2.2.1 hx hy hz ha h30 h31 h32 h33 (by decide) (by decide) (by decide), Nat.mod_eq_of_lt hx32]
    unfold X12_other_61 X12_other_356
    rw [vl_e, if_neg (by decide), if_neg (by decide), if_neg (by decide), if_neg (by decide), if_neg (by decide), if_neg (by decide), if_neg (by decide), if_neg (by decide), if_neg (by decide), if_neg (by decide), if_neg (by decide), if_neg (by decide), if_neg (by decide), if_neg (by decide), if_neg (by decide), if_neg (by decide), if_neg (by decide), if_pos (show nI 77 = 77 by rfl), h30]
theorem st_78 {A B : Sx} {b : Pb} {mem : Nat → Nat} {sp L x y z a : Nat} {fl gl s : Nat → Int64} {fs : List Nat} {ou inp : List Int32} {pc : Int64} {n : Int32} (hX : XMc A b mem sp L fl gl s ou inp pc n 0) (hM : MMc B b mem sp L fl gl s ou inp pc n 0) (hO : mcOK b mem sp L fl fs ou inp) (hx : x < 256) (hy : y < 256) (hz : z < 256) (ha : a < 65536) (h30 : gI B 167 30 = nI x) (h31 : gI B 167 31 = nI y) (h32 : gI B 167 32 = nI z) (h33 : gI B 167 33 = nI a) (hx32 : x < 32) (hs : sp + rL L x ≤ 600) (hz4 : z ≤ 4) : StR A B n (XE 78 x y z a A) (ME 78 a B) := by
  refine st_v (if z = 4 then lN L else s z) (lN a + 4) hX hM hO (by decide) hx32 hs ?_ ?_
  · unfold X5_orderElse X5_orderElse_264 X5_special
    rw [vl_e, vl_e, if_pos (show (65 : Int32) < nI 78 by decide), if_neg (by decide), if_neg (by decide), if_neg (by decide), if_neg (by decide), if_pos (show (74 : Int32) ≤ nI 78 by decide), if_pos (show (77 : Int32) < nI 78 by decide), if_pos (show nI 78 = 78 by rfl), show nI (wd 78 x y z) &&& 255 = nI z from z_e hz]
    by_cases q : z = 4
    · rw [if_pos (show nI z = 4 by rw [q]; rfl), if_pos q, hX.2.2.1.2.1, nI_l (by have := hO.2.2.1; omega), bd_rt]
    · rw [if_neg (show ¬ nI z = 4 from fun e => q ((nI_eq (a := z) (b := 4) (by omega) (by omega)).mp e)), if_neg q, lL_n (by omega) (by omega), hX.2.2.2.1 z (by omega), bd_rt]
  · rw [m_oth hM.2.2.1 hO.2.2.1 hx hy hz ha h30 h31 h32 h33 (by decide) (by decide) (by decide)]
    unfold X12_other_61
    rw [vl_e, if_neg (by decide), if_neg (by decide), if_neg (by decide), if_neg (by decide), if_neg (by decide), if_neg (by decide), if_neg (by decide), if_neg (by decide), if_neg (by decide), if_neg (by decide), if_neg (by decide), if_neg (by decide), if_neg (by decide), if_neg (by decide), if_neg (by decide), if_neg (by decide), if_neg (by decide), if_neg (by decide), if_pos (show nI 78 = 78 by rfl), h30, h32, lL_n (by omega) (by omega)]
    by_cases q : z = 4
    · rw [if_pos q, q, hM.2.2.1.2.1]
    · rw [if_neg q, hM.2.2.2.1 z (by omega)]
