set_option maxRecDepth 100000
/-! ===== the other operations ===== -/
/-- the word; where a branch goes; the 16 bits -/
def wd (op x y z : Nat) : Nat := ((op * 256 + x) * 256 + y) * 256 + z
noncomputable def tg (a y z : Nat) : Int64 := lN a + 4 * ((256 * lN y + lN z).toInt32).toInt16.toInt32.toInt64
theorem tg_e {op x y z : Nat} (a : Nat) (hy : y < 256) (hz : z < 256) : lN a + 4 * (nI (wd op x y z)).toInt16.toInt32.toInt64 = tg a y z := by
  unfold tg wd
  rw [rel_e hy hz]
theorem m_oth {B : Sx} {sp L op x y z a : Nat} {fl gl : Nat → Int64} {nx : Int64} (hR : MR B sp L fl gl) (hL : L ≤ 16) (hx : x < 256) (hy : y < 256) (hz : z < 256) (ha : a < 65536) (h30 : gI B 167 30 = nI x) (h31 : gI B 167 31 = nI y) (h32 : gI B 167 32 = nI z) (h33 : gI B 167 33 = nI a) (hop : op < 256) (h67 : ¬ op = 67) (h68 : ¬ op = 68) : X12_other (nI op) nx B = X12_other_61 (nI op) nx (lN (y * 256 + z)) (tg a y z) (rGet sp L fl gl (x % 32)) B := by
  unfold X12_other tg
  rw [vl_e, vl_e, h31, h32, h33, nI_l (by omega), nI_l (by omega), nI_l (by omega), if_neg (show ¬ nI op = 67 from fun e => h67 ((nI_eq (a := op) (b := 67) (by omega) (by omega)).mp e)), if_neg (show ¬ nI op = 68 from fun e => h68 ((nI_eq (a := op) (b := 68) (by omega) (by omega)).mp e)), h30, pk_andN (by omega) 5 (by decide), m_rget hR (Nat.mod_lt _ (by decide)) hL, bd_rt]
  rw [show (256 : Int64) = lN 256 from rfl, lN_mul, lN_add, show 256 * y + z = y * 256 + z by omega]
theorem m_oth' {B : Sx} {op y z a : Nat} {nx : Int64} (hy : y < 256) (hz : z < 256) (ha : a < 65536) (h31 : gI B 167 31 = nI y) (h32 : gI B 167 32 = nI z) (h33 : gI B 167 33 = nI a) (h : op = 67 ∨ op = 68) : X12_other (nI op) nx B = X12_other_61 (nI op) nx (lN (y * 256 + z)) (tg a y z) 0 B := by
  unfold X12_other tg
  rw [vl_e, vl_e, h31, h32, h33, nI_l (by omega), nI_l (by omega), nI_l (by omega), show (256 : Int64) = lN 256 from rfl, lN_mul, lN_add, show 256 * y + z = y * 256 + z by omega]
  rcases h with rfl | rfl
  · rw [if_pos (by rfl)]
  · rw [if_neg (by decide), if_pos (by rfl)]
/-- the two ends -/
noncomputable def XE (op x y z a : Nat) (A : Sx) : Rs Unit := bd (X5_orderElse (nI op) (nI x) (nI (wd op x y z)) (lN a) A) (fun v2 S2 => vl v2 (fun v3 => X5_step_256 v3 S2))
noncomputable def ME (op a : Nat) (B : Sx) : Rs Unit := bd (X12_other (nI op) (lN a + 4) B) (fun v2 S1 => vl v2 (fun v3 => X12_step_395 (nI op) v3 S1))
theorem st_go {A B : Sx} {b : Pb} {mem : Nat → Nat} {sp L op : Nat} {fl gl s : Nat → Int64} {fs : List Nat} {ou inp : List Int32} {pc : Int64} {n : Int32} (q : Int64) (hX : XMc A b mem sp L fl gl s ou inp pc n 0) (hM : MMc B b mem sp L fl gl s ou inp pc n 0) (hO : mcOK b mem sp L fl fs ou inp) (hop : 0 < op ∧ op < 256) : StR A B n (bd (rt q A) (fun v2 S2 => vl v2 (fun v3 => X5_step_256 v3 S2))) (bd (rt q B) (fun v2 S1 => vl v2 (fun v3 => X12_step_395 (nI op) v3 S1))) :=
  st_end q ⟨⟨b, mem, sp, L, fl, gl, fs, s, ou, inp, hX, hM, hO⟩, Sm.rfl' A, Sm.rfl' B⟩ hop.2 (Or.inl (by omega))
theorem st_60 {A B : Sx} {b : Pb} {mem : Nat → Nat} {sp L x y z a : Nat} {fl gl s : Nat → Int64} {fs : List Nat} {ou inp : List Int32} {pc : Int64} {n : Int32} (hX : XMc A b mem sp L fl gl s ou inp pc n 0) (hM : MMc B b mem sp L fl gl s ou inp pc n 0) (hO : mcOK b mem sp L fl fs ou inp) (hx : x < 256) (hy : y < 256) (hz : z < 256) (ha : a < 65536) (h30 : gI B 167 30 = nI x) (h31 : gI B 167 31 = nI y) (h32 : gI B 167 32 = nI z) (h33 : gI B 167 33 = nI a) (hx32 : x < 32) : StR A B n (XE 60 x y z a A) (ME 60 a B) := by
  have hxe : X5_orderElse (nI 60) (nI x) (nI (wd 60 x y z)) (lN a) A = rt (if 0 ≤ rGet sp L fl gl x then lN a + 4 else tg a y z) A := by
    unfold X5_orderElse X5_isTaken
    rw [vl_e, vl_e, tg_e a hy hz, if_neg (show ¬ (65 : Int32) < nI 60 by decide), x_rget hX.2.2.1 hx32 hO.2.2.1 hO.2.2.2.1, bd_rt]
    generalize rGet sp L fl gl x = v
    rw [if_pos (by decide)]
    by_cases h : 0 ≤ v
    · rw [if_pos h, if_pos h, bd_rt]; rfl
    · rw [if_neg h, if_neg h, bd_rt]; rfl
  have hme : X12_other (nI 60) (lN a + 4) B = rt (if 0 ≤ rGet sp L fl gl x then lN a + 4 else tg a y z) B := by
    rw [m_oth hM.2.2.1 hO.2.2.1 hx hy hz ha h30 h31 h32 h33 (by decide) (by decide) (by decide), Nat.mod_eq_of_lt hx32]
    unfold X12_other_61
    rw [vl_e]
    generalize rGet sp L fl gl x = v
    rw [if_pos (show nI 60 = 60 by rfl)]
    by_cases h : 0 ≤ v
    · rw [if_pos h, if_pos h]
    · rw [if_neg h, if_neg h]
  unfold XE ME
  rw [hxe, hme]
  exact st_go _ hX hM hO (by decide)
theorem st_61 {A B : Sx} {b : Pb} {mem : Nat → Nat} {sp L x y z a : Nat} {fl gl s : Nat → Int64} {fs : List Nat} {ou inp : List Int32} {pc : Int64} {n : Int32} (hX : XMc A b mem sp L fl gl s ou inp pc n 0) (hM : MMc B b mem sp L fl gl s ou inp pc n 0) (hO : mcOK b mem sp L fl fs ou inp) (hx : x < 256) (hy : y < 256) (hz : z < 256) (ha : a < 65536) (h30 : gI B 167 30 = nI x) (h31 : gI B 167 31 = nI y) (h32 : gI B 167 32 = nI z) (h33 : gI B 167 33 = nI a) (hx32 : x < 32) : StR A B n (XE 61 x y z a A) (ME 61 a B) := by
  have hxe : X5_orderElse (nI 61) (nI x) (nI (wd 61 x y z)) (lN a) A = rt (if rGet sp L fl gl x = 0 then tg a y z else lN a + 4) A := by
    unfold X5_orderElse X5_isTaken
    rw [vl_e, vl_e, tg_e a hy hz, if_neg (show ¬ (65 : Int32) < nI 61 by decide), x_rget hX.2.2.1 hx32 hO.2.2.1 hO.2.2.2.1, bd_rt]
    generalize rGet sp L fl gl x = v
    rw [if_neg (by decide), if_pos (by decide)]
    by_cases h : v = 0
    · rw [if_pos h, if_pos h, bd_rt]; rfl
    · rw [if_neg h, if_neg h, bd_rt]; rfl
  have hme : X12_other (nI 61) (lN a + 4) B = rt (if rGet sp L fl gl x = 0 then tg a y z else lN a + 4) B := by
    rw [m_oth hM.2.2.1 hO.2.2.1 hx hy hz ha h30 h31 h32 h33 (by decide) (by decide) (by decide), Nat.mod_eq_of_lt hx32]
    unfold X12_other_61
    rw [vl_e]
    generalize rGet sp L fl gl x = v
    rw [if_neg (by decide), if_pos (show nI 61 = 61 by rfl)]
    by_cases h : v = 0
    · rw [if_pos h, if_pos h]
    · rw [if_neg h, if_neg h]
  unfold XE ME
  rw [hxe, hme]
  exact st_go _ hX hM hO (by decide)
theorem st_62 {A B : Sx} {b : Pb} {mem : Nat → Nat} {sp L x y z a : Nat} {fl gl s : Nat → Int64} {fs : List Nat} {ou inp : List Int32} {pc : Int64} {n : Int32} (hX : XMc A b mem sp L fl gl s ou inp pc n 0) (hM : MMc B b mem sp L fl gl s ou inp pc n 0) (hO : mcOK b mem sp L fl fs ou inp) (hx : x < 256) (hy : y < 256) (hz : z < 256) (ha : a < 65536) (h30 : gI B 167 30 = nI x) (h31 : gI B 167 31 = nI y) (h32 : gI B 167 32 = nI z) (h33 : gI B 167 33 = nI a) (hx32 : x < 32) : StR A B n (XE 62 x y z a A) (ME 62 a B) := by
  have hxe : X5_orderElse (nI 62) (nI x) (nI (wd 62 x y z)) (lN a) A = rt (if rGet sp L fl gl x ≤ 0 then lN a + 4 else tg a y z) A := by
    unfold X5_orderElse X5_isTaken
    rw [vl_e, vl_e, tg_e a hy hz, if_neg (show ¬ (65 : Int32) < nI 62 by decide), x_rget hX.2.2.1 hx32 hO.2.2.1 hO.2.2.2.1, bd_rt]
    generalize rGet sp L fl gl x = v
    rw [if_neg (by decide), if_neg (by decide), if_pos (by decide)]
    by_cases h : v ≤ 0
    · rw [if_pos h, if_pos h, bd_rt]; rfl
    · rw [if_neg h, if_neg h, bd_rt]; rfl
  have hme : X12_other (nI 62) (lN a + 4) B = rt (if rGet sp L fl gl x ≤ 0 then lN a + 4 else tg a y z) B := by
    rw [m_oth hM.2.2.1 hO.2.2.1 hx hy hz ha h30 h31 h32 h33 (by decide) (by decide) (by decide), Nat.mod_eq_of_lt hx32]
    unfold X12_other_61
    rw [vl_e]
    generalize rGet sp L fl gl x = v
    rw [if_neg (by decide), if_neg (by decide), if_pos (show nI 62 = 62 by rfl)]
    by_cases h : v ≤ 0
    · rw [if_pos h, if_pos h]
    · rw [if_neg h, if_neg h]
  unfold XE ME
  rw [hxe, hme]
  exact st_go _ hX hM hO (by decide)
theorem st_63 {A B : Sx} {b : Pb} {mem : Nat → Nat} {sp L x y z a : Nat} {fl gl s : Nat → Int64} {fs : List Nat} {ou inp : List Int32} {pc : Int64} {n : Int32} (hX : XMc A b mem sp L fl gl s ou inp pc n 0) (hM : MMc B b mem sp L fl gl s ou inp pc n 0) (hO : mcOK b mem sp L fl fs ou inp) (hx : x < 256) (hy : y < 256) (hz : z < 256) (ha : a < 65536) (h30 : gI B 167 30 = nI x) (h31 : gI B 167 31 = nI y) (h32 : gI B 167 32 = nI z) (h33 : gI B 167 33 = nI a) (hx32 : x < 32) : StR A B n (XE 63 x y z a A) (ME 63 a B) := by
  have hxe : X5_orderElse (nI 63) (nI x) (nI (wd 63 x y z)) (lN a) A = rt (if rGet sp L fl gl x < 0 then lN a + 4 else tg a y z) A := by
    unfold X5_orderElse X5_isTaken
    rw [vl_e, vl_e, tg_e a hy hz, if_neg (show ¬ (65 : Int32) < nI 63 by decide), x_rget hX.2.2.1 hx32 hO.2.2.1 hO.2.2.2.1, bd_rt]
    generalize rGet sp L fl gl x = v
    rw [if_neg (by decide), if_neg (by decide), if_neg (by decide), if_pos (by decide)]
    by_cases h : v < 0
    · rw [if_pos h, if_pos h, bd_rt]; rfl
    · rw [if_neg h, if_neg h, bd_rt]; rfl
  have hme : X12_other (nI 63) (lN a + 4) B = rt (if rGet sp L fl gl x < 0 then lN a + 4 else tg a y z) B := by
    rw [m_oth hM.2.2.1 hO.2.2.1 hx hy hz ha h30 h31 h32 h33 (by decide) (by decide) (by decide), Nat.mod_eq_of_lt hx32]
    unfold X12_other_61
    rw [vl_e]
    generalize rGet sp L fl gl x = v
    rw [if_neg (by decide), if_neg (by decide), if_neg (by decide), if_pos (show nI 63 = 63 by rfl)]
    by_cases h : v < 0
    · rw [if_pos h, if_pos h]
    · rw [if_neg h, if_neg h]
  unfold XE ME
  rw [hxe, hme]
  exact st_go _ hX hM hO (by decide)
theorem st_64 {A B : Sx} {b : Pb} {mem : Nat → Nat} {sp L x y z a : Nat} {fl gl s : Nat → Int64} {fs : List Nat} {ou inp : List Int32} {pc : Int64} {n : Int32} (hX : XMc A b mem sp L fl gl s ou inp pc n 0) (hM : MMc B b mem sp L fl gl s ou inp pc n 0) (hO : mcOK b mem sp L fl fs ou inp) (hx : x < 256) (hy : y < 256) (hz : z < 256) (ha : a < 65536) (h30 : gI B 167 30 = nI x) (h31 : gI B 167 31 = nI y) (h32 : gI B 167 32 = nI z) (h33 : gI B 167 33 = nI a) (hx32 : x < 32) : StR A B n (XE 64 x y z a A) (ME 64 a B) := by
  have hxe : X5_orderElse (nI 64) (nI x) (nI (wd 64 x y z)) (lN a) A = rt (if rGet sp L fl gl x = 0 then lN a + 4 else tg a y z) A := by
    unfold X5_orderElse X5_isTaken
    rw [vl_e, vl_e, tg_e a hy hz, if_neg (show ¬ (65 : Int32) < nI 64 by decide), x_rget hX.2.2.1 hx32 hO.2.2.1 hO.2.2.2.1, bd_rt]
    generalize rGet sp L fl gl x = v
    rw [if_neg (by decide), if_neg (by decide), if_neg (by decide), if_neg (by decide), if_pos (by decide)]
    by_cases h : v = 0
    · rw [if_pos h, if_pos h, bd_rt]; rfl
    · rw [if_neg h, if_neg h, bd_rt]; rfl
  have hme : X12_other (nI 64) (lN a + 4) B = rt (if rGet sp L fl gl x = 0 then lN a + 4 else tg a y z) B := by
    rw [m_oth hM.2.2.1 hO.2.2.1 hx hy hz ha h30 h31 h32 h33 (by decide) (by decide) (by decide), Nat.mod_eq_of_lt hx32]
    unfold X12_other_61
    rw [vl_e]
    generalize rGet sp L fl gl x = v
    rw [if_neg (by decide), if_neg (by decide), if_neg (by decide), if_neg (by decide), if_pos (show nI 64 = 64 by rfl)]
    by_cases h : v = 0
    · rw [if_pos h, if_pos h]
    · rw [if_neg h, if_neg h]
  unfold XE ME
  rw [hxe, hme]
  exact st_go _ hX hM hO (by decide)
theorem st_65 {A B : Sx} {b : Pb} {mem : Nat → Nat} {sp L x y z a : Nat} {fl gl s : Nat → Int64} {fs : List Nat} {ou inp : List Int32} {pc : Int64} {n : Int32} (hX : XMc A b mem sp L fl gl s ou inp pc n 0) (hM : MMc B b mem sp L fl gl s ou inp pc n 0) (hO : mcOK b mem sp L fl fs ou inp) (hx : x < 256) (hy : y < 256) (hz : z < 256) (ha : a < 65536) (h30 : gI B 167 30 = nI x) (h31 : gI B 167 31 = nI y) (h32 : gI B 167 32 = nI z) (h33 : gI B 167 33 = nI a) (hx32 : x < 32) : StR A B n (XE 65 x y z a A) (ME 65 a B) := by
  have hxe : X5_orderElse (nI 65) (nI x) (nI (wd 65 x y z)) (lN a) A = rt (if 0 < rGet sp L fl gl x then lN a + 4 else tg a y z) A := by
    unfold X5_orderElse X5_isTaken
    rw [vl_e, vl_e, tg_e a hy hz, if_neg (show ¬ (65 : Int32) < nI 65 by decide), x_rget hX.2.2.1 hx32 hO.2.2.1 hO.2.2.2.1, bd_rt]
    generalize rGet sp L fl gl x = v
    rw [if_neg (by decide), if_neg (by decide), if_neg (by decide), if_neg (by decide), if_neg (by decide)]
    by_cases h : 0 < v
    · rw [if_pos h, if_pos h, bd_rt]; rfl
    · rw [if_neg h, if_neg h, bd_rt]; rfl
  have hme : X12_other (nI 65) (lN a + 4) B = rt (if 0 < rGet sp L fl gl x then lN a + 4 else tg a y z) B := by
    rw [m_oth hM.2.2.1 hO.2.2.1 hx hy hz ha h30 h31 h32 h33 (by decide) (by decide) (by decide), Nat.mod_eq_of_lt hx32]
    unfold X12_other_61
    rw [vl_e]
    generalize rGet sp L fl gl x = v
    rw [if_neg (by decide), if_neg (by decide), if_neg (by decide), if_neg (by decide), if_neg (by decide), if_pos (show nI 65 = 65 by rfl)]
    by_cases h : 0 < v
    · rw [if_pos h, if_pos h]
    · rw [if_neg h, if_neg h]
  unfold XE ME
  rw [hxe, hme]
  exact st_go _ hX hM hO (by decide)
