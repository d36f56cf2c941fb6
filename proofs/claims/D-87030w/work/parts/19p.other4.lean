set_option maxRecDepth 100000
theorem XR.less {A : Sx} {sp L k : Nat} {fl gl : Nat → Int64} (h : XR A sp L fl gl) (hk : k ≤ L) : XR (pI A 139 5 (nI k)) sp k fl gl := by
  obtain ⟨a, b, ⟨sv, c1, c2, c3, c4, c5⟩, d⟩ := h
  refine ⟨?_, ?_, ⟨sv, ?_, c2, by omega, c4, fun i hi hi2 => c5 i hi (by omega)⟩, d⟩
  · rw [gI_pI, if_neg (by omega)]; exact a
  · rw [gI_pI, if_pos ⟨rfl, rfl⟩]
  · rw [gI_pI, if_neg (by omega)]; exact c1
theorem MR.less {B : Sx} {sp L k : Nat} {fl gl : Nat → Int64} (h : MR B sp L fl gl) (hk : k ≤ L) : MR (pL B 172 4 (lN k)) sp k fl gl := by
  obtain ⟨a, b, c, d, e⟩ := h
  refine ⟨a, by rw [gL_pL, if_pos ⟨rfl, rfl⟩], fun i hi => ?_, fun i hi => ?_, fun i hi hi2 => ?_⟩
  · rw [gL_pL, if_neg (by omega)]; exact c i hi
  · rw [gL_pL, if_neg (by omega)]; exact d i (by omega)
  · rw [gL_pL, if_neg (by omega)]; exact e i hi hi2
theorem uL_lt {v : Int64} {L : Nat} (hL : L ≤ 16) : uN v < L ↔ ¬ v < 0 ∧ v < lN L := by
  have h := uN_lt v
  rw [l_lt, l_lt, uN_int, lN_toInt (by omega), show (0 : Int64).toInt = 0 from rfl]
  split <;> omega
theorem st_79 {A B : Sx} {b : Pb} {mem : Nat → Nat} {sp L x y z a : Nat} {fl gl s : Nat → Int64} {fs : List Nat} {ou inp : List Int32} {pc : Int64} {n : Int32} (hX : XMc A b mem sp L fl gl s ou inp pc n 0) (hM : MMc B b mem sp L fl gl s ou inp pc n 0) (hO : mcOK b mem sp L fl fs ou inp) (hx : x < 256) (hy : y < 256) (hz : z < 256) (ha : a < 65536) (h30 : gI B 167 30 = nI x) (h31 : gI B 167 31 = nI y) (h32 : gI B 167 32 = nI z) (h33 : gI B 167 33 = nI a) (hx4 : x ≤ 4) (hz32 : z < 32) : StR A B n (XE 79 x y z a A) (ME 79 a B) := by
  have hL := hO.2.2.1
  have hxe0 : X5_orderElse (nI 79) (nI x) (nI (wd 79 x y z)) (lN a) A = bd (X5_put (nI x) (rGet sp L fl gl z) A) (fun _ S2 => rt (lN a + 4) S2) := by
    unfold X5_orderElse X5_orderElse_264
    rw [vl_e, vl_e, if_pos (show (65 : Int32) < nI 79 by decide), if_neg (by decide), if_neg (by decide), if_neg (by decide), if_neg (by decide), if_pos (show (74 : Int32) ≤ nI 79 by decide), if_pos (show (77 : Int32) < nI 79 by decide), if_neg (by decide), if_pos (show nI 79 = 79 by rfl), show nI (wd 79 x y z) &&& 255 = nI z from z_e hz, x_rget hX.2.2.1 hz32 hL hO.2.2.2.1, bd_rt]
  have hme0 : X12_other (nI 79) (lN a + 4) B = if 4 ≤ nI x then (if decide (uN (rGet sp L fl gl z) < L) = true then rt (lN a + 4) (pL B 172 4 (rGet sp L fl gl z)) else rt (lN a + 4) B) else sL B 172 5 (nI x) (rGet sp L fl gl z) (fun S7 => rt (lN a + 4) S7) := by
    rw [m_oth hM.2.2.1 hL hx hy hz ha h30 h31 h32 h33 (by decide) (by decide) (by decide)]
    unfold X12_other_61
    rw [vl_e, if_neg (by decide), if_neg (by decide), if_neg (by decide), if_neg (by decide), if_neg (by decide), if_neg (by decide), if_neg (by decide), if_neg (by decide), if_neg (by decide), if_neg (by decide), if_neg (by decide), if_neg (by decide), if_neg (by decide), if_neg (by decide), if_neg (by decide), if_neg (by decide), if_neg (by decide), if_neg (by decide), if_neg (by decide), if_pos (show nI 79 = 79 by rfl), h30, h32, m_rget hM.2.2.1 hz32 hL, bd_rt, bd_rt]
    rw [show (4 : Int32) = nI 4 from rfl, lL_n (by omega) (by omega), hM.2.2.1.2.1, m_less, bd_rt, show uN (lN L) = L from by rw [uN_lN]; omega, h32, m_rget hM.2.2.1 hz32 hL, bd_rt, sL_n (k := 4) (by omega) (by omega)]
    by_cases q : uN (rGet sp L fl gl z) < L
    · rw [decide_eq_true q, if_neg (show ¬ b1 true = 0 by decide), if_pos (show true = true from rfl)]
    · rw [decide_eq_false q, if_pos (show b1 false = 0 by rfl), if_neg (show ¬ false = true by decide)]
  unfold XE ME
  rw [hxe0, hme0]
  generalize rGet sp L fl gl z = v
  unfold X5_put
  by_cases q4 : 4 ≤ x
  · rw [if_pos (lit_le q4 (by omega)), if_pos (lit_le q4 (by omega)), hX.2.2.1.2.1, nI_l (by omega)]
    by_cases q : uN v < L
    · have hv := (uL_lt hL).mp q
      have hvv : v = lN (uN v) := (lN_uN v).symm
      rw [if_neg hv.1, if_neg (fun e => by have := hv.2; rw [l_lt] at this; rw [l_le] at e; omega), decide_eq_true q, if_pos (show true = true from rfl)]
      have hcut : X6_cut v.toInt32 A = rt () (pI A 139 5 (nI (uN v))) := by
        unfold X6_cut X6_cut_17
        rw [hvv, lN_i, hX.2.2.1.2.1, uN_lN, show uN v % 18446744073709551616 = uN v by omega, if_neg (nI_ge q (by omega)), pt_e]
      rw [hcut, bd_rt, bd_rt]
      have e3 : Sm xRl A (pI A 139 5 (nI (uN v))) := Sm.pI (by unfold xRl; omega)
      have f3 : Sm mRl B (pL B 172 4 v) := Sm.pL (by unfold mRl; omega)
      have hX' : XMc (pI A 139 5 (nI (uN v))) b mem sp (uN v) fl gl s ou inp pc n 0 := by
        obtain ⟨h1, h2, h3, h4, h5, h6, h7, h8, h9⟩ := hX
        have e3 := e3
        unfold xRl at e3
        exact ⟨by rw [e3.K]; exact h1, h2.sm hO.1 e3 (by intro c k; omega), h3.less (by omega), h4.sm e3 (by intro c k; omega), h5.sm e3 (by intro c k; omega), h6.sm e3 (by intro c k; omega), by rw [e3.L (by omega)]; exact h7, by rw [e3.I (by omega)]; exact h8, by rw [e3.I (by omega)]; exact h9⟩
      have hM' : MMc (pL B 172 4 v) b mem sp (uN v) fl gl s ou inp pc n 0 := by
        obtain ⟨h2, h1, h3, h4, h5, h6, h7, h8, h9⟩ := hM
        have e4 : Sm (fun c k => c = 172 ∧ k = 4) B (pL B 172 4 v) := Sm.pL ⟨rfl, rfl⟩
        exact ⟨MP_back h2 e4 (by intro c k; omega), h1.sm e4 (by intro c k; omega), by have := h3.less (k := uN v) (by omega); rw [lN_uN] at this; exact this, h4.sm e4 (by intro c k; omega), h5.sm e4 (by intro c k; omega), h6.sm e4 (by intro c k; omega), by rw [e4.L (by omega)]; exact h7, by rw [e4.I (by omega)]; exact h8, by rw [e4.I (by omega)]; exact h9⟩
      exact StR.pre (st_go _ hX' hM' ⟨hO.1, hO.2.1, by omega, by have := hO.2.2.2.1; omega, hO.2.2.2.2⟩ (by decide)) (e3.mono (by unfold xRl xSt; intro c k; omega)) (mSt_S2 (f3.mono (by unfold mRl mSt; intro c k; omega)))
    · rw [decide_eq_false q, if_neg (show ¬ false = true by decide)]
      have hx1 : (if v < 0 then rt () A else if lN L ≤ v then rt () A else bd (X6_cut v.toInt32 A) (fun _ S1 => rt () S1)) = rt () A := by
        by_cases q1 : v < 0
        · rw [if_pos q1]
        · rw [if_neg q1, if_pos (by
            have : ¬ v < lN L := fun e => q ((uL_lt hL).mpr ⟨q1, e⟩)
            rw [l_lt] at this
            rw [l_le]; omega)]
      rw [hx1, bd_rt]
      exact st_go _ hX hM hO (by decide)
  · rw [if_neg (lit_ge (N := 4) (by omega) (by omega)), if_neg (lit_ge (N := 4) (by omega) (by omega)), sL_n (by omega) (by omega), sL_n (by omega) (by omega), bd_rt]
    obtain ⟨g1, g2⟩ := xm_spc (k := x) v hX hO.1
    obtain ⟨k1, k2⟩ := mm_spc (k := x) v (by omega) hM
    exact StR.pre (st_go _ g1 k1 hO (by decide)) g2 (mSt_S2 (k2.mono (by unfold mRk mSt; intro c k; omega)))
