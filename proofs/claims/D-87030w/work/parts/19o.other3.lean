set_option maxRecDepth 100000
theorem call_OK {b : Pb} {mem : Nat → Nat} {sp L x : Nat} {fl : Nat → Int64} {fs : List Nat} {ou inp : List Int32} (h : mcOK b mem sp L fl fs ou inp) (hs : sp + (dK x L + 1) ≤ 600) : mcOK b mem (sp + (dK x L + 1)) (L - (dK x L + 1)) (dFl sp L fl (dK x L)) (dK x L :: fs) ou inp := by
  obtain ⟨h1, h2, h3, h4, h5, h6⟩ := h
  have hk : dK x L ≤ 16 := by unfold dK; split <;> omega
  refine ⟨h1, h2, by omega, by omega, ⟨?_, hk, by omega, ?_⟩, h6⟩
  · unfold dFl
    rw [show sp + (dK x L + 1) - 1 = sp + dK x L by omega, up_s]
  · rw [show sp + (dK x L + 1) - (dK x L + 1) = sp by omega]
    refine h5.congr (fun i hi => ?_)
    unfold dFl
    rw [up_n _ _ (by omega)]
    exact if_neg (by omega)
theorem give_OK {b : Pb} {mem : Nat → Nat} {sp L x c : Nat} {fl : Nat → Int64} {fs : List Nat} {ou inp : List Int32} (h : mcOK b mem sp L fl (c :: fs) ou inp) : mcOK b mem (sp - (c + 1)) (min 16 (c + upC x L)) (uFl sp x L fl) fs ou inp := by
  obtain ⟨h1, h2, h3, h4, ⟨f1, f2, f3, f4⟩, h6⟩ := h
  have hu : upC x L ≤ L + 1 := by unfold upC; split; omega; split <;> omega
  refine ⟨h1, h2, by omega, by omega, f4.congr (fun i hi => ?_), h6⟩
  unfold uFl
  split
  · rfl
  · rw [up_n _ _ (by omega)]
theorem st_67 {A B : Sx} {b : Pb} {mem : Nat → Nat} {sp L x y z a : Nat} {fl gl s : Nat → Int64} {fs : List Nat} {ou inp : List Int32} {pc : Int64} {n : Int32} (hX : XMc A b mem sp L fl gl s ou inp pc n 0) (hM : MMc B b mem sp L fl gl s ou inp pc n 0) (hO : mcOK b mem sp L fl fs ou inp) (hx : x < 256) (hy : y < 256) (hz : z < 256) (ha : a < 65536) (h30 : gI B 167 30 = nI x) (h31 : gI B 167 31 = nI y) (h32 : gI B 167 32 = nI z) (h33 : gI B 167 33 = nI a) (hs : sp + (dK x L + 1) ≤ 600) : StR A B n (XE 67 x y z a A) (ME 67 a B) := by
  obtain ⟨A1, e1, e2, e3⟩ := xm_down hX hO.1 hx hO.2.2.1 hs
  obtain ⟨B1, f1, f2, f3⟩ := mm_call hM hO.2.2.1 hx hs hO.2.2.2.1
  obtain ⟨g1, g2⟩ := xm_spc (k := 3) (lN a + 4) e2 hO.1
  obtain ⟨k1, k2⟩ := mm_spc (k := 3) (lN a + 4) (by omega) f2
  have hxe : X5_orderElse (nI 67) (nI x) (nI (wd 67 x y z)) (lN a) A = rt (tg a y z) (pL A1 144 3 (lN a + 4)) := by
    unfold X5_orderElse
    rw [vl_e, vl_e, tg_e a hy hz, if_pos (show (65 : Int32) < nI 67 by decide), if_neg (by decide), if_pos (show nI 67 = 67 by rfl), e1, bd_rt, show (3 : Int32) = nI 3 from rfl, sL_n (by omega) (by omega)]
  have hme : X12_other (nI 67) (lN a + 4) B = rt (tg a y z) (pL B1 172 3 (lN a + 4)) := by
    rw [m_oth' hy hz ha h31 h32 h33 (Or.inl rfl)]
    unfold X12_other_61
    rw [vl_e, if_neg (by decide), if_neg (by decide), if_neg (by decide), if_neg (by decide), if_neg (by decide), if_neg (by decide), if_neg (by decide), if_pos (show nI 67 = 67 by rfl), h30, f1, bd_rt, show (3 : Int32) = nI 3 from rfl, sL_n (by omega) (by omega)]
  unfold XE ME
  rw [hxe, hme]
  exact StR.pre (st_go _ g1 k1 (call_OK hO hs) (by decide)) (e3.trans g2) (mSt_S2 ((f3.mono (by unfold mRl mSt; intro c k; omega)).trans (k2.mono (by unfold mRk mSt; intro c k; omega))))
theorem st_68 {A B : Sx} {b : Pb} {mem : Nat → Nat} {sp L x y z a : Nat} {fl gl s : Nat → Int64} {fs : List Nat} {ou inp : List Int32} {pc : Int64} {n : Int32} (hX : XMc A b mem sp L fl gl s ou inp pc n 0) (hM : MMc B b mem sp L fl gl s ou inp pc n 0) (hO : mcOK b mem sp L fl fs ou inp) (hx : x < 256) (hy : y < 256) (hz : z < 256) (ha : a < 65536) (h30 : gI B 167 30 = nI x) (h31 : gI B 167 31 = nI y) (h32 : gI B 167 32 = nI z) (h33 : gI B 167 33 = nI a) (hs : 0 < sp) : StR A B n (XE 68 x y z a A) (ME 68 a B) := by
  obtain ⟨c, l, rfl⟩ : ∃ c l, fs = c :: l := by
    cases fs with
    | nil => exact absurd hO.2.2.2.2.1 (by show ¬ sp = 0; omega)
    | cons c l => exact ⟨c, l, rfl⟩
  obtain ⟨A1, e1, e2, e3⟩ := xm_up (x := x) hX hO.1 hx hO.2.2.1 hO.2.2.2.1 hO.2.2.2.2.1
  obtain ⟨B1, f1, f2, f3⟩ := mm_give (x := x) hM hO.2.2.1 hx hO.2.2.2.1 hO.2.2.2.2.1
  have hxe : X5_orderElse (nI 68) (nI x) (nI (wd 68 x y z)) (lN a) A = rt (s 3 + 4 * lN (y * 256 + z)) A1 := by
    unfold X5_orderElse
    rw [vl_e, vl_e, if_pos (show (65 : Int32) < nI 68 by decide), if_neg (by decide), if_neg (by decide), if_pos (show nI 68 = 68 by rfl), e1, bd_rt, show (3 : Int32) = nI 3 from rfl, lL_n (by omega) (by omega), e2.2.2.2.1 3 (by omega), show nI (wd 68 x y z) &&& 65535 = nI (y * 256 + z) from low_e hy hz, nI_l (by omega)]
  have hme : X12_other (nI 68) (lN a + 4) B = rt (s 3 + 4 * lN (y * 256 + z)) B1 := by
    rw [m_oth' hy hz ha h31 h32 h33 (Or.inr rfl)]
    unfold X12_other_61
    rw [vl_e, if_neg (by decide), if_neg (by decide), if_neg (by decide), if_neg (by decide), if_neg (by decide), if_neg (by decide), if_neg (by decide), if_neg (by decide), if_pos (show nI 68 = 68 by rfl), h30, f1, bd_rt, show (3 : Int32) = nI 3 from rfl, lL_n (by omega) (by omega), f2.2.2.2.1 3 (by omega)]
  unfold XE ME
  rw [hxe, hme]
  exact StR.pre (st_go _ e2 f2 (give_OK hO) (by decide)) e3 (mSt_S2 (f3.mono (by unfold mRl mSt; intro c k; omega)))
