set_option maxRecDepth 100000
theorem st_checked {A B : Sx} {b : Pb} {mem : Nat → Nat} {sp L op x y z a : Nat} {fl gl s : Nat → Int64} {fs : List Nat} {ou inp : List Int32} {pc : Int64} {n : Int32} (hX : XMc A b mem sp L fl gl s ou inp pc n 0) (hM : MMc B b mem sp L fl gl s ou inp pc n 0) (hO : mcOK b mem sp L fl fs ou inp) (hr : roomM B) (hop : op < 256) (hx : x < 256) (hy : y < 256) (hz : z < 256) (ha : a < 65536) (h30 : gI B 167 30 = nI x) (h31 : gI B 167 31 = nI y) (h32 : gI B 167 32 = nI z) (h33 : gI B 167 33 = nI a) :
    StR A B n (bd (X5_look (nI op) (nI x) (nI y) (nI z) A) (fun _ S4 => XX op x y z a S4)) (mk B (chk op x y z sp L 0) (X12_step_241 (nI op) B)) := by
  have hsp : sp ≤ 600 := by have := hO.2.2.2.1; omega
  have hok : OkR A B A B pc n 0 := ⟨⟨b, mem, sp, L, fl, gl, fs, s, ou, inp, hX, hM, hO⟩, Sm.rfl' A, Sm.rfl' B⟩
  rw [x_look hX.1 hop hx hy hz hX.2.2.1.1 hX.2.2.1.2.1 hsp hO.2.2.1]
  unfold lk mk
  by_cases h0 : chk op x y z sp L 0 = 0
  · rw [if_pos h0]
    have ht : chk op x y z sp L (ck67 op x sp L) = ck67 op x sp L := by rw [chk_t, if_pos h0]
    by_cases h1 : ck67 op x sp L = 0
    · rw [ht, if_pos h1, bd_rt]
      exact st_exec hX hM hO hr hop hx hy hz ha h30 h31 h32 h33 (ht.trans h1)
    · rw [ht, if_neg h1, bd_th]
      by_cases q : op = 67
      · subst q
        unfold ck67 at h1 ⊢
        rw [if_pos rfl] at h1 ⊢
        have q2 : ¬ (dK x L + 1 ≤ L ∨ sp + (dK x L + 1) ≤ 600) := fun e => h1 (if_pos e)
        rw [if_neg q2, MX_oth h33 ha (by omega)]
        unfold ME
        rw [m_oth' hy hz ha h31 h32 h33 (Or.inl rfl)]
        unfold X12_other_61
        rw [vl_e, if_neg (by decide), if_neg (by decide), if_neg (by decide), if_neg (by decide), if_neg (by decide), if_neg (by decide), if_neg (by decide), if_pos (show nI 67 = 67 by rfl), h30, m_call5 hM.2.2.1 hr hO.2.2.1 hx hsp q2, bd_th, bd_th]
        exact st_fault hok (by decide)
      · unfold ck67 ck8 at h1 ⊢
        rw [if_neg q] at h1 ⊢
        have q2 : op = 68 ∧ sp = 0 := Classical.byContradiction fun e => h1 (if_neg e)
        rw [if_pos q2]
        obtain ⟨rfl, rfl⟩ := q2
        rw [MX_oth h33 ha (by omega)]
        unfold ME
        rw [m_oth' hy hz ha h31 h32 h33 (Or.inr rfl)]
        unfold X12_other_61
        rw [vl_e, if_neg (by decide), if_neg (by decide), if_neg (by decide), if_neg (by decide), if_neg (by decide), if_neg (by decide), if_neg (by decide), if_neg (by decide), if_pos (show nI 68 = 68 by rfl), h30, m_give8 hM.2.2.1 hr, bd_th, bd_th]
        exact st_fault hok (by decide)
  · have ht : chk op x y z sp L (ck67 op x sp L) = chk op x y z sp L 0 := by rw [chk_t, if_neg h0]
    rw [ht, if_neg h0, if_neg h0, bd_th]
    have := chk_lt op x y z sp L 0 (by omega)
    exact st_fault hok (nI_ne0 (by omega) (by omega))
theorem step_pair {A B : Sx} {pc : Int64} {n : Int32} (h : RMp A B pc n 0) (hr : roomM B) : StR A B n (X5_step A) (X12_step B) := by
  obtain ⟨b, mem, sp, L, fl, gl, fs, s, ou, inp, hX, hM, hO⟩ := h
  unfold X5_step X12_step
  rw [vl_e, hX.2.2.2.2.2.2.1, hM.2.2.2.2.2.2.1, x_isA, bd_rt, pc4, x_wantb hX.1]
  by_cases q : isA pc = true
  · obtain ⟨p, hp, rfl⟩ := isA_of q
    have ha : p / 4 * 4 < 65536 := by omega
    have hal : al8 p 4 = p / 4 * 4 := rfl
    rw [if_pos q, bd_rt, pcA hp, lN_i, show (4 : Int32) = nI 4 from rfl, m_addr (m := 4) (Or.inr (Or.inl rfl)) hp, bd_rt, hal]
    generalize hgA : p / 4 * 4 = a at ha ⊢
    have ha4 : a % 4 = 0 := by omega
    obtain ⟨f, b', hT⟩ := bTouch_ex b (a / 64) false hO.1
    have hb' := (bTouch_OK hO.1 (by omega) hT).1
    obtain ⟨A1, e1, e2, e3⟩ := xm_get (m := 4) hX hO.1 hO.2.1 ha hT (by omega)
    have s0 : Sm (fun c k => c = 167 ∧ 30 ≤ k ∧ k ≤ 33) B (pI B 167 33 (nI a)) := Sm.pI (by omega)
    have hM0 := mm_scr hM s0 (fun c k x => x)
    obtain ⟨B1, f1, f2, f3⟩ := mm_touch (w := false) hM0 hO.1 ha hT
    have h33 : gI B1 167 33 = nI a := by rw [f3.I (by unfold mPl; omega), gI_pI, if_pos ⟨rfl, rfl⟩]
    obtain ⟨d1, d2, d3, d4, d5⟩ := decode hO.2.1 a
    have hMM := f2.2.1
    have hO' : mcOK b' mem sp L fl fs ou inp := ⟨hb', hO.2⟩
    have k0 : gI B1 169 a = nI (mem a) := hMM a ha
    have k1 : gI B1 169 (a + 1) = nI (mem (a + 1)) := hMM (a + 1) (by omega)
    have k2 : gI B1 169 (a + 2) = nI (mem (a + 2)) := hMM (a + 2) (by omega)
    have k3 : gI B1 169 (a + 3) = nI (mem (a + 3)) := hMM (a + 3) (by omega)
    have s1 : Sm (fun c k => c = 167 ∧ 30 ≤ k ∧ k ≤ 33) B1 (pI (pI (pI B1 167 30 (nI (mem (a + 1)))) 167 31 (nI (mem (a + 2)))) 167 32 (nI (mem (a + 3)))) := Sm.trans (Sm.trans (Sm.pI (by omega)) (Sm.pI (by omega))) (Sm.pI (by omega))
    have hM2 := mm_scr f2 s1 (fun c k x => x)
    have hr2 : roomM (pI (pI (pI B1 167 30 (nI (mem (a + 1)))) 167 31 (nI (mem (a + 2)))) 167 32 (nI (mem (a + 3)))) := ((hr.sm s0).sm f3).sm s1
    have hBB : Sm mS2 B (pI (pI (pI B1 167 30 (nI (mem (a + 1)))) 167 31 (nI (mem (a + 2)))) 167 32 (nI (mem (a + 3)))) := ((s0.mono fun c k x => Or.inr x).trans (f3.mono fun c k x => Or.inl (by unfold mPl at x; unfold mSt; omega))).trans (s1.mono fun c k x => Or.inr x)
    replace f1 : X12_touch (nI a) 0 (pI B 167 33 (nI a)) = rt () B1 := f1
    rw [e1, bd_rt, vl_e, d1, vl_e, d2, vl_e, d3, vl_e, d4, vl_e, d5, pt_e, gI_pI, if_pos ⟨rfl, rfl⟩, f1, bd_rt, h33, lI_n ha (by omega), k0, vl_e, nI_1, lI_n (k := a + 1) (by omega) (by omega), k1, pt_e, gI_pI, if_neg (by omega), h33]
    rw [show nI a + 2 = nI (a + 2) from nI_add a 2, lI_n (k := a + 2) (by omega) (by omega), gI_pI, if_neg (by omega), k2, pt_e, gI_pI, if_neg (by omega), gI_pI, if_neg (by omega), h33, show nI a + 3 = nI (a + 3) from nI_add a 3, lI_n (k := a + 3) (by omega) (by omega), gI_pI, if_neg (by omega), gI_pI, if_neg (by omega), k3, pt_e]
    have g30 : gI (pI (pI (pI B1 167 30 (nI (mem (a + 1)))) 167 31 (nI (mem (a + 2)))) 167 32 (nI (mem (a + 3)))) 167 30 = nI (mem (a + 1)) := by rw [gI_pI, if_neg (by omega), gI_pI, if_neg (by omega), gI_pI, if_pos ⟨rfl, rfl⟩]
    have g31 : gI (pI (pI (pI B1 167 30 (nI (mem (a + 1)))) 167 31 (nI (mem (a + 2)))) 167 32 (nI (mem (a + 3)))) 167 31 = nI (mem (a + 2)) := by rw [gI_pI, if_neg (by omega), gI_pI, if_pos ⟨rfl, rfl⟩]
    have g32 : gI (pI (pI (pI B1 167 30 (nI (mem (a + 1)))) 167 31 (nI (mem (a + 2)))) 167 32 (nI (mem (a + 3)))) 167 32 = nI (mem (a + 3)) := by rw [gI_pI, if_pos ⟨rfl, rfl⟩]
    have g33 : gI (pI (pI (pI B1 167 30 (nI (mem (a + 1)))) 167 31 (nI (mem (a + 2)))) 167 32 (nI (mem (a + 3)))) 167 33 = nI a := by rw [gI_pI, if_neg (by omega), gI_pI, if_neg (by omega), gI_pI, if_neg (by omega)]; exact h33
    rw [m_look hM2.2.2.1 hr2 (hO.2.1 _) (hO.2.1 _) (hO.2.1 _) (hO.2.1 _) g30 g31 g32 (by have := hO.2.2.2.1; omega) hO.2.2.1]
    have hw : numN mem a 4 = wd (mem a) (mem (a + 1)) (mem (a + 2)) (mem (a + 3)) := by
      show (((0 * 256 + mem (a + 0)) * 256 + mem (a + 1)) * 256 + mem (a + 2)) * 256 + mem (a + 3) = _
      rw [Nat.zero_mul, Nat.zero_add, Nat.add_zero]
      rfl
    rw [hw]
    exact StR.pre (st_checked e2 hM2 hO' hr2 (hO.2.1 _) (hO.2.1 _) (hO.2.1 _) (hO.2.1 _) ha g30 g31 g32 g33) e3 hBB
  · rw [if_neg q, bd_th, m_addr0 hr (Bool.eq_false_iff.mpr q), bd_th]
    exact st_fault (pc := pc) ⟨⟨b, mem, sp, L, fl, gl, fs, s, ou, inp, hX, hM, hO⟩, Sm.rfl' A, Sm.rfl' B⟩ (by decide)
