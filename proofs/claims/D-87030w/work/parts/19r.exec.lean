set_option maxRecDepth 100000
noncomputable def XX (op x y z a : Nat) (A : Sx) : Rs Unit := if nI op < 36 then X5_step_125 (lN a) (nI (wd op x y z)) (nI op) (nI x) (nI y) (nI z) (lN a + 4) A else if 50 ≤ nI op then X5_step_125 (lN a) (nI (wd op x y z)) (nI op) (nI x) (nI y) (nI z) (lN a + 4) A else bd (X6_get (nI y) A) (fun v10 S5 => bd (X5_right (nI op) (nI z) S5) (fun v11 S6 => bd (X5_access (nI op) (nI x) (v10 + v11) S6) (fun _ S7 => X5_step_256 (lN a + 4) S7)))
theorem XX_125 {op x y z a : Nat} {A : Sx} (h : op < 36 ∨ 50 ≤ op) (hop : op < 256) : XX op x y z a A = X5_step_125 (lN a) (nI (wd op x y z)) (nI op) (nI x) (nI y) (nI z) (lN a + 4) A := by
  unfold XX
  by_cases q : op < 36
  · rw [if_pos (lit_lt q (by omega))]
  · rw [if_neg (lit_gt (N := 36) (by omega) (by omega)), if_pos (lit_le (N := 50) (by omega) (by omega))]
theorem XX_oth {op x y z a : Nat} {A : Sx} (h : 60 ≤ op ∧ op ≤ 80) : XX op x y z a A = XE op x y z a A := by
  rw [XX_125 (by omega) (by omega)]
  unfold X5_step_125 XE
  rw [x_T (by omega), bd_rt, show opT op = false from decide_eq_false (by omega), if_pos (show b1 false = 0 by rfl), if_neg (nI_ne0 (by omega) (by omega))]
theorem MX_oth {op a : Nat} {B : Sx} (h33 : gI B 167 33 = nI a) (ha : a < 65536) (h : 60 ≤ op ∧ op ≤ 80) : X12_step_241 (nI op) B = ME op a B := by
  unfold X12_step_241 ME
  rw [vl_e, if_neg (nI_ne0 (by omega) (by omega)), if_pos (lit_le (N := 36) (by omega) (by omega)), if_pos (lit_le (N := 60) (by omega) (by omega)), h33, nI_l (n := a) (by omega)]
theorem st_trap {A B : Sx} {b : Pb} {mem : Nat → Nat} {sp L x y z a : Nat} {fl gl s : Nat → Int64} {fs : List Nat} {ou inp : List Int32} {pc : Int64} {n : Int32} (hX : XMc A b mem sp L fl gl s ou inp pc n 0) (hM : MMc B b mem sp L fl gl s ou inp pc n 0) (hO : mcOK b mem sp L fl fs ou inp) (hr : roomM B) (hz : z < 256) (ha : a < 65536) (h32 : gI B 167 32 = nI z) (h33 : gI B 167 33 = nI a) : StR A B n (XX 0 x y z a A) (X12_step_241 (nI 0) B) := by
  rw [XX_125 (by omega) (by omega)]
  unfold X5_step_125 X12_step_241
  rw [x_T (by omega), bd_rt, show opT 0 = false from rfl, if_pos (show b1 false = 0 by rfl), if_pos nI_0, vl_e, if_pos nI_0, h33, nI_l (n := a) (by omega)]
  by_cases h0 : z = 0
  · subst h0
    have e1 : X5_trap (nI 0) A = rt () (pI A 138 7 1) := by
      unfold X5_trap X5_trap_11
      rw [if_neg (by decide), x_want1, bd_rt, if_pos nI_0, pt_e]
    have e2 : X12_trap B = rt () B := by
      unfold X12_trap X12_trap_100
      rw [h32, if_pos (by decide), show (31 : Int32) = nI 31 from rfl, lL_n (by omega) (by omega), vl_e, if_neg (by decide), if_neg (by decide)]
    rw [e1, bd_rt, e2, bd_rt]
    exact st_halt _ ⟨b, mem, sp, L, fl, gl, fs, s, ou, inp, hX, hM, hO⟩ hr (by rw [h32]; rfl)
  · rcases tr_trap hX hM hO hr (by omega) hz h32 with ⟨A', B', e1, e2, e3⟩ | ⟨A', B', c, e1, e2, e3, e4⟩
    · rw [e1, bd_rt, e2, bd_rt]
      refine st_end _ e3 (by omega) (Or.inr ?_)
      rw [e3.2.2.I (by unfold mSt; omega), h32]
      exact nI_ne0 (by omega) (by omega)
    · rw [e1, bd_th, e2, bd_th]
      exact st_fault e4 e3
theorem st_exec {A B : Sx} {b : Pb} {mem : Nat → Nat} {sp L op x y z a : Nat} {fl gl s : Nat → Int64} {fs : List Nat} {ou inp : List Int32} {pc : Int64} {n : Int32} (hX : XMc A b mem sp L fl gl s ou inp pc n 0) (hM : MMc B b mem sp L fl gl s ou inp pc n 0) (hO : mcOK b mem sp L fl fs ou inp) (hr : roomM B) (hop : op < 256) (hx : x < 256) (hy : y < 256) (hz : z < 256) (ha : a < 65536) (h30 : gI B 167 30 = nI x) (h31 : gI B 167 31 = nI y) (h32 : gI B 167 32 = nI z) (h33 : gI B 167 33 = nI a) (hc : chk op x y z sp L (ck67 op x sp L) = 0) : StR A B n (XX op x y z a A) (X12_step_241 (nI op) B) := by
  obtain ⟨c0, cX, cY, cZ, c78, c79, cW, c67⟩ := chk_ok hc
  have hO0 : op = 0 ∨ (2 ≤ op ∧ op ≤ 33) ∨ (36 ≤ op ∧ op ≤ 49) ∨ (50 ≤ op ∧ op ≤ 53) ∨ (60 ≤ op ∧ op ≤ 80) := by
    have : ∀ op, op < 256 → opO op = true → op = 0 ∨ (2 ≤ op ∧ op ≤ 33) ∨ (36 ≤ op ∧ op ≤ 49) ∨ (50 ≤ op ∧ op ≤ 53) ∨ (60 ≤ op ∧ op ≤ 80) := by decide +kernel
    exact this op hop c0
  rcases hO0 with rfl | h | h | h | h
  · exact st_trap hX hM hO hr hz ha h32 h33
  · have hT : opT op = true := decide_eq_true (by omega)
    have hx32 : x < 32 := cX (by unfold opX; rw [hT]; rfl)
    have hzz : op % 2 = 0 → z < 32 := fun q => cZ (by unfold opZ; rw [hT, decide_eq_true q]; rfl)
    have hs : sp + rL L x ≤ 600 := rL_ok (cW (by unfold opW opS; rw [hT, decide_eq_false (by omega)]; rfl)) hO.2.2.2.1
    rw [XX_125 (by omega) hop]
    unfold X5_step_125 X12_step_241 X5_step_160
    rw [x_T hop, bd_rt, hT, if_neg (show ¬ b1 true = 0 by decide), if_pos (lit_lt (N := 52) (by omega) (by omega)), if_pos (lit_lt (N := 52) (by omega) (by omega)), vl_e, if_neg (nI_ne0 (by omega) (by omega)), if_neg (lit_ge (N := 36) (by omega) (by omega)), h33, nI_l (n := a) (by omega), h30, h31]
    by_cases h2 : 32 ≤ op
    · have e32 : (if nI op = 32 then X5_step_213 (nI op) (nI z) (lN a + 4) (nI y).toInt64 (nI op) (nI x) A else if nI op = 33 then X5_step_213 (nI op) (nI z) (lN a + 4) (nI y).toInt64 (nI op) (nI x) A else bd (X6_get (nI y) A) (fun v1 S1 => X5_step_213 (nI op) (nI z) (lN a + 4) v1 (nI op) (nI x) S1)) = X5_step_213 (nI op) (nI z) (lN a + 4) (nI y).toInt64 (nI op) (nI x) A := by
        have : op = 32 ∨ op = 33 := by omega
        rcases this with rfl | rfl
        · rw [if_pos (by rfl)]
        · rw [if_neg (by decide), if_pos (by rfl)]
      rw [e32, if_pos (lit_le (N := 32) (by omega) (by omega))]
      exact st_reckon hX hM hO h hx32 hzz hz hs h32 h30
    · have hy32 : y < 32 := cY (by unfold opY; rw [hT, decide_eq_true (by omega)]; rfl)
      rw [if_neg (show ¬ nI op = 32 from fun e => by have := (nI_eq (a := op) (b := 32) (by omega) (by omega)).mp e; omega), if_neg (show ¬ nI op = 33 from fun e => by have := (nI_eq (a := op) (b := 33) (by omega) (by omega)).mp e; omega), if_neg (lit_ge (N := 32) (by omega) (by omega)), x_rget hX.2.2.1 hy32 hO.2.2.1 hO.2.2.2.1, bd_rt, m_rget hM.2.2.1 hy32 hO.2.2.1, bd_rt]
      exact st_reckon hX hM hO h hx32 hzz hz hs h32 h30
  · have hT : opT op = true := decide_eq_true (by omega)
    have hx32 : x < 32 := cX (by unfold opX; rw [hT]; rfl)
    have hy32 : y < 32 := cY (by unfold opY; rw [hT, decide_eq_true (by omega)]; rfl)
    have hzz : op % 2 = 0 → z < 32 := fun q => cZ (by unfold opZ; rw [hT, decide_eq_true q]; rfl)
    have hs : op < 44 → sp + rL L x ≤ 600 := fun q => rL_ok (cW (by unfold opW opS; rw [hT, decide_eq_false (by omega)]; rfl)) hO.2.2.2.1
    unfold XX X12_step_241
    rw [if_neg (lit_gt (N := 36) (by omega) (by omega)), if_neg (lit_ge (N := 50) (by omega) (by omega)), vl_e, if_neg (nI_ne0 (by omega) (by omega)), if_pos (lit_le (N := 36) (by omega) (by omega)), if_neg (lit_ge (N := 60) (by omega) (by omega)), h33, nI_l (n := a) (by omega)]
    exact st_acc hX hM hO hr (by omega) hx32 hy32 hzz hz hs h32 h31 h30
  · have hT : opT op = true := decide_eq_true (by omega)
    have hx32 : x < 32 := cX (by unfold opX; rw [hT]; rfl)
    have hy32 : y < 32 := cY (by unfold opY; rw [hT, decide_eq_true (by omega)]; rfl)
    have hzz : op % 2 = 0 → z < 32 := fun q => cZ (by unfold opZ; rw [hT, decide_eq_true q]; rfl)
    have hs : sp + rL L x ≤ 600 := rL_ok (cW (by unfold opW opS; rw [hT, decide_eq_false (by omega)]; rfl)) hO.2.2.2.1
    rw [XX_125 (by omega) hop]
    unfold X12_step_241
    rw [vl_e, if_neg (nI_ne0 (by omega) (by omega)), if_pos (lit_le (N := 36) (by omega) (by omega)), if_neg (lit_ge (N := 60) (by omega) (by omega)), h33, nI_l (n := a) (by omega)]
    exact st_50 hX hM hO (by omega) hx32 hy32 hzz hz hs h32 h31 h30 rfl _
  · rw [XX_oth h, MX_oth h33 ha h]
    have hk : op = 60 ∨ op = 61 ∨ op = 62 ∨ op = 63 ∨ op = 64 ∨ op = 65 ∨ op = 66 ∨ op = 67 ∨ op = 68 ∨ op = 69 ∨ op = 70 ∨ op = 71 ∨ op = 72 ∨ op = 73 ∨ op = 74 ∨ op = 75 ∨ op = 76 ∨ op = 77 ∨ op = 78 ∨ op = 79 ∨ op = 80 := by omega
    have hxx : (60 ≤ op ∧ op ≤ 65) ∨ (69 ≤ op ∧ op ≤ 78) → x < 32 := fun q => cX (by unfold opX; rcases q with q | q <;> simp [q])
    have hss : 69 ≤ op ∧ op ≤ 78 → sp + rL L x ≤ 600 := fun q => rL_ok (cW (by unfold opW; simp [q])) hO.2.2.2.1
    rcases hk with rfl | rfl | rfl | rfl | rfl | rfl | rfl | rfl | rfl | rfl | rfl | rfl | rfl | rfl | rfl | rfl | rfl | rfl | rfl | rfl | rfl
    · exact st_60 hX hM hO hx hy hz ha h30 h31 h32 h33 (hxx (by omega))
    · exact st_61 hX hM hO hx hy hz ha h30 h31 h32 h33 (hxx (by omega))
    · exact st_62 hX hM hO hx hy hz ha h30 h31 h32 h33 (hxx (by omega))
    · exact st_63 hX hM hO hx hy hz ha h30 h31 h32 h33 (hxx (by omega))
    · exact st_64 hX hM hO hx hy hz ha h30 h31 h32 h33 (hxx (by omega))
    · exact st_65 hX hM hO hx hy hz ha h30 h31 h32 h33 (hxx (by omega))
    · exact st_66 hX hM hO hx hy hz ha h30 h31 h32 h33
    · exact st_67 hX hM hO hx hy hz ha h30 h31 h32 h33 (by unfold ck67 at c67; rw [if_pos rfl] at c67; split at c67; rename_i q; have := hO.2.2.2.1; omega; exact absurd c67 (by decide))
    · exact st_68 hX hM hO hx hy hz ha h30 h31 h32 h33 (by unfold ck67 ck8 at c67; rw [if_neg (by decide)] at c67; split at c67; exact absurd c67 (by decide); rename_i q; omega)
    · exact st_69 hX hM hO hx hy hz ha h30 h31 h32 h33 (hxx (by omega)) (hss (by omega))
    · exact st_70 hX hM hO hx hy hz ha h30 h31 h32 h33 (hxx (by omega)) (hss (by omega))
    · exact st_71 hX hM hO hx hy hz ha h30 h31 h32 h33 (hxx (by omega)) (hss (by omega))
    · exact st_72 hX hM hO hx hy hz ha h30 h31 h32 h33 (hxx (by omega)) (hss (by omega))
    · exact st_73 hX hM hO hx hy hz ha h30 h31 h32 h33 (hxx (by omega)) (hss (by omega))
    · exact st_74 hX hM hO hx hy hz ha h30 h31 h32 h33 (hxx (by omega)) (hss (by omega))
    · exact st_75 hX hM hO hx hy hz ha h30 h31 h32 h33 (hxx (by omega)) (hss (by omega))
    · exact st_76 hX hM hO hx hy hz ha h30 h31 h32 h33 (hxx (by omega)) (hss (by omega))
    · exact st_77 hX hM hO hx hy hz ha h30 h31 h32 h33 (hxx (by omega)) (hss (by omega))
    · exact st_78 hX hM hO hx hy hz ha h30 h31 h32 h33 (hxx (by omega)) (hss (by omega)) (c78 rfl)
    · exact st_79 hX hM hO hx hy hz ha h30 h31 h32 h33 (c79 rfl) (cZ (by rfl))
    · exact st_80 hX hM hO hx hy hz ha h30 h31 h32 h33
