set_option maxRecDepth 100000
/-! ===== the end of a step ===== -/
def RM2 (A B : Sx) (pc : Int64) (nX nM sX sM : Int32) : Prop := ∃ b mem sp L fl gl fs s ou inp, XMc A b mem sp L fl gl s ou inp pc nX sX ∧ MMc B b mem sp L fl gl s ou inp pc nM sM ∧ mcOK b mem sp L fl fs ou inp
def mS2 (c k : Nat) : Prop := mSt c k ∨ (c = 167 ∧ 30 ≤ k ∧ k ≤ 33)
def StR (A B : Sx) (n : Int32) (r r' : Rs Unit) : Prop :=
  (∃ A' B' pc, r = rt () A' ∧ r' = rt () B' ∧ RM2 A' B' pc (n + 1) n 0 0 ∧ Sm xSt A A' ∧ Sm mS2 B B') ∨
  (∃ A' B' pc, r = rt () A' ∧ r' = th (gn B') (mE B' 1) ∧ RM2 A' B' pc (n + 1) (n + 1) 1 0 ∧ Sm xSt A A' ∧ Sm mS2 B B') ∨
  (∃ A' B' pc c, r = th 1 (xF A' c 0) ∧ r' = th (gn B') (mE B' c) ∧ ¬ c = 0 ∧ RM2 A' B' pc n n 0 0 ∧ Sm xSt A A' ∧ Sm mS2 B B')
theorem mSt_S2 {B B' : Sx} (h : Sm mSt B B') : Sm mS2 B B' := h.mono (fun c k x => Or.inl x)
theorem StR.pre {A B A1 B1 : Sx} {n : Int32} {r r' : Rs Unit} (h : StR A1 B1 n r r') (h1 : Sm xSt A A1) (h2 : Sm mS2 B B1) : StR A B n r r' := by
  rcases h with ⟨A', B', pc, a, b, c, d, e⟩ | ⟨A', B', pc, a, b, c, d, e⟩ | ⟨A', B', pc, k, a, b, z, c, d, e⟩
  · exact Or.inl ⟨A', B', pc, a, b, c, h1.trans d, h2.trans e⟩
  · exact Or.inr (Or.inl ⟨A', B', pc, a, b, c, h1.trans d, h2.trans e⟩)
  · exact Or.inr (Or.inr ⟨A', B', pc, k, a, b, z, c, h1.trans d, h2.trans e⟩)
theorem st_fault {A B A1 B1 : Sx} {pc : Int64} {n c : Int32} (h : OkR A B A1 B1 pc n 0) (hc : ¬ c = 0) : StR A B n (th 1 (xF A1 c 0)) (th (gn B1) (mE B1 c)) := Or.inr (Or.inr ⟨A1, B1, pc, c, rfl, rfl, hc, h.1, h.2.1, mSt_S2 h.2.2⟩)
theorem st_end {A B A1 B1 : Sx} {pc : Int64} {n : Int32} {op : Nat} (q : Int64) (h : OkR A B A1 B1 pc n 0) (hop : op < 256) (hz : ¬ op = 0 ∨ ¬ gI B1 167 32 = 0) : StR A B n (X5_step_256 q A1) (X12_step_395 (nI op) q B1) := by
  obtain ⟨⟨b, mem, sp, L, fl, gl, fs, s, ou, inp, hX, hM, hO⟩, h2, h3⟩ := h
  obtain ⟨A2, e1, e2, e3⟩ := xm_pc q hX hO.1
  obtain ⟨f1, f2⟩ := mm_pc q hM
  refine Or.inl ⟨A2, pL B1 167 12 q, q, e1, ?_, ⟨b, mem, sp, L, fl, gl, fs, s, ou, inp, e2, f1, hO⟩, h2.trans e3, mSt_S2 (h3.trans f2)⟩
  unfold X12_step_395
  rw [pt_e]
  by_cases q0 : op = 0
  · rw [if_pos (show nI op = 0 from by rw [q0]; rfl), gI_pL, if_neg (hz.resolve_left (fun x => x q0))]
  · rw [if_neg (nI_ne0 (by omega) (by omega))]
/-- trap 0 -/
theorem st_halt {A B : Sx} {pc : Int64} {n : Int32} (q : Int64) (h : RMp A B pc n 0) (hr : roomM B) (hz : gI B 167 32 = 0) : StR A B n (X5_step_256 q (pI A 138 7 1)) (X12_step_395 (nI 0) q B) := by
  obtain ⟨b, mem, sp, L, fl, gl, fs, s, ou, inp, hX, hM, hO⟩ := h
  have h1 : XMc (pI A 138 7 1) b mem sp L fl gl s ou inp pc n 1 := by
    obtain ⟨h1, h2, h3, h4, h5, h6, h7, h8, h9⟩ := hX
    have e3 : Sm (fun c k => c = 138 ∧ k = 7) A (pI A 138 7 1) := Sm.pI (by omega)
    exact ⟨by rw [e3.K]; exact h1, h2.sm hO.1 e3 (by intro c k; omega), h3.sm e3 (by intro c k; omega), h4.sm e3 (by intro c k; omega), h5.sm e3 (by intro c k; omega), h6.sm e3 (by intro c k; omega), by rw [e3.L (by omega)]; exact h7, by rw [e3.I (by omega)]; exact h8, by rw [gI_pI, if_pos ⟨rfl, rfl⟩]⟩
  obtain ⟨A2, e1, e2, e3⟩ := xm_pc q h1 hO.1
  obtain ⟨f1, f2⟩ := mm_pc q hM
  obtain ⟨g1, g2⟩ := mm_n (n + 1) f1
  refine Or.inr (Or.inl ⟨A2, pI (pL B 167 12 q) 167 14 (n + 1), q, e1, ?_, ⟨b, mem, sp, L, fl, gl, fs, s, ou, inp, e2, g1, hO⟩, (Sm.pI (by unfold xSt; omega)).trans e3, mSt_S2 (f2.trans g2)⟩)
  unfold X12_step_395
  rw [pt_e, if_pos nI_0, gI_pL, if_pos hz, pt_e, gI_pL, hM.2.2.2.2.2.2.2.1, m_end ((hr.sm f2).sm g2)]
/-- trap 1, 2 and faulty ones -/
theorem tr_trap {A B : Sx} {b : Pb} {mem : Nat → Nat} {sp L z : Nat} {fl gl s : Nat → Int64} {fs : List Nat} {ou inp : List Int32} {pc : Int64} {n st : Int32} (hX : XMc A b mem sp L fl gl s ou inp pc n st) (hM : MMc B b mem sp L fl gl s ou inp pc n st) (hO : mcOK b mem sp L fl fs ou inp) (hr : roomM B) (hz : 0 < z) (hz2 : z < 256) (h32 : gI B 167 32 = nI z) : Tr A B pc n st (X5_trap (nI z) A) (X12_trap B) := by
  have hF := FU_ge
  unfold X5_trap X12_trap X5_trap_11
  rw [h32]
  by_cases h2 : 2 < z
  · rw [if_pos ((n_lt (N := 2) (by omega) (by omega)).mpr h2), if_neg (show ¬ nI z ≤ 2 from nI_ge (a := 2) (b := z) h2 (by omega)), x_want0 hX.1, bd_th, m_end hr]
    exact Or.inr ⟨A, B, 6, rfl, rfl, by decide, ⟨b, mem, sp, L, fl, gl, fs, s, ou, inp, hX, hM, hO⟩, Sm.rfl' A, Sm.rfl' B⟩
  · rw [if_neg (fun e => h2 ((n_lt (N := 2) (by omega) (by omega)).mp e)), if_pos (show nI z ≤ 2 from nI_le (a := z) (b := 2) (by omega) (by omega)), x_want1, bd_rt, if_neg (nI_ne0 hz (by omega)), show (31 : Int32) = nI 31 from rfl, lL_n (by omega) (by omega), hM.2.2.1.2.2.2.2 31 (by omega) (by omega), vl_e]
    have g31 : X6_get 31 A = rt (gl 31) A := x_rget (n := 31) hX.2.2.1 (by omega) hO.2.2.1 hO.2.2.2.1
    have g30 : X6_get 30 A = rt (gl 30) A := x_rget (n := 30) hX.2.2.1 (by omega) hO.2.2.1 hO.2.2.2.1
    by_cases h1 : z = 1
    · subst h1
      rw [if_pos (show nI 1 = 1 by rfl), if_pos (show nI 1 = 1 by rfl), vl_e]
      unfold X5_putString
      rw [g31, bd_rt, vl_e]
      have := put_loop (x1 := gl 31) (1000 - ou.length) FU FU A B b mem ou (gl 31) 1 (by have := hO.2.2.2.2.2.1; omega) (by omega) (by omega) (by omega) (by omega) hX hM hO hr h32
      rcases this with ⟨A', B', a, b, c⟩ | ⟨A', B', k, a, b, z, c⟩
      · exact Or.inl ⟨A', B', by rw [show (1 : Int32) = nI 1 from rfl, a, bd_rt], b, c⟩
      · exact Or.inr ⟨A', B', k, by rw [show (1 : Int32) = nI 1 from rfl, a, bd_th], b, z, c⟩
    · obtain rfl : z = 2 := by omega
      rw [if_neg (show ¬ nI 2 = 1 by decide), if_neg (show ¬ nI 2 = 1 by decide)]
      unfold X5_takeLine X12_trap_100 X5_takeLine_33 X12_trap_128
      rw [g31, bd_rt, vl_e, g30, bd_rt, vl_e, x_left hX.2.2.2.2.2.1, bd_rt, h32, if_pos (show nI 2 = 2 by rfl), hM.2.2.2.2.2.1.1, show (30 : Int32) = nI 30 from rfl, lL_n (k := 30) (by omega) (by omega), hM.2.2.1.2.2.2.2 30 (by omega) (by omega)]
      obtain ⟨A1, B1, e1, e2, e3⟩ := set31 (-1) hX hM hO
      have hm1 : Tr A B pc n st (bd (bd (X6_set 31 (-1) A) (fun _ S1 => rt () S1)) (fun _ S2 => rt () S2)) (sL B 171 32 31 (-1) (fun S1 => rt () S1)) := Or.inl ⟨A1, B1, by rw [e1, bd_rt, bd_rt], e2, e3⟩
      by_cases hl : inp.length = 0
      · rw [if_pos (show nI inp.length = 0 by rw [hl]; rfl), if_pos (show nI inp.length = 0 by rw [hl]; rfl)]
        exact hm1
      · rw [if_neg (nI_ne0 (by omega) (by have := hO.2.2.2.2.2.2; omega)), if_neg (nI_ne0 (by omega) (by have := hO.2.2.2.2.2.2; omega))]
        by_cases hg : 1 ≤ gl 30
        · rw [if_pos hg, if_pos hg]
          have := take_loop (ad := gl 31) inp FU FU A B b mem 0 true (by have := hO.2.2.2.2.2.2; omega) (by have := hO.2.2.2.2.2.2; omega) (by have := hO.2.2.2.2.2.2; omega) hX hM hO hr
          rcases this with ⟨A', B', a, b, c⟩ | ⟨A', B', k, a, b, z, c⟩
          · exact Or.inl ⟨A', B', (congrArg (fun r => bd r (fun _ S2 => rt () S2)) a).trans (bd_rt _ _ _), b, c⟩
          · exact Or.inr ⟨A', B', k, (congrArg (fun r => bd r (fun _ S2 => rt () S2)) a).trans (bd_th _ _ _), b, z, c⟩
        · rw [if_neg hg, if_neg hg]
          exact hm1
/-! ===== operations of three registers ===== -/
theorem chk_ok {op x y z sp L t : Nat} (h : chk op x y z sp L t = 0) : opO op = true ∧ (opX op = true → x < 32) ∧ (opY op = true → y < 32) ∧ (opZ op = true → z < 32) ∧ (op = 78 → z ≤ 4) ∧ (op = 79 → x ≤ 4) ∧ (opW op = true → x < 16 → ¬ x < L → sp + (x + 1) ≤ 600) ∧ t = 0 := by
  unfold chk ckR ck78 ck79 ckW at h
  by_cases h0 : opO op = true
  · rw [if_pos h0] at h
    split at h
    · exact absurd h (by decide)
    · rename_i h1
      split at h
      · exact absurd h (by decide)
      · rename_i h2
        split at h
        · exact absurd h (by decide)
        · rename_i h3
          split at h
          · exact absurd h (by decide)
          · rename_i h4
            refine ⟨h0, fun e => ?_, fun e => ?_, fun e => ?_, fun e => ?_, fun e => ?_, fun e f g => ?_, h⟩
            · exact Nat.lt_of_not_le fun q => h1 (Or.inl ⟨e, by omega⟩)
            · exact Nat.lt_of_not_le fun q => h1 (Or.inr (Or.inl ⟨e, by omega⟩))
            · exact Nat.lt_of_not_le fun q => h1 (Or.inr (Or.inr ⟨e, by omega⟩))
            · exact Nat.le_of_not_lt fun q => h2 ⟨e, q⟩
            · exact Nat.le_of_not_lt fun q => h3 ⟨e, q⟩
            · exact Nat.le_of_not_lt fun q => h4 ⟨e, f, g, by omega⟩
  · rw [if_neg h0] at h
    exact absurd h (by decide)
theorem rL_ok {x sp L : Nat} (h : x < 16 → ¬ x < L → sp + (x + 1) ≤ 600) (hs : sp + L ≤ 600) : sp + rL L x ≤ 600 := by
  unfold rL
  split
  · rename_i q
    split
    · exact hs
    · rename_i q2; exact h q q2
  · exact hs
/-- the right operand -/
def rz (sp L : Nat) (fl gl : Nat → Int64) (op z : Nat) : Int64 := if op % 2 = 0 then rGet sp L fl gl z else lN z
theorem mod2 {op : Nat} (h : op < 256) : nI op - nI op / 2 * 2 = nI (op % 2) := pk_rem (a := op) (d := 2) (by omega) (by omega) (by omega)
theorem x_right {A : Sx} {sp L op z : Nat} {fl gl : Nat → Int64} (h : XR A sp L fl gl) (hop : op < 256) (hz : op % 2 = 0 → z < 32) (hz2 : z < 256) (hL : L ≤ 16) (hs : sp + L ≤ 600) : X5_right (nI op) (nI z) A = rt (rz sp L fl gl op z) A := by
  unfold X5_right rz
  rw [mod2 hop]
  by_cases q : op % 2 = 0
  · rw [if_pos (show nI (op % 2) = 0 by rw [q]; rfl), if_pos q, x_rget h (hz q) hL hs, bd_rt]
  · rw [if_neg (nI_ne0 (by omega) (by omega)), if_neg q, nI_l (by omega)]
theorem even_e {op : Nat} (h : op < 256) : nI op / 2 * 2 = nI (op / 2 * 2) := by
  rw [show (2 : Int32) = nI 2 from rfl, pk_div (by omega) (by omega) (by omega), pk_mul]
theorem st_reckon {A B : Sx} {b : Pb} {mem : Nat → Nat} {sp L op x z : Nat} {fl gl s : Nat → Int64} {fs : List Nat} {ou inp : List Int32} {pc nx v : Int64} {n : Int32} (hX : XMc A b mem sp L fl gl s ou inp pc n 0) (hM : MMc B b mem sp L fl gl s ou inp pc n 0) (hO : mcOK b mem sp L fl fs ou inp) (hop : 2 ≤ op ∧ op ≤ 33) (hx : x < 32) (hz : op % 2 = 0 → z < 32) (hz2 : z < 256) (hs : sp + rL L x ≤ 600) (h32 : gI B 167 32 = nI z) (h30 : gI B 167 30 = nI x) : StR A B n (X5_step_213 (nI op) (nI z) nx v (nI op) (nI x) A) (X12_step_302 (nI op) nx v (nI op / 2 * 2) (nI x) B) := by
  obtain ⟨A1, e1, e2, e3⟩ := xm_reckon (op := op) (k := op / 2 * 2) v (rz sp L fl gl op z) hX hO.1 (by omega) rfl (by omega)
  obtain ⟨B1, f1, f2, f3⟩ := mm_reckon (k := op / 2 * 2) v (rz sp L fl gl op z) hM (by omega)
  obtain ⟨A2, g1, g2, g3⟩ := xm_rset (x := x) (rkV (op / 2 * 2) v (rz sp L fl gl op z) s) e2 hO.1 hx hO.2.2.1 hs
  obtain ⟨B2, k1, k2, k3⟩ := mm_rset (x := x) (rkV (op / 2 * 2) v (rz sp L fl gl op z) s) f2 hx hO.2.2.1
  have hmid : X12_step_302 (nI op) nx v (nI op / 2 * 2) (nI x) B = X12_step_395 (nI op) nx B2 := by
    unfold X12_step_302 X12_step_324
    rw [mod2 (by omega), even_e (by omega), h32]
    have hr' : (if nI (op % 2) = 0 then bd (X12_get (nI z) B) (fun v1 S1 => bd (X12_reckoned (nI (op / 2 * 2)) v v1 S1) (fun v1 S1 => bd (X12_set (nI x) v1 S1) (fun _ S2 => X12_step_395 (nI op) nx S2))) else bd (X12_reckoned (nI (op / 2 * 2)) v (nI z).toInt64 B) (fun v1 S1 => bd (X12_set (nI x) v1 S1) (fun _ S2 => X12_step_395 (nI op) nx S2))) = bd (X12_reckoned (nI (op / 2 * 2)) v (rz sp L fl gl op z) B) (fun v1 S1 => bd (X12_set (nI x) v1 S1) (fun _ S2 => X12_step_395 (nI op) nx S2)) := by
      unfold rz
      by_cases q : op % 2 = 0
      · rw [if_pos (show nI (op % 2) = 0 by rw [q]; rfl), if_pos q, m_rget hM.2.2.1 (hz q) hO.2.2.1, bd_rt]
      · rw [if_neg (nI_ne0 (by omega) (by omega)), if_neg q, nI_l (by omega)]
    rw [hr', f1, bd_rt, k1, bd_rt]
  have hxm : X5_step_213 (nI op) (nI z) nx v (nI op) (nI x) A = X5_step_256 nx A2 := by
    unfold X5_step_213 X5_step_224
    rw [x_right hX.2.2.1 (by omega) hz hz2 hO.2.2.1 hO.2.2.2.1, bd_rt, e1, bd_rt, g1, bd_rt]
  rw [hmid, hxm]
  refine st_end nx ⟨⟨b, mem, sp, rL L x, _, _, fs, _, ou, inp, g2, k2, rset_OK _ hO hs⟩, e3.trans g3, (f3.mono (by unfold mRk mSt; intro c k; omega)).trans (k3.mono (by unfold mRl mSt; intro c k; omega))⟩ (by omega) (Or.inl (by omega))
theorem m_y {B : Sx} {sp L x z : Nat} {fl gl : Nat → Int64} (h : MR B sp L fl gl) (hop : x < 256) (hz : x % 2 = 0 → z < 32) (hz2 : z < 256) (hL : L ≤ 16) (h32 : gI B 167 32 = nI z) (f : Int64 → Sx → Rs Unit) : (if nI x - nI x / 2 * 2 = 0 then bd (X12_get (gI B 167 32) B) f else f (gI B 167 32).toInt64 B) = f (rz sp L fl gl x z) B := by
  unfold rz
  rw [mod2 hop, h32]
  by_cases q : x % 2 = 0
  · rw [if_pos (show nI (x % 2) = 0 by rw [q]; rfl), if_pos q, m_rget h (hz q) hL, bd_rt]
  · rw [if_neg (nI_ne0 (by omega) (by omega)), if_neg q, nI_l (by omega)]
theorem st_acc {A B : Sx} {b : Pb} {mem : Nat → Nat} {sp L op x y z : Nat} {fl gl s : Nat → Int64} {fs : List Nat} {ou inp : List Int32} {pc nx : Int64} {n : Int32} (hX : XMc A b mem sp L fl gl s ou inp pc n 0) (hM : MMc B b mem sp L fl gl s ou inp pc n 0) (hO : mcOK b mem sp L fl fs ou inp) (hr : roomM B) (hop : 36 ≤ op ∧ op < 50) (hx : x < 32) (hy : y < 32) (hz : op % 2 = 0 → z < 32) (hz2 : z < 256) (hs : op < 44 → sp + rL L x ≤ 600) (h32 : gI B 167 32 = nI z) (h31 : gI B 167 31 = nI y) (h30 : gI B 167 30 = nI x) :
    StR A B n (bd (X6_get (nI y) A) (fun v10 S5 => bd (X5_right (nI op) (nI z) S5) (fun v11 S6 => bd (X5_access (nI op) (nI x) (v10 + v11) S6) (fun _ S7 => X5_step_256 nx S7)))) (bd (X12_get (gI B 167 31) B) (fun v2 S1 => if (nI op - nI op / 2 * 2) = 0 then bd (X12_get (gI S1 167 32) S1) (fun v3 S2 => X12_step_375 (nI op) nx v3 v2 (nI op / 2 * 2) S2) else X12_step_375 (nI op) nx ((gI S1 167 32).toInt64) v2 (nI op / 2 * 2) S1)) := by
  rw [x_rget hX.2.2.1 hy hO.2.2.1 hO.2.2.2.1, bd_rt, x_right hX.2.2.1 (by omega) hz hz2 hO.2.2.1 hO.2.2.2.1, bd_rt, h31, m_rget hM.2.2.1 hy hO.2.2.1, bd_rt]
  rw [m_y hM.2.2.1 (by omega) hz hz2 hO.2.2.1 h32 (fun v3 S2 => X12_step_375 (nI op) nx v3 (rGet sp L fl gl y) (nI op / 2 * 2) S2)]
  unfold X12_step_375
  rw [even_e (by omega)]
  have hor : (∃ A' B', X5_access (nI op) (nI x) (rGet sp L fl gl y + rz sp L fl gl op z) A = rt () A' ∧ X12_moved (nI (op / 2 * 2)) (rGet sp L fl gl y + rz sp L fl gl op z) nx B = rt nx B' ∧ OkR A B A' B' pc n 0) ∨ (X5_access (nI op) (nI x) (rGet sp L fl gl y + rz sp L fl gl op z) A = th 1 (xF A 4 0) ∧ X12_moved (nI (op / 2 * 2)) (rGet sp L fl gl y + rz sp L fl gl op z) nx B = th (gn B) (mE B 4)) := by
    by_cases q : op < 44
    · exact acc_load _ hX hM hO hr h30 hx (by omega) (hs q)
    · exact acc_store _ hX hM hO hr h30 hx (by omega)
  rcases hor with ⟨A', B', e1, e2, e3⟩ | ⟨e1, e2⟩
  · rw [e1, bd_rt, e2, bd_rt, vl_e]
    exact st_end nx e3 (by omega) (Or.inl (by omega))
  · rw [e1, bd_th, e2, bd_th]
    exact st_fault (pc := pc) ⟨⟨b, mem, sp, L, fl, gl, fs, s, ou, inp, hX, hM, hO⟩, Sm.rfl' A, Sm.rfl' B⟩ (by decide)
