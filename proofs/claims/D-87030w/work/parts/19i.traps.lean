set_option maxRecDepth 100000
/-! ===== traps ===== -/
theorem roomM.sm {P : Nat → Nat → Prop} {S S' : Sx} (h : roomM S) (hs : Sm P S S') : roomM S' := by
  unfold roomM
  rw [hs.1, hs.2.1]
  exact h
theorem xm_out {A : Sx} {b : Pb} {mem : Nat → Nat} {sp L : Nat} {fl gl s : Nat → Int64} {ou inp : List Int32} {pc : Int64} {n st : Int32} (v : Int32) (h : XMc A b mem sp L fl gl s ou inp pc n st) (hb : bOK b) : XMc (pI (pI A 145 ou.length v) 138 9 (nI (ou.length + 1))) b mem sp L fl gl s (ou ++ [v]) inp pc n st ∧ Sm xSt A (pI (pI A 145 ou.length v) 138 9 (nI (ou.length + 1))) := by
  obtain ⟨h1, h2, h3, h4, h5, h6, h7, h8, h9⟩ := h
  have e3 : Sm (fun c k => c = 145 ∨ (c = 138 ∧ k = 9)) A (pI (pI A 145 ou.length v) 138 9 (nI (ou.length + 1))) := Sm.trans (Sm.pI (by omega)) (Sm.pI (by omega))
  refine ⟨⟨by rw [e3.K]; exact h1, h2.sm hb e3 (by intro c k; omega), h3.sm e3 (by intro c k; omega), h4.sm e3 (by intro c k; omega), ⟨?_, fun i hi => ?_⟩, h6.sm e3 (by intro c k; omega), by rw [e3.L (by omega)]; exact h7, by rw [e3.I (by omega)]; exact h8, by rw [e3.I (by omega)]; exact h9⟩, e3.mono (by unfold xSt; intro c k; omega)⟩
  · rw [gI_pI, if_pos ⟨rfl, rfl⟩, List.length_append]; rfl
  · rw [List.length_append] at hi
    have hi : i < ou.length + 1 := hi
    rw [gI_pI, if_neg (by omega), gI_pI, getD_appP]
    by_cases q : i = ou.length
    · rw [if_pos ⟨rfl, q⟩, if_neg (by omega), if_pos q]
    · rw [if_neg (by omega), if_pos (by omega)]; exact h5.2 i (by omega)
theorem mm_out {A : Sx} {b : Pb} {mem : Nat → Nat} {sp L : Nat} {fl gl s : Nat → Int64} {ou inp : List Int32} {pc : Int64} {n st : Int32} (v : Int32) (h : MMc A b mem sp L fl gl s ou inp pc n st) : MMc (pI (pI A 174 ou.length v) 167 16 (nI (ou.length + 1))) b mem sp L fl gl s (ou ++ [v]) inp pc n st ∧ Sm (fun c k => c = 174 ∨ (c = 167 ∧ k = 16)) A (pI (pI A 174 ou.length v) 167 16 (nI (ou.length + 1))) := by
  obtain ⟨h2, h1, h3, h4, h5, h6, h7, h8, h9⟩ := h
  have e4 : Sm (fun c k => c = 174 ∨ (c = 167 ∧ k = 16)) A (pI (pI A 174 ou.length v) 167 16 (nI (ou.length + 1))) := Sm.trans (Sm.pI (by omega)) (Sm.pI (by omega))
  refine ⟨⟨MP_back h2 e4 (by intro c k; omega), h1.sm e4 (by intro c k; omega), h3.sm e4 (by intro c k; omega), h4.sm e4 (by intro c k; omega), ⟨?_, fun i hi => ?_⟩, h6.sm e4 (by intro c k; omega), by rw [e4.L (by omega)]; exact h7, by rw [e4.I (by omega)]; exact h8, by rw [e4.I (by omega)]; exact h9⟩, e4⟩
  · rw [gI_pI, if_pos ⟨rfl, rfl⟩, List.length_append]; rfl
  · rw [List.length_append] at hi
    have hi : i < ou.length + 1 := hi
    rw [gI_pI, if_neg (by omega), gI_pI, getD_appP]
    by_cases q : i = ou.length
    · rw [if_pos ⟨rfl, q⟩, if_neg (by omega), if_pos q]
    · rw [if_neg (by omega), if_pos (by omega)]; exact h5.2 i (by omega)
theorem al8_1 (a : Nat) : al8 a 1 = a := by unfold al8; omega
theorem numL_1 {mem : Nat → Nat} (hm : memOK mem) (a : Nat) : numL mem a 1 = lN (mem a) := by
  rw [numL_N hm a 1 (by omega)]
  show lN (0 * 256 + mem (a + 0)) = _
  rw [Nat.zero_mul, Nat.zero_add, Nat.add_zero]
/-- both return, or both fault alike -/
def Tr (A B : Sx) (pc : Int64) (n st : Int32) (r r' : Rs Unit) : Prop := (∃ A' B', r = rt () A' ∧ r' = rt () B' ∧ OkR A B A' B' pc n st) ∨ ∃ A' B' c, r = th 1 (xF A' c 0) ∧ r' = th (gn B') (mE B' c) ∧ ¬ c = 0 ∧ OkR A B A' B' pc n st
theorem Tr.pre {A B A1 B1 : Sx} {pc : Int64} {n st : Int32} {r r' : Rs Unit} (h : Tr A1 B1 pc n st r r') (h1 : Sm xSt A A1) (h2 : Sm mSt B B1) : Tr A B pc n st r r' := by
  rcases h with ⟨A', B', a, b, c, d, e⟩ | ⟨A', B', k, a, b, z, c, d, e⟩
  · exact Or.inl ⟨A', B', a, b, c, h1.trans d, h2.trans e⟩
  · exact Or.inr ⟨A', B', k, a, b, z, c, h1.trans d, h2.trans e⟩
theorem x_put_end (n : Nat) (x : Int64) (A : Sx) : X5_putString_12 (n + 1) x (nI 0) A = rt () A := by
  show X5_putString_12b (X5_putString_12 n) x (nI 0) A = _
  unfold X5_putString_12b
  rw [if_pos nI_0]
theorem put_loop {sp L : Nat} {fl gl s : Nat → Int64} {fs : List Nat} {inp : List Int32} {pc : Int64} {n st : Int32} {x1 : Int64} : ∀ (d nX nM : Nat) (A B : Sx) (b : Pb) (mem : Nat → Nat) (ou : List Int32) (x : Int64) (c : Nat), ou.length + d = 1000 → d + 2 < nX → d + 2 < nM → 0 < c → c < 256 → XMc A b mem sp L fl gl s ou inp pc n st → MMc B b mem sp L fl gl s ou inp pc n st → mcOK b mem sp L fl fs ou inp → roomM B → gI B 167 32 = nI 1 → Tr A B pc n st (X5_putString_12 nX x (nI c) A) (X12_trap_36 nM x1 x B) := by
  intro d
  induction d with
  | zero =>
    intro nX nM A B b mem ou x c hd h1 h2 hc hc2 hX hM hO hr h32
    obtain ⟨nX, rfl⟩ : ∃ j, nX = j + 2 := ⟨nX - 2, by omega⟩
    obtain ⟨nM, rfl⟩ : ∃ j, nM = j + 1 := ⟨nM - 1, by omega⟩
    show Tr A B pc n st (X5_putString_12b (X5_putString_12 (nX + 1)) x (nI c) A) (X12_trap_36b (X12_trap_36 nM) x1 x B)
    unfold X5_putString_12b X12_trap_36b
    rw [if_neg (nI_ne0 hc (by omega)), x_isA, bd_rt]
    by_cases q : isA x = true
    · obtain ⟨a, ha, rfl⟩ := isA_of q
      obtain ⟨f, b', hT⟩ := bTouch_ex b (a / 64) false hO.1
      have hb' := (bTouch_OK hO.1 (by omega) hT).1
      obtain ⟨A1, e1, e2, e3⟩ := xm_get (m := 1) hX hO.1 hO.2.1 ha hT (by omega)
      obtain ⟨B1, f1, f2, f3⟩ := mm_fetch (m := 1) hM hO.1 hO.2.1 (Or.inl rfl) ha (by rw [al8_1]; exact hT)
      have f3' : Sm mSt B B1 := f3.mono (by unfold mPl mSt; intro c k; omega)
      rw [al8_1, numL_1 hO.2.1] at f1
      rw [numL_1 hO.2.1] at e1
      replace e1 : X2_get (nI a) 1 A = rt (lN (mem a)) A1 := e1
      replace f1 : X12_fetch (lN a) 1 B = rt (lN (mem a)) B1 := f1
      have hby := hO.2.1 a
      rw [q, show b1 true = 1 from rfl, x_want1, bd_rt, lN_i, e1, bd_rt, vl_e, lN_i, f1, bd_rt]
      by_cases hz : mem a = 0
      · rw [hz, if_pos nI_0, if_pos (by rfl)]
        unfold X5_putString_82 X12_trap_100
        rw [vl_e, x_put_end, f3.I (by unfold mPl; omega), h32, if_neg (by decide)]
        exact Or.inl ⟨A1, B1, rfl, rfl, ⟨b', mem, sp, L, fl, gl, fs, s, ou, inp, e2, f2, hb', hO.2⟩, e3, f3'⟩
      · rw [if_neg (nI_ne0 (by omega) (by omega)), if_neg (show ¬ lN (mem a) = 0 from fun e => hz ((lN_eq (a := mem a) (b := 0) (by omega) (by omega)).mp e)), e2.2.2.2.2.1.1, f2.2.2.2.2.1.1, if_pos (lit_le (N := 1000) (by omega) (by omega)), if_pos (show nI ou.length = 1000 from by rw [show ou.length = 1000 by omega]; rfl), m_end (hr.sm f3)]
        unfold X5_putString_57
        rw [x_want0 e2.1, bd_th]
        exact Or.inr ⟨A1, B1, 7, rfl, rfl, by decide, ⟨b', mem, sp, L, fl, gl, fs, s, ou, inp, e2, f2, hb', hO.2⟩, e3, f3'⟩
    · have q := Bool.eq_false_iff.mpr q
      rw [q, show b1 false = 0 from rfl, x_want0 hX.1, bd_th, m_fetch0 hr q, bd_th]
      exact Or.inr ⟨A, B, 4, rfl, rfl, by decide, ⟨b, mem, sp, L, fl, gl, fs, s, ou, inp, hX, hM, hO⟩, Sm.rfl' A, Sm.rfl' B⟩
  | succ d ih =>
    intro nX nM A B b mem ou x c hd h1 h2 hc hc2 hX hM hO hr h32
    obtain ⟨nX, rfl⟩ : ∃ j, nX = j + 2 := ⟨nX - 2, by omega⟩
    obtain ⟨nM, rfl⟩ : ∃ j, nM = j + 1 := ⟨nM - 1, by omega⟩
    show Tr A B pc n st (X5_putString_12b (X5_putString_12 (nX + 1)) x (nI c) A) (X12_trap_36b (X12_trap_36 nM) x1 x B)
    unfold X5_putString_12b X12_trap_36b
    rw [if_neg (nI_ne0 hc (by omega)), x_isA, bd_rt]
    by_cases q : isA x = true
    · obtain ⟨a, ha, rfl⟩ := isA_of q
      obtain ⟨f, b', hT⟩ := bTouch_ex b (a / 64) false hO.1
      have hb' := (bTouch_OK hO.1 (by omega) hT).1
      obtain ⟨A1, e1, e2, e3⟩ := xm_get (m := 1) hX hO.1 hO.2.1 ha hT (by omega)
      obtain ⟨B1, f1, f2, f3⟩ := mm_fetch (m := 1) hM hO.1 hO.2.1 (Or.inl rfl) ha (by rw [al8_1]; exact hT)
      have f3' : Sm mSt B B1 := f3.mono (by unfold mPl mSt; intro c k; omega)
      rw [al8_1, numL_1 hO.2.1] at f1
      rw [numL_1 hO.2.1] at e1
      replace e1 : X2_get (nI a) 1 A = rt (lN (mem a)) A1 := e1
      replace f1 : X12_fetch (lN a) 1 B = rt (lN (mem a)) B1 := f1
      have hby := hO.2.1 a
      rw [q, show b1 true = 1 from rfl, x_want1, bd_rt, lN_i, e1, bd_rt, vl_e, lN_i, f1, bd_rt]
      by_cases hz : mem a = 0
      · rw [hz, if_pos nI_0, if_pos (by rfl)]
        unfold X5_putString_82 X12_trap_100
        rw [vl_e, x_put_end, f3.I (by unfold mPl; omega), h32, if_neg (by decide)]
        exact Or.inl ⟨A1, B1, rfl, rfl, ⟨b', mem, sp, L, fl, gl, fs, s, ou, inp, e2, f2, hb', hO.2⟩, e3, f3'⟩
      · rw [if_neg (nI_ne0 (by omega) (by omega)), if_neg (show ¬ lN (mem a) = 0 from fun e => hz ((lN_eq (a := mem a) (b := 0) (by omega) (by omega)).mp e)), e2.2.2.2.2.1.1, f2.2.2.2.2.1.1, if_neg (lit_ge (N := 1000) (by omega) (by omega)), if_neg (show ¬ nI ou.length = 1000 from fun e => by have := (nI_eq (a := ou.length) (b := 1000) (by omega) (by omega)).mp e; omega)]
        unfold X5_putString_57 X5_putString_82
        obtain ⟨g1, g2⟩ := xm_out (nI (mem a)) e2 hb'
        obtain ⟨k1, k2⟩ := mm_out (nI (mem a)) f2
        rw [x_want1, bd_rt, e2.2.2.2.2.1.1, sI_n (by omega) (by omega), pt_e, gI_pI, if_neg (by omega), e2.2.2.2.2.1.1, nI_1, vl_e, lN_1, lI_n ha (by omega), f2.2.1 a ha, sI_n (by omega) (by omega), pt_e, gI_pI, if_neg (by omega), f2.2.2.2.2.1.1, nI_1, vl_e]
        have ih := ih (nX + 1) nM _ _ b' mem (ou ++ [nI (mem a)]) (lN (a + 1)) (mem a) (by rw [List.length_append]; show ou.length + 1 + d = 1000; omega) (by omega) (by omega) (by omega) hby g1 k1 ⟨hb', hO.2.1, hO.2.2.1, hO.2.2.2.1, hO.2.2.2.2.1, by rw [List.length_append]; show ou.length + 1 ≤ 1000; omega, hO.2.2.2.2.2.2⟩ ((hr.sm f3).sm k2) (by rw [k2.I (by omega), f3.I (by unfold mPl; omega)]; exact h32)
        exact Tr.pre ih (e3.trans g2) (f3'.trans (k2.mono (by unfold mSt; intro c k; omega)))
    · have q := Bool.eq_false_iff.mpr q
      rw [q, show b1 false = 0 from rfl, x_want0 hX.1, bd_th, m_fetch0 hr q, bd_th]
      exact Or.inr ⟨A, B, 4, rfl, rfl, by decide, ⟨b, mem, sp, L, fl, gl, fs, s, ou, inp, hX, hM, hO⟩, Sm.rfl' A, Sm.rfl' B⟩
/-! ===== takeLine ===== -/
theorem x_left {A : Sx} {inp : List Int32} (h : XN A inp) : X5_left A = rt (nI inp.length) A := by
  obtain ⟨r, tot, tk, a1, a2, a3, a4, a5, a6, a7, a8, a9⟩ := h
  unfold X5_left
  rw [a4, a5, pk_sub (by omega), show tot - tk = inp.length by omega]
theorem xm_take {A : Sx} {b : Pb} {mem : Nat → Nat} {sp L : Nat} {fl gl s : Nat → Int64} {ou inp : List Int32} {pc : Int64} {n st v : Int32} (h : XMc A b mem sp L fl gl s ou (v :: inp) pc n st) (hb : bOK b) : X8_at 146 (gI A 138 11) A = rt v A ∧ XMc (pI A 138 11 (gI A 138 11 + 1)) b mem sp L fl gl s ou inp pc n st ∧ Sm xSt A (pI A 138 11 (gI A 138 11 + 1)) := by
  obtain ⟨h1, h2, h3, h4, h5, ⟨r, tot, tk, a1, a2, a3, a4, a5, a6, a7, a8, a9⟩, h7, h8, h9⟩ := h
  have a6' : tot = tk + (inp.length + 1) := a6
  have e3 : Sm (fun c k => c = 138 ∧ k = 11) A (pI A 138 11 (gI A 138 11 + 1)) := Sm.pI (by omega)
  refine ⟨?_, ⟨by rw [e3.K]; exact h1, h2.sm hb e3 (by intro c k; omega), h3.sm e3 (by intro c k; omega), h4.sm e3 (by intro c k; omega), h5.sm e3 (by intro c k; omega), ⟨r, tot, tk + 1, a1, a2, a3, ?_, ?_, by omega, a7, a8, fun i hi => ?_⟩, by rw [e3.L (by omega)]; exact h7, by rw [e3.I (by omega)]; exact h8, by rw [e3.I (by omega)]; exact h9⟩, e3.mono (by unfold xSt; intro c k; omega)⟩
  · unfold X8_at
    rw [a1, dO_s a3, a5, lI_n (by omega) (by omega)]
    have := a9 0 (by show 0 < inp.length + 1; omega)
    rw [Nat.add_zero] at this
    rw [this]; rfl
  · rw [gI_pI, if_neg (by omega)]; exact a4
  · rw [gI_pI, if_pos ⟨rfl, rfl⟩, a5, nI_1]
  · rw [gI_pI, if_neg (by omega)]
    have := a9 (i + 1) (by show i + 1 < inp.length + 1; omega)
    rw [show tk + 1 + i = tk + (i + 1) by omega, this]
    rfl
theorem mm_take {A : Sx} {b : Pb} {mem : Nat → Nat} {sp L c : Nat} {fl gl s : Nat → Int64} {ou inp : List Int32} {pc : Int64} {n st v : Int32} {x1 : Int64} {k144 : Int64 → Int32 → Int32 → Sx → Rs Unit} (h : MMc A b mem sp L fl gl s ou (v :: inp) pc n st) (hl : inp.length + 1 ≤ 4000) :
    gI A 170 0 = v ∧ ∃ A', X12_trap_204 k144 FU x1 (nI c) v 0 (pI A 167 4 (gI A 167 4 - 1)) = (if v = 10 then k144 x1 (nI (c + 1)) 0 A' else k144 x1 (nI (c + 1)) 1 A') ∧ MMc A' b mem sp L fl gl s ou inp pc n st ∧ Sm (fun c k => c = 170 ∨ (c = 167 ∧ k = 4)) A A' := by
  obtain ⟨h2, h1, h3, h4, h5, ⟨h6, h6'⟩, h7, h8, h9⟩ := h
  have h6 : gI A 167 4 = nI (inp.length + 1) := h6
  have e0 : Sm (fun c k => c = 170 ∨ (c = 167 ∧ k = 4)) A (pI A 167 4 (gI A 167 4 - 1)) := Sm.pI (by omega)
  obtain ⟨kk, S1, g1, g2, g3, g4⟩ := loopN (F := fun n i S => X12_trap_204 k144 n x1 (nI c) v i S) (B := fun q i S => X12_trap_204b k144 (fun _ _ _ i S => q i S) x1 (nI c) v i S) (N := inp.length) (S := pI A 167 4 (gI A 167 4 - 1)) (Inv := fun i T => (∀ j, j < i → gI T 170 j = inp.getD j 0) ∧ (∀ j, i ≤ j → gI T 170 j = gI A 170 j) ∧ Sm (fun c k => c = 170) (pI A 167 4 (gI A 167 4 - 1)) T) (by omega) (fun _ _ _ => rfl) (fun q i T hi ⟨x1', x2, x3⟩ => by
    refine ⟨pI T 170 i (inp.getD i 0), ?_, fun j hj => ?_, fun j hj => ?_, x3.trans (Sm.pI rfl)⟩
    · show X12_trap_204b k144 (fun _ _ _ i S => q i S) x1 (nI c) v (nI i) T = _
      unfold X12_trap_204b
      have hT : gI T 167 4 = nI inp.length := by rw [x3.I (by omega), gI_pI, if_pos ⟨rfl, rfl⟩, h6, nI_pred]
      rw [hT, if_neg (nI_ge hi (by omega)), nI_1, lI_n (by omega) (by omega), x2 _ (by omega), h6' (i + 1) (by show i + 1 < inp.length + 1; omega), sI_n (by omega) (by omega), vl_e]
      rfl
    · rw [gI_pI]
      split
      · rename_i e; rw [e.2]
      · exact x1' j (by omega)
    · rw [gI_pI, if_neg (by omega)]; exact x2 j (by omega)) ⟨(fun j hj => by omega), (fun j _ => by rw [gI_pI, if_neg (by omega)]), Sm.rfl' _⟩
  have e4 : Sm (fun c k => c = 170 ∨ (c = 167 ∧ k = 4)) A S1 := e0.trans (g4.mono (by intro c k; omega))
  refine ⟨h6' 0 (by show 0 < inp.length + 1; omega), S1, ?_, ⟨MP_back h2 e4 (by intro c k; omega), h1.sm e4 (by intro c k; omega), h3.sm e4 (by intro c k; omega), h4.sm e4 (by intro c k; omega), h5.sm e4 (by intro c k; omega), ⟨?_, fun i hi => g2 i hi⟩, by rw [e4.L (by omega)]; exact h7, by rw [e4.I (by omega)]; exact h8, by rw [e4.I (by omega)]; exact h9⟩, e4⟩
  · refine g1.trans ?_
    show X12_trap_204b k144 (fun _ _ _ i S => kk i S) x1 (nI c) v (nI inp.length) S1 = _
    unfold X12_trap_204b
    have hT : gI S1 167 4 = nI inp.length := by rw [g4.I (by omega), gI_pI, if_pos ⟨rfl, rfl⟩, h6, nI_pred]
    rw [hT, if_pos (nI_le (Nat.le_refl _) (by omega)), vl_e, nI_1]
  · rw [g4.I (by omega), gI_pI, if_pos ⟨rfl, rfl⟩, h6, nI_pred]
theorem m_set31 {B : Sx} (v : Int64) : X12_set (nI 31) v B = sL B 171 32 31 v (fun S1 => rt () S1) := by
  unfold X12_set X12_set_50
  rw [if_pos (by decide)]
  rfl
theorem set31 {A B : Sx} {b : Pb} {mem : Nat → Nat} {sp L : Nat} {fl gl s : Nat → Int64} {fs : List Nat} {ou inp : List Int32} {pc : Int64} {n st : Int32} (v : Int64) (hX : XMc A b mem sp L fl gl s ou inp pc n st) (hM : MMc B b mem sp L fl gl s ou inp pc n st) (hO : mcOK b mem sp L fl fs ou inp) : ∃ A' B', X6_set 31 v A = rt () A' ∧ sL B 171 32 31 v (fun S1 => rt () S1) = rt () B' ∧ OkR A B A' B' pc n st := by
  have hL : rL L 31 = L := rfl
  obtain ⟨A', e1, e2, e3⟩ := xm_rset (x := 31) v hX hO.1 (by omega) hO.2.2.1 (by rw [hL]; exact hO.2.2.2.1)
  obtain ⟨B', f1, f2, f3⟩ := mm_rset (x := 31) v hM (by omega) hO.2.2.1
  exact ⟨A', B', e1, by rw [← m_set31]; exact f1, ⟨b, mem, sp, _, _, _, fs, s, ou, inp, e2, f2, rset_OK v hO (by rw [hL]; exact hO.2.2.2.1)⟩, e3, f3.mono (by unfold mRl mSt; intro c k; omega)⟩
/-- a byte into both memories -/
theorem st1 {A B : Sx} {b : Pb} {mem : Nat → Nat} {sp L : Nat} {fl gl s : Nat → Int64} {fs : List Nat} {ou inp : List Int32} {pc : Int64} {n st : Int32} (x v : Int64) (hX : XMc A b mem sp L fl gl s ou inp pc n st) (hM : MMc B b mem sp L fl gl s ou inp pc n st) (hO : mcOK b mem sp L fl fs ou inp) (q : isA x = true) :
    ∃ A' B' b' mem', X2_set x.toInt32 1 v A = rt () A' ∧ X12_store x 1 v B = rt () B' ∧ XMc A' b' mem' sp L fl gl s ou inp pc n st ∧ MMc B' b' mem' sp L fl gl s ou inp pc n st ∧ mcOK b' mem' sp L fl fs ou inp ∧ Sm xSt A A' ∧ Sm mSt B B' := by
  obtain ⟨a, ha, rfl⟩ := isA_of q
  obtain ⟨f, b', hT⟩ := bTouch_ex b (a / 64) true hO.1
  have hb' := (bTouch_OK hO.1 (by omega) hT).1
  obtain ⟨A1, e1, e2, e3⟩ := xm_set (m := 1) v hX hO.1 ha hT (by omega)
  obtain ⟨B1, f1, f2, f3⟩ := mm_store (m := 1) v hM hO.1 (Or.inl rfl) ha (by rw [al8_1]; exact hT)
  rw [al8_1] at f2
  exact ⟨A1, B1, b', _, by rw [lN_i]; exact e1, f1, e2, f2, putB_mc v hO hb', e3, f3⟩
theorem take_end {A B : Sx} {b : Pb} {mem : Nat → Nat} {sp L c : Nat} {fl gl s : Nat → Int64} {fs : List Nat} {ou inp : List Int32} {pc ad : Int64} {n st : Int32} (hX : XMc A b mem sp L fl gl s ou inp pc n st) (hM : MMc B b mem sp L fl gl s ou inp pc n st) (hO : mcOK b mem sp L fl fs ou inp) (hr : roomM B) (hc : c ≤ 4000) : Tr A B pc n st (X5_takeLine_147 ad (lN c) A) (X12_trap_255 ad (nI c) B) := by
  unfold X5_takeLine_147 X12_trap_255
  rw [x_isA, bd_rt, nI_l (by omega)]
  by_cases q : isA (ad + lN c) = true
  · obtain ⟨A1, B1, b', mem', e1, e2, e3, e4, e5, e6, e7⟩ := st1 (ad + lN c) 0 hX hM hO q
    obtain ⟨A2, B2, f1, f2, f3, f4, f5⟩ := set31 (lN c) e3 e4 e5
    rw [q, show b1 true = 1 from rfl, x_want1, bd_rt, e1, bd_rt, f1, bd_rt, e2, bd_rt, f2]
    exact Or.inl ⟨A2, B2, rfl, rfl, f3, e6.trans f4, e7.trans f5⟩
  · have q := Bool.eq_false_iff.mpr q
    rw [q, show b1 false = 0 from rfl, x_want0 hX.1, bd_th, m_store0 hr q, bd_th]
    exact Or.inr ⟨A, B, 4, rfl, rfl, by decide, ⟨b, mem, sp, L, fl, gl, fs, s, ou, inp, hX, hM, hO⟩, Sm.rfl' A, Sm.rfl' B⟩
theorem take_loop {sp L : Nat} {fl gl s : Nat → Int64} {fs : List Nat} {ou : List Int32} {pc ad : Int64} {n st : Int32} : ∀ (inp : List Int32) (nX nM : Nat) (A B : Sx) (b : Pb) (mem : Nat → Nat) (c : Nat) (t : Bool), inp.length < nX → inp.length < nM → c + inp.length ≤ 4000 → XMc A b mem sp L fl gl s ou inp pc n st → MMc B b mem sp L fl gl s ou inp pc n st → mcOK b mem sp L fl fs ou inp → roomM B → Tr A B pc n st (X5_takeLine_52 nX ad (gl 30) (lN c) (b1 t) A) (X12_trap_144 nM ad (nI c) (b1 t) B) := by
  intro inp
  induction inp with
  | nil =>
    intro nX nM A B b mem c t h1 h2 hc hX hM hO hr
    obtain ⟨nX, rfl⟩ : ∃ j, nX = j + 1 := ⟨nX - 1, by have : 0 < nX := h1; omega⟩
    obtain ⟨nM, rfl⟩ : ∃ j, nM = j + 1 := ⟨nM - 1, by have : 0 < nM := h2; omega⟩
    have hc : c + 0 ≤ 4000 := hc
    have hend := take_end (c := c) (ad := ad) hX hM hO hr (by omega)
    show Tr A B pc n st (X5_takeLine_52b (X5_takeLine_52 nX) ad (gl 30) (lN c) (b1 t) A) (X12_trap_144b (X12_trap_144 nM) ad (nI c) (b1 t) B)
    unfold X5_takeLine_52b X12_trap_144b
    rw [x_left hX.2.2.2.2.2.1, bd_rt, hM.2.2.2.2.2.1.1, if_pos (show nI ([] : List Int32).length ≤ 0 by decide), if_pos (show nI ([] : List Int32).length ≤ 0 by decide)]
    have e1 : (if b1 t = 0 then X5_takeLine_147 ad (lN c) A else if gl 30 - 1 ≤ lN c then X5_takeLine_147 ad (lN c) A else X5_takeLine_147 ad (lN c) A) = X5_takeLine_147 ad (lN c) A := by split; rfl; split <;> rfl
    have e2 : (if b1 t = 0 then X12_trap_255 ad (nI c) B else X12_trap_255 ad (nI c) B) = X12_trap_255 ad (nI c) B := by split <;> rfl
    rw [e1, e2]
    exact hend
  | cons v inp ih =>
    intro nX nM A B b mem c t h1 h2 hc hX hM hO hr
    obtain ⟨nX, rfl⟩ : ∃ j, nX = j + 1 := ⟨nX - 1, by have : inp.length + 1 < nX := h1; omega⟩
    obtain ⟨nM, rfl⟩ : ∃ j, nM = j + 1 := ⟨nM - 1, by have : inp.length + 1 < nM := h2; omega⟩
    have hc : c + (inp.length + 1) ≤ 4000 := hc
    have h1 : inp.length + 1 < nX + 1 := h1
    have h2 : inp.length + 1 < nM + 1 := h2
    have hend := take_end (c := c) (ad := ad) hX hM hO hr (by omega)
    show Tr A B pc n st (X5_takeLine_52b (X5_takeLine_52 nX) ad (gl 30) (lN c) (b1 t) A) (X12_trap_144b (X12_trap_144 nM) ad (nI c) (b1 t) B)
    unfold X5_takeLine_52b X12_trap_144b
    have hlen : nI (v :: inp).length = nI (inp.length + 1) := rfl
    rw [x_left hX.2.2.2.2.2.1, bd_rt, hM.2.2.2.2.2.1.1, hlen, if_neg (nI_nle (by omega) (by omega)), if_neg (nI_nle (by omega) (by omega)), show (30 : Int32) = nI 30 from rfl, lL_n (by omega) (by omega), hM.2.2.1.2.2.2.2 30 (by omega) (by omega), nI_l (by omega)]
    cases t with
    | false =>
      rw [if_pos (show b1 false = 0 by rfl), if_pos (show b1 false = 0 by rfl)]
      exact hend
    | true =>
      rw [if_neg (show ¬ b1 true = 0 by decide), if_neg (show ¬ b1 true = 0 by decide)]
      by_cases hlim : gl 30 - 1 ≤ lN c
      · rw [if_pos hlim, if_pos hlim]
        exact hend
      · rw [if_neg hlim, if_neg hlim, ← nI_0, lI_n (by omega) (by omega), vl_e, x_isA, bd_rt]
        obtain ⟨m1, -⟩ := mm_take (c := c) (x1 := ad) (k144 := X12_trap_144 nM) hM (by omega)
        rw [m1]
        by_cases q : isA (ad + lN c) = true
        · obtain ⟨t1, t2, t3⟩ := xm_take hX hO.1
          have hO' : mcOK b mem sp L fl fs ou inp := ⟨hO.1, hO.2.1, hO.2.2.1, hO.2.2.2.1, hO.2.2.2.2.1, hO.2.2.2.2.2.1, by omega⟩
          obtain ⟨a, ha, hae⟩ := isA_of q
          obtain ⟨f, b', hT⟩ := bTouch_ex b (a / 64) true hO.1
          have hb' := (bTouch_OK hO.1 (by omega) hT).1
          obtain ⟨A1, e1, e2, e3⟩ := xm_set (m := 1) v.toInt64 t2 hO.1 ha hT (by omega)
          obtain ⟨B1, f1, f2, f3⟩ := mm_store (m := 1) v.toInt64 hM hO.1 (Or.inl rfl) ha (by rw [al8_1]; exact hT)
          rw [al8_1] at f2
          obtain ⟨-, B2, g1, g2, g3⟩ := mm_take (c := c) (x1 := ad) (k144 := X12_trap_144 nM) f2 (by omega)
          replace e1 : X2_set (nI a) 1 v.toInt64 (pI A 138 11 (gI A 138 11 + 1)) = rt () A1 := e1
          replace f1 : X12_store (lN a) 1 v.toInt64 B = rt () B1 := f1
          rw [q, show b1 true = 1 from rfl, x_want1, bd_rt, t1, bd_rt, vl_e, pt_e, hae, lN_i, e1, bd_rt, vl_e, lN_1, f1, bd_rt, pt_e, nI_0, g1]
          have hr2 : roomM B2 := (hr.sm f3).sm g3
          have hs2 : Sm mSt B B2 := f3.trans (g3.mono (by unfold mSt; intro c k; omega))
          by_cases hv : v = 10
          · rw [if_pos hv, if_pos hv]
            exact Tr.pre (ih nX nM A1 B2 b' _ (c + 1) false (by omega) (by omega) (by omega) e2 g2 (putB_mc _ hO' hb') hr2) (t3.trans e3) hs2
          · rw [if_neg hv, if_neg hv]
            exact Tr.pre (ih nX nM A1 B2 b' _ (c + 1) true (by omega) (by omega) (by omega) e2 g2 (putB_mc _ hO' hb') hr2) (t3.trans e3) hs2
        · have q := Bool.eq_false_iff.mpr q
          rw [q, show b1 false = 0 from rfl, x_want0 hX.1, bd_th, m_store0 hr q, bd_th]
          exact Or.inr ⟨A, B, 4, rfl, rfl, by decide, ⟨b, mem, sp, L, fl, gl, fs, s, ou, v :: inp, hX, hM, hO⟩, Sm.rfl' A, Sm.rfl' B⟩
