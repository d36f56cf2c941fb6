set_option maxRecDepth 100000
/-! ===== one register is set, and it goes on ===== -/
/-- both set register x to v, and go on at q -/
theorem st_set {A B : Sx} {b : Pb} {mem : Nat → Nat} {sp L op x : Nat} {fl gl s : Nat → Int64} {fs : List Nat} {ou inp : List Int32} {pc : Int64} {n : Int32} (v q : Int64) (hX : XMc A b mem sp L fl gl s ou inp pc n 0) (hM : MMc B b mem sp L fl gl s ou inp pc n 0) (hO : mcOK b mem sp L fl fs ou inp) (hop : 0 < op ∧ op < 256) (hx : x < 32) (hs : sp + rL L x ≤ 600) : StR A B n (bd (X6_set (nI x) v A) (fun _ S1 => X5_step_256 q S1)) (bd (X12_set (nI x) v B) (fun _ S2 => X12_step_395 (nI op) q S2)) := by
  obtain ⟨A1, g1, g2, g3⟩ := xm_rset (x := x) v hX hO.1 hx hO.2.2.1 hs
  obtain ⟨B1, k1, k2, k3⟩ := mm_rset (x := x) v hM hx hO.2.2.1
  rw [g1, bd_rt, k1, bd_rt]
  exact st_end q ⟨⟨b, mem, sp, rL L x, _, _, fs, s, ou, inp, g2, k2, rset_OK v hO hs⟩, g3, k3.mono (by unfold mRl mSt; intro c k; omega)⟩ hop.2 (Or.inl (by omega))
theorem bd_bd {α β γ : Type} (r : Rs α) (f : α → Sx → Rs β) (g : β → Sx → Rs γ) : bd (bd r f) g = bd r (fun v S => bd (f v S) g) := by
  cases r with
  | none => rfl
  | some p =>
    obtain ⟨p, S⟩ := p
    cases p <;> rfl
theorem st_50 {A B : Sx} {b : Pb} {mem : Nat → Nat} {sp L op x y z : Nat} {fl gl s : Nat → Int64} {fs : List Nat} {ou inp : List Int32} {pc nx at' : Int64} {n : Int32} (hX : XMc A b mem sp L fl gl s ou inp pc n 0) (hM : MMc B b mem sp L fl gl s ou inp pc n 0) (hO : mcOK b mem sp L fl fs ou inp) (hop : 50 ≤ op ∧ op < 54) (hx : x < 32) (hy : y < 32) (hz : op % 2 = 0 → z < 32) (hz2 : z < 256) (hs : sp + rL L x ≤ 600) (h32 : gI B 167 32 = nI z) (h31 : gI B 167 31 = nI y) (h30 : gI B 167 30 = nI x) (hnx : at' + 4 = nx) (w : Int32) :
    StR A B n (X5_step_125 at' w (nI op) (nI x) (nI y) (nI z) nx A) (bd (X12_get (gI B 167 31) B) (fun v2 S1 => if (nI op - nI op / 2 * 2) = 0 then bd (X12_get (gI S1 167 32) S1) (fun v3 S2 => X12_step_375 (nI op) nx v3 v2 (nI op / 2 * 2) S2) else X12_step_375 (nI op) nx ((gI S1 167 32).toInt64) v2 (nI op / 2 * 2) S1)) := by
  rw [h31, m_rget hM.2.2.1 hy hO.2.2.1, bd_rt]
  rw [m_y hM.2.2.1 (by omega) hz hz2 hO.2.2.1 h32 (fun v3 S2 => X12_step_375 (nI op) nx v3 (rGet sp L fl gl y) (nI op / 2 * 2) S2)]
  unfold X12_step_375 X5_step_125
  rw [even_e (by omega), x_T (by omega), bd_rt, show opT op = true from decide_eq_true (by omega), if_neg (show ¬ b1 true = 0 by decide)]
  by_cases q : op < 52
  · have hk : op / 2 * 2 = 50 := by omega
    obtain ⟨A1, e1, e2, e3⟩ := xm_reckon (op := op) (k := 50) (rGet sp L fl gl y) (rz sp L fl gl op z) hX hO.1 (by omega) hk (Or.inr rfl)
    have hv : rkV 50 (rGet sp L fl gl y) (rz sp L fl gl op z) s = rGet sp L fl gl y + rz sp L fl gl op z := rfl
    have hss : rkS 50 (rGet sp L fl gl y) (rz sp L fl gl op z) s = s := rfl
    rw [hv] at e1
    rw [hss] at e2
    rw [if_pos (lit_lt q (by omega)), hk]
    have hxx : X5_step_160 at' (nI op) (nI x) (nI y) (nI z) nx A = bd (X6_set (nI x) (rGet sp L fl gl y + rz sp L fl gl op z) A1) (fun _ S1 => X5_step_256 nx S1) := by
      unfold X5_step_160 X5_step_213 X5_step_224
      rw [if_pos (lit_lt q (by omega)), if_neg (show ¬ nI op = 32 from fun e => by have := (nI_eq (a := op) (b := 32) (by omega) (by omega)).mp e; omega), if_neg (show ¬ nI op = 33 from fun e => by have := (nI_eq (a := op) (b := 33) (by omega) (by omega)).mp e; omega), x_rget hX.2.2.1 hy hO.2.2.1 hO.2.2.2.1, bd_rt, x_right hX.2.2.1 (by omega) hz hz2 hO.2.2.1 hO.2.2.2.1, bd_rt, e1, bd_rt]
    have hmm : X12_moved (nI 50) (rGet sp L fl gl y + rz sp L fl gl op z) nx B = bd (X12_set (nI x) (rGet sp L fl gl y + rz sp L fl gl op z) B) (fun _ S1 => rt nx S1) := by
      unfold X12_moved
      rw [if_neg (by decide), if_neg (by decide), if_neg (by decide), if_neg (by decide), if_neg (by decide), if_neg (by decide), if_neg (by decide), if_pos (by decide), h30]
    rw [hxx, hmm, bd_bd]
    exact StR.pre (st_set _ nx e2 hM hO (by omega) hx hs) e3 (Sm.rfl' B)
  · have hk : op / 2 * 2 = 52 := by omega
    rw [if_neg (lit_gt (N := 52) (by omega) (by omega)), hk, x_rget hX.2.2.1 hy hO.2.2.1 hO.2.2.2.1, bd_rt, x_right hX.2.2.1 (by omega) hz hz2 hO.2.2.1 hO.2.2.2.1, bd_rt, vl_e]
    have hxx : X5_step_160 at' (nI op) (nI x) (nI y) (nI z) (rGet sp L fl gl y + rz sp L fl gl op z) A = bd (X6_set (nI x) nx A) (fun _ S1 => X5_step_256 (rGet sp L fl gl y + rz sp L fl gl op z) S1) := by
      unfold X5_step_160 X5_step_224
      rw [if_neg (lit_gt (N := 52) (by omega) (by omega)), hnx]
    have hmm : X12_moved (nI 52) (rGet sp L fl gl y + rz sp L fl gl op z) nx B = bd (X12_set (nI x) nx B) (fun _ S1 => rt (rGet sp L fl gl y + rz sp L fl gl op z) S1) := by
      unfold X12_moved
      rw [if_neg (by decide), if_neg (by decide), if_neg (by decide), if_neg (by decide), if_neg (by decide), if_neg (by decide), if_neg (by decide), if_neg (by decide), h30]
    rw [hxx, hmm, bd_bd]
    exact st_set _ _ hX hM hO (by omega) hx hs
