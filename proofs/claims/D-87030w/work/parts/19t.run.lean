set_option maxRecDepth 100000
/-! ===== new cells ===== -/
/-- cells may come; of the old ones nothing but the places P has changed -/
def Sg (P : Nat → Nat → Prop) (S S' : Sx) : Prop := gn S ≤ gn S' ∧ ∀ c, c < gn S → gK S' c = gK S c ∧ gN S' c = gN S c ∧ ∀ k, ¬ P c k → gI S' c k = gI S c k ∧ gL S' c k = gL S c k ∧ gR S' c k = gR S c k
theorem Sg.rfl' {P : Nat → Nat → Prop} (S : Sx) : Sg P S S := ⟨Nat.le_refl _, fun _ _ => ⟨rfl, rfl, fun _ _ => ⟨rfl, rfl, rfl⟩⟩⟩
theorem Sm.sg {P : Nat → Nat → Prop} {S S' : Sx} (h : Sm P S S') : Sg P S S' := ⟨Nat.le_of_eq h.1.symm, fun c _ => ⟨h.2.2.1 c, h.2.2.2.1 c, fun k q => h.2.2.2.2 c k q⟩⟩
theorem Sg.trans {P : Nat → Nat → Prop} {S S' S'' : Sx} (h : Sg P S S') (h' : Sg P S' S'') : Sg P S S'' := by
  obtain ⟨a1, a2⟩ := h
  obtain ⟨b1, b2⟩ := h'
  refine ⟨Nat.le_trans a1 b1, fun c hc => ?_⟩
  obtain ⟨x1, x2, x3⟩ := a2 c hc
  obtain ⟨y1, y2, y3⟩ := b2 c (by omega)
  refine ⟨y1.trans x1, y2.trans x2, fun k q => ?_⟩
  obtain ⟨u1, u2, u3⟩ := x3 k q
  obtain ⟨v1, v2, v3⟩ := y3 k q
  exact ⟨v1.trans u1, v2.trans u2, v3.trans u3⟩
theorem Sg.mono {P P' : Nat → Nat → Prop} {S S' : Sx} (h : Sg P S S') (hp : ∀ c k, P c k → P' c k) : Sg P' S S' := ⟨h.1, fun c hc => ⟨(h.2 c hc).1, (h.2 c hc).2.1, fun k q => (h.2 c hc).2.2 k (fun x => q (hp c k x))⟩⟩
theorem Sg.K {P : Nat → Nat → Prop} {S S' : Sx} (h : Sg P S S') {c : Nat} (hc : c < gn S) : gK S' c = gK S c := (h.2 c hc).1
theorem Sg.N {P : Nat → Nat → Prop} {S S' : Sx} (h : Sg P S S') {c : Nat} (hc : c < gn S) : gN S' c = gN S c := (h.2 c hc).2.1
theorem Sg.I {P : Nat → Nat → Prop} {S S' : Sx} (h : Sg P S S') {c k : Nat} (hc : c < gn S) (q : ¬ P c k) : gI S' c k = gI S c k := ((h.2 c hc).2.2 k q).1
theorem Sg.L {P : Nat → Nat → Prop} {S S' : Sx} (h : Sg P S S') {c k : Nat} (hc : c < gn S) (q : ¬ P c k) : gL S' c k = gL S c k := ((h.2 c hc).2.2 k q).2.1
theorem Sg.R {P : Nat → Nat → Prop} {S S' : Sx} (h : Sg P S S') {c k : Nat} (hc : c < gn S) (q : ¬ P c k) : gR S' c k = gR S c k := ((h.2 c hc).2.2 k q).2.2
theorem Sg.nw {P : Nat → Nat → Prop} {S : Sx} {K N u : Nat} : Sg P S (nw S K N u) := by
  refine ⟨Nat.le_succ _, fun c hc => ?_⟩
  have h : ¬ c = gn S := by omega
  exact ⟨by rw [gK_nw, if_neg h], by rw [gN_nw, if_neg h], fun k _ => ⟨by rw [gI_nw, if_neg h], by rw [gL_nw, if_neg h], by rw [gR_nw, if_neg h]⟩⟩
/-- in a new cell anything may change -/
theorem Sg.new {P : Nat → Nat → Prop} {S S' : Sx} (hn : gn S ≤ gn S') (hK : ∀ c, ¬ c = gn S → gK S' c = gK S c) (hN : ∀ c, ¬ c = gn S → gN S' c = gN S c) (hI : ∀ c k, ¬ c = gn S → gI S' c k = gI S c k) (hL : ∀ c k, ¬ c = gn S → gL S' c k = gL S c k) (hR : ∀ c k, ¬ c = gn S → gR S' c k = gR S c k) : Sg P S S' :=
  ⟨hn, fun c hc => ⟨hK c (by omega), hN c (by omega), fun k _ => ⟨hI c k (by omega), hL c k (by omega), hR c k (by omega)⟩⟩⟩
theorem mE_sg {P : Nat → Nat → Prop} (S : Sx) (c : Int32) : Sg P S (mE S c) := by
  unfold mE
  refine Sg.new ?_ (fun x h => ?_) (fun x h => ?_) (fun x k h => ?_) (fun x k h => ?_) (fun x k h => ?_)
  · exact Nat.le_succ _
  · rw [gK_pI, gK_xs, if_neg h, gK_nw, if_neg h]
  · rw [gN_pI, gN_xs, gN_nw, if_neg h]
  · rw [gI_pI, if_neg (fun e => h e.1), gI_xs, if_neg h, gI_nw, if_neg h]
  · rw [gL_pI, gL_xs, gL_nw, if_neg h]
  · rw [gR_pI, gR_xs, gR_nw, if_neg h]
theorem mE_gn (S : Sx) (c : Int32) : gn (mE S c) = gn S + 1 := rfl
theorem mE_gu (S : Sx) (c : Int32) : gu (mE S c) = gu S + 7 := rfl
theorem mE_K (S : Sx) (c : Int32) : gK (mE S c) (gn S) = 20 := by unfold mE; rw [gK_pI, gK_xs, if_pos rfl]
theorem mE_6 (S : Sx) (c : Int32) : gI (mE S c) (gn S) 6 = c := by unfold mE; rw [gI_pI, if_pos ⟨rfl, rfl⟩]
/-- M's machine lies in the cells below 188 -/
theorem MMc.eo {B B' : Sx} {b : Pb} {mem : Nat → Nat} {sp L : Nat} {fl gl s : Nat → Int64} {ou inp : List Int32} {pc : Int64} {n st : Int32} (h : MMc B b mem sp L fl gl s ou inp pc n st) (hI : ∀ c k, c < 188 → gI B' c k = gI B c k) (hL : ∀ c k, c < 188 → gL B' c k = gL B c k) : MMc B' b mem sp L fl gl s ou inp pc n st := by
  have e4 : Sm (fun c _ => 188 ≤ c) B (B.1, B.2.1, B.2.2.1, B.2.2.2.1, B'.2.2.2.2.1, B'.2.2.2.2.2.1, B.2.2.2.2.2.2) := ⟨rfl, rfl, fun _ => rfl, fun _ => rfl, fun c k q => ⟨hI c k (by omega), hL c k (by omega), rfl⟩⟩
  obtain ⟨h2, h1, h3, h4, h5, h6, h7, h8, h9⟩ := h
  have : MMc (B.1, B.2.1, B.2.2.1, B.2.2.2.1, B'.2.2.2.2.1, B'.2.2.2.2.2.1, B.2.2.2.2.2.2) b mem sp L fl gl s ou inp pc n st := ⟨MP_back h2 e4 (by intro c k; omega), h1.sm e4 (by intro c k; omega), h3.sm e4 (by intro c k; omega), h4.sm e4 (by intro c k; omega), h5.sm e4 (by intro c k; omega), h6.sm e4 (by intro c k; omega), by rw [e4.L (by omega)]; exact h7, by rw [e4.I (by omega)]; exact h8, by rw [e4.I (by omega)]; exact h9⟩
  exact this
theorem mm_E {B : Sx} {b : Pb} {mem : Nat → Nat} {sp L : Nat} {fl gl s : Nat → Int64} {ou inp : List Int32} {pc : Int64} {n st : Int32} (c : Int32) (h : MMc B b mem sp L fl gl s ou inp pc n st) (hg : 188 ≤ gn B) : MMc (mE B c) b mem sp L fl gl s ou inp pc n st :=
  h.eo (fun x k hx => (mE_sg (P := fun _ _ => False) B c).I (by omega) id) (fun x k hx => (mE_sg (P := fun _ _ => False) B c).L (by omega) id)
theorem xm_st {A : Sx} {b : Pb} {mem : Nat → Nat} {sp L : Nat} {fl gl s : Nat → Int64} {ou inp : List Int32} {pc : Int64} {n st : Int32} (q : Int32) (h : XMc A b mem sp L fl gl s ou inp pc n st) (hb : bOK b) : XMc (pI A 138 7 q) b mem sp L fl gl s ou inp pc n q ∧ Sm xSt A (pI A 138 7 q) := by
  obtain ⟨h1, h2, h3, h4, h5, h6, h7, h8, h9⟩ := h
  have e3 : Sm (fun c k => c = 138 ∧ k = 7) A (pI A 138 7 q) := Sm.pI (by omega)
  exact ⟨⟨by rw [e3.K]; exact h1, h2.sm hb e3 (by intro c k; omega), h3.sm e3 (by intro c k; omega), h4.sm e3 (by intro c k; omega), h5.sm e3 (by intro c k; omega), h6.sm e3 (by intro c k; omega), by rw [e3.L (by omega)]; exact h7, by rw [e3.I (by omega)]; exact h8, by rw [gI_pI, if_pos ⟨rfl, rfl⟩]⟩, e3.mono (by unfold xSt; intro c k; omega)⟩
/-- X's stop is no part of the machine -/
theorem xm_F {A : Sx} {b : Pb} {mem : Nat → Nat} {sp L : Nat} {fl gl s : Nat → Int64} {ou inp : List Int32} {pc : Int64} {n st : Int32} (c p : Int32) (h : XMc A b mem sp L fl gl s ou inp pc n st) (hb : bOK b) : XMc (xF A c p) b mem sp L fl gl s ou inp pc n st ∧ Sm xSt A (xF A c p) := by
  obtain ⟨h1, h2, h3, h4, h5, h6, h7, h8, h9⟩ := h
  have e3 : Sm (fun c _ => c = 1) A (xF A c p) := (Sm.pI (P := fun c _ => c = 1) rfl).trans (Sm.pI (P := fun c _ => c = 1) rfl)
  exact ⟨⟨by rw [e3.K]; exact h1, h2.sm hb e3 (by intro c k; omega), h3.sm e3 (by intro c k; omega), h4.sm e3 (by intro c k; omega), h5.sm e3 (by intro c k; omega), h6.sm e3 (by intro c k; omega), by rw [e3.L (by omega)]; exact h7, by rw [e3.I (by omega)]; exact h8, by rw [e3.I (by omega)]; exact h9⟩, e3.mono (by unfold xSt; intro c k; omega)⟩
theorem xF_6 (A : Sx) (c p : Int32) : gI (xF A c p) 1 6 = c := by unfold xF; rw [gI_pI, if_neg (by omega), gI_pI, if_pos ⟨rfl, rfl⟩]
theorem xF_7 (A : Sx) (c p : Int32) : gI (xF A c p) 1 7 = p := by unfold xF; rw [gI_pI, if_pos ⟨rfl, rfl⟩]
/-! ===== a run ===== -/
def RunR (A B : Sx) (r r' : Rs Int32) : Prop := ∃ A' B' pc n st, r = rt st A' ∧ r' = rt st B' ∧ RMp A' B' pc n st ∧ Sm xSt A A' ∧ Sg mS2 B B' ∧ gn B' ≤ gn B + 1 ∧ gu B ≤ gu B' ∧ gu B' ≤ gu B + 8
theorem RMp.st0 {A B : Sx} {pc : Int64} {n st : Int32} (h : RMp A B pc n st) : gI A 138 7 = st ∧ gI B 167 13 = st := by
  obtain ⟨b, mem, sp, L, fl, gl, fs, s, ou, inp, hX, hM, hO⟩ := h
  exact ⟨hX.2.2.2.2.2.2.2.2, hM.2.2.2.2.2.2.2.2⟩
theorem run_stop {A B : Sx} {pc : Int64} {n st : Int32} {nX nM m i : Nat} (h : RMp A B pc n st) (hs : ¬ st = 0) : X5_run_2 (nX + 1) (nI m) (nI i) A = rt st A ∧ X12_run_22 (nM + 1) (nI m) (nI i) B = rt st B := by
  obtain ⟨e1, e2⟩ := h.st0
  constructor
  · show X5_run_2b (X5_run_2 nX) (nI m) (nI i) A = _
    unfold X5_run_2b
    rw [e1, if_neg hs]
    split <;> rfl
  · show X12_run_22b (X12_run_22 nM) (nI m) (nI i) B = _
    unfold X12_run_22b
    rw [e2, if_neg hs]
    split <;> rfl
theorem run_loop {m : Nat} (hm : m ≤ 20000) : ∀ (d nX nM i : Nat) (A B : Sx) (pc : Int64) (n st : Int32), i + d = m → d < nX → d < nM → RMp A B pc n st → roomM B → 188 ≤ gn B → RunR A B (X5_run_2 nX (nI m) (nI i) A) (X12_run_22 nM (nI m) (nI i) B) := by
  intro d
  induction d with
  | zero =>
    intro nX nM i A B pc n st hi hnX hnM h hr hg
    obtain ⟨nX, rfl⟩ : ∃ j, nX = j + 1 := ⟨nX - 1, by omega⟩
    obtain ⟨nM, rfl⟩ : ∃ j, nM = j + 1 := ⟨nM - 1, by omega⟩
    obtain ⟨e1, e2⟩ := h.st0
    refine ⟨A, B, pc, n, st, ?_, ?_, h, Sm.rfl' A, Sg.rfl' B, by omega, by omega, by omega⟩
    · show X5_run_2b (X5_run_2 nX) (nI m) (nI i) A = _
      unfold X5_run_2b
      rw [if_pos (nI_le (by omega) (by omega)), e1]
    · show X12_run_22b (X12_run_22 nM) (nI m) (nI i) B = _
      unfold X12_run_22b
      rw [if_pos (nI_le (by omega) (by omega)), e2]
  | succ d ih =>
    intro nX nM i A B pc n st hi hnX hnM h hr hg
    obtain ⟨nX, rfl⟩ : ∃ j, nX = j + 1 := ⟨nX - 1, by omega⟩
    obtain ⟨nM, rfl⟩ : ∃ j, nM = j + 1 := ⟨nM - 1, by omega⟩
    obtain ⟨e1, e2⟩ := h.st0
    by_cases hs : st = 0
    · subst hs
      have hX : X5_run_2 (nX + 1) (nI m) (nI i) A = ct (X5_step A) (fun _ S1 => vl (nI i + 1) (fun v2 => X5_run_2 nX (nI m) v2 S1)) (fun c1 S1 => kd S1 (1 + 6) c1 (X5_run_27 c1 S1)) := by
        show X5_run_2b (X5_run_2 nX) (nI m) (nI i) A = _
        unfold X5_run_2b
        rw [if_neg (nI_ge (by omega) (by omega)), e1, if_pos rfl]
      have hM : X12_run_22 (nM + 1) (nI m) (nI i) B = ct (X12_step B) (fun _ S1 => pt (pI S1 167 14 ((gI S1 167 14) + 1)) (fun S2 => vl (nI i + 1) (fun v2 => X12_run_22 nM (nI m) v2 S2))) (fun c1 S1 => kd S1 (14 + 6) c1 (X12_run_51 (X12_run_22 nM) (nI m) (nI i) c1 S1)) := by
        show X12_run_22b (X12_run_22 nM) (nI m) (nI i) B = _
        unfold X12_run_22b
        rw [if_neg (nI_ge (by omega) (by omega)), e2, if_pos rfl]
      have hM51 : ∀ B1 c, 188 ≤ gn B1 → X12_run_51 (X12_run_22 nM) (nI m) (nI i) (gn B1) (mE B1 c) = X12_run_22 nM (nI m) (nI (i + 1)) (pI (mE B1 c) 167 13 c) := by
        intro B1 c hB
        unfold X12_run_51
        rw [kd_e (mE_K B1 c), pt_e, vl_e, nI_1, mE_6]
      rcases step_pair h hr with ⟨A', B', pc', a1, a2, a3, a4, a5⟩ | ⟨A', B', pc', a1, a2, a3, a4, a5⟩ | ⟨A', B', pc', c, a1, a2, a0, a3, a4, a5⟩
      · obtain ⟨b, mem, sp, L, fl, gl, fs, s, ou, inp, hX', hM', hO⟩ := a3
        obtain ⟨f1, f2⟩ := mm_n (n + 1) hM'
        have hs2 : Sm mS2 B (pI B' 167 14 (n + 1)) := a5.trans (mSt_S2 f2)
        obtain ⟨A2, B2, pc2, n2, st2, g1, g2, g3, g4, g5, g6, g7, g8⟩ := ih nX nM (i + 1) A' (pI B' 167 14 (n + 1)) pc' (n + 1) 0 (by omega) (by omega) (by omega) ⟨b, mem, sp, L, fl, gl, fs, s, ou, inp, hX', f1, hO⟩ (hr.sm hs2) (by rw [hs2.1]; exact hg)
        refine ⟨A2, B2, pc2, n2, st2, ?_, ?_, g3, a4.trans g4, hs2.sg.trans g5, ?_, ?_, ?_⟩
        · rw [hX, a1, ct_rt, vl_e, nI_1]; exact g1
        · rw [hM, a2, ct_rt, pt_e, vl_e, nI_1, hM'.2.2.2.2.2.2.2.1]; exact g2
        · rw [hs2.1] at g6; exact g6
        · rw [hs2.2.1] at g7; exact g7
        · rw [hs2.2.1] at g8; exact g8
      · obtain ⟨b, mem, sp, L, fl, gl, fs, s, ou, inp, hX', hM', hO⟩ := a3
        have hgB : 188 ≤ gn B' := by rw [a5.1]; exact hg
        obtain ⟨f1, f2⟩ := mm_st 1 (mm_E 1 hM' hgB)
        have hR : RMp A' (pI (mE B' 1) 167 13 1) pc' (n + 1) 1 := ⟨b, mem, sp, L, fl, gl, fs, s, ou, inp, hX', f1, hO⟩
        obtain ⟨nX', rfl⟩ : ∃ j, nX = j + 1 := ⟨nX - 1, by omega⟩
        obtain ⟨nM', rfl⟩ : ∃ j, nM = j + 1 := ⟨nM - 1, by omega⟩
        obtain ⟨k1, k2⟩ := run_stop (nX := nX') (nM := nM') (m := m) (i := i + 1) hR (by decide)
        refine ⟨A', _, pc', n + 1, 1, ?_, ?_, hR, a4, (a5.sg.trans (mE_sg B' 1)).trans (mSt_S2 f2).sg, ?_, ?_, ?_⟩
        · rw [hX, a1, ct_rt, vl_e, nI_1]; exact k1
        · rw [hM, a2, ct_th, kd_e (mE_K B' 1), hM51 B' 1 hgB]; exact k2
        · rw [gn_pI, mE_gn, a5.1]; omega
        · rw [gu_pI, mE_gu, a5.2.1]; omega
        · rw [gu_pI, mE_gu, a5.2.1]; omega
      · obtain ⟨b, mem, sp, L, fl, gl, fs, s, ou, inp, hX', hM', hO⟩ := a3
        have hgB : 188 ≤ gn B' := by rw [a5.1]; exact hg
        obtain ⟨f1, f2⟩ := mm_st c (mm_E c hM' hgB)
        obtain ⟨x1, x2⟩ := xm_F c 0 hX' hO.1
        obtain ⟨x3, x4⟩ := xm_st c x1 hO.1
        have hR : RMp (pI (xF A' c 0) 138 7 c) (pI (mE B' c) 167 13 c) pc' n c := ⟨b, mem, sp, L, fl, gl, fs, s, ou, inp, x3, f1, hO⟩
        obtain ⟨nM', rfl⟩ : ∃ j, nM = j + 1 := ⟨nM - 1, by omega⟩
        obtain ⟨_, k2⟩ := run_stop (nX := 0) (nM := nM') (m := m) (i := i + 1) hR a0
        refine ⟨_, _, pc', n, c, ?_, ?_, hR, (a4.trans x2).trans x4, (a5.sg.trans (mE_sg B' c)).trans (mSt_S2 f2).sg, ?_, ?_, ?_⟩
        · rw [hX, a1, ct_th, kd_e (show gK (xF A' c 0) 1 = 1 + 6 from x1.1)]
          unfold X5_run_27
          rw [kd_e (show gK (xF A' c 0) 1 = 1 + 6 from x1.1), pt_e, xF_6, gI_pI, if_pos ⟨rfl, rfl⟩]
        · rw [hM, a2, ct_th, kd_e (mE_K B' c), hM51 B' c hgB]; exact k2
        · rw [gn_pI, mE_gn, a5.1]; omega
        · rw [gu_pI, mE_gu, a5.2.1]; omega
        · rw [gu_pI, mE_gu, a5.2.1]; omega
    · obtain ⟨k1, k2⟩ := run_stop (nX := nX) (nM := nM) (m := m) (i := i) h hs
      exact ⟨A, B, pc, n, st, k1, k2, h, Sm.rfl' A, Sg.rfl' B, by omega, by omega, by omega⟩
