set_option maxRecDepth 100000
/-! ===== the whole relation ===== -/
def E0 : Sx := (0, 0, fun _ => 0, fun _ => 0, fun _ _ => 0, fun _ _ => 0, fun _ _ => none)
def adopt (S S' : Sx) : Sx := (S'.1, S'.2.1, S.2.2)
theorem adopt_e {S S' : Sx} (h1 : gn S' = gn S) (h2 : gu S' = gu S) : adopt S S' = S := by
  unfold adopt
  have e1 : S'.1 = S.1 := h1
  have e2 : S'.2.1 = S.2.1 := h2
  rw [e1, e2]
/-- the machine of both -/
abbrev Ma : Type := Pb × (Nat → Nat) × Nat × Nat × (Nat → Int64) × (Nat → Int64) × (Nat → Int64) × List Int32 × List Int32 × Int64 × Int32 × Int32
def mMem (m : Ma) : Nat → Nat := m.2.1
def mInp (m : Ma) : List Int32 := m.2.2.2.2.2.2.2.2.1
def XMa (A : Sx) (m : Ma) : Prop := XMc A m.1 m.2.1 m.2.2.1 m.2.2.2.1 m.2.2.2.2.1 m.2.2.2.2.2.1 m.2.2.2.2.2.2.1 m.2.2.2.2.2.2.2.1 m.2.2.2.2.2.2.2.2.1 m.2.2.2.2.2.2.2.2.2.1 m.2.2.2.2.2.2.2.2.2.2.1 m.2.2.2.2.2.2.2.2.2.2.2
def MMa (B : Sx) (m : Ma) : Prop := MMc B m.1 m.2.1 m.2.2.1 m.2.2.2.1 m.2.2.2.2.1 m.2.2.2.2.2.1 m.2.2.2.2.2.2.1 m.2.2.2.2.2.2.2.1 m.2.2.2.2.2.2.2.2.1 m.2.2.2.2.2.2.2.2.2.1 m.2.2.2.2.2.2.2.2.2.2.1 m.2.2.2.2.2.2.2.2.2.2.2
def OKa (m : Ma) : Prop := ∃ fs, mcOK m.1 m.2.1 m.2.2.1 m.2.2.2.1 m.2.2.2.2.1 fs m.2.2.2.2.2.2.2.1 m.2.2.2.2.2.2.2.2.1
theorem RMp_ma {A B : Sx} {pc : Int64} {n st : Int32} (h : RMp A B pc n st) : ∃ m, XMa A m ∧ MMa B m ∧ OKa m := by
  obtain ⟨b, mem, sp, L, fl, gl, fs, s, ou, inp, hX, hM, hO⟩ := h
  exact ⟨(b, mem, sp, L, fl, gl, s, ou, inp, pc, n, st), hX, hM, fs, hO⟩
theorem ma_RMp {A B : Sx} {m : Ma} (hX : XMa A m) (hM : MMa B m) (hO : OKa m) : RMp A B m.2.2.2.2.2.2.2.2.2.1 m.2.2.2.2.2.2.2.2.2.2.1 m.2.2.2.2.2.2.2.2.2.2.2 := by
  obtain ⟨fs, hO⟩ := hO
  exact ⟨m.1, m.2.1, m.2.2.1, m.2.2.2.1, m.2.2.2.2.1, m.2.2.2.2.2.1, fs, m.2.2.2.2.2.2.1, m.2.2.2.2.2.2.2.1, m.2.2.2.2.2.2.2.2.1, hX, hM, hO⟩
/-- X's machine lies in the cells below 146; and the input -/
theorem XF.eo {S S' : Sx} (h : XF S) (hK : ∀ c, c < 138 → gK S' c = gK S c ∧ gN S' c = gN S c) (hR : ∀ c k, c < 138 → gR S' c k = gR S c k) : XF S' := by
  obtain ⟨h1, h2, h3⟩ := h
  refine ⟨by rw [(hK 4 (by omega)).1]; exact h1, by rw [(hK 4 (by omega)).2]; exact h2, fun f hf => ?_⟩
  rw [hR _ _ (by omega), hR _ _ (by omega), (hK _ (by omega)).1, (hK _ (by omega)).1, (hK _ (by omega)).2]
  exact h3 f hf
theorem XMa.eo {A A' : Sx} {m : Ma} (h : XMa A m) (hO : OKa m) (hK : ∀ c, c < 146 → gK A' c = gK A c ∧ gN A' c = gN A c) (hE : ∀ c k, c < 146 → gI A' c k = gI A c k ∧ gL A' c k = gL A c k ∧ gR A' c k = gR A c k) (hN : XN A' (mInp m)) : XMa A' m := by
  obtain ⟨fs, hb, -⟩ := hO
  have e4 : Sm (fun c _ => 146 ≤ c) A (A.1, A.2.1, A.2.2.1, A.2.2.2.1, A'.2.2.2.2.1, A'.2.2.2.2.2.1, A'.2.2.2.2.2.2) := ⟨rfl, rfl, fun _ => rfl, fun _ => rfl, fun c k q => hE c k (by omega)⟩
  obtain ⟨h1, h2, h3, h4, h5, h6, h7, h8, h9⟩ := h
  have p := h2.sm hb e4 (by intro c k; omega)
  have q3 := h3.sm e4 (by intro c k; omega)
  have q4 := h4.sm e4 (by intro c k; omega)
  have q5 := h5.sm e4 (by intro c k; omega)
  obtain ⟨p1, p2, p3, p4⟩ := p
  exact ⟨by rw [(hK 1 (by omega)).1]; exact h1, ⟨XF.eo h2.1 (fun c hc => hK c (by omega)) (fun c k hc => (hE c k (by omega)).2.2), p2, p3, p4⟩, q3, q4, q5, hN, by rw [(hE _ _ (by omega)).2.1]; exact h7, by rw [(hE _ _ (by omega)).1]; exact h8, by rw [(hE _ _ (by omega)).1]; exact h9⟩
/-! the rest of X -/
def XQ (A : Sx) (U V : Nat) (m : Ma) (f6 f7 f8 : Int32) : Prop := XMa A m ∧ (gI A 0 6 = f6 ∧ gI A 0 7 = f7 ∧ gI A 0 8 = f8) ∧ (∀ c, isI c → gK A c = 14) ∧ XG A U V
theorem XQ.sg {P : Nat → Nat → Prop} {A A' : Sx} {U V U' V' : Nat} {m : Ma} {f6 f7 f8 : Int32} (h : XQ A U V m f6 f7 f8) (hO : OKa m) (hs : Sg P A A') (hG : XG A' U' V') (hp : ∀ c k, P c k → 147 ≤ c ∧ c ≠ rowOf A 146) : XQ A' U' V' m f6 f7 f8 := by
  obtain ⟨h1, ⟨h2, h3, h4⟩, h5, h6⟩ := h
  have hg := h6.2.2.2.2.2.2.2
  have hI := h6.1 146 (by unfold isI; omega)
  refine ⟨h1.eo hO (fun c hc => ⟨hs.K (by omega), hs.N (by omega)⟩) (fun c k hc => ⟨hs.I (by omega) (fun x => by have := hp _ _ x; omega), hs.L (by omega) (fun x => by have := hp _ _ x; omega), hs.R (by omega) (fun x => by have := hp _ _ x; omega)⟩) ?_, ⟨by rw [hs.I (by omega) (fun x => by have := hp _ _ x; omega)]; exact h2, by rw [hs.I (by omega) (fun x => by have := hp _ _ x; omega)]; exact h3, by rw [hs.I (by omega) (fun x => by have := hp _ _ x; omega)]; exact h4⟩, fun c hc => by rw [hs.K (by unfold isI at hc; omega)]; exact h5 c hc, hG⟩
  obtain ⟨r, tot, tk, a1, a2, a3, a4, a5, a6, a7, a8, a9⟩ := h1.2.2.2.2.2.1
  have hr : rowOf A 146 = r := by unfold rowOf; rw [a1]; rfl
  have hrg : r < gn A := by rw [← hr]; exact hI.2.2.2.2
  refine ⟨r, tot, tk, ?_, a2, ?_, ?_, ?_, a6, ?_, ?_, fun i hi => ?_⟩
  · rw [hs.R (by omega) (fun x => by have := hp _ _ x; omega)]; exact a1
  · rw [hs.K hrg]; exact a3
  · rw [hs.I (by omega) (fun x => by have := hp _ _ x; omega)]; exact a4
  · rw [hs.I (by omega) (fun x => by have := hp _ _ x; omega)]; exact a5
  · rw [hs.N hrg]; exact a7
  · rw [hs.N hrg]; exact a8
  · rw [hs.I hrg (fun x => by have := hp _ _ x; omega)]; exact a9 i hi
theorem XG.adopt {A B : Sx} {U V U' V' : Nat} (h : XG A U V) (hn : gn A ≤ gn B) (hu : gu B + U ≤ gu A + U') (hv : 64 * gn B + V ≤ 64 * gn A + V') (hU : U' ≤ 6000000) (hV : V' ≤ 30000000) : XG (adopt A B) U' V' := by
  obtain ⟨h1, h2, h3, h4, h5, h6, h7, h8⟩ := h
  refine ⟨fun c hc => ?_, h2, h3, ?_, ?_, hU, hV, Nat.le_trans h8 hn⟩
  · obtain ⟨i1, i2, i3, i4, i5⟩ := h1 c hc
    exact ⟨i1, i2, i3, i4, Nat.lt_of_lt_of_le i5 hn⟩
  · show gu B ≤ U' + 2 * wX A
    omega
  · show 64 * gn B ≤ V' + wX A
    omega
/-! the rest of M -/
def rowU (B : Sx) (k : Nat) : Nat := (gR B 167 k).getD 0
def MU (B : Sx) (w : Nat) : Prop := (∀ k, 44 ≤ k → k ≤ 47 → gR B 167 k = some (rowU B k) ∧ gK B (rowU B k) = 1 ∧ gN B (rowU B k) = w ∧ 188 ≤ rowU B k ∧ rowU B k < gn B) ∧ (∀ k k', 44 ≤ k → k ≤ 47 → 44 ≤ k' → k' ≤ 47 → rowU B k = rowU B k' → k = k') ∧ 64 ≤ w ∧ w ≤ 2560
def MK (B : Sx) : Prop := gK B 169 = 1 ∧ gN B 169 = 65536 ∧ gK B 183 = 1 ∧ gN B 183 = 65536
def MQq (B : Sx) (w : Nat) (m : Ma) (f6 f7 f8 : Int32) : Prop := MMa B m ∧ (gI B 167 7 = f6 ∧ gI B 167 5 = f7 ∧ gI B 167 6 = f8) ∧ MK B ∧ MU B w ∧ 192 ≤ gn B
def MT (B : Sx) (tp : List Nat) : Prop := gI B 167 1 = nI tp.length ∧ ∀ i, i < tp.length → gI B 168 i = nI (fG tp i)
theorem MU.sg {P : Nat → Nat → Prop} {B B' : Sx} {w : Nat} (h : MU B w) (hs : Sg P B B') (hg : 192 ≤ gn B) (hp : ∀ k, 44 ≤ k → k ≤ 47 → ¬ P 167 k) : MU B' w := by
  obtain ⟨h1, h2, h3⟩ := h
  have hR : ∀ k, 44 ≤ k → k ≤ 47 → gR B' 167 k = gR B 167 k := fun k ha hb => hs.R (by omega) (hp k ha hb)
  have hr : ∀ k, 44 ≤ k → k ≤ 47 → rowU B' k = rowU B k := fun k ha hb => by unfold rowU; rw [hR k ha hb]
  refine ⟨fun k ha hb => ?_, fun k k' ha hb hc hd e => ?_, h3⟩
  · obtain ⟨a1, a2, a3, a4, a5⟩ := h1 k ha hb
    rw [hR k ha hb, hr k ha hb, hs.K a5, hs.N a5]
    exact ⟨a1, a2, a3, a4, Nat.lt_of_lt_of_le a5 hs.1⟩
  · rw [hr k ha hb, hr k' hc hd] at e
    exact h2 k k' ha hb hc hd e
theorem MK.sg {P : Nat → Nat → Prop} {B B' : Sx} (h : MK B) (hs : Sg P B B') (hg : 192 ≤ gn B) : MK B' := by
  obtain ⟨h1, h2, h3, h4⟩ := h
  exact ⟨by rw [hs.K (by omega)]; exact h1, by rw [hs.N (by omega)]; exact h2, by rw [hs.K (by omega)]; exact h3, by rw [hs.N (by omega)]; exact h4⟩
theorem MT.sg {P : Nat → Nat → Prop} {B B' : Sx} {tp : List Nat} (h : MT B tp) (hs : Sg P B B') (hg : 192 ≤ gn B) (hp : ¬ P 167 1 ∧ ∀ k, ¬ P 168 k) : MT B' tp :=
  ⟨by rw [hs.I (by omega) hp.1]; exact h.1, fun i hi => by rw [hs.I (by omega) (hp.2 i)]; exact h.2 i hi⟩
/-! the relation -/
def U0 : Nat := 2000000
def V0 : Nat := 100000
def Rtop (j : Nat) (A B : Sx) : Prop := ∃ m tp tot w f6 f7 f8, XQ A (U0 + 8 * j + 8 * w) (V0 + 64 * j + 4 * w) m f6 f7 f8 ∧ XI A 165 tp ∧ gI A 146 1 = nI tot ∧ tot + tp.length ≤ 20 * j ∧ MQq B w m f6 f7 f8 ∧ MT B tp ∧ OKa m ∧ (∀ i, fG tp i < 256) ∧ (f6 = 0 ∨ f6 = 1) ∧ gn A = gn B ∧ gu A = gu B
theorem XQ.up {A : Sx} {U V U' V' : Nat} {m : Ma} {f6 f7 f8 : Int32} (h : XQ A U V m f6 f7 f8) (h1 : U ≤ U') (h2 : U' ≤ 6000000) (h3 : V ≤ V') (h4 : V' ≤ 30000000) : XQ A U' V' m f6 f7 f8 := by
  obtain ⟨a, b, c, d1, d2, d3, d4, d5, d6, d7, d8⟩ := h
  exact ⟨a, b, c, d1, d2, d3, by omega, by omega, h2, h4, d8⟩
theorem Rtop.up {j : Nat} {A B : Sx} (h : Rtop j A B) (hj : j < 64) : Rtop (j + 1) A B := by
  obtain ⟨m, tp, tot, w, f6, f7, f8, h1, h2, h3, h4, h5, h6⟩ := h
  have hw := h5.2.2.2.1.2.2.2
  refine ⟨m, tp, tot, w, f6, f7, f8, h1.up ?_ ?_ ?_ ?_, h2, h3, by omega, h5, h6⟩
  all_goals unfold U0 V0 at *
  all_goals omega
/-- a call that changes nothing -/
theorem top_same {β : Type} {j : Nat} {A B : Sx} {v : β} {rX : Sx → Rs β} {rM : Sx → Rs β} (R : Rtop j A B) (hj : j < 64) (hx : rX A = rt v A) (hm : rM B = rt v B) : ∃ v A1 B1, rX A = rt v A1 ∧ rM (adopt B A1) = rt v B1 ∧ Rtop (j + 1) (adopt A1 B1) B1 := by
  have hc : gn A = gn B ∧ gu A = gu B := by
    obtain ⟨m, tp, tot, w, f6, f7, f8, h1, h2, h3, h4, h5, h6, h7, h8, h9, h10, h11⟩ := R
    exact ⟨h10, h11⟩
  refine ⟨v, A, B, hx, by rw [adopt_e hc.1 hc.2]; exact hm, ?_⟩
  rw [adopt_e hc.1.symm hc.2.symm]
  exact R.up hj
theorem top_fault {j : Nat} {A B : Sx} (R : Rtop j A B) (hj : j < 64) (a : Int32) : ∃ v A1 B1, X0_fault a A = rt v A1 ∧ X12_fault a (adopt B A1) = rt v B1 ∧ Rtop (j + 1) (adopt A1 B1) B1 := by
  obtain ⟨m, tp, tot, w, f6, f7, f8, h1, h2, h3, h4, h5, h6⟩ := id R
  refine top_same (rX := X0_fault a) (rM := X12_fault a) (v := if a = 0 then f7 else if a = 1 then f8 else 0) R hj ?_ ?_
  · unfold X0_fault
    rw [h1.2.1.2.1, h1.2.1.2.2]
    split
    · rfl
    · split <;> rfl
  · unfold X12_fault
    rw [h5.2.1.2.1, h5.2.1.2.2]
    split
    · rfl
    · split <;> rfl
theorem top_steps {j : Nat} {A B : Sx} (R : Rtop j A B) (hj : j < 64) : ∃ v A1 B1, X0_steps A = rt v A1 ∧ X12_steps (adopt B A1) = rt v B1 ∧ Rtop (j + 1) (adopt A1 B1) B1 := by
  obtain ⟨m, tp, tot, w, f6, f7, f8, h1, h2, h3, h4, h5, h6⟩ := id R
  refine top_same (rX := X0_steps) (rM := X12_steps) (v := m.2.2.2.2.2.2.2.2.2.2.1) R hj ?_ ?_
  · unfold X0_steps
    rw [h1.1.2.2.2.2.2.2.2.1]
  · unfold X12_steps
    rw [h5.1.2.2.2.2.2.2.2.1]
theorem top_outs {j : Nat} {A B : Sx} (R : Rtop j A B) (hj : j < 64) : ∃ v A1 B1, X0_outs A = rt v A1 ∧ X12_outs (adopt B A1) = rt v B1 ∧ Rtop (j + 1) (adopt A1 B1) B1 := by
  obtain ⟨m, tp, tot, w, f6, f7, f8, h1, h2, h3, h4, h5, h6⟩ := id R
  refine top_same (rX := X0_outs) (rM := X12_outs) (v := nI m.2.2.2.2.2.2.2.1.length) R hj ?_ ?_
  · unfold X0_outs
    rw [h1.1.2.2.2.2.1.1]
  · unfold X12_outs
    rw [h5.1.2.2.2.2.1.1]
/-! the answers, as pairs -/
theorem q_out {A B : Sx} {m : Ma} (hX : XMa A m) (hM : MMa B m) (hO : OKa m) (a : Int32) : ∃ v, X0_out a A = rt v A ∧ X12_out a B = rt v B := by
  obtain ⟨fs, o1, o2, o3, o4, o5, o6, o7⟩ := hO
  unfold X0_out X12_out
  rw [hX.2.2.2.2.1.1, hM.2.2.2.2.1.1]
  by_cases h0 : a < 0
  · rw [if_pos h0, if_pos h0]; exact ⟨_, rfl, rfl⟩
  · rw [if_neg h0, if_neg h0]
    obtain ⟨k, hk, rfl⟩ := nI_of h0
    by_cases h1 : k < m.2.2.2.2.2.2.2.1.length
    · rw [if_pos (nI_lt h1 (by omega)), if_pos (nI_lt h1 (by omega)), lI_n (by omega) (by omega), lI_n (by omega) (by omega), hX.2.2.2.2.1.2 k h1, hM.2.2.2.2.1.2 k h1]
      exact ⟨_, rfl, rfl⟩
    · rw [if_neg (nI_nlt (by omega) hk), if_neg (nI_nlt (by omega) hk)]
      exact ⟨_, rfl, rfl⟩
theorem q_page {A B : Sx} {m : Ma} (hX : XMa A m) (hM : MMa B m) (hO : OKa m) (a : Int32) : ∃ v, X0_page a A = rt v A ∧ X12_page a B = rt v B := by
  obtain ⟨fs, o1, o2, o3, o4, o5, o6, o7⟩ := hO
  obtain ⟨hF, hB, hC, hMm⟩ := hX.2.1
  have hP := hM.1
  unfold X0_page X12_page
  rw [hB.1, hP.1]
  by_cases h0 : a < 0
  · rw [if_pos h0, if_pos h0]; exact ⟨_, rfl, rfl⟩
  · rw [if_neg h0, if_neg h0]
    obtain ⟨k, hk, rfl⟩ := nI_of h0
    have := o1.2.1
    by_cases h1 : k < fr m.1
    · obtain ⟨q1, q2, q3, q4, q5⟩ := hF.2.2 k (by omega)
      rw [if_pos (nI_lt h1 (by omega)), if_pos (nI_lt h1 (by omega)), lI_n (by omega) (by omega), lR_n (by omega) (by omega), q1, dO_s q2, (hP.2.2.2.2.2.2.2.1 k (by omega)).1, (hB.2.2.2.2.2.2.1 k (by omega)).1]
      exact ⟨_, rfl, rfl⟩
    · rw [if_neg (nI_nlt (by omega) hk), if_neg (nI_nlt (by omega) hk)]
      exact ⟨_, rfl, rfl⟩
theorem q_told {A B : Sx} {U V w : Nat} {m : Ma} {f6 f7 f8 : Int32} (hX : XQ A U V m f6 f7 f8) (hM : MQq B w m f6 f7 f8) (hO : OKa m) (a : Int32) : ∃ v, X0_told a A = rt v A ∧ X12_told a B = rt v B := by
  obtain ⟨hF, hB, hC, hMm⟩ := hX.1.2.1
  have hP := hM.1.1
  unfold X0_told X12_told X5_left
  obtain ⟨r, tot, tk, a1, a2, a3, a4, a5, a6, a7, a8, a9⟩ := hX.1.2.2.2.2.2.1
  have hin := hM.1.2.2.2.2.2.1.1
  rw [hB.2.1, hB.2.2.1, hB.2.2.2.1, hB.2.2.2.2.1, hB.2.2.2.2.2.1, hP.2.1, hP.2.2.2.1, hP.2.2.2.2.1, hP.2.2.2.2.2.1, hP.2.2.2.2.2.2.1, hX.2.1.1, hM.2.1.1, hX.1.2.2.2.2.2.2.2.2, hM.1.2.2.2.2.2.2.2.2, a4, a5, hin, pk_sub (by omega), show tot - tk = m.2.2.2.2.2.2.2.2.1.length by omega, bd_rt]
  refine ⟨if a = 0 then fa m.1 else if a = 1 then re m.1 else if a = 2 then wr m.1 else if a = 3 then mi m.1 else if a = 4 then nI (hd m.1) else if a = 5 then m.2.2.2.2.2.2.2.2.2.2.2 else if a = 6 then (if f6 = 0 then 0 else 1) else if a = 7 then nI m.2.2.2.2.2.2.2.2.1.length else 0, ?_, ?_⟩
  all_goals repeat' split
  all_goals rfl
theorem q_register {A B : Sx} {m : Ma} (hX : XMa A m) (hM : MMa B m) (hO : OKa m) (a : Int32) : ∃ v, X0_register a A = rt v A ∧ X12_register a B = rt v B := by
  obtain ⟨fs, o1, o2, o3, o4, o5, o6, o7⟩ := hO
  obtain ⟨h1, h2, h3, h4, h5, h6, h7, h8, h9⟩ := hX
  obtain ⟨k2, k1, k3, k4, k5, k6, k7, k8, k9⟩ := hM
  unfold X0_register X12_register
  by_cases h0 : a < 0
  · rw [if_pos h0, if_pos h0]; exact ⟨_, rfl, rfl⟩
  · rw [if_neg h0, if_neg h0]
    obtain ⟨k, hk, rfl⟩ := nI_of h0
    by_cases h38 : k ≤ 38
    · rw [if_pos (show nI k ≤ 38 from nI_le (a := k) (b := 38) h38 (by omega)), if_pos (show nI k ≤ 38 from nI_le (a := k) (b := 38) h38 (by omega))]
      by_cases h32 : 32 ≤ k
      · rw [if_pos (lit_le (N := 32) h32 (by omega)), if_pos (lit_le (N := 32) h32 (by omega))]
        by_cases h37 : 37 ≤ k
        · rw [if_pos (lit_le (N := 37) h37 (by omega)), if_pos (lit_le (N := 37) h37 (by omega)), h7, k7, h3.1, k3.1]
          split
          · exact ⟨_, rfl, rfl⟩
          · exact ⟨_, rfl, rfl⟩
        · rw [if_neg (lit_ge (N := 37) (by omega) (by omega)), if_neg (lit_ge (N := 37) (by omega) (by omega)), show nI k - 32 = nI (k - 32) from pk_sub (b := 32) h32, lL_n (by omega) (by omega)]
          unfold X5_special
          by_cases h4' : k - 32 = 4
          · rw [h4', if_pos (show nI 4 = 4 from rfl), bd_rt, h3.2.1, nI_l (by omega), k3.2.1]
            exact ⟨_, rfl, rfl⟩
          · rw [if_neg (show ¬ nI (k - 32) = 4 from fun e => h4' ((nI_eq (b := 4) (by omega) (by omega)).mp e)), lL_n (by omega) (by omega), bd_rt, h4 _ (by omega), k4 _ (by omega)]
            exact ⟨_, rfl, rfl⟩
      · rw [if_neg (lit_ge (N := 32) (by omega) (by omega)), if_neg (lit_ge (N := 32) (by omega) (by omega)), x_rget h3 (by omega) o3 o4, bd_rt, m_rget k3 (by omega) o3, bd_rt]
        exact ⟨_, rfl, rfl⟩
    · rw [if_neg (show ¬ nI k ≤ 38 from nI_ge (a := 38) (b := k) (by omega) (by omega)), if_neg (show ¬ nI k ≤ 38 from nI_ge (a := 38) (b := k) (by omega) (by omega))]
      exact ⟨_, rfl, rfl⟩
theorem and8N {k : Nat} (hk : k < 65536) : k &&& 4294967288 = k / 8 * 8 := by
  apply Nat.eq_of_testBit_eq
  intro i
  rw [Nat.testBit_and, show (4294967288 : Nat) = (2 ^ 29 - 1) <<< 3 from by decide, Nat.testBit_shiftLeft, Nat.testBit_two_pow_sub_one, show k / 8 * 8 = (k >>> 3) <<< 3 from by rw [Nat.shiftLeft_eq, Nat.shiftRight_eq_div_pow], Nat.testBit_shiftLeft, Nat.testBit_shiftRight]
  by_cases h : 3 ≤ i
  · rw [show 3 + (i - 3) = i by omega]
    by_cases h2 : i < 32
    · simp [h, show i - 3 < 29 by omega]
    · rw [Nat.testBit_lt_two_pow (Nat.lt_of_lt_of_le hk (Nat.le_trans (by decide : 65536 ≤ 2 ^ 32) (Nat.pow_le_pow_right (by omega) (by omega))))]
      simp
  · simp [h]
theorem and8 {k : Nat} (hk : k < 65536) : nI k &&& (-8) = nI (k / 8 * 8) := by
  apply Int32.toBitVec_inj.mp
  apply BitVec.eq_of_toNat_eq
  rw [Int32.toBitVec_and, BitVec.toNat_and, pk_tn (by omega), pk_tn (by omega)]
  exact and8N hk
theorem q_octa {A B : Sx} {m : Ma} (hX : XMa A m) (hM : MMa B m) (hO : OKa m) (a : Int32) : ∃ v, X0_octa a A = rt v A ∧ X12_octa a B = rt v B := by
  obtain ⟨fs, o1, o2, o3, o4, o5, o6, o7⟩ := hO
  unfold X0_octa X12_octa
  rw [x_isA, bd_rt]
  by_cases h0 : a < 0
  · have : isA a.toInt64 = false := by
      unfold isA
      rw [decide_eq_false_iff_not]
      intro h
      apply h.1
      rw [l_lt, Int32.toInt_toInt64]
      exact i_lt.mp h0
    rw [this, if_pos (show b1 false = 0 from rfl), if_pos h0]
    exact ⟨_, rfl, rfl⟩
  · obtain ⟨k, hk, rfl⟩ := nI_of h0
    rw [if_neg h0, nI_l hk]
    by_cases h1 : k < 65536
    · have : isA (lN k) = true := by
        unfold isA
        rw [decide_eq_true_iff]
        exact ⟨fun e => by have := (pk_lLT (a := k) (b := 0) (by omega) (by omega)).mp e; omega, (pk_lLT (b := 65536) (by omega) (by omega)).mpr h1⟩
      rw [this, if_neg (show ¬ b1 true = 0 by decide), if_pos (show nI k < 65536 from lit_lt (N := 65536) h1 (by omega)), show nI k / 8 = nI (k / 8) from pk_div (d := 8) (by omega) (by omega) (by omega), show nI (k / 8) * 8 = nI (k / 8 * 8) from pk_mul _ 8]
      have e8 : X12_number (nI (k / 8 * 8)) 8 B = rt (numL m.2.1 (k / 8 * 8) 8) B := m_number (m := 8) hM.2.1 o2 (by omega) (by omega)
      rw [e8, bd_rt]
      refine ⟨_, ?_, rfl⟩
      have : ∀ d i n, i + d = 8 → d < n → X0_octa_15 n (nI k) (numL m.2.1 (k / 8 * 8) i) (nI i) A = rt (numL m.2.1 (k / 8 * 8) 8) A := by
        intro d
        induction d with
        | zero =>
          intro i n hi hn
          obtain ⟨n, rfl⟩ : ∃ j, n = j + 1 := ⟨n - 1, by omega⟩
          obtain rfl : i = 8 := by omega
          show X0_octa_15b (X0_octa_15 n) _ _ _ A = _
          unfold X0_octa_15b
          rw [if_pos (lit_le (N := 8) (Nat.le_refl _) (by omega))]
        | succ d ih =>
          intro i n hi hn
          obtain ⟨n, rfl⟩ : ∃ j, n = j + 1 := ⟨n - 1, by omega⟩
          show X0_octa_15b (X0_octa_15 n) _ _ _ A = _
          unfold X0_octa_15b
          have hx := o2 (k / 8 * 8 + i)
          rw [if_neg (lit_ge (N := 8) (by omega) (by omega)), and8 h1, nI_add, x_peek hX.2.1 o1 o2 (by omega), bd_rt, nI_l (by omega), vl_e, vl_e, nI_1]
          exact ih (i + 1) n (by omega) (by omega)
      exact this 8 0 FU (by omega) (by have := FU_ge; omega)
    · have : isA (lN k) = false := by
        unfold isA
        rw [decide_eq_false_iff_not]
        exact fun h => h1 ((pk_lLT (b := 65536) (by omega) (by omega)).mp h.2)
      rw [this, if_pos (show b1 false = 0 from rfl), if_neg (show ¬ nI k < 65536 from lit_gt (N := 65536) (by omega) hk)]
      exact ⟨_, rfl, rfl⟩
theorem top_out {j : Nat} {A B : Sx} (R : Rtop j A B) (hj : j < 64) (a : Int32) : ∃ v A1 B1, X0_out a A = rt v A1 ∧ X12_out a (adopt B A1) = rt v B1 ∧ Rtop (j + 1) (adopt A1 B1) B1 := by
  obtain ⟨m, tp, tot, w, f6, f7, f8, h1, h2, h3, h4, h5, h6, h7, h8⟩ := id R
  obtain ⟨v, e1, e2⟩ := q_out h1.1 h5.1 h7 a
  exact top_same (rX := X0_out a) (rM := X12_out a) R hj e1 e2
theorem top_page {j : Nat} {A B : Sx} (R : Rtop j A B) (hj : j < 64) (a : Int32) : ∃ v A1 B1, X0_page a A = rt v A1 ∧ X12_page a (adopt B A1) = rt v B1 ∧ Rtop (j + 1) (adopt A1 B1) B1 := by
  obtain ⟨m, tp, tot, w, f6, f7, f8, h1, h2, h3, h4, h5, h6, h7, h8⟩ := id R
  obtain ⟨v, e1, e2⟩ := q_page h1.1 h5.1 h7 a
  exact top_same (rX := X0_page a) (rM := X12_page a) R hj e1 e2
theorem top_told {j : Nat} {A B : Sx} (R : Rtop j A B) (hj : j < 64) (a : Int32) : ∃ v A1 B1, X0_told a A = rt v A1 ∧ X12_told a (adopt B A1) = rt v B1 ∧ Rtop (j + 1) (adopt A1 B1) B1 := by
  obtain ⟨m, tp, tot, w, f6, f7, f8, h1, h2, h3, h4, h5, h6, h7, h8⟩ := id R
  obtain ⟨v, e1, e2⟩ := q_told h1 h5 h7 a
  exact top_same (rX := X0_told a) (rM := X12_told a) R hj e1 e2
theorem top_register {j : Nat} {A B : Sx} (R : Rtop j A B) (hj : j < 64) (a : Int32) : ∃ v A1 B1, X0_register a A = rt v A1 ∧ X12_register a (adopt B A1) = rt v B1 ∧ Rtop (j + 1) (adopt A1 B1) B1 := by
  obtain ⟨m, tp, tot, w, f6, f7, f8, h1, h2, h3, h4, h5, h6, h7, h8⟩ := id R
  obtain ⟨v, e1, e2⟩ := q_register h1.1 h5.1 h7 a
  exact top_same (rX := X0_register a) (rM := X12_register a) R hj e1 e2
theorem top_octa {j : Nat} {A B : Sx} (R : Rtop j A B) (hj : j < 64) (a : Int32) : ∃ v A1 B1, X0_octa a A = rt v A1 ∧ X12_octa a (adopt B A1) = rt v B1 ∧ Rtop (j + 1) (adopt A1 B1) B1 := by
  obtain ⟨m, tp, tot, w, f6, f7, f8, h1, h2, h3, h4, h5, h6, h7, h8⟩ := id R
  obtain ⟨v, e1, e2⟩ := q_octa h1.1 h5.1 h7 a
  exact top_same (rX := X0_octa a) (rM := X12_octa a) R hj e1 e2
