set_option maxRecDepth 100000
/-! ===== frames ===== -/
theorem top_frames {j : Nat} {A B : Sx} (R : Rtop j A B) (hj : j < 64) (a : Int32) : ∃ v A1 B1, X0_frames a A = rt v A1 ∧ X12_frames a (adopt B A1) = rt v B1 ∧ Rtop (j + 1) (adopt A1 B1) B1 := by
  obtain ⟨m, tp, tot, w, f6, f7, f8, h1, h2, h3, h4, h5, h6, h7, h8, h9, h10, h11⟩ := id R
  by_cases c0 : a < 2
  · exact top_same (rX := X0_frames a) (rM := X12_frames a) (v := -1) R hj (by unfold X0_frames; rw [if_pos c0]) (by unfold X12_frames; rw [if_pos c0])
  by_cases c1 : a ≤ 64
  · have h0 : ¬ a < 0 := fun e => c0 (by rw [i_lt] at e ⊢; have : (0 : Int32).toInt = 0 := rfl; have : (2 : Int32).toInt = 2 := rfl; omega)
    obtain ⟨k, hk, rfl⟩ := nI_of h0
    have k2 : 2 ≤ k := Nat.le_of_not_lt (fun e => c0 (lit_lt (N := 2) e (by omega)))
    have k64 : k ≤ 64 := (nI_leI (b := 64) hk (by omega)).mp c1
    -- X
    have s1 : Sm (fun c k => c = 2 ∧ k = 1) A (pI A 2 1 (nI k)) := Sm.pI ⟨rfl, rfl⟩
    obtain ⟨x1, x2, x3, x4, x5, x6, x7, x8, x9⟩ := id h1.1
    obtain ⟨A2, a1, a2, a3⟩ := x_clear (S := pI A 2 1 (nI k)) (r := k) (x2.1.sm s1 (fun f hf => by omega)) (by rw [gI_pI, if_pos ⟨rfl, rfl⟩])
    unfold xPl at a3
    have s2 : Sm (fun c k => c = 0 ∧ k = 6) A2 (pI A2 0 6 0) := Sm.pI ⟨rfl, rfl⟩
    have s3 : Sm (fun c k => (2 ≤ c ∧ c ≤ 137) ∨ (c = 0 ∧ k = 6)) A (pI A2 0 6 0) := ((s1.mono (fun c k x => by omega)).trans (a3.mono (fun c k x => by omega))).trans (s2.mono (fun c k x => by omega))
    have hb : bOK (b00 k (fun _ => false)) := b00_OK k2 k64
    have eX : X0_frames (nI k) A = rt (nI k) (pI A2 0 6 0) := by
      unfold X0_frames
      rw [if_neg c0, if_pos c1, pt_e, a1, bd_rt, pt_e]
    -- M
    obtain ⟨y2, y1, y3, y4, y5, y6, y7, y8, y9⟩ := id h5.1
    have t1 : Sm (fun c k => c = 167 ∧ k = 17) B (pI B 167 17 (nI k)) := Sm.pI ⟨rfl, rfl⟩
    obtain ⟨B2, b1', b2, b3⟩ := m_freePages (S := pI B 167 17 (nI k)) (r := k) (by rw [gI_pI, if_pos ⟨rfl, rfl⟩])
    unfold fPl at b3
    obtain ⟨kk, B3, d1, d2, d3⟩ := loopN (F := fun n i S => X12_frames_24 n (nI k) i S) (B := fun f i S => X12_frames_24b (fun _ i S => f i S) (nI k) i S) (N := 65536) (Inv := fun i T => (∀ p, p < i → gI T 169 p = 0) ∧ Sm (fun c _ => c = 169) B2 T) (by omega) (fun _ _ _ => rfl) (fun f i T hi ⟨p, q⟩ => by
      refine ⟨pI T 169 i 0, ?_, fun x hx => ?_, q.trans (Sm.pI rfl)⟩
      · show X12_frames_24b (fun _ i S => f i S) (nI k) (nI i) T = _
        unfold X12_frames_24b
        rw [if_neg (lit_ge hi (by omega)), sI_n hi (by omega), vl_e, nI_1]
      · rw [gI_pI]
        split
        · rfl
        · exact p x (by omega)) (S := B2) ⟨(fun p hp => by omega), Sm.rfl' B2⟩
    have eM : X12_frames (nI k) B = rt (nI k) (pI B3 167 7 0) := by
      unfold X12_frames
      rw [if_neg c0, if_pos c1, pt_e, b1', bd_rt]
      rw [d1]
      show X12_frames_24b (fun _ i S => kk i S) (nI k) (nI 65536) B3 = _
      unfold X12_frames_24b
      rw [if_pos (by decide), pt_e]
    have t4 : Sm (fun c k => c = 167 ∧ k = 7) B3 (pI B3 167 7 0) := Sm.pI ⟨rfl, rfl⟩
    have t5 : Sm (fun c k => (c = 167 ∧ (k = 17 ∨ k = 7 ∨ k = 23 ∨ (25 ≤ k ∧ k ≤ 29))) ∨ c = 169 ∨ (175 ≤ c ∧ c ≤ 179)) B (pI B3 167 7 0) := (((t1.mono (fun c k x => by omega)).trans (b3.mono (fun c k x => by omega))).trans (d3.mono (fun c k x => by omega))).trans (t4.mono (fun c k x => by omega))
    have t6 : Sm (fun c k => (c = 167 ∧ k = 7) ∨ c = 169) B2 (pI B3 167 7 0) := (d3.mono (fun c k x => Or.inr x)).trans (t4.mono (fun c k x => Or.inl x))
    refine ⟨nI k, _, pI B3 167 7 0, eX, ?_, ?_⟩
    · rw [adopt_e (s3.1.trans h10) (s3.2.1.trans h11)]; exact eM
    · have hI5 := h1.2.2.2.1 165 (by unfold isI; omega)
      rw [adopt_e (by rw [s3.1, t5.1]; exact h10.symm) (by rw [s3.2.1, t5.2.1]; exact h11.symm)]
      refine Rtop.up ?_ hj
      have g5 := t5.sg
      obtain ⟨fs, o1, o2, o3, o4, o5, o6, o7⟩ := id h7
      refine ⟨(b00 k (fun _ => false), fun _ => 0, m.2.2), tp, tot, w, 0, f7, f8, ⟨⟨by rw [s3.K]; exact x1, a2.sm hb s2 (by intro c k; omega), x3.sm s3 (by intro c k; omega), x4.sm s3 (by intro c k; omega), x5.sm s3 (by intro c k; omega), x6.sm s3 (by intro c k; omega), by rw [s3.L (by omega)]; exact x7, by rw [s3.I (by omega)]; exact x8, by rw [s3.I (by omega)]; exact x9⟩, ⟨by rw [gI_pI, if_pos ⟨rfl, rfl⟩], by rw [s3.I (by omega)]; exact h1.2.1.2.1, by rw [s3.I (by omega)]; exact h1.2.1.2.2⟩, fun c hc => by rw [s3.K]; exact h1.2.2.1 c hc, h1.2.2.2.sm s3 (fun c hc x => by unfold isI at hc; omega)⟩, h2.sm s3 (by have := hI5.2.2.2.1; exact ⟨by omega, by omega, fun k => by omega⟩), by rw [s3.I (by omega)]; exact h3, h4, ⟨⟨MP_back b2 t6 (by intro c k; omega), fun x hx => ?_, y3.sm t5 (by intro c k; omega), y4.sm t5 (by intro c k; omega), y5.sm t5 (by intro c k; omega), y6.sm t5 (by intro c k; omega), by rw [t5.L (by omega)]; exact y7, by rw [t5.I (by omega)]; exact y8, by rw [t5.I (by omega)]; exact y9⟩, ⟨by rw [gI_pI, if_pos ⟨rfl, rfl⟩], by rw [t5.I (by omega)]; exact h5.2.1.2.1, by rw [t5.I (by omega)]; exact h5.2.1.2.2⟩, h5.2.2.1.sg g5 h5.2.2.2.2, h5.2.2.2.1.sg g5 h5.2.2.2.2 (by intro k a b; omega), by rw [t5.1]; exact h5.2.2.2.2⟩, h6.sg g5 h5.2.2.2.2 ⟨by omega, fun k => by omega⟩, ⟨fs, hb, fun _ => Nat.zero_lt_succ 255, o3, o4, o5, o6, o7⟩, h8, Or.inl rfl, by rw [s3.1, t5.1]; exact h10, by rw [s3.2.1, t5.2.1]; exact h11⟩
      rw [gI_pI, if_neg (by omega)]
      exact d2 x hx
  · exact top_same (rX := X0_frames a) (rM := X12_frames a) (v := -1) R hj (by unfold X0_frames; rw [if_neg c0, if_neg c1]) (by unfold X12_frames; rw [if_neg c0, if_neg c1])
/-! ===== feed ===== -/
theorem xq_add {A : Sx} {U V c : Nat} {m : Ma} {f6 f7 f8 : Int32} {l : List Nat} (v : Nat) (h : XQ A U V m f6 f7 f8) (hO : OKa m) (hc : isI c) (h146 : ¬ c = 146) (hl : XI A c l) (hcap : l.length < capI c) :
    ∃ A', X8_add c (nI v) A = rt (nI l.length) A' ∧ XQ A' U V m f6 f7 f8 ∧ XI A' c (l ++ [v]) ∧ Sg (pI8 A c) A A' ∧ (∀ c', isI c' → ¬ c' = c → rowOf A' c' = rowOf A c' ∧ wOf A' c' = wOf A c' ∧ ∀ l', XI A c' l' → XI A' c' l') := by
  obtain ⟨A', e1, e2, e3, e4, e5⟩ := x_addG v h.2.2.2 hc (h.2.2.1 c hc) hl hcap
  have hI := h.2.2.2.1 c hc
  have h2 := h.2.2.2.2.1
  refine ⟨A', e1, h.sg hO e4 e2 (fun x k hx => ?_), e3, e4, e5⟩
  have i4 := hI.2.2.2.1
  have h6 := isI_row (h.2.2.2.1 146 (by unfold isI; omega)) (by unfold isI; omega) hc
  have hd : ¬ rowOf A c = rowOf A 146 := fun e => h146 (h2 c 146 hc (by unfold isI; omega) e)
  unfold pI8 at hx
  unfold isI at hc
  rcases hx with rfl | ⟨rfl, -⟩
  · exact ⟨by omega, hd⟩
  · exact ⟨by omega, h6⟩
def bq (v k : Int32) : Nat := (v >>> (k &&& 31)).toBitVec.toNat % 256
theorem bq_i (v k : Int32) : (v >>> (k &&& 31)) &&& 255 = nI (bq v k) := pk_and _ 8 (by decide)
theorem bq_lt (v k : Int32) : bq v k < 256 := Nat.mod_lt _ (by decide)
theorem x_lay1 {A : Sx} {U V n : Nat} {m : Ma} {f6 f7 f8 v x2 : Int32} {l : List Nat} {tt : Int32} (h : XQ A U V m f6 f7 f8) (hO : OKa m) (hl : XI A 165 l) (hcap : l.length < 1280) (ht : gI A 146 1 = tt) (hx : ¬ x2 < 0) : ∃ A', X0_lay_3 (n + 1) v x2 A = X0_lay_3 n v (x2 + (-8)) A' ∧ XQ A' U V m f6 f7 f8 ∧ XI A' 165 (l ++ [bq v x2]) ∧ gI A' 146 1 = tt ∧ gn A ≤ gn A' := by
  obtain ⟨A', e1, e2, e3, e4, e5⟩ := xq_add (bq v x2) h hO (show isI 165 by unfold isI; omega) (by omega) hl hcap
  refine ⟨A', ?_, e2, e3, ?_, e4.1⟩
  · show X0_lay_3b (X0_lay_3 n) v x2 A = _
    unfold X0_lay_3b
    rw [if_neg hx, bq_i, e1, bd_rt, vl_e]
  · have := isI_row (h.2.2.2.1 165 (by unfold isI; omega)) (by unfold isI; omega) (show isI 146 by unfold isI; omega)
    rw [e4.I (by have := h.2.2.2.2.2.2.2.2.2.2; omega) (by unfold pI8; omega)]
    exact ht
def by4 (v : Int32) : List Nat := [bq v 24, bq v 16, bq v 8, bq v 0]
theorem x_lay {A : Sx} {U V : Nat} {m : Ma} {f6 f7 f8 : Int32} {l : List Nat} {tt : Int32} (v : Int32) (h : XQ A U V m f6 f7 f8) (hO : OKa m) (hl : XI A 165 l) (hcap : l.length + 4 ≤ 1280) (ht : gI A 146 1 = tt) : ∃ A', X0_lay v A = rt () A' ∧ XQ A' U V m f6 f7 f8 ∧ XI A' 165 (l ++ by4 v) ∧ gI A' 146 1 = tt ∧ gn A ≤ gn A' := by
  obtain ⟨n, hn⟩ : ∃ n, FU = n + 5 := ⟨FU - 5, by have := FU_ge; omega⟩
  obtain ⟨A1, e1, e2, e3, e4, e5⟩ := x_lay1 (n := n + 4) (v := v) (x2 := 24) h hO hl (by omega) ht (by decide)
  obtain ⟨A2, g1, g2, g3, g4, g5⟩ := x_lay1 (n := n + 3) (v := v) (x2 := 16) e2 hO e3 (by rw [List.length_append]; show l.length + 1 < _; omega) e4 (by decide)
  obtain ⟨A3, k1, k2, k3, k4, k5⟩ := x_lay1 (n := n + 2) (v := v) (x2 := 8) g2 hO g3 (by rw [List.length_append, List.length_append]; show l.length + 1 + 1 < _; omega) g4 (by decide)
  obtain ⟨A4, p1, p2, p3, p4, p5⟩ := x_lay1 (n := n + 1) (v := v) (x2 := 0) k2 hO k3 (by rw [List.length_append, List.length_append, List.length_append]; show l.length + 1 + 1 + 1 < _; omega) k4 (by decide)
  refine ⟨A4, ?_, p2, ?_, p4, by omega⟩
  · unfold X0_lay
    rw [hn, e1, show (24 : Int32) + (-8) = 16 from by decide, g1, show (16 : Int32) + (-8) = 8 from by decide, k1, show (8 : Int32) + (-8) = 0 from by decide, p1]
    show X0_lay_3b (X0_lay_3 n) v _ A4 = _
    unfold X0_lay_3b
    rw [if_pos (by decide)]
  · have e : l ++ by4 v = l ++ [bq v 24] ++ [bq v 16] ++ [bq v 8] ++ [bq v 0] := by unfold by4; simp
    rw [e]; exact p3
def mTl (c k : Nat) : Prop := c = 168 ∨ (c = 167 ∧ k = 1)
theorem m_four1 {B : Sx} {n : Nat} {v x2 : Int32} {l : List Nat} (hl : MT B l) (hcap : l.length < 20000) (hx : ¬ x2 < 0) : ∃ B', X12_four_3 (n + 1) v x2 B = X12_four_3 n v (x2 + (-8)) B' ∧ MT B' (l ++ [bq v x2]) ∧ Sm mTl B B' := by
  refine ⟨pI (pI B 168 l.length (nI (bq v x2))) 167 1 (nI (l.length + 1)), ?_, ⟨?_, fun i hi => ?_⟩, (Sm.pI (Or.inl rfl)).trans (Sm.pI (Or.inr ⟨rfl, rfl⟩))⟩
  · show X12_four_3b (X12_four_3 n) v x2 B = _
    unfold X12_four_3b
    rw [if_neg hx, bq_i, hl.1, sI_n hcap (by omega), pt_e, gI_pI, if_neg (by omega), hl.1, nI_1, vl_e]
  · rw [gI_pI, if_pos ⟨rfl, rfl⟩, List.length_append]; rfl
  · rw [List.length_append] at hi
    rw [fG_app l _ i hi, gI_pI, if_neg (by omega), gI_pI]
    by_cases h : i = l.length
    · rw [if_pos ⟨rfl, h⟩, if_pos h]
    · rw [if_neg (fun e => h e.2), if_neg h]
      exact hl.2 i (by have : i < l.length + 1 := hi; omega)
theorem m_four {B : Sx} {l : List Nat} (v : Int32) (hl : MT B l) (hcap : l.length + 4 ≤ 20000) : ∃ B', X12_four v B = rt () B' ∧ MT B' (l ++ by4 v) ∧ Sm mTl B B' := by
  obtain ⟨n, hn⟩ : ∃ n, FU = n + 5 := ⟨FU - 5, by have := FU_ge; omega⟩
  obtain ⟨A1, e1, e2, e3⟩ := m_four1 (n := n + 4) (v := v) (x2 := 24) hl (by omega) (by decide)
  obtain ⟨A2, g1, g2, g3⟩ := m_four1 (n := n + 3) (v := v) (x2 := 16) e2 (by rw [List.length_append]; show l.length + 1 < _; omega) (by decide)
  obtain ⟨A3, k1, k2, k3⟩ := m_four1 (n := n + 2) (v := v) (x2 := 8) g2 (by rw [List.length_append, List.length_append]; show l.length + 1 + 1 < _; omega) (by decide)
  obtain ⟨A4, p1, p2, p3⟩ := m_four1 (n := n + 1) (v := v) (x2 := 0) k2 (by rw [List.length_append, List.length_append, List.length_append]; show l.length + 1 + 1 + 1 < _; omega) (by decide)
  refine ⟨A4, ?_, ?_, ((e3.trans g3).trans k3).trans p3⟩
  · unfold X12_four
    rw [hn, e1, show (24 : Int32) + (-8) = 16 from by decide, g1, show (16 : Int32) + (-8) = 8 from by decide, k1, show (8 : Int32) + (-8) = 0 from by decide, p1]
    show X12_four_3b (X12_four_3 n) v _ A4 = _
    unfold X12_four_3b
    rw [if_pos (by decide)]
  · have e : l ++ by4 v = l ++ [bq v 24] ++ [bq v 16] ++ [bq v 8] ++ [bq v 0] := by unfold by4; simp
    rw [e]; exact p2
theorem len4 (l : List Nat) (v : Int32) : (l ++ by4 v).length = l.length + 4 := by rw [List.length_append]; rfl
theorem fG_by {l l' : List Nat} (h : ∀ i, fG l i < 256) (h' : ∀ x ∈ l', x < 256) : ∀ i, fG (l ++ l') i < 256 := by
  intro i
  unfold fG at h ⊢
  simp only [List.getD] at h ⊢
  by_cases hi : i < l.length
  · rw [List.getElem?_append_left hi]; exact h i
  · rw [List.getElem?_append_right (by omega)]
    by_cases h2 : i - l.length < l'.length
    · rw [List.getElem?_eq_getElem h2]; exact h' _ (List.getElem_mem h2)
    · rw [List.getElem?_eq_none (by omega)]; decide
theorem by4_b (v : Int32) : ∀ x ∈ by4 v, x < 256 := by
  intro x hx
  unfold by4 at hx
  simp at hx
  rcases hx with rfl | rfl | rfl | rfl <;> exact bq_lt _ _
/-- M behind X -/
theorem adopt_sg {P : Nat → Nat → Prop} {A B A' : Sx} (h : gn A = gn B) (hs : gn A ≤ gn A') : Sg P B (adopt B A') := ⟨by show gn B ≤ gn A'; omega, fun _ _ => ⟨rfl, rfl, fun _ _ => ⟨rfl, rfl, rfl⟩⟩⟩
theorem top_feed {j : Nat} {A B : Sx} (R : Rtop j A B) (hj : j < 64) (a b c d e : Int32) : ∃ v A1 B1, X0_feed a b c d e A = rt v A1 ∧ X12_feed a b c d e (adopt B A1) = rt v B1 ∧ Rtop (j + 1) (adopt A1 B1) B1 := by
  obtain ⟨m, tp, tot, w, f6, f7, f8, h1, h2, h3, h4, h5, h6, h7, h8, h9, h10, h11⟩ := id R
  obtain ⟨A1, p1, p2, p3, p4, p5⟩ := x_lay a h1 h7 h2 (by omega) h3
  obtain ⟨A2, q1, q2, q3, q4, q5⟩ := x_lay b p2 h7 p3 (by rw [len4]; omega) p4
  obtain ⟨A3, r1, r2, r3, r4, r5⟩ := x_lay c q2 h7 q3 (by rw [len4, len4]; omega) q4
  obtain ⟨A4, s1, s2, s3, s4, s5⟩ := x_lay d r2 h7 r3 (by rw [len4, len4, len4]; omega) r4
  obtain ⟨A5, t1, t2, t3, t4, t5⟩ := x_lay e s2 h7 s3 (by rw [len4, len4, len4, len4]; omega) s4
  have hMT : MT (adopt B A5) tp := h6
  obtain ⟨B1, u1, u2, u3⟩ := m_four a hMT (by omega)
  obtain ⟨B2, v1, v2, v3⟩ := m_four b u2 (by rw [len4]; omega)
  obtain ⟨B3, w1, w2, w3⟩ := m_four c v2 (by rw [len4, len4]; omega)
  obtain ⟨B4, y1, y2, y3⟩ := m_four d w2 (by rw [len4, len4, len4]; omega)
  obtain ⟨B5, z1, z2, z3⟩ := m_four e y2 (by rw [len4, len4, len4, len4]; omega)
  have hT8 : ∀ i, fG (tp ++ by4 a ++ by4 b ++ by4 c ++ by4 d ++ by4 e) i < 256 := fG_by (fG_by (fG_by (fG_by (fG_by h8 (by4_b a)) (by4_b b)) (by4_b c)) (by4_b d)) (by4_b e)
  generalize hT : tp ++ by4 a ++ by4 b ++ by4 c ++ by4 d ++ by4 e = T at t3 z2 hT8
  have hTl : T.length = tp.length + 20 := by rw [← hT, len4, len4, len4, len4, len4]
  have hS : Sm mTl (adopt B A5) B5 := (((u3.trans v3).trans w3).trans y3).trans z3
  have hw := h5.2.2.2.1.2.2.2
  have hc : nI tp.length + 20 ≤ 20000 := by
    rw [show nI tp.length + 20 = nI (tp.length + 20) from nI_add _ 20]
    exact nI_le (a := tp.length + 20) (b := 20000) (by omega) (by omega)
  refine ⟨nI T.length, A5, B5, ?_, ?_, ?_⟩
  · unfold X0_feed
    rw [h2.1, if_pos hc, p1, bd_rt, q1, bd_rt, r1, bd_rt, s1, bd_rt, t1, bd_rt, t3.1]
  · unfold X12_feed
    rw [hMT.1, if_pos hc, u1, bd_rt, v1, bd_rt, w1, bd_rt, y1, bd_rt, z1, bd_rt, z2.1]
  · rw [adopt_e (show gn B5 = gn A5 from hS.1) (show gu B5 = gu A5 from hS.2.1)]
    have hQ : MQq (adopt B A5) w m f6 f7 f8 := h5.sg (adopt_sg (P := fun _ _ => False) h10 (by omega)) (fun c k x => x.elim)
    refine ⟨m, T, tot, w, f6, f7, f8, t2.up ?_ ?_ ?_ ?_, t3, t4, by omega, hQ.sg hS.sg (fun c k x => by unfold mTl at x; unfold mOut; omega), z2, h7, hT8, h9, hS.1.symm, hS.2.1.symm⟩
    all_goals unfold U0 V0 at *
    all_goals omega
