set_option maxRecDepth 100000
/-! ===== input ===== -/
def mIn (m : Ma) (inp : List Int32) : Ma := (m.1, m.2.1, m.2.2.1, m.2.2.2.1, m.2.2.2.2.1, m.2.2.2.2.2.1, m.2.2.2.2.2.2.1, m.2.2.2.2.2.2.2.1, inp, m.2.2.2.2.2.2.2.2.2)
theorem nI_bv (x : Int32) : nI x.toBitVec.toNat = x := by
  apply Int32.toBitVec_inj.mp
  apply BitVec.eq_of_toNat_eq
  rw [pk_tn x.toBitVec.isLt]
theorem gD_map (l : List Nat) (i : Nat) (h : i < l.length) : (l.map nI).getD i 0 = nI (fG l i) := by
  unfold fG
  simp [List.getD, h]
theorem XN_of {A : Sx} {l : List Nat} {tk : Nat} (h : XI A 146 l) (hI : IO A 146) (hw : wOf A 146 ≤ 180000) (ht : gI A 138 11 = nI tk) (hk : tk ≤ l.length) : XN A ((l.drop tk).map nI) := by
  obtain ⟨i1, i2, i3, i4, i5⟩ := hI
  obtain ⟨h1, h2, h3⟩ := h
  refine ⟨rowOf A 146, l.length, tk, i1, by omega, i2, h1, ht, by rw [List.length_map, List.length_drop]; omega, h2, by unfold wOf at hw; omega, fun i hi => ?_⟩
  rw [List.length_map, List.length_drop] at hi
  rw [gD_map _ _ (by rw [List.length_drop]; omega), h3 _ (by omega)]
  unfold fG
  simp [List.getD, List.getElem?_drop]
/-- all that the input had -/
theorem XN_li {A : Sx} {inp : List Int32} {tot : Nat} (h : XN A inp) (hI : IO A 146) (ht : gI A 146 1 = nI tot) (htot : tot < 2 ^ 31) : ∃ li tk, XI A 146 li ∧ li.length = tot ∧ tk ≤ tot ∧ gI A 138 11 = nI tk ∧ inp = (li.drop tk).map nI := by
  obtain ⟨r, tot', tk, a1, a2, a3, a4, a5, a6, a7, a8, a9⟩ := h
  have hr : rowOf A 146 = r := by unfold rowOf; rw [a1]; rfl
  have e : tot' = tot := (nI_eq (by omega) htot).mp (by rw [← a4, ht])
  subst e
  have hl : ((List.range tot').map (fun i => (gI A r i).toBitVec.toNat)).length = tot' := by simp
  have hg : ∀ i, i < tot' → nI (fG ((List.range tot').map (fun i => (gI A r i).toBitVec.toNat)) i) = gI A r i := by
    intro i hi
    unfold fG
    simp only [List.getD, List.getElem?_map, List.getElem?_range hi, Option.map_some, Option.getD_some]
    exact nI_bv _
  refine ⟨(List.range tot').map (fun i => (gI A r i).toBitVec.toNat), tk, ⟨by rw [hl]; exact ht, by rw [hl]; unfold wOf; rw [hr]; exact a7, fun i hi => ?_⟩, hl, by omega, a5, ?_⟩
  · rw [hl] at hi
    rw [hg i hi, hr]
  · apply List.ext_getElem
    · rw [List.length_map, List.length_drop, hl]; omega
    · intro i h1 h2
      have q := a9 i h1
      rw [List.getElem_map, List.getElem_drop]
      have q2 := hg (tk + i) (by omega)
      unfold fG at q2
      simp only [List.getD] at q q2
      rw [List.getElem?_eq_getElem (by rw [hl]; omega), Option.getD_some] at q2
      rw [List.getElem?_eq_getElem h1, Option.getD_some] at q
      rw [q2, q]
theorem XMa.inp {A : Sx} {m : Ma} {inp : List Int32} (h : XMa A m) (hN : XN A inp) : XMa A (mIn m inp) := by
  obtain ⟨h1, h2, h3, h4, h5, h6, h7, h8, h9⟩ := h
  exact ⟨h1, h2, h3, h4, h5, hN, h7, h8, h9⟩
def XQi (A : Sx) (U V : Nat) (m : Ma) (f6 f7 f8 : Int32) (tp l : List Nat) (tk : Nat) : Prop := XQ A U V (mIn m ((l.drop tk).map nI)) f6 f7 f8 ∧ XI A 165 tp ∧ XI A 146 l ∧ gI A 138 11 = nI tk ∧ tk ≤ l.length
theorem xqi_add {A : Sx} {U V tk : Nat} {m : Ma} {f6 f7 f8 : Int32} {tp l : List Nat} (v : Nat) (h : XQi A U V m f6 f7 f8 tp l tk) (hO : OKa m) (hcap : l.length < 1280) : ∃ A', X8_add 146 (nI v) A = rt (nI l.length) A' ∧ XQi A' U V m f6 f7 f8 tp (l ++ [v]) tk ∧ gn A ≤ gn A' := by
  obtain ⟨h1, h2, h3, h4, h5⟩ := h
  have i6 : isI 146 := by unfold isI; omega
  obtain ⟨A', e1, e2, e3, e4, e5⟩ := x_addG v h1.2.2.2 i6 (h1.2.2.1 146 i6) h3 hcap
  have hI := h1.2.2.2.1 146 i6
  have hg := h1.2.2.2.2.2.2.2.2.2.2
  have i4 := hI.2.2.2.1
  have hk : ∀ x k, x < 146 → ¬ pI8 A 146 x k := fun x k hx => by unfold pI8; omega
  have ht' : gI A' 138 11 = nI tk := by rw [e4.I (by omega) (hk _ _ (by omega))]; exact h4
  have hlen : tk ≤ (l ++ [v]).length := by rw [List.length_append]; exact Nat.le_trans h5 (Nat.le_add_right _ _)
  have hN := XN_of e3 (e2.1 146 i6) (e2.cap i6) ht' hlen
  refine ⟨A', e1, ⟨⟨?_, ⟨?_, ?_, ?_⟩, fun c hc => ?_, e2⟩, (e5 165 (by unfold isI; omega) (by omega)).2.2 tp h2, e3, ht', hlen⟩, e4.1⟩
  · have hO' : OKa (mIn m []) := by
      obtain ⟨fs, o1, o2, o3, o4, o5, o6, o7⟩ := hO
      exact ⟨fs, o1, o2, o3, o4, o5, o6, Nat.zero_le _⟩
    obtain ⟨fs, o1, o2, o3, o4, o5, o6, o7⟩ := hO
    have hm := h1.1
    obtain ⟨x1, x2, x3, x4, x5, x6, x7, x8, x9⟩ := hm
    -- all but the input
    have hE : ∀ c k, c < 146 → gI A' c k = gI A c k ∧ gL A' c k = gL A c k ∧ gR A' c k = gR A c k := fun c k hc => ⟨e4.I (by omega) (hk _ _ hc), e4.L (by omega) (hk _ _ hc), e4.R (by omega) (hk _ _ hc)⟩
    have s4 : Sm (fun c _ => 146 ≤ c) A (A.1, A.2.1, A.2.2.1, A.2.2.2.1, A'.2.2.2.2.1, A'.2.2.2.2.2.1, A'.2.2.2.2.2.2) := ⟨rfl, rfl, fun _ => rfl, fun _ => rfl, fun c k q => hE c k (by omega)⟩
    have p := x2.sm o1 s4 (by intro c k; omega)
    have q3 := x3.sm s4 (by intro c k; omega)
    have q4 := x4.sm s4 (by intro c k; omega)
    have q5 := x5.sm s4 (by intro c k; omega)
    obtain ⟨p1, p2, p3, p4⟩ := p
    exact ⟨by rw [e4.K (by omega)]; exact x1, ⟨XF.eo x2.1 (fun c hc => ⟨e4.K (by omega), e4.N (by omega)⟩) (fun c k hc => (hE c k (by omega)).2.2), p2, p3, p4⟩, q3, q4, q5, hN, by rw [(hE _ _ (by omega)).2.1]; exact x7, by rw [(hE _ _ (by omega)).1]; exact x8, by rw [(hE _ _ (by omega)).1]; exact x9⟩
  · rw [e4.I (by omega) (hk _ _ (by omega))]; exact h1.2.1.1
  · rw [e4.I (by omega) (hk _ _ (by omega))]; exact h1.2.1.2.1
  · rw [e4.I (by omega) (hk _ _ (by omega))]; exact h1.2.1.2.2
  · rw [e4.K (by unfold isI at hc; omega)]; exact h1.2.2.1 c hc
theorem take_s (l : List Nat) (i : Nat) (h : i < l.length) : l.take (i + 1) = l.take i ++ [fG l i] := by
  rw [List.take_succ]
  unfold fG
  simp [List.getD, h]
theorem x_input_loop {U V tk : Nat} {m : Ma} {f6 f7 f8 : Int32} {tp li : List Nat} (hO : OKa m) (hcap : li.length + tp.length ≤ 1280) : ∀ (d i n : Nat) (A : Sx), i + d = tp.length → d < n → XQi A U V m f6 f7 f8 tp (li ++ tp.take i) tk → ∃ A', X0_input_25 n (nI i) A = rt (nI (li.length + tp.length - tk)) (pI A' 165 1 0) ∧ XQi A' U V m f6 f7 f8 tp (li ++ tp) tk ∧ gn A ≤ gn A' := by
  intro d
  induction d with
  | zero =>
    intro i n A hi hn h
    obtain ⟨n, rfl⟩ : ∃ j, n = j + 1 := ⟨n - 1, by omega⟩
    obtain rfl : i = tp.length := by omega
    rw [List.take_length] at h
    refine ⟨A, ?_, h, Nat.le_refl _⟩
    show X0_input_25b (X0_input_25 n) _ A = _
    unfold X0_input_25b X5_left
    have e1 : gI A 165 1 = nI tp.length := h.2.1.1
    have e2 : gI A 146 1 = nI (li ++ tp).length := h.2.2.1.1
    have hk := h.2.2.2.2
    rw [List.length_append] at e2 hk
    rw [e1, if_pos (nI_le (Nat.le_refl _) (by omega)), pt_e, bd_rt, gI_pI, if_neg (by omega), gI_pI, if_neg (by omega), e2, h.2.2.2.1, pk_sub hk]
  | succ d ih =>
    intro i n A hi hn h
    obtain ⟨n, rfl⟩ : ∃ j, n = j + 1 := ⟨n - 1, by omega⟩
    have hlen : (li ++ tp.take i).length = li.length + i := by rw [List.length_append, List.length_take]; omega
    obtain ⟨A1, e1, e2, e3⟩ := xqi_add (fG tp i) h hO (by rw [hlen]; omega)
    rw [List.append_assoc, ← take_s tp i (by omega)] at e2
    obtain ⟨A', g1, g2, g3⟩ := ih (i + 1) n A1 (by omega) (by omega) e2
    refine ⟨A', ?_, g2, by omega⟩
    show X0_input_25b (X0_input_25 n) _ A = _
    have hI := h.1.2.2.2.1 165 (by unfold isI; omega)
    have hc := h.1.2.2.2.cap (c := 165) (by unfold isI; omega)
    have hl2 := h.2.1.2.1
    have e8 : X8_at 165 (nI i) A = rt (nI (fG tp i)) A := by
      unfold X8_at
      rw [hI.1, dO_s hI.2.1, lI_n (show i < gN A (rowOf A 165) by unfold wOf at hl2; omega) (by unfold wOf at hc; omega), h.2.1.2.2 i (by omega)]
    unfold X0_input_25b
    rw [h.2.1.1, if_neg (nI_ge (by omega) (by omega)), e8, bd_rt, e1, bd_rt, vl_e, nI_1]
    exact g1
theorem m_input_loop {tp : List Nat} {nin : Nat} (hcap : nin + tp.length ≤ 4000) : ∀ (d i n : Nat) (B : Sx), i + d = tp.length → d < n → MT B tp → gI B 167 4 = nI nin → (∀ q, q < i → gI B 170 (nin + q) = nI (fG tp q)) → ∃ B', X12_input_19 n (nI i) B = rt (nI (nin + tp.length)) (pI (pI B' 167 4 (nI (nin + tp.length))) 167 1 0) ∧ (∀ q, q < tp.length → gI B' 170 (nin + q) = nI (fG tp q)) ∧ Sm (fun c k => c = 170 ∧ nin ≤ k) B B' := by
  intro d
  induction d with
  | zero =>
    intro i n B hi hn h1 h2 h3
    obtain ⟨n, rfl⟩ : ∃ j, n = j + 1 := ⟨n - 1, by omega⟩
    obtain rfl : i = tp.length := by omega
    refine ⟨B, ?_, h3, Sm.rfl' B⟩
    show X12_input_19b (X12_input_19 n) _ B = _
    unfold X12_input_19b
    rw [h1.1, if_pos (nI_le (Nat.le_refl _) (by omega)), pt_e, pt_e, h2, nI_add, gI_pI, if_neg (by omega), gI_pI, if_pos ⟨rfl, rfl⟩]
  | succ d ih =>
    intro i n B hi hn h1 h2 h3
    obtain ⟨n, rfl⟩ : ∃ j, n = j + 1 := ⟨n - 1, by omega⟩
    have s : Sm (fun c k => c = 170 ∧ nin ≤ k) B (pI B 170 (nin + i) (nI (fG tp i))) := Sm.pI ⟨rfl, by omega⟩
    obtain ⟨B', g1, g2, g3⟩ := ih (i + 1) n (pI B 170 (nin + i) (nI (fG tp i))) (by omega) (by omega) ⟨by rw [s.I (by omega)]; exact h1.1, fun q hq => by rw [s.I (by omega)]; exact h1.2 q hq⟩ (by rw [s.I (by omega)]; exact h2) (fun q hq => by
      rw [gI_pI]
      split
      · rename_i e; rw [show q = i by omega]
      · exact h3 q (by omega))
    refine ⟨B', ?_, g2, s.trans g3⟩
    show X12_input_19b (X12_input_19 n) _ B = _
    unfold X12_input_19b
    rw [h1.1, if_neg (nI_ge (by omega) (by omega)), lI_n (by omega) (by omega), h1.2 i (by omega), h2, nI_add, sI_n (by omega) (by omega), vl_e, nI_1]
    exact g1
theorem top_input {j : Nat} {A B : Sx} (R : Rtop j A B) (hj : j < 64) : ∃ v A1 B1, X0_input A = rt v A1 ∧ X12_input (adopt B A1) = rt v B1 ∧ Rtop (j + 1) (adopt A1 B1) B1 := by
  obtain ⟨m, tp, tot, w, f6, f7, f8, h1, h2, h3, h4, h5, h6, h7, h8, h9, h10, h11⟩ := id R
  have hF := FU_ge
  have i6 : isI 146 := by unfold isI; omega
  have i5 : isI 165 := by unfold isI; omega
  obtain ⟨li, tk, l1, l2, l3, l4, l5⟩ := XN_li h1.1.2.2.2.2.2.1 (h1.2.2.2.1 146 i6) h3 (by omega)
  have hlen : m.2.2.2.2.2.2.2.2.1.length = tot - tk := by rw [l5, List.length_map, List.length_drop, l2]
  have hXi : XQi A (U0 + 8 * j + 8 * w) (V0 + 64 * j + 4 * w) m f6 f7 f8 tp (li ++ tp.take 0) tk := by
    rw [List.take_zero, List.append_nil]
    refine ⟨?_, h2, l1, l4, by omega⟩
    rw [← l5]
    exact h1
  obtain ⟨A', e1, e2, e3⟩ := x_input_loop h7 (by omega) tp.length 0 FU A (by omega) (by omega) hXi
  have sA : Sm (fun c k => c = 165 ∧ k = 1) A' (pI A' 165 1 0) := Sm.pI ⟨rfl, rfl⟩
  have hM0 : MT (adopt B (pI A' 165 1 0)) tp := h6
  have hin : gI (adopt B (pI A' 165 1 0)) 167 4 = nI (tot - tk) := by
    show gI B 167 4 = _
    rw [← hlen]; exact h5.1.2.2.2.2.2.1.1
  obtain ⟨B', b1', b2, b3⟩ := m_input_loop (nin := tot - tk) (by omega) tp.length 0 FU (adopt B (pI A' 165 1 0)) (by omega) (by omega) hM0 hin (fun q hq => by omega)
  have sB : Sm (fun c k => (c = 170 ∧ tot - tk ≤ k) ∨ (c = 167 ∧ (k = 4 ∨ k = 1))) (adopt B (pI A' 165 1 0)) (pI (pI B' 167 4 (nI (tot - tk + tp.length))) 167 1 0) := ((b3.mono (fun c k x => Or.inl x)).trans (Sm.pI (by omega))).trans (Sm.pI (by omega))
  have hw := h5.2.2.2.1.2.2.2
  have hc : ∀ T : Sx, (nI (tot - tk) + nI tp.length ≤ 4000) := fun _ => by
    rw [nI_add]
    exact nI_le (a := tot - tk + tp.length) (b := 4000) (by omega) (by omega)
  refine ⟨nI (tot - tk + tp.length), pI A' 165 1 0, pI (pI B' 167 4 (nI (tot - tk + tp.length))) 167 1 0, ?_, ?_, ?_⟩
  · unfold X0_input X5_left
    rw [bd_rt, h3, l4, pk_sub l3, h2.1, if_pos (hc A), show (0 : Int32) = nI 0 from rfl, e1, l2, show tot + tp.length - tk = tot - tk + tp.length by omega]
    rfl
  · unfold X12_input
    rw [hin, hM0.1, if_pos (hc A)]
    exact b1'
  · have hgn : gn B ≤ gn A' := by omega
    rw [adopt_e (show gn _ = gn (pI A' 165 1 0) from sB.1) (show gu _ = gu (pI A' 165 1 0) from sB.2.1)]
    have hQ : MQq (adopt B (pI A' 165 1 0)) w m f6 f7 f8 := h5.sg (adopt_sg (P := fun _ _ => False) h10 e3) (fun c k x => x.elim)
    have hI5 := e2.1.2.2.2.1 165 i5
    have hin2 : (li ++ tp).drop tk = li.drop tk ++ tp := List.drop_append_of_le_length (by omega)
    have hOK : OKa (mIn m (((li ++ tp).drop tk).map nI)) := by
      obtain ⟨fs, o1, o2, o3, o4, o5, o6, o7⟩ := id h7
      refine ⟨fs, o1, o2, o3, o4, o5, o6, ?_⟩
      show (((li ++ tp).drop tk).map nI).length ≤ 4000
      rw [List.length_map, List.length_drop, List.length_append]
      omega
    have hcut := e2.2.1.cut (n := 0) hI5 i5 (Nat.zero_le _)
    have hsgB := sB.sg
    obtain ⟨y2, y1, y3, y4, y5, y6, y7, y8, y9⟩ := id hQ.1
    refine ⟨mIn m (((li ++ tp).drop tk).map nI), [], tot + tp.length, w, f6, f7, f8, (e2.1.sg hOK sA.sg (e2.1.2.2.2.sm sA (fun c hc x => by omega)) (fun c k x => ⟨by omega, ?_⟩)).up ?_ ?_ ?_ ?_, hcut, ?_, by simp; omega, ⟨⟨MP_back y2 sB (by intro c k; omega), y1.sm sB (by intro c k; omega), y3.sm sB (by intro c k; omega), y4.sm sB (by intro c k; omega), y5.sm sB (by intro c k; omega), ⟨?_, fun i hi => ?_⟩, by rw [sB.L (by omega)]; exact y7, by rw [sB.I (by omega)]; exact y8, by rw [sB.I (by omega)]; exact y9⟩, ⟨by rw [sB.I (by omega)]; exact hQ.2.1.1, by rw [sB.I (by omega)]; exact hQ.2.1.2.1, by rw [sB.I (by omega)]; exact hQ.2.1.2.2⟩, hQ.2.2.1.sg hsgB hQ.2.2.2.2, hQ.2.2.2.1.sg hsgB hQ.2.2.2.2 (by intro k a b; omega), by rw [sB.1]; exact hQ.2.2.2.2⟩, ⟨by rw [gI_pI, if_pos ⟨rfl, rfl⟩]; rfl, fun i hi => absurd hi (Nat.not_lt_zero _)⟩, hOK, (fun i => by unfold fG; simp), h9, sB.1.symm, sB.2.1.symm⟩
    · have := isI_row (e2.1.2.2.2.1 146 i6) i6 i5
      omega
    · omega
    · unfold U0; omega
    · omega
    · unfold V0; omega
    · rw [sA.I (by omega), e2.2.2.1.1, List.length_append, l2]
    · rw [gI_pI, if_neg (by omega), gI_pI, if_pos ⟨rfl, rfl⟩]
      show _ = nI (((li ++ tp).drop tk).map nI).length
      rw [List.length_map, List.length_drop, List.length_append, l2]
      congr 1; omega
    · have hi' : i < (((li ++ tp).drop tk).map nI).length := hi
      rw [List.length_map] at hi'
      show _ = (((li ++ tp).drop tk).map nI).getD i 0
      rw [gD_map _ _ hi', hin2]
      rw [hin2, List.length_append, List.length_drop, l2] at hi'
      rw [gI_pI, if_neg (by omega), gI_pI, if_neg (by omega)]
      by_cases hil : i < tot - tk
      · rw [b3.I (by omega)]
        have q := y6.2 i (by show i < m.2.2.2.2.2.2.2.2.1.length; omega)
        rw [q]
        have : m.2.2.2.2.2.2.2.2.1.getD i 0 = ((li.drop tk).map nI).getD i 0 := by rw [← l5]
        rw [this, gD_map _ _ (by rw [List.length_drop]; omega)]
        unfold fG
        simp only [List.getD]
        rw [List.getElem?_append_left (by rw [List.length_drop]; omega)]
      · have q := b2 (i - (tot - tk)) (by omega)
        rw [show tot - tk + (i - (tot - tk)) = i by omega] at q
        rw [q]
        unfold fG
        simp only [List.getD]
        rw [List.getElem?_append_right (by rw [List.length_drop]; omega), List.length_drop, l2]
