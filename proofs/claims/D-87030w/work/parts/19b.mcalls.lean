set_option maxRecDepth 100000
/-! ===== M: calls ===== -/
theorem m_push {S : Sx} {sp : Nat} (v : Int64) (h : gI S 167 11 = nI sp) (hs : sp < 601) : X12_push v S = rt () (pI (pL S 173 sp v) 167 11 (nI (sp + 1))) := by
  unfold X12_push
  rw [h, sL_n hs (by omega), pt_e, gI_pL, h, nI_1]
theorem m_call_71 {S : Sx} {sp L k : Nat} {fl gl : Nat → Int64} (h : MR S sp L fl gl) (hk : k ≤ L) (hL : L ≤ 16) (hs : sp + (k + 1) ≤ 600) : ∃ S', X12_call_71 (nI k) S = rt () S' ∧ MR S' (sp + (k + 1)) (L - (k + 1)) (up fl (sp + k) (lN k)) gl ∧ Sm mRl S S' := by
  obtain ⟨a, b, c, d, e⟩ := id h
  obtain ⟨kk, S1, h1, h2, h3, h4⟩ := loopN (F := fun n i S => X12_call_79 n (nI k) (nI L) i S) (B := fun q i S => X12_call_79b (fun _ _ i S => q i S) (nI k) (nI L) i S) (N := k) (Inv := fun i T => gI T 167 11 = nI (sp + i) ∧ (∀ j, j < sp + i → gL T 173 j = fl j) ∧ Sm (fun c k => c = 173 ∨ (c = 167 ∧ k = 11)) S T) (by omega) (fun _ _ _ => rfl) (fun q i T hi ⟨x1, x2, x3⟩ => by
    refine ⟨pI (pL T 173 (sp + i) (fl (sp + i))) 167 11 (nI (sp + i + 1)), ?_, ?_, fun j hj => ?_, x3.trans (Sm.trans (Sm.pL (by omega)) (Sm.pI (by omega)))⟩
    · show X12_call_79b (fun _ _ i S => q i S) (nI k) (nI L) (nI i) T = _
      unfold X12_call_79b
      rw [if_neg (nI_ge hi (by omega)), lL_n (by omega) (by omega), x3.L (by omega), d i (by omega), m_push _ x1 (by omega), bd_rt, vl_e, nI_1]
    · rw [gI_pI, if_pos ⟨rfl, rfl⟩]; rfl
    · rw [gL_pI, gL_pL]
      split
      · rename_i q; rw [q.2]
      · exact x2 j (by omega)) ⟨by rw [a]; rfl, c, Sm.rfl' S⟩
  have e2 : X12_call_79b (fun _ _ i S => kk i S) (nI k) (nI L) (nI k) S1 = X12_call_122 FU (nI k) (nI (L - (k + 1))) 0 (pI (pL S1 173 (sp + k) (lN k)) 167 11 (nI (sp + k + 1))) := by
    unfold X12_call_79b
    rw [if_pos (nI_le (Nat.le_refl _) (by omega)), nI_l (by omega), m_push _ h2 (by omega), bd_rt]
    unfold J7_max
    by_cases q : k = L
    · subst q
      rw [if_pos (show nI k - nI k - 1 < 0 by rw [pk_sub (Nat.le_refl _), Nat.sub_self]; decide), bd_rt, vl_e, show k - (k + 1) = 0 by omega]
      rfl
    · rw [show nI L - nI k - 1 = nI (L - (k + 1)) from by rw [pk_sub hk]; obtain ⟨u, eu⟩ : ∃ u, L - k = u + 1 := ⟨L - k - 1, by omega⟩; rw [eu, nI_pred, show L - (k + 1) = u by omega], if_neg (nI_pos (by omega)), bd_rt, vl_e]
  generalize hS2 : pI (pL S1 173 (sp + k) (lN k)) 167 11 (nI (sp + k + 1)) = S2 at e2
  have hs2 : Sm (fun c k => c = 173 ∨ (c = 167 ∧ k = 11)) S S2 := by
    rw [← hS2]
    exact h4.trans (Sm.trans (Sm.pL (by omega)) (Sm.pI (by omega)))
  obtain ⟨k2, S3, g1, g2, g3, g4⟩ := loopN (F := fun n i S => X12_call_122 n (nI k) (nI (L - (k + 1))) i S) (B := fun q i S => X12_call_122b (fun _ _ i S => q i S) (nI k) (nI (L - (k + 1))) i S) (N := L - (k + 1)) (Inv := fun i T => (∀ j, j < i → gL T 171 j = fl (sp + (k + 1) + j)) ∧ (∀ j, i ≤ j → gL T 171 j = gL S 171 j) ∧ Sm (fun c _ => c = 171) S2 T) (by omega) (fun _ _ _ => rfl) (fun q i T hi ⟨x1, x2, x3⟩ => by
    refine ⟨pL T 171 i (fl (sp + (k + 1) + i)), ?_, fun j hj => ?_, fun j hj => ?_, x3.trans (Sm.pL rfl)⟩
    · show X12_call_122b (fun _ _ i S => q i S) (nI k) (nI (L - (k + 1))) (nI i) T = _
      unfold X12_call_122b
      rw [if_neg (nI_ge hi (by omega)), nI_1, nI_add, lL_n (by omega) (by omega), x2 _ (by omega), d _ (by omega), sL_n (by omega) (by omega), vl_e, nI_1, show sp + (k + 1 + i) = sp + (k + 1) + i by omega]
    · rw [gL_pL]
      split
      · rename_i q; rw [q.2]
      · exact x1 j (by omega)
    · rw [gL_pL, if_neg (by omega)]; exact x2 j (by omega)) ⟨(fun j hj => by omega), (fun j _ => hs2.L (by omega)), Sm.rfl' S2⟩
  have hsm : Sm mRl S S3 := (hs2.mono fun c k x => by unfold mRl; omega).trans (g4.mono fun c k x => by unfold mRl; omega)
  refine ⟨pL S3 172 4 (lN (L - (k + 1))), ?_, ⟨?_, ?_, fun i hi => ?_, fun n hn => ?_, fun n hn hn2 => ?_⟩, hsm.trans (Sm.pL (by unfold mRl; omega))⟩
  · unfold X12_call_71
    rw [m_rL h, bd_rt, vl_e]
    refine h1.trans (e2.trans (g1.trans ?_))
    show X12_call_122b (fun _ _ i S => k2 i S) (nI k) (nI (L - (k + 1))) (nI (L - (k + 1))) S3 = _
    unfold X12_call_122b
    rw [if_pos (nI_le (Nat.le_refl _) (by omega)), show (4 : Int32) = nI 4 from rfl, sL_n (by omega) (by omega), nI_l (by omega)]
  · rw [gI_pL, g4.I (by omega), ← hS2, gI_pI, if_pos ⟨rfl, rfl⟩]; rfl
  · rw [gL_pL, if_pos ⟨rfl, rfl⟩]
  · rw [gL_pL, if_neg (by omega), g4.L (by omega), ← hS2, gL_pI, gL_pL]
    by_cases q : i = sp + k
    · rw [if_pos ⟨rfl, q⟩, q, up_s]
    · rw [if_neg (by omega), up_n _ _ q]; exact h3 i (by omega)
  · rw [gL_pL, if_neg (by omega), g2 n hn, up_n _ _ (by omega)]
  · rw [gL_pL, if_neg (by omega), g3 n (by omega)]; exact e n hn hn2
theorem dFl_1 {sp L k : Nat} {fl : Nat → Int64} (h : k < L) : dFl sp L fl k = up fl (sp + k) (lN k) := by
  unfold dFl
  rw [zf_0 _ (by omega)]
theorem dFl_2 {sp L : Nat} {fl : Nat → Int64} : dFl sp L fl L = up fl (sp + L) (lN L) := by
  unfold dFl
  funext i
  unfold up zf
  by_cases q : i = sp + L
  · rw [if_pos q, if_pos q]
  · rw [if_neg q, if_neg q]; exact if_neg (by omega)
theorem dFl_3 {sp L k : Nat} {fl : Nat → Int64} (h : L ≤ k) (hk : k < 16) : dFl sp L fl k = up (rFl sp L fl k 0) (sp + k) (lN k) := by
  unfold dFl rFl
  rw [if_pos hk]
  funext i
  unfold up zf
  by_cases q : i = sp + k
  · rw [if_pos q, if_pos q]
  · rw [if_neg q, if_neg q]
    by_cases q2 : sp + L ≤ i ∧ i < sp + k
    · rw [if_pos (by omega)]; exact ((if_neg q).trans (if_pos q2)).symm
    · rw [if_neg (by omega)]; exact ((if_neg q).trans (if_neg q2)).symm
theorem m_call {S : Sx} {sp L x : Nat} {fl gl : Nat → Int64} (h : MR S sp L fl gl) (hL : L ≤ 16) (hx : x < 256) (hs : sp + (dK x L + 1) ≤ 600) (hs2 : sp + L ≤ 600) : ∃ S', X12_call (nI x) S = rt () S' ∧ MR S' (sp + (dK x L + 1)) (L - (dK x L + 1)) (dFl sp L fl (dK x L)) gl ∧ Sm mRl S S' := by
  have hst : X12_call (nI x) S = X12_call_14 (nI x) (nI (dK x L)) S := by
    unfold X12_call dK
    by_cases hx16 : x < 16
    · rw [if_pos (lit_lt hx16 (by omega)), if_pos hx16]
    · rw [if_neg (lit_gt (N := 16) (by omega) (by omega)), if_neg hx16, m_rL h, bd_rt]
  have hk : dK x L ≤ 16 := by unfold dK; split <;> omega
  rw [hst]
  unfold X12_call_14
  rw [vl_e, m_rL h, bd_rt]
  have hmax : J7_max (nI (dK x L) + 1) (nI L) S = rt (nI (max (dK x L + 1) L)) S := by
    unfold J7_max
    rw [nI_1]
    by_cases q : dK x L + 1 < L
    · rw [if_pos (nI_lt q (by omega)), show max (dK x L + 1) L = L by omega]
    · rw [if_neg (nI_nlt (by omega) (by omega)), show max (dK x L + 1) L = dK x L + 1 by omega]
  rw [hmax, bd_rt, h.1, nI_add, if_pos (show nI (sp + max (dK x L + 1) L) ≤ 600 from nI_le (a := sp + max (dK x L + 1) L) (b := 600) (by omega) (by omega))]
  by_cases hkL : dK x L < L
  · have e : (if 16 ≤ nI (dK x L) then X12_call_71 (nI (dK x L)) S else bd (X12_rL S) (fun v4 S3 => if nI (dK x L) < v4 then X12_call_71 (nI (dK x L)) S3 else if 16 ≤ nI x then X12_call_71 (nI (dK x L)) S3 else bd (X12_set (nI (dK x L)) 0 S3) (fun _ S4 => X12_call_71 (nI (dK x L)) S4))) = X12_call_71 (nI (dK x L)) S := by
      split
      · rfl
      · rw [m_rL h, bd_rt, if_pos (nI_lt hkL (by omega))]
    rw [e, dFl_1 hkL]
    exact m_call_71 h (by omega) hL hs
  · by_cases hx16 : x < 16
    · have hd : dK x L = x := by unfold dK; rw [if_pos hx16]
      rw [hd] at hs hkL ⊢
      obtain ⟨S1, e1, e2, e3⟩ := m_rset (n := x) 0 h (by omega) hL
      rw [if_neg (lit_ge hx16 (by omega)), m_rL h, bd_rt, if_neg (nI_nlt (by omega) (by omega)), if_neg (lit_ge hx16 (by omega)), e1, bd_rt, dFl_3 (by omega) hx16]
      have e2' : MR S1 sp (x + 1) (rFl sp L fl x 0) gl := by
        have q1 : rL L x = x + 1 := by unfold rL; rw [if_pos hx16, if_neg (by omega)]
        have q2 : rGl gl x 0 = gl := by unfold rGl; rw [if_pos hx16]
        rw [q1, q2] at e2
        exact e2
      obtain ⟨S2, f1, f2, f3⟩ := m_call_71 (k := x) e2' (by omega) (by omega) hs
      refine ⟨S2, f1, ?_, e3.trans f3⟩
      rw [show L - (x + 1) = x + 1 - (x + 1) by omega]
      exact f2
    · have hd : dK x L = L := by unfold dK; rw [if_neg hx16]
      rw [hd] at hs hkL ⊢
      have e : (if 16 ≤ nI L then X12_call_71 (nI L) S else bd (X12_rL S) (fun v4 S3 => if nI L < v4 then X12_call_71 (nI L) S3 else if 16 ≤ nI x then X12_call_71 (nI L) S3 else bd (X12_set (nI L) 0 S3) (fun _ S4 => X12_call_71 (nI L) S4))) = X12_call_71 (nI L) S := by
        split
        · rfl
        · rw [m_rL h, bd_rt, if_neg (nI_nlt (Nat.le_refl _) (by omega)), if_pos (lit_le (N := 16) (by omega) (by omega))]
      rw [e, dFl_2]
      exact m_call_71 h (Nat.le_refl _) hL hs
/-! ===== M: giveBack ===== -/
theorem m_give_81 {S : Sx} {sp L x c : Nat} {fl gl : Nat → Int64} (a : gI S 167 11 = nI (sp - (c + 1))) (c3 : ∀ i, i < sp → gL S 173 i = fl i) (sv : ∀ n, n < L → gL S 181 n = fl (sp + n)) (e5 : ∀ n, 16 ≤ n → n < 32 → gL S 171 n = gl n) (hL : L ≤ 16) (hc : c ≤ 16) (hc2 : c + 1 ≤ sp) (hx : x < 256) (hs : sp ≤ 600) : ∃ S', X12_giveBack_81 FU (nI x) (nI L) (nI c) 0 S = rt () S' ∧ MR S' (sp - (c + 1)) (min 16 (c + upC x L)) (uFl sp x L fl) gl ∧ Sm mRl S S' := by
  obtain ⟨kk, S1, h1, h2, h3, h4⟩ := loopN (F := fun n i S => X12_giveBack_81 n (nI x) (nI L) (nI c) i S) (B := fun q i S => X12_giveBack_81b (fun _ _ _ i S => q i S) (nI x) (nI L) (nI c) i S) (N := c) (Inv := fun i T => (∀ j, j < i → gL T 171 j = fl (sp - (c + 1) + j)) ∧ (∀ j, 16 ≤ j → j < 32 → gL T 171 j = gl j) ∧ Sm (fun c _ => c = 171) S T) (by omega) (fun _ _ _ => rfl) (fun q i T hi ⟨x1, x2, x3⟩ => by
    refine ⟨pL T 171 i (fl (sp - (c + 1) + i)), ?_, fun j hj => ?_, fun j hj hj2 => ?_, x3.trans (Sm.pL rfl)⟩
    · show X12_giveBack_81b (fun _ _ _ i S => q i S) (nI x) (nI L) (nI c) (nI i) T = _
      unfold X12_giveBack_81b
      rw [if_neg (nI_ge hi (by omega)), x3.I (by omega), a, nI_add, lL_n (by omega) (by omega), x3.L (by omega), c3 _ (by omega), sL_n (by omega) (by omega), vl_e, nI_1]
    · rw [gL_pL]
      split
      · rename_i q; rw [q.2]
      · exact x1 j (by omega)
    · rw [gL_pL, if_neg (by omega)]; exact x2 j hj hj2) ⟨(fun j hj => by omega), e5, Sm.rfl' S⟩
  have hmid : X12_giveBack_81b (fun _ _ _ i S => kk i S) (nI x) (nI L) (nI c) (nI c) S1 = X12_giveBack_137 FU (nI x) (nI L) (nI c) (nI (upC x L)) 0 S1 := by
    unfold X12_giveBack_81b upC
    rw [if_pos (nI_le (Nat.le_refl _) (by omega))]
    by_cases hx0 : x = 0
    · subst hx0
      rw [if_pos rfl, if_pos nI_0]; rfl
    · rw [if_neg (nI_ne0 (by omega) (by omega)), if_neg hx0]
      by_cases hxL : x ≤ L
      · rw [if_neg (nI_nlt (by omega) (by omega)), if_pos hxL, vl_e]
      · rw [if_pos (nI_lt (by omega) (by omega)), if_neg hxL, vl_e, nI_1]
  have huN : upC x L ≤ L + 1 := by unfold upC; split; omega; split <;> omega
  obtain ⟨k2, S3, g1, g2, g3, g4⟩ := loopN (F := fun n i S => X12_giveBack_137 n (nI x) (nI L) (nI c) (nI (upC x L)) i S) (B := fun q i S => X12_giveBack_137b (fun _ _ _ _ i S => q i S) (nI x) (nI L) (nI c) (nI (upC x L)) i S) (N := min (upC x L) (16 - c)) (Inv := fun i T => (∀ j, j < c + i → gL T 171 j = uFl sp x L fl (sp - (c + 1) + j)) ∧ (∀ j, 16 ≤ j → j < 32 → gL T 171 j = gl j) ∧ Sm (fun c _ => c = 171) S1 T) (by omega) (fun _ _ _ => rfl) (fun q i T hi ⟨x1, x2, x3⟩ => by
    have hx0 : ¬ x = 0 := fun e => by rw [e] at hi; unfold upC at hi; simp at hi
    refine ⟨pL T 171 (c + i) (uFl sp x L fl (sp - (c + 1) + (c + i))), ?_, fun j hj => ?_, fun j hj hj2 => ?_, x3.trans (Sm.pL rfl)⟩
    · show X12_giveBack_137b (fun _ _ _ _ i S => q i S) (nI x) (nI L) (nI c) (nI (upC x L)) (nI i) T = _
      unfold X12_giveBack_137b X12_giveBack_187
      rw [if_neg (nI_ge (by omega) (by omega)), nI_add, if_neg (lit_ge (N := 16) (by omega) (by omega))]
      have hv : uFl sp x L fl (sp - (c + 1) + (c + i)) = if i = 0 then (if x ≤ L then fl (sp + x - 1) else 0) else fl (sp + (i - 1)) := by
        unfold uFl uV
        rw [if_neg hx0]
        by_cases hi0 : i = 0
        · rw [if_pos hi0, show sp - (c + 1) + (c + i) = sp - 1 by omega, up_s]
        · rw [if_neg hi0, up_n _ _ (by omega), show sp - (c + 1) + (c + i) = sp + (i - 1) by omega]
      rw [hv]
      by_cases hi0 : i = 0
      · subst hi0
        rw [if_pos (by decide), if_pos rfl]
        by_cases hxL : x ≤ L
        · rw [if_neg (nI_nlt (by omega) (by omega)), if_pos hxL, show nI x - 1 = nI (x - 1) from by obtain ⟨u, rfl⟩ : ∃ u, x = u + 1 := ⟨x - 1, by omega⟩; exact nI_pred u, lL_n (by omega) (by omega), x3.L (by omega), h4.L (by omega), sv _ (by omega), vl_e, sL_n (by omega) (by omega), vl_e, nI_1, show sp + (x - 1) = sp + x - 1 by omega]
        · rw [if_pos (nI_lt (by omega) (by omega)), if_neg hxL, vl_e, sL_n (by omega) (by omega), vl_e, nI_1]
      · rw [if_neg (nI_nle (by omega) (by omega)), if_neg hi0, show nI i - 1 = nI (i - 1) from by obtain ⟨u, rfl⟩ : ∃ u, i = u + 1 := ⟨i - 1, by omega⟩; exact nI_pred u, lL_n (by omega) (by omega), x3.L (by omega), h4.L (by omega), sv _ (by omega), vl_e, sL_n (by omega) (by omega), vl_e, nI_1]
    · rw [gL_pL]
      split
      · rename_i q; rw [q.2]
      · exact x1 j (by omega)
    · rw [gL_pL, if_neg (by omega)]; exact x2 j hj hj2) ⟨(fun j hj => by
      rw [h2 j (by omega)]
      unfold uFl
      split
      · rfl
      · rw [up_n _ _ (by omega)]), h3, Sm.rfl' S1⟩
  have hsm : Sm (fun c _ => c = 171) S S3 := h4.trans g4
  refine ⟨pL S3 172 4 (lN (min 16 (c + upC x L))), ?_, ⟨?_, ?_, fun i hi => ?_, fun n hn => ?_, fun n hn hn2 => ?_⟩, (hsm.mono fun c k x => by unfold mRl; omega).trans (Sm.pL (by unfold mRl; omega))⟩
  · refine h1.trans (hmid.trans (g1.trans ?_))
    show X12_giveBack_137b (fun _ _ _ _ i S => k2 i S) (nI x) (nI L) (nI c) (nI (upC x L)) (nI (min (upC x L) (16 - c))) S3 = _
    have hfin : X12_giveBack_206 (nI c) (nI (upC x L)) S3 = rt () (pL S3 172 4 (lN (min 16 (c + upC x L)))) := by
      unfold X12_giveBack_206 J7_min
      rw [nI_add]
      by_cases q : 16 < c + upC x L
      · rw [if_pos (show (16 : Int32) < nI (c + upC x L) from nI_lt (a := 16) (b := c + upC x L) q (by omega)), bd_rt, show (4 : Int32) = nI 4 from rfl, sL_n (by omega) (by omega), show min 16 (c + upC x L) = 16 by omega]; rfl
      · rw [if_neg (show ¬ (16 : Int32) < nI (c + upC x L) from nI_nlt (a := 16) (b := c + upC x L) (by omega) (by omega)), bd_rt, show (4 : Int32) = nI 4 from rfl, sL_n (by omega) (by omega), show min 16 (c + upC x L) = c + upC x L by omega, nI_l (by omega)]
    unfold X12_giveBack_137b
    by_cases q : upC x L ≤ 16 - c
    · rw [if_pos (nI_le (by omega) (by omega))]; exact hfin
    · rw [if_neg (nI_ge (by omega) (by omega)), nI_add, if_pos (lit_le (N := 16) (by omega) (by omega))]; exact hfin
  · rw [gI_pL, hsm.I (by omega)]; exact a
  · rw [gL_pL, if_pos ⟨rfl, rfl⟩]
  · rw [gL_pL, if_neg (by omega), hsm.L (by omega), c3 i (by omega)]
    unfold uFl
    split
    · rfl
    · rw [up_n _ _ (by omega)]
  · rw [gL_pL, if_neg (by omega)]; exact g2 n (by omega)
  · rw [gL_pL, if_neg (by omega)]; exact g3 n hn hn2
theorem m_give {S : Sx} {sp L x c : Nat} {l : List Nat} {fl gl : Nat → Int64} (h : MR S sp L fl gl) (hL : L ≤ 16) (hx : x < 256) (hs : sp + L ≤ 600) (hf : Fr fl (c :: l) sp) : ∃ S', X12_giveBack (nI x) S = rt () S' ∧ MR S' (sp - (c + 1)) (min 16 (c + upC x L)) (uFl sp x L fl) gl ∧ Sm mRl S S' := by
  obtain ⟨f1, f2, f3, f4⟩ := hf
  obtain ⟨a, b, c', d, e⟩ := id h
  obtain ⟨kk, S1, h1, h2, h3⟩ := loopN (F := fun n i S => X12_giveBack_24 n (nI x) (nI L) i S) (B := fun q i S => X12_giveBack_24b (fun _ _ i S => q i S) (nI x) (nI L) i S) (N := L) (Inv := fun i T => (∀ j, j < i → gL T 181 j = fl (sp + j)) ∧ Sm (fun c _ => c = 181) S T) (by omega) (fun _ _ _ => rfl) (fun q i T hi ⟨x1, x3⟩ => by
    refine ⟨pL T 181 i (fl (sp + i)), ?_, fun j hj => ?_, x3.trans (Sm.pL rfl)⟩
    · show X12_giveBack_24b (fun _ _ i S => q i S) (nI x) (nI L) (nI i) T = _
      unfold X12_giveBack_24b
      rw [if_neg (nI_ge hi (by omega)), lL_n (by omega) (by omega), x3.L (by omega), d _ (by omega), sL_n (by omega) (by omega), vl_e, nI_1]
    · rw [gL_pL]
      split
      · rename_i q; rw [q.2]
      · exact x1 j (by omega)) ⟨(fun j hj => by omega), Sm.rfl' S⟩
  obtain ⟨u, rfl⟩ : ∃ u, sp = u + 1 := ⟨sp - 1, by omega⟩
  obtain ⟨S2, g1, g2, g3⟩ := m_give_81 (S := pI (pI S1 167 11 (nI u)) 167 11 (nI (u + 1 - (c + 1)))) (sp := u + 1) (L := L) (x := x) (c := c) (fl := fl) (gl := gl) (by rw [gI_pI, if_pos ⟨rfl, rfl⟩]) (fun i hi => by rw [gL_pI, gL_pI, h3.L (by omega)]; exact c' i hi) (fun n hn => by rw [gL_pI, gL_pI]; exact h2 n hn) (fun n hn hn2 => by rw [gL_pI, gL_pI, h3.L (by omega)]; exact e n hn hn2) hL f2 f3 hx (by omega)
  refine ⟨S2, ?_, g2, ((h3.mono fun c k x => by unfold mRl; omega).trans (Sm.trans (Sm.pI (by unfold mRl; omega)) (Sm.pI (by unfold mRl; omega)))).trans g3⟩
  unfold X12_giveBack
  rw [a, if_neg (nI_ne0 (by omega) (by omega)), m_rL h, bd_rt, vl_e]
  refine h1.trans ?_
  show X12_giveBack_24b (fun _ _ i S => kk i S) (nI x) (nI L) (nI L) S1 = _
  unfold X12_giveBack_24b
  rw [if_pos (nI_le (Nat.le_refl _) (by omega)), h3.I (by omega), a, nI_pred, pt_e, gI_pI, if_pos ⟨rfl, rfl⟩, lL_n (by omega) (by omega), gL_pI, h3.L (by omega), c' u (by omega), show fl u = lN c from f1, lN_i, vl_e, pk_sub (by omega), show u - c = u + 1 - (c + 1) by omega, pt_e]
  exact g1
