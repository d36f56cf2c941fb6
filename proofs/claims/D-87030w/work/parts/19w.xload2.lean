set_option maxRecDepth 100000
theorem wayOK_x {bits : Int32} {w : Int64} {α : Type} (P0 P1 : α) : (if (w - w / 4 * 4) = 0 then (if (w / 4) < (-(((1 : Int64)) <<< ((bits - 1).toInt64 &&& 63))) then P0 else if (((1 : Int64)) <<< ((bits - 1).toInt64 &&& 63)) ≤ (w / 4) then P0 else P1) else P0) = if wayOK bits w = true then P1 else P0 := by
  unfold wayOK
  by_cases h : (w &&& 3) = 0
  · have hq : w / 4 = q4 w := l_q4 h
    rw [if_pos ((l_rem4 w).mpr h), hq]
    by_cases h1 : q4 w < (-(((1 : Int64)) <<< ((bits - 1).toInt64 &&& 63)))
    · rw [if_pos h1, if_neg]
      rw [decide_eq_true_iff]
      exact fun x => x.2.1 h1
    · rw [if_neg h1]
      by_cases h2 : (((1 : Int64)) <<< ((bits - 1).toInt64 &&& 63)) ≤ q4 w
      · rw [if_pos h2, if_neg]
        rw [decide_eq_true_iff]
        exact fun x => (Int64.not_lt.mpr h2) x.2.2
      · rw [if_neg h2, if_pos]
        rw [decide_eq_true_iff]
        exact ⟨h, h1, Int64.not_le.mp h2⟩
  · rw [if_neg (fun x => h ((l_rem4 w).mp x)), if_neg]
    rw [decide_eq_true_iff]
    exact fun x => h x.1
theorem wayOK_q {bits : Int32} {w : Int64} (h : wayOK bits w = true) : w / 4 = q4 w := by
  unfold wayOK at h
  rw [decide_eq_true_iff] at h
  exact l_q4 h.1
theorem lN_tn {a : Nat} (h : a < 65537) : (lN a).toInt.toNat = a := by
  rw [pk_lT (by omega)]
  rfl
theorem lN_0 {a : Nat} (h : a < 65537) : lN a = 0 ↔ a = 0 := pk_lEQ (b := 0) (by omega) (by omega)
/-- X's fix at the address a: the fault, or what comes of it -/
theorem x_fix3 {A : Sx} {r0 k a : Nat} {f : List Nat} {s : Ls} (p : Int32) (h : XL A r0 f k s) (ha : a < 65536) : (¬ a % 8 = 0 → X11_fix 3 (lN a) p A = th 1 (xF A 13 p)) ∧ (a % 8 = 0 → ∃ A', X11_fix 3 (lN a) p A = rt () A' ∧ XL A' r0 f k (fixA s a 8 (lN s.2.2)) ∧ Sm xLd A A') := by
  have hA : isA (lN a) = true := by
    unfold isA
    rw [decide_eq_true_iff]
    exact ⟨fun e => by have := (pk_lLT (a := a) (b := 0) (by omega) (by omega)).mp e; omega, (pk_lLT (b := 65536) (by omega) (by omega)).mpr ha⟩
  have e0 : X11_fix 3 (lN a) p A = if lN (a % 8) = 0 then X11_fix_36 3 (lN a) p 1 A else X11_fix_36 3 (lN a) p 0 A := by
    unfold X11_fix X11_fix_11
    rw [if_pos rfl, vl_e, x_isA, bd_rt, hA, if_neg (by decide), if_neg (by decide), show ((8 : Int32)).toInt64 = lN 8 from rfl, pk_lRem (by omega) (by omega) (by omega)]
  constructor
  · intro h8
    rw [e0, if_neg (fun e => h8 ((lN_0 (by omega)).mp e))]
    unfold X11_fix_36
    rw [xl_want0 h.K, bd_th]
  · intro h8
    obtain ⟨A', c1, c2, c3⟩ := xl_set (m := 8) (lN s.2.2) h ha (by omega) (by omega)
    refine ⟨A', ?_, c2, c3⟩
    rw [e0, if_pos ((lN_0 (by omega)).mpr h8)]
    unfold X11_fix_36
    replace c1 : X2_set (nI a) 8 (lN s.2.2) A = rt () A' := c1
    rw [xl_want1, bd_rt, if_pos rfl, lN_i, h.a.2.2, c1, bd_rt]
theorem x_fix76 {A : Sx} {r0 k a w : Nat} {f : List Nat} {s : Ls} {x1 bits : Int32} (p : Int32) (h : XL A r0 f k s) (ha : a + 4 ≤ 65536) (ha4 : a % 4 = 0) (hw : (w = 2 ∧ x1 = 4 ∧ bits = 16) ∨ (w = 3 ∧ x1 = 5 ∧ bits = 24)) : (¬ wayOK bits (lN s.2.2 - lN a) = true → X11_fix_76 x1 (lN a) p bits A = th 1 (xF A 14 p)) ∧ (wayOK bits (lN s.2.2 - lN a) = true → ∃ A', X11_fix_76 x1 (lN a) p bits A = rt () A' ∧ XL A' r0 f k (fixA s (a + (4 - w)) w (q4 (lN s.2.2 - lN a))) ∧ Sm xLd A A') := by
  have e0 : X11_fix_76 x1 (lN a) p bits A = if wayOK bits (lN s.2.2 - lN a) = true then X11_fix_136 x1 (lN a) p (lN s.2.2 - lN a) 1 A else X11_fix_136 x1 (lN a) p (lN s.2.2 - lN a) 0 A := by
    unfold X11_fix_76
    rw [vl_e, vl_e, h.a.2.2, wayOK_x]
  constructor
  · intro hc
    rw [e0, if_neg hc]
    unfold X11_fix_136
    rw [xl_want0 h.K, bd_th]
  · intro hc
    obtain ⟨A', c1, c2, c3⟩ := x_fix_loop (r0 := r0) (k := k) (f := f) (s := s) (x7 := lN s.2.2 - lN a) (w := w) ha ha4 (by omega) w 0 FU A (by omega) (by have := FU_ge; omega) (by rw [putI_0]; exact h)
    rw [wayOK_q hc] at c2
    refine ⟨A', ?_, c2, c3⟩
    rw [e0, if_pos hc]
    unfold X11_fix_136
    rw [xl_want1, bd_rt]
    rcases hw with ⟨rfl, rfl, rfl⟩ | ⟨rfl, rfl, rfl⟩
    · rw [if_pos rfl]; exact c1
    · rw [if_neg (by decide)]; exact c1
theorem x_fix45 {A : Sx} {r0 k a w : Nat} {f : List Nat} {s : Ls} {x1 bits : Int32} (p : Int32) (h : XL A r0 f k s) (ha : a < 65536) (hw : (w = 2 ∧ x1 = 4 ∧ bits = 16) ∨ (w = 3 ∧ x1 = 5 ∧ bits = 24)) : (¬ a % 4 = 0 → X11_fix x1 (lN a) p A = th 1 (xF A 13 p)) ∧ (a % 4 = 0 → (¬ wayOK bits (lN s.2.2 - lN a) = true → X11_fix x1 (lN a) p A = th 1 (xF A 14 p)) ∧ (wayOK bits (lN s.2.2 - lN a) = true → ∃ A', X11_fix x1 (lN a) p A = rt () A' ∧ XL A' r0 f k (fixA s (a + (4 - w)) w (q4 (lN s.2.2 - lN a))) ∧ Sm xLd A A')) := by
  have hA : isA (lN a) = true := by
    unfold isA
    rw [decide_eq_true_iff]
    exact ⟨fun e => by have := (pk_lLT (a := a) (b := 0) (by omega) (by omega)).mp e; omega, (pk_lLT (b := 65536) (by omega) (by omega)).mpr ha⟩
  have h3 : ¬ x1 = 3 := by rcases hw with ⟨_, rfl, _⟩ | ⟨_, rfl, _⟩ <;> decide
  have e0 : X11_fix x1 (lN a) p A = if lN (a % 4) = 0 then X11_fix_36 x1 (lN a) p 1 A else X11_fix_36 x1 (lN a) p 0 A := by
    unfold X11_fix X11_fix_11
    rw [if_neg h3, vl_e, x_isA, bd_rt, hA, if_neg (by decide), if_neg (by decide), show ((4 : Int32)).toInt64 = lN 4 from rfl, pk_lRem (by omega) (by omega) (by omega)]
  constructor
  · intro h4
    rw [e0, if_neg (fun e => h4 ((lN_0 (by omega)).mp e))]
    unfold X11_fix_36
    rw [xl_want0 h.K, bd_th]
  · intro h4
    have e1 : X11_fix x1 (lN a) p A = X11_fix_76 x1 (lN a) p bits A := by
      rw [e0, if_pos ((lN_0 (by omega)).mpr h4)]
      unfold X11_fix_36
      rw [xl_want1, bd_rt, if_neg h3]
      rcases hw with ⟨_, rfl, rfl⟩ | ⟨_, rfl, rfl⟩
      · rw [if_pos rfl]
      · rw [if_neg (by decide)]
    rw [e1]
    exact x_fix76 p h (by omega) h4 hw
/-- what a record comes to, in X -/
def XLo (A : Sx) (r0 : Nat) (f : List Nat) (s : Ls) (n : Nat) (r : Rs Int64) (o : (Nat × Nat) ⊕ (Nat × Nat × Int64 × Ls)) : Prop := match o with
  | .inl (c, p) => ∃ A' k', r = th 1 (xF A' (nI c) (nI p)) ∧ XL A' r0 f k' s ∧ Sm xLd A A'
  | .inr (q, k', v, s') => ∃ A' v', r = X11_load_32 n (nI q) v' A' ∧ (¬ q = 2 → v' = v) ∧ XL A' r0 f k' s' ∧ Sm xLd A A'
theorem xlo_f {A A' : Sx} {r0 : Nat} {f : List Nat} {s : Ls} {n k' c p : Nat} {r : Rs Int64} (h : r = th 1 (xF A' (nI c) (nI p))) (hx : XL A' r0 f k' s) (hs : Sm xLd A A') : XLo A r0 f s n r (.inl (c, p)) := ⟨A', k', h, hx, hs⟩
theorem xlo_g {A A' : Sx} {r0 : Nat} {f : List Nat} {s s' : Ls} {n k' q : Nat} {v v' : Int64} {r : Rs Int64} (h : r = X11_load_32 n (nI q) v' A') (hv : ¬ q = 2 → v' = v) (hx : XL A' r0 f k' s') (hs : Sm xLd A A') : XLo A r0 f s n r (.inr (q, k', v, s')) := ⟨A', v', h, hv, hx, hs⟩
theorem x_load_r {A A0 : Sx} {r0 n k k0 : Nat} {r : Nat} {f : List Nat} {s : Ls} {x4 v : Int64} (h : XL A r0 f k s) (h0 : Sm xLd A0 A) (hr : 1 ≤ r ∧ r ≤ 6) (hr2 : ¬ r = 2) (hk : k = k0 + 9) (ha : s.2.2 ≤ 65536) : XLo A0 r0 f s n (if nI r = 1 then X11_load_147 (X11_load_32 n) (nI r) (nI k0) v A else if nI r = 6 then X11_load_147 (X11_load_32 n) (nI r) (nI k0) v A else bd (X11_fix (nI r) v (nI k0) A) (fun _ S3 => X11_load_188 (X11_load_32 n) (nI r) v S3)) (ldW r k0 s v) := by
  subst hk
  have e1 : nI r = 1 ↔ r = 1 := nI_eq (b := 1) (by omega) (by omega)
  have e6 : nI r = 6 ↔ r = 6 := nI_eq (b := 6) (by omega) (by omega)
  unfold ldW
  by_cases hc : r = 1 ∨ r = 6
  · have e : (if nI r = 1 then X11_load_147 (X11_load_32 n) (nI r) (nI k0) v A else if nI r = 6 then X11_load_147 (X11_load_32 n) (nI r) (nI k0) v A else bd (X11_fix (nI r) v (nI k0) A) (fun _ S3 => X11_load_188 (X11_load_32 n) (nI r) v S3)) = X11_load_147 (X11_load_32 n) (nI r) (nI k0) v A := by
      rcases hc with hc | hc
      · rw [if_pos (e1.mpr hc)]
      · rw [if_neg (fun x => by have := e1.mp x; omega), if_pos (e6.mpr hc)]
    rw [e, if_pos hc]
    unfold X11_load_147
    by_cases hv : v < 0 ∨ 65536 < v
    · rw [if_pos hv]
      have e2 : (if v < 0 then X11_load_169 (X11_load_32 n) (nI r) (nI k0) v 0 A else if 65536 < v then X11_load_169 (X11_load_32 n) (nI r) (nI k0) v 0 A else X11_load_169 (X11_load_32 n) (nI r) (nI k0) v 1 A) = X11_load_169 (X11_load_32 n) (nI r) (nI k0) v 0 A := by
        by_cases h1 : v < 0
        · rw [if_pos h1]
        · rw [if_neg h1, if_pos (hv.resolve_left h1)]
      rw [e2]
      unfold X11_load_169
      rw [xl_want0 h.K, bd_th]
      exact xlo_f (c := 13) rfl h h0
    · rw [if_neg hv, if_neg (fun x => hv (Or.inl x)), if_neg (fun x => hv (Or.inr x))]
      unfold X11_load_169
      rw [xl_want1, bd_rt]
      unfold X11_load_188 X11_load_203
      obtain ⟨a, ha2, rfl⟩ := pk_lOf (fun x => hv (Or.inl x))
      have ha3 : ¬ 65536 < a := fun x => hv (Or.inr ((pk_lLT (a := 65536) (by omega) (by omega)).mpr x))
      by_cases h1 : r = 1
      · rw [if_pos (e1.mpr h1), if_pos h1, pt_e, vl_e, lN_tn (by omega)]
        obtain ⟨g1, g2⟩ := h.ad a
        exact xlo_g rfl (fun _ => rfl) g1 (h0.trans g2)
      · rw [if_neg (fun x => h1 (e1.mp x)), if_neg h1, pt_e, vl_e, h.a.2.2]
        obtain ⟨g1, g2⟩ := h.ad s.2.2
        exact xlo_g rfl (fun _ => rfl) g1 (h0.trans g2)
  · have h1 : ¬ r = 1 := fun x => hc (Or.inl x)
    have h6 : ¬ r = 6 := fun x => hc (Or.inr x)
    rw [if_neg (fun x => h1 (e1.mp x)), if_neg (fun x => h6 (e6.mp x)), if_neg hc]
    by_cases hA : isA v = true
    · obtain ⟨a, ha2, rfl⟩ := isA_of hA
      rw [lN_tn (by omega)]
      have fin : ∀ (A' : Sx) (s' : Ls), X11_fix (nI r) (lN a) (nI k0) A = rt () A' → XL A' r0 f (k0 + 9) s' → Sm xLd A A' → XLo A0 r0 f s n (bd (X11_fix (nI r) (lN a) (nI k0) A) (fun _ S3 => X11_load_188 (X11_load_32 n) (nI r) (lN a) S3)) (.inr (r, k0 + 9, lN a, s')) := by
        intro A' s' c1 c2 c3
        rw [c1, bd_rt]
        unfold X11_load_188 X11_load_203
        rw [if_neg (fun x => h1 (e1.mp x)), pt_e, vl_e, c2.a.2.2]
        obtain ⟨g1, g2⟩ := c2.ad s'.2.2
        exact xlo_g rfl (fun _ => rfl) g1 ((h0.trans c3).trans g2)
      by_cases h3 : r = 3
      · subst h3
        obtain ⟨f1, f2⟩ := x_fix3 (nI k0) h ha2
        rw [if_pos (rfl : (3 : Nat) = 3)]
        by_cases h8 : a % 8 = 0
        · obtain ⟨A', c1, c2, c3⟩ := f2 h8
          rw [if_pos ⟨hA, h8⟩, if_pos rfl]
          exact fin A' _ c1 c2 c3
        · rw [if_neg (fun x => h8 x.2), show nI 3 = 3 from rfl, f1 h8, bd_th]
          exact xlo_f (c := 13) rfl h h0
      · rw [if_neg h3]
        by_cases h4 : a % 4 = 0
        · rw [if_pos ⟨hA, h4⟩, if_neg h3]
          by_cases q4' : r = 4
          · subst q4'
            obtain ⟨f1, f2⟩ := x_fix45 (x1 := 4) (bits := 16) (nI k0) h ha2 (Or.inl ⟨rfl, rfl, rfl⟩)
            obtain ⟨f3, f4⟩ := f2 h4
            rw [if_pos (rfl : (4 : Nat) = 4)]
            by_cases hw : wayOK 16 (lN s.2.2 - lN a) = true
            · rw [if_pos hw]
              obtain ⟨A', c1, c2, c3⟩ := f4 hw
              exact fin A' _ c1 c2 c3
            · rw [if_neg hw, show nI 4 = 4 from rfl, f3 hw, bd_th]
              exact xlo_f (c := 14) rfl h h0
          · obtain rfl : r = 5 := by omega
            obtain ⟨f1, f2⟩ := x_fix45 (x1 := 5) (bits := 24) (nI k0) h ha2 (Or.inr ⟨rfl, rfl, rfl⟩)
            obtain ⟨f3, f4⟩ := f2 h4
            rw [if_neg q4']
            by_cases hw : wayOK 24 (lN s.2.2 - lN a) = true
            · rw [if_pos hw]
              obtain ⟨A', c1, c2, c3⟩ := f4 hw
              exact fin A' _ c1 c2 c3
            · rw [if_neg hw, show nI 5 = 5 from rfl, f3 hw, bd_th]
              exact xlo_f (c := 14) rfl h h0
        · rw [if_neg (fun x => h4 x.2)]
          have : X11_fix (nI r) (lN a) (nI k0) A = th 1 (xF A 13 (nI k0)) := by
            by_cases q4' : r = 4
            · subst q4'
              exact (x_fix45 (x1 := 4) (bits := 16) (nI k0) h ha2 (Or.inl ⟨rfl, rfl, rfl⟩)).1 h4
            · obtain rfl : r = 5 := by omega
              exact (x_fix45 (x1 := 5) (bits := 24) (nI k0) h ha2 (Or.inr ⟨rfl, rfl, rfl⟩)).1 h4
          rw [this, bd_th]
          exact xlo_f (c := 13) rfl h h0
    · rw [if_neg (fun x => hA x.1)]
      have : X11_fix (nI r) v (nI k0) A = th 1 (xF A 13 (nI k0)) := by
        have hA' : isA v = false := by cases hh : isA v <;> simp_all
        have e36 : X11_fix_36 (nI r) v (nI k0) 0 A = th 1 (xF A 13 (nI k0)) := by
          unfold X11_fix_36
          rw [xl_want0 h.K, bd_th]
        unfold X11_fix X11_fix_11
        by_cases h3 : nI r = 3
        · rw [if_pos h3, vl_e, x_isA, bd_rt, hA', if_pos (show b1 false = 0 from rfl), e36]
        · rw [if_neg h3, vl_e, x_isA, bd_rt, hA', if_pos (show b1 false = 0 from rfl), e36]
      rw [this, bd_th]
      exact xlo_f (c := 13) rfl h h0
/-- one record, in X -/
theorem x_ld {A : Sx} {r0 n k r1 : Nat} {f : List Nat} {s : Ls} {x4 : Int64} (h : XL A r0 f k s) (hf : fOK f) (hk : k ≤ f.length) (ha : s.2.2 ≤ 65536) (h6 : ¬ r1 = 6) (h256 : r1 < 256) : XLo A r0 f s n (X11_load_32 (n + 1) (nI r1) x4 A) (ldS f k s) := by
  have hl := hf.1
  show XLo A r0 f s n (X11_load_32b (X11_load_32 n) (nI r1) x4 A) (ldS f k s)
  unfold X11_load_32b ldS X11_load_55
  rw [if_neg (show ¬ nI r1 = 6 from fun e => h6 ((nI_eq (b := 6) (by omega) (by omega)).mp e))]
  by_cases c0 : f.length ≤ k
  · rw [if_pos c0, if_pos (by rw [h.a.1, h.a.2.1]; exact nI_le c0 (by omega)), xl_want0 h.K, bd_th, h.a.2.1]
    exact xlo_f (c := 11) rfl h (Sm.rfl' A)
  · obtain ⟨g1, g2⟩ := h.at (k + 1)
    have hx := hf.2 k
    rw [if_neg c0, if_neg (by rw [h.a.1, h.a.2.1]; exact nI_ge (by omega) (by omega)), xl_want1, bd_rt, vl_e, xl_get h (by omega), vl_e, pt_e, h.a.2.1, nI_1]
    have e2 : nI (fG f k) = 2 ↔ fG f k = 2 := nI_eq (b := 2) (by omega) (by omega)
    have eA : ∀ y, X11_load_107 (X11_load_32 n) (nI (fG f k)) x4 (nI k) y (pI A 164 4 (nI (k + 1))) = bd (X11_want y 12 (nI k) (pI A 164 4 (nI (k + 1)))) (fun _ S1 => if nI (fG f k) = 2 then bd (X11_row (nI k) S1) (fun _ S2 => X11_load_32 n (nI (fG f k)) x4 S2) else bd (X11_octa (nI k) S1) (fun v1 S2 => vl v1 (fun v2 => if nI (fG f k) = 1 then X11_load_147 (X11_load_32 n) (nI (fG f k)) (nI k) v2 S2 else if nI (fG f k) = 6 then X11_load_147 (X11_load_32 n) (nI (fG f k)) (nI k) v2 S2 else bd (X11_fix (nI (fG f k)) v2 (nI k) S2) (fun _ S3 => X11_load_188 (X11_load_32 n) (nI (fG f k)) v2 S3)))) := fun _ => rfl
    by_cases c12 : fG f k < 1 ∨ 6 < fG f k
    · have e : (if nI (fG f k) < 1 then X11_load_107 (X11_load_32 n) (nI (fG f k)) x4 (nI k) 0 (pI A 164 4 (nI (k + 1))) else if 6 < nI (fG f k) then X11_load_107 (X11_load_32 n) (nI (fG f k)) x4 (nI k) 0 (pI A 164 4 (nI (k + 1))) else X11_load_107 (X11_load_32 n) (nI (fG f k)) x4 (nI k) 1 (pI A 164 4 (nI (k + 1)))) = X11_load_107 (X11_load_32 n) (nI (fG f k)) x4 (nI k) 0 (pI A 164 4 (nI (k + 1))) := by
        by_cases h1 : fG f k < 1
        · rw [if_pos (lit_lt (N := 1) h1 (by omega))]
        · rw [if_neg (lit_gt (N := 1) (by omega) (by omega)), if_pos ((n_lt (N := 6) (by omega) (by omega)).mpr (c12.resolve_left h1))]
      rw [e, eA, if_neg (by omega), if_pos c12, xl_want0 g1.K, bd_th]
      exact xlo_f (c := 12) rfl g1 g2
    · rw [if_neg (lit_gt (N := 1) (by omega) (by omega)), if_neg (fun x => c12 (Or.inr ((n_lt (N := 6) (by omega) (by omega)).mp x))), eA, xl_want1, bd_rt]
      by_cases c2 : fG f k = 2
      · rw [if_pos (e2.mpr c2), if_pos c2]
        obtain ⟨r1, r2⟩ := x_row (nI k) hf g1 (by omega) ha
        by_cases d0 : f.length ≤ k + 1
        · rw [if_pos d0, r1 d0, bd_th]
          exact xlo_f (c := 11) rfl g1 g2
        · rw [if_neg d0]
          obtain ⟨A1, x1, x2, x3, x4', x5, x6⟩ := r2 d0
          have hx1 := hf.2 (k + 1)
          by_cases d1 : fG f (k + 1) = 0
          · rw [if_pos d1, x3 d1, bd_th]
            exact xlo_f (c := 12) rfl x1 (g2.trans x2)
          · rw [if_neg d1]
            by_cases d2 : f.length < k + 2 + fG f (k + 1)
            · rw [if_pos d2, x4' d1 (by omega), bd_th]
              exact xlo_f (c := 11) rfl x1 (g2.trans x2)
            · rw [if_neg d2]
              by_cases d3 : 65536 < s.2.2 + fG f (k + 1)
              · rw [if_pos d3, x5 d1 (by omega) d3, bd_th]
                exact xlo_f (c := 13) rfl x1 (g2.trans x2)
              · rw [if_neg d3]
                obtain ⟨A', y1, y2, y3⟩ := x6 d1 (by omega) d3
                rw [y1, bd_rt, e2.mpr c2]
                exact xlo_g (q := 2) rfl (fun x => absurd rfl x) y2 (g2.trans y3)
      · rw [if_neg (fun x => c2 (e2.mp x)), if_neg c2, if_neg c12]
        obtain ⟨o1, o2⟩ := x_octa (nI k) hf g1 (by omega)
        by_cases d0 : f.length < k + 9
        · rw [if_pos d0, o2 (by omega), bd_th]
          exact xlo_f (c := 11) rfl g1 g2
        · rw [if_neg d0]
          obtain ⟨A', y1, y2, y3⟩ := o1 (by omega)
          rw [y1, bd_rt, vl_e]
          exact x_load_r (x4 := x4) y2 (g2.trans y3) (by omega) c2 (by omega) ha
