set_option maxRecDepth 100000
theorem XP.b00c {S : Sx} {r : Nat} {o o' : Nat → Bool} {mem : Nat → Nat} (h : XP S (b00 r o) mem) (ho : ∀ p, p < 1024 → o p = o' p) : XP S (b00 r o') mem := by
  obtain ⟨h1, ⟨a1, a2, a3, a4, a5, a6, a7, a8⟩, h3, h4⟩ := h
  refine ⟨h1, ⟨a1, a2, a3, a4, a5, a6, a7, fun p hp => ⟨(a8 p hp).1, fun q => ?_⟩⟩, h3, h4⟩
  have := (a8 p hp).2 q
  refine ⟨this.1, ?_⟩
  show gI S 5 p = b1 (o' p)
  rw [← ho p hp]
  exact this.2
/-- the machine behind a loading; behind a failed one -/
def mLoad (m : Ma) (s : Ls) (v : Int64) : Ma := (b00 (fr m.1) s.2.1, s.1, 0, 0, fun _ => 0, fun _ => 0, fun _ => 0, [], mInp m, v, 0, 0)
def mFail (m : Ma) (s : Ls) : Ma := (b00 (fr m.1) s.2.1, s.1, m.2.2)
theorem mLoad_OK {m : Ma} {s : Ls} {v : Int64} (h : OKa m) (hs : sOK s) : OKa (mLoad m s v) := by
  obtain ⟨fs, o1, o2, o3, o4, o5, o6, o7⟩ := h
  exact ⟨[], b00_OK o1.1 o1.2.1, hs.1, Nat.zero_le _, Nat.zero_le _, rfl, Nat.zero_le _, o7⟩
theorem mFail_OK {m : Ma} {s : Ls} (h : OKa m) (hs : sOK s) : OKa (mFail m s) := by
  obtain ⟨fs, o1, o2, o3, o4, o5, o6, o7⟩ := h
  exact ⟨fs, b00_OK o1.1 o1.2.1, hs.1, o3, o4, o5, o6, o7⟩
theorem x_settleS {A : Sx} {r0 k : Nat} {f : List Nat} {s : Ls} (h : XL A r0 f k s) : ∃ A2, X2_settle A = rt () A2 ∧ XP A2 (b00 r0 s.2.1) s.1 ∧ Sm xPl A A2 := by
  obtain ⟨r, b, h1, h2, h3, h4, h5, h6, h7, h8, h9, h10, h11, h12, h13, h14, h15⟩ := h
  obtain ⟨S', e, e2, e3⟩ := x_settle h14 h12
  rw [h13] at e2
  exact ⟨S', e, e2.b00c (fun p hp => (h15 p hp).symm), e3⟩
/-- X begins a loading -/
theorem x_load_init {A : Sx} {U V c : Nat} {m : Ma} {f6 f7 f8 : Int32} {f : List Nat} (h : XQ A U V m f6 f7 f8) (hO : OKa m) (hc : isI c) (hf : XI A c f) : ∃ A5, X11_load (gR A c 0) (gI A c 1) A = X11_load_32 FU 0 0 A5 ∧ XL A5 (fr m.1) f 0 s0 ∧ Sm xLd A A5 := by
  obtain ⟨fs, o1, o2, o3, o4, o5, o6, o7⟩ := hO
  obtain ⟨i1, i2, i3, i4, i5⟩ := h.2.2.2.1 c hc
  have hcap := h.2.2.2.cap hc
  have h8 := h.2.2.2.2.2.2.2.2.2.2
  obtain ⟨x1, x2, -⟩ := id h.1
  have s1 : Sm (fun c _ => c = 164) A (pL (pI (pI (pR A 164 2 (gR A c 0)) 164 3 (gI A c 1)) 164 4 0) 164 5 0) := (((Sm.pR (P := fun c _ => c = 164) rfl).trans (Sm.pI (P := fun c _ => c = 164) rfl)).trans (Sm.pI (P := fun c _ => c = 164) rfl)).trans (Sm.pL (P := fun c _ => c = 164) rfl)
  obtain ⟨A5, a1, a2, a3⟩ := x_clear (S := pL (pI (pI (pR A 164 2 (gR A c 0)) 164 3 (gI A c 1)) 164 4 0) 164 5 0) (r := fr m.1) (x2.1.sm s1 (fun f hf => by omega)) (by rw [s1.I (by omega)]; exact x2.2.1.1)
  unfold xPl at a3
  have hr : 146 ≤ rowOf A c ∧ rowOf A c ≠ 164 := by unfold isI at hc; omega
  refine ⟨A5, ?_, ⟨rowOf A c, b00 (fr m.1) (fun _ => false), ?_, hr.1, hr.2, ?_, ?_, ?_, fun i hi => ?_, ?_, ?_, ?_, ?_, b00_OK o1.1 o1.2.1, rfl, a2, fun p hp => ?_⟩, (s1.mono (fun c k x => by unfold xLd; omega)).trans (a3.mono (fun c k x => by unfold xLd; omega))⟩
  · unfold X11_load
    rw [pt_e, pt_e, pt_e, pt_e, a1, bd_rt]
  · rw [a3.R (by omega), gR_pL, gR_pI, gR_pI, gR_pR, if_pos ⟨rfl, rfl⟩]; exact i1
  · rw [a3.K, s1.K]; exact i2
  · rw [a3.N, s1.N]; exact hf.2.1
  · rw [a3.N, s1.N]; unfold wOf at hcap; omega
  · rw [a3.I (by omega), s1.I (by omega)]; exact hf.2.2 i hi
  · rw [a3.I (by omega), gI_pL, gI_pI, if_neg (by omega), gI_pI, if_pos ⟨rfl, rfl⟩]; exact hf.1
  · rw [a3.I (by omega), gI_pL, gI_pI, if_pos ⟨rfl, rfl⟩]; rfl
  · rw [a3.L (by omega), gL_pL, if_pos ⟨rfl, rfl⟩]; rfl
  · rw [a3.K, s1.K]; exact x1
  · rw [bO_out (fun f e => by cases e)]; rfl
/-- X starts -/
theorem x_begin {A : Sx} (v : Int64) : ∃ A', X5_begin v A = rt () A' ∧ XR A' 0 0 (fun _ => 0) (fun _ => 0) ∧ XS A' (fun _ => 0) ∧ XO A' [] ∧ gL A' 138 5 = v ∧ gI A' 138 6 = 0 ∧ gI A' 138 7 = 0 ∧ Sm (fun c k => (c = 138 ∧ (k = 5 ∨ k = 6 ∨ k = 7 ∨ k = 9)) ∨ c = 139 ∨ c = 142 ∨ c = 144) A A' := by
  obtain ⟨k, S1, h1, h2, h3⟩ := loopN (F := X6_clear_2) (B := X6_clear_2b) (N := 32) (Inv := fun i T => (∀ p, p < i → gL T 142 p = 0) ∧ Sm (fun c _ => c = 142) A T) (by omega) (fun _ _ _ => rfl) (fun k i T hi ⟨a, b⟩ => by
    refine ⟨pL T 142 i 0, ?_, fun p hp => ?_, b.trans (Sm.pL rfl)⟩
    · unfold X6_clear_2b
      rw [if_neg (lit_ge hi (by omega)), sL_n hi (by omega), vl_e, nI_1]
    · rw [gL_pL]
      split
      · rfl
      · exact a p (by omega)) (S := A) ⟨(fun p hp => by omega), Sm.rfl' A⟩
  have e1 : X6_clear A = rt () (pI (pI (pI S1 139 3 0) 139 4 0) 139 5 0) := by
    unfold X6_clear
    rw [h1]
    unfold X6_clear_2b
    rw [if_pos (by decide), pt_e, pt_e, pt_e]
  have s2 : Sm (fun c _ => c = 139) S1 (pI (pI (pI S1 139 3 0) 139 4 0) 139 5 0) := ((Sm.pI (P := fun c _ => c = 139) rfl).trans (Sm.pI (P := fun c _ => c = 139) rfl)).trans (Sm.pI (P := fun c _ => c = 139) rfl)
  have k3 : gI (pI (pI (pI S1 139 3 0) 139 4 0) 139 5 0) 139 3 = 0 := by rw [gI_pI, if_neg (by omega), gI_pI, if_neg (by omega), gI_pI, if_pos ⟨rfl, rfl⟩]
  have k4 : gI (pI (pI (pI S1 139 3 0) 139 4 0) 139 5 0) 139 4 = 0 := by rw [gI_pI, if_neg (by omega), gI_pI, if_pos ⟨rfl, rfl⟩]
  have k5 : gI (pI (pI (pI S1 139 3 0) 139 4 0) 139 5 0) 139 5 = 0 := by rw [gI_pI, if_pos ⟨rfl, rfl⟩]
  generalize hS2 : pI (pI (pI S1 139 3 0) 139 4 0) 139 5 0 = S2 at *
  obtain ⟨kk, S3, g1, g2, g3⟩ := loopN (F := fun n i S => X5_begin_9 n v i S) (B := fun f i S => X5_begin_9b (fun _ i S => f i S) v i S) (N := 4) (Inv := fun i T => (∀ p, p < i → gL T 144 p = 0) ∧ Sm (fun c _ => c = 144) S2 T) (by omega) (fun _ _ _ => rfl) (fun f i T hi ⟨a, b⟩ => by
    refine ⟨pL T 144 i 0, ?_, fun p hp => ?_, b.trans (Sm.pL rfl)⟩
    · show X5_begin_9b (fun _ i S => f i S) v (nI i) T = _
      unfold X5_begin_9b
      rw [if_neg (lit_ge hi (by omega)), sL_n hi (by omega), vl_e, nI_1]
    · rw [gL_pL]
      split
      · rfl
      · exact a p (by omega)) (S := S2) ⟨(fun p hp => by omega), Sm.rfl' S2⟩
  have s4 : Sm (fun c k => c = 138 ∧ (k = 5 ∨ k = 6 ∨ k = 7 ∨ k = 9)) S3 (pI (pI (pI (pL S3 138 5 v) 138 6 0) 138 7 0) 138 9 0) := (((Sm.pL (by omega)).trans (Sm.pI (by omega))).trans (Sm.pI (by omega))).trans (Sm.pI (by omega))
  refine ⟨pI (pI (pI (pL S3 138 5 v) 138 6 0) 138 7 0) 138 9 0, ?_, ⟨?_, ?_, ⟨0, ?_, Nat.le_refl _, by omega, fun i hi => absurd hi (Nat.not_lt_zero _), fun i _ hi => by omega⟩, fun n _ hn => ?_⟩, fun k hk => ?_, ⟨?_, fun i hi => absurd hi (Nat.not_lt_zero _)⟩, ?_, ?_, ?_, ?_⟩
  · unfold X5_begin
    rw [e1, bd_rt, g1]
    show X5_begin_9b (fun _ i S => kk i S) v (nI 4) S3 = _
    unfold X5_begin_9b
    rw [if_pos (by decide), pt_e, pt_e, pt_e, pt_e]
  · rw [s4.I (by omega), g3.I (by omega), k3]; rfl
  · rw [s4.I (by omega), g3.I (by omega), k5]; rfl
  · rw [s4.I (by omega), g3.I (by omega), k4]; rfl
  · rw [s4.L (by omega), g3.L (by omega), s2.L (by omega)]; exact h2 n hn
  · rw [s4.L (by omega)]; exact g2 k hk
  · rw [gI_pI, if_pos ⟨rfl, rfl⟩]; rfl
  · rw [gL_pI, gL_pI, gL_pI, gL_pL, if_pos ⟨rfl, rfl⟩]
  · rw [gI_pI, if_neg (by omega), gI_pI, if_neg (by omega), gI_pI, if_pos ⟨rfl, rfl⟩]
  · rw [gI_pI, if_neg (by omega), gI_pI, if_pos ⟨rfl, rfl⟩]
  · exact (((h3.mono (fun c k x => by omega)).trans (s2.mono (fun c k x => by omega))).trans (g3.mono (fun c k x => by omega))).trans (s4.mono (fun c k x => by omega))
/-- X takes a file that is right -/
theorem x_take_ok {A A' A2 : Sx} {U V c k : Nat} {m : Ma} {f tp : List Nat} {s : Ls} {v : Int64} {tt : Int32} (h : XQ A U V m 0 0 (-1)) (hO : OKa m) (hc : isI c) (hT : XI A 165 tp) (ht : gI A 146 1 = tt) (hl : X11_load (gR A c 0) (gI A c 1) A = rt v A2) (hse : X2_settle A' = rt () A2) (hL : XL A' (fr m.1) f k s) (hs : Sm xLd A A') : ∃ A4, X0_take_56 (some c) A = rt 0 A4 ∧ XQ A4 U V (mLoad m s v) 1 0 (-1) ∧ XI A4 165 [] ∧ gI A4 146 1 = tt ∧ gn A4 = gn A ∧ gu A4 = gu A := by
  obtain ⟨A2', a1, a2, a3⟩ := x_settleS hL
  rw [hse] at a1
  obtain rfl : A2 = A2' := by cases a1; rfl
  obtain ⟨A3, b1', b2, b3, b4, b5, b6, b7, b8⟩ := x_begin (A := A2) v
  obtain ⟨fs, o1, o2, o3, o4, o5, o6, o7⟩ := id hO
  have hb : bOK (b00 (fr m.1) s.2.1) := b00_OK o1.1 o1.2.1
  obtain ⟨x1, x2, x3, x4, x5, x6, x7, x8, x9⟩ := id h.1
  have i5 : isI 165 := by unfold isI; omega
  have hI5 := h.2.2.2.1 165 i5
  have hI6 := h.2.2.2.1 146 (by unfold isI; omega)
  unfold xLd at hs
  unfold xPl at a3
  have s5 : Sm (fun c k => (c = 0 ∧ k = 6) ∨ (c = 165 ∧ k = 1)) A3 (pI (pI A3 0 6 1) 165 1 0) := (Sm.pI (by omega)).trans (Sm.pI (by omega))
  have sA : Sm (fun c k => (1 ≤ c ∧ c ≤ 144) ∨ c = 164 ∨ (c = 0 ∧ k = 6) ∨ (c = 165 ∧ k = 1)) A (pI (pI A3 0 6 1) 165 1 0) := (((hs.mono (fun c k x => by omega)).trans (a3.mono (fun c k x => by omega))).trans (b8.mono (fun c k x => by omega))).trans (s5.mono (fun c k x => by omega))
  have sB : Sm (fun c k => (1 ≤ c ∧ c ≤ 137) ∨ c = 164 ∨ (c = 138 ∧ (k = 5 ∨ k = 6 ∨ k = 7 ∨ k = 9)) ∨ c = 139 ∨ c = 142 ∨ c = 144 ∨ (c = 0 ∧ k = 6) ∨ (c = 165 ∧ k = 1)) A (pI (pI A3 0 6 1) 165 1 0) := (((hs.mono (fun c k x => by omega)).trans (a3.mono (fun c k x => by omega))).trans (b8.mono (fun c k x => by omega))).trans (s5.mono (fun c k x => by omega))
  have sC : Sm (fun c k => (c = 138 ∧ (k = 5 ∨ k = 6 ∨ k = 7 ∨ k = 9)) ∨ c = 139 ∨ c = 142 ∨ c = 144 ∨ (c = 0 ∧ k = 6) ∨ (c = 165 ∧ k = 1)) A2 (pI (pI A3 0 6 1) 165 1 0) := (b8.mono (fun c k x => by omega)).trans (s5.mono (fun c k x => by omega))
  refine ⟨pI (pI A3 0 6 1) 165 1 0, ?_, ⟨⟨by rw [sA.K]; exact x1, a2.sm hb sC (by intro c k; omega), b2.sm s5 (by intro c k; omega), b3.sm s5 (by intro c k; omega), b4.sm s5 (by intro c k; omega), ?_, by rw [s5.L (by omega)]; exact b5, by rw [s5.I (by omega)]; exact b6, by rw [s5.I (by omega)]; exact b7⟩, ⟨by rw [gI_pI, if_neg (by omega), gI_pI, if_pos ⟨rfl, rfl⟩], by rw [sA.I (by omega)]; exact h.2.1.2.1, by rw [sA.I (by omega)]; exact h.2.1.2.2⟩, fun c hc => by rw [sA.K]; exact h.2.2.1 c hc, h.2.2.2.sm sA (fun c hc x => by unfold isI at hc; omega)⟩, ?_, by rw [sA.I (by omega)]; exact ht, sA.1, sA.2.1⟩
  · unfold X0_take_56
    rw [dO_s (show gK A c = 8 + 6 from h.2.2.1 c hc), dO_s (show gK A c = 8 + 6 from h.2.2.1 c hc), hl, ct_rt, b1', ct_rt, pt_e]
    unfold X0_take_119
    have q : gI (pI (pI A3 0 6 1) 165 1 0) 0 6 = 1 := by rw [gI_pI, if_neg (by omega), gI_pI, if_pos ⟨rfl, rfl⟩]
    rw [pt_e, q, if_neg (by decide)]
  · -- the input
    obtain ⟨r, tot, tk, n1, n2, n3, n4, n5, n6, n7, n8, n9⟩ := x6
    have hr : rowOf A 146 = r := by unfold rowOf; rw [n1]; rfl
    have hr2 : r = 147 ∨ 192 ≤ r := by have := hI6.2.2.2.1; omega
    refine ⟨r, tot, tk, ?_, n2, ?_, ?_, ?_, n6, ?_, ?_, fun i hi => ?_⟩
    · rw [sA.R (by omega)]; exact n1
    · rw [sA.K]; exact n3
    · rw [sA.I (by omega)]; exact n4
    · rw [sB.I (by omega)]; exact n5
    · rw [sA.N]; exact n7
    · rw [sA.N]; exact n8
    · rw [sA.I (by omega)]; exact n9 i hi
  · have hT3 : XI (pI A3 0 6 1) 165 tp := by
      have s9 : Sm (fun c k => (1 ≤ c ∧ c ≤ 144) ∨ c = 164 ∨ (c = 0 ∧ k = 6)) A (pI A3 0 6 1) := (((hs.mono (fun c k x => by omega)).trans (a3.mono (fun c k x => by omega))).trans (b8.mono (fun c k x => by omega))).trans (Sm.pI (by omega))
      have := hI5.2.2.2.1
      exact hT.sm s9 ⟨by omega, by omega, fun k => by omega⟩
    have hI3 : IO (pI A3 0 6 1) 165 := by
      have s9 : Sm (fun c k => (1 ≤ c ∧ c ≤ 144) ∨ c = 164 ∨ (c = 0 ∧ k = 6)) A (pI A3 0 6 1) := (((hs.mono (fun c k x => by omega)).trans (a3.mono (fun c k x => by omega))).trans (b8.mono (fun c k x => by omega))).trans (Sm.pI (by omega))
      exact (h.2.2.2.sm s9 (fun c hc x => by unfold isI at hc; omega)).1 165 i5
    exact hT3.cut (n := 0) hI3 i5 (Nat.zero_le _)
/-- X takes a file with a fault -/
theorem x_take_f {A A' : Sx} {U V c k cc p : Nat} {m : Ma} {f tp : List Nat} {s : Ls} {tt : Int32} (h : XQ A U V m 0 0 (-1)) (hO : OKa m) (hc : isI c) (hT : XI A 165 tp) (ht : gI A 146 1 = tt) (hcc : 11 ≤ cc ∧ cc ≤ 14) (hl : X11_load (gR A c 0) (gI A c 1) A = th 1 (xF A' (nI cc) (nI p))) (hL : XL A' (fr m.1) f k s) (hs : Sm xLd A A') : ∃ A4, X0_take_56 (some c) A = rt (-1) A4 ∧ XQ A4 U V (mFail m s) 0 (nI cc) (nI p) ∧ XI A4 165 [] ∧ gI A4 146 1 = tt ∧ gn A4 = gn A ∧ gu A4 = gu A := by
  obtain ⟨g1, g2⟩ := hL.F (nI cc) (nI p)
  obtain ⟨fs, o1, o2, o3, o4, o5, o6, o7⟩ := id hO
  have hb : bOK (b00 (fr m.1) s.2.1) := b00_OK o1.1 o1.2.1
  have s1 : Sm (fun c k => c = 0 ∧ (k = 7 ∨ k = 8)) (xF A' (nI cc) (nI p)) (pI (pI (xF A' (nI cc) (nI p)) 0 7 (nI cc)) 0 8 (nI p)) := (Sm.pI (by omega)).trans (Sm.pI (by omega))
  have hL2 : XL (pI (pI (xF A' (nI cc) (nI p)) 0 7 (nI cc)) 0 8 (nI p)) (fr m.1) f k s := by
    obtain ⟨r, b, h1, h2, h3, h4, h5, h6, h7, h8, h9, h10, h11, h12, h13, h14, h15⟩ := g1
    exact ⟨r, b, by rw [s1.R (by omega)]; exact h1, h2, h3, by rw [s1.K]; exact h4, by rw [s1.N]; exact h5, by rw [s1.N]; exact h6, fun i hi => by rw [s1.I (by omega)]; exact h7 i hi, by rw [s1.I (by omega)]; exact h8, by rw [s1.I (by omega)]; exact h9, by rw [s1.L (by omega)]; exact h10, by rw [s1.K]; exact h11, h12, h13, h14.sm h12 s1 (by intro c k; omega), h15⟩
  obtain ⟨A3, a1, a2, a3⟩ := x_settleS hL2
  obtain ⟨x1, x2, x3, x4, x5, x6, x7, x8, x9⟩ := id h.1
  have i5 : isI 165 := by unfold isI; omega
  have hI5 := h.2.2.2.1 165 i5
  have hI6 := h.2.2.2.1 146 (by unfold isI; omega)
  unfold xLd at hs g2
  unfold xPl at a3
  have s9 : Sm (fun c k => (1 ≤ c ∧ c ≤ 137) ∨ c = 164 ∨ (c = 0 ∧ (k = 7 ∨ k = 8))) A A3 := (((hs.mono (fun c k x => by omega)).trans (g2.mono (fun c k x => by omega))).trans (s1.mono (fun c k x => by omega))).trans (a3.mono (fun c k x => by omega))
  have s5 : Sm (fun c k => c = 165 ∧ k = 1) A3 (pI A3 165 1 0) := Sm.pI ⟨rfl, rfl⟩
  have sA : Sm (fun c k => (1 ≤ c ∧ c ≤ 137) ∨ c = 164 ∨ (c = 0 ∧ (k = 7 ∨ k = 8)) ∨ (c = 165 ∧ k = 1)) A (pI A3 165 1 0) := (s9.mono (fun c k x => by omega)).trans (s5.mono (fun c k x => by omega))
  have q7 : gI A3 0 7 = nI cc := by rw [a3.I (by omega), gI_pI, if_neg (by omega), gI_pI, if_pos ⟨rfl, rfl⟩]
  have q8 : gI A3 0 8 = nI p := by rw [a3.I (by omega), gI_pI, if_pos ⟨rfl, rfl⟩]
  have q6 : gI A3 0 6 = 0 := by rw [s9.I (by omega)]; exact h.2.1.1
  refine ⟨pI A3 165 1 0, ?_, ⟨⟨by rw [sA.K]; exact x1, a2.sm hb s5 (by intro c k; omega), x3.sm sA (by intro c k; omega), x4.sm sA (by intro c k; omega), x5.sm sA (by intro c k; omega), ?_, by rw [sA.L (by omega)]; exact x7, by rw [sA.I (by omega)]; exact x8, by rw [sA.I (by omega)]; exact x9⟩, ⟨by rw [s5.I (by omega)]; exact q6, by rw [s5.I (by omega)]; exact q7, by rw [s5.I (by omega)]; exact q8⟩, fun c hc => by rw [sA.K]; exact h.2.2.1 c hc, h.2.2.2.sm sA (fun c hc x => by unfold isI at hc; omega)⟩, ?_, by rw [sA.I (by omega)]; exact ht, sA.1, sA.2.1⟩
  · unfold X0_take_56
    have k1 : gK (xF A' (nI cc) (nI p)) 1 = 1 + 6 := g1.K
    rw [dO_s (show gK A c = 8 + 6 from h.2.2.1 c hc), dO_s (show gK A c = 8 + 6 from h.2.2.1 c hc), hl, ct_th, kd_e k1]
    unfold X0_take_86
    have u1 : gI (pI (xF A' (nI cc) (nI p)) 0 7 (nI cc)) 1 7 = nI p := by rw [gI_pI, if_neg (by omega), xF_7]
    have u2 : gI (pI (pI (xF A' (nI cc) (nI p)) 0 7 (nI cc)) 0 8 (nI p)) 0 7 = nI cc := by rw [gI_pI, if_neg (by omega), gI_pI, if_pos ⟨rfl, rfl⟩]
    rw [kd_e k1, pt_e, xF_6, kd_e (show gK (pI (xF A' (nI cc) (nI p)) 0 7 (nI cc)) 1 = 1 + 6 from k1), pt_e, u1, u2, if_neg (show ¬ nI cc ≤ 10 from nI_ge (a := 10) (b := cc) (by omega) (by omega)), a1, bd_rt]
    unfold X0_take_119
    have u3 : gI (pI A3 165 1 0) 0 6 = 0 := by rw [gI_pI, if_neg (by omega), q6]
    rw [pt_e, u3, if_pos rfl]
  · obtain ⟨r, tot, tk, n1, n2, n3, n4, n5, n6, n7, n8, n9⟩ := x6
    have hr : rowOf A 146 = r := by unfold rowOf; rw [n1]; rfl
    have hr2 : r = 147 ∨ 192 ≤ r := by have := hI6.2.2.2.1; omega
    refine ⟨r, tot, tk, ?_, n2, ?_, ?_, ?_, n6, ?_, ?_, fun i hi => ?_⟩
    · rw [sA.R (by omega)]; exact n1
    · rw [sA.K]; exact n3
    · rw [sA.I (by omega)]; exact n4
    · rw [sA.I (by omega)]; exact n5
    · rw [sA.N]; exact n7
    · rw [sA.N]; exact n8
    · rw [sA.I (by omega)]; exact n9 i hi
  · have hT3 : XI A3 165 tp := by
      have := hI5.2.2.2.1
      exact hT.sm s9 ⟨by omega, by omega, fun k => by omega⟩
    have hI3 : IO A3 165 := (h.2.2.2.sm s9 (fun c hc x => by unfold isI at hc; omega)).1 165 i5
    exact hT3.cut (n := 0) hI3 i5 (Nat.zero_le _)
