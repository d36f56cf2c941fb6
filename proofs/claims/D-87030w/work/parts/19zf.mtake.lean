set_option maxRecDepth 100000
def mBg (tg c k : Nat) : Prop := (c = 167 ∧ (k = 37 ∨ k = 38 ∨ k = 5 ∨ k = 6)) ∨ c = tg ∨ c = 182
theorem m_begin {B : Sx} {tg : Nat} {tp : List Nat} (htg : tg = 169 ∨ tg = 183) (hK : gK B tg = 1) (hN : gN B tg = 65536) (hT : MT B tp) : ∃ B', X12_begin (some tg) B = rt () B' ∧ ML B' tg tp s0 ∧ gI B' 167 5 = 0 ∧ gI B' 167 6 = -1 ∧ Sm (mBg tg) B B' := by
  have t1 : Sm (fun c k => c = 167 ∧ k = 37) B (pR B 167 37 (some tg)) := Sm.pR ⟨rfl, rfl⟩
  obtain ⟨kk, S1, d1, d2, d3⟩ := loopN (F := fun n i S => X12_begin_7 n (some tg) i S) (B := fun f i S => X12_begin_7b (fun _ i S => f i S) (some tg) i S) (N := 65536) (Inv := fun i T => (∀ p, p < i → gI T tg p = 0) ∧ Sm (fun c _ => c = tg) (pR B 167 37 (some tg)) T) (by omega) (fun _ _ _ => rfl) (fun f i T hi ⟨p, q⟩ => by
    refine ⟨pI T tg i 0, ?_, fun x hx => ?_, q.trans (Sm.pI rfl)⟩
    · show X12_begin_7b (fun _ i S => f i S) (some tg) (nI i) T = _
      unfold X12_begin_7b
      rw [if_neg (lit_ge hi (by omega)), dO_s (show gK T tg = 1 by rw [q.K]; exact hK), show gN T tg = 65536 by rw [q.N]; exact hN, sI_n hi (by omega), vl_e, nI_1]
    · rw [gI_pI]
      split
      · rfl
      · exact p x (by omega)) (S := pR B 167 37 (some tg)) ⟨(fun p hp => by omega), Sm.rfl' _⟩
  obtain ⟨k2, S2, g1, g2, g3⟩ := loopN (F := X12_begin_25) (B := X12_begin_25b) (N := 1024) (Inv := fun i T => (∀ p, p < i → gI T 182 p = 0) ∧ Sm (fun c _ => c = 182) S1 T) (by omega) (fun _ _ _ => rfl) (fun f i T hi ⟨p, q⟩ => by
    refine ⟨pI T 182 i 0, ?_, fun x hx => ?_, q.trans (Sm.pI rfl)⟩
    · unfold X12_begin_25b
      rw [if_neg (lit_ge hi (by omega)), sI_n hi (by omega), nz_0, vl_e, nI_1]
    · rw [gI_pI]
      split
      · rfl
      · exact p x (by omega)) (S := S1) ⟨(fun p hp => by omega), Sm.rfl' _⟩
  have t4 : Sm (fun c k => c = 167 ∧ (k = 38 ∨ k = 5 ∨ k = 6)) S2 (pI (pI (pL S2 167 38 0) 167 5 0) 167 6 (-1)) := ((Sm.pL (by omega)).trans (Sm.pI (by omega))).trans (Sm.pI (by omega))
  have tA : Sm (mBg tg) B (pI (pI (pL S2 167 38 0) 167 5 0) 167 6 (-1)) := (((t1.mono (fun c k x => by unfold mBg; omega)).trans (d3.mono (fun c k x => by unfold mBg; omega))).trans (g3.mono (fun c k x => by unfold mBg; omega))).trans (t4.mono (fun c k x => by unfold mBg; omega))
  refine ⟨_, ?_, ⟨?_, ?_, ?_, htg, fun a ha => ?_, fun p hp => ?_, ?_, ?_, fun i hi => ?_⟩, ?_, ?_, tA⟩
  · unfold X12_begin
    rw [pt_e, d1]
    show X12_begin_7b (fun _ i S => kk i S) (some tg) (nI 65536) S1 = _
    unfold X12_begin_7b
    rw [if_pos (by decide), g1]
    unfold X12_begin_25b
    rw [if_pos (by decide), pt_e, pt_e, pt_e]
  · rw [t4.R (by omega), g3.R (by omega), d3.R (by omega), gR_pR, if_pos ⟨rfl, rfl⟩]
  · rw [tA.K]; exact hK
  · rw [tA.N]; exact hN
  · rw [t4.I (by omega), g3.I (by omega), d2 a ha]; rfl
  · rw [t4.I (by omega), g2 p hp]; rfl
  · rw [gL_pI, gL_pI, gL_pL, if_pos ⟨rfl, rfl⟩]; rfl
  · rw [t4.I (by omega), g3.I (by omega), d3.I (by omega), t1.I (by omega)]; exact hT.1
  · rw [t4.I (by omega), g3.I (by omega), d3.I (by omega), t1.I (by omega)]; exact hT.2 i hi
  · rw [gI_pI, if_neg (by omega), gI_pI, if_pos ⟨rfl, rfl⟩]
  · rw [gI_pI, if_pos ⟨rfl, rfl⟩]
def mSr (c k : Nat) : Prop := (c = 167 ∧ (k = 7 ∨ (11 ≤ k ∧ k ≤ 14) ∨ k = 16 ∨ k = 23 ∨ (25 ≤ k ∧ k ≤ 29))) ∨ c = 171 ∨ c = 172 ∨ (175 ≤ c ∧ c ≤ 179)
/-- M starts -/
theorem m_start {B : Sx} {m : Ma} {s : Ls} (v : Int64) (hr : gI B 167 17 = nI (fr m.1)) (ho : ∀ p, p < 1024 → gI B 182 p = b1 (s.2.1 p)) (hm : ∀ a, a < 65536 → gI B 169 a = nI (s.1 a)) (hin : MN B (mInp m)) : ∃ B', X12_start v B = rt () B' ∧ MMa B' (mLoad m s v) ∧ gI B' 167 7 = 1 ∧ Sm mSr B B' := by
  obtain ⟨S1, e1, e2, e3⟩ := m_settle (r := fr m.1) (o := s.2.1) hr ho
  unfold fPl at e3
  have t1 : Sm (fun c k => c = 167 ∧ k = 7) S1 (pI S1 167 7 1) := Sm.pI ⟨rfl, rfl⟩
  obtain ⟨kk, S2, d1, d2, d3⟩ := loopN (F := fun n i S => X12_start_11 n v i S) (B := fun f i S => X12_start_11b (fun _ i S => f i S) v i S) (N := 32) (Inv := fun i T => (∀ p, p < i → gL T 171 p = 0) ∧ Sm (fun c _ => c = 171) (pI S1 167 7 1) T) (by omega) (fun _ _ _ => rfl) (fun f i T hi ⟨p, q⟩ => by
    refine ⟨pL T 171 i 0, ?_, fun x hx => ?_, q.trans (Sm.pL rfl)⟩
    · show X12_start_11b (fun _ i S => f i S) v (nI i) T = _
      unfold X12_start_11b
      rw [if_neg (lit_ge hi (by omega)), sL_n hi (by omega), vl_e, nI_1]
    · rw [gL_pL]
      split
      · rfl
      · exact p x (by omega)) (S := pI S1 167 7 1) ⟨(fun p hp => by omega), Sm.rfl' _⟩
  obtain ⟨k2, S3, g1, g2, g3⟩ := loopN (F := fun n i S => X12_start_32 n v i S) (B := fun f i S => X12_start_32b (fun _ i S => f i S) v i S) (N := 5) (Inv := fun i T => (∀ p, p < i → gL T 172 p = 0) ∧ Sm (fun c _ => c = 172) S2 T) (by omega) (fun _ _ _ => rfl) (fun f i T hi ⟨p, q⟩ => by
    refine ⟨pL T 172 i 0, ?_, fun x hx => ?_, q.trans (Sm.pL rfl)⟩
    · show X12_start_32b (fun _ i S => f i S) v (nI i) T = _
      unfold X12_start_32b
      rw [if_neg (lit_ge hi (by omega)), sL_n hi (by omega), vl_e, nI_1]
    · rw [gL_pL]
      split
      · rfl
      · exact p x (by omega)) (S := S2) ⟨(fun p hp => by omega), Sm.rfl' _⟩
  have t4 : Sm (fun c k => c = 167 ∧ ((11 ≤ k ∧ k ≤ 14) ∨ k = 16)) S3 (pI (pI (pI (pL (pI S3 167 11 0) 167 12 v) 167 13 0) 167 14 0) 167 16 0) := ((((Sm.pI (by omega)).trans (Sm.pL (by omega))).trans (Sm.pI (by omega))).trans (Sm.pI (by omega))).trans (Sm.pI (by omega))
  have tA : Sm mSr B (pI (pI (pI (pL (pI S3 167 11 0) 167 12 v) 167 13 0) 167 14 0) 167 16 0) := ((((e3.mono (fun c k x => by unfold mSr; omega)).trans (t1.mono (fun c k x => by unfold mSr; omega))).trans (d3.mono (fun c k x => by unfold mSr; omega))).trans (g3.mono (fun c k x => by unfold mSr; omega))).trans (t4.mono (fun c k x => by unfold mSr; omega))
  have tB : Sm (fun c k => (c = 167 ∧ (k = 7 ∨ (11 ≤ k ∧ k ≤ 14) ∨ k = 16)) ∨ c = 171 ∨ c = 172) S1 (pI (pI (pI (pL (pI S3 167 11 0) 167 12 v) 167 13 0) 167 14 0) 167 16 0) := (((t1.mono (fun c k x => by omega)).trans (d3.mono (fun c k x => by omega))).trans (g3.mono (fun c k x => by omega))).trans (t4.mono (fun c k x => by omega))
  refine ⟨_, ?_, ⟨MP_back e2 tB (by intro c k; omega), fun a ha => ?_, ⟨?_, ?_, fun i hi => absurd hi (Nat.not_lt_zero _), fun i hi => absurd hi (Nat.not_lt_zero _), fun n _ hn => ?_⟩, fun k hk => ?_, ⟨?_, fun i hi => absurd hi (Nat.not_lt_zero _)⟩, hin.sm tA (by unfold mSr; intro c k; omega), ?_, ?_, ?_⟩, ?_, tA⟩
  · unfold X12_start
    rw [e1, bd_rt, pt_e, d1]
    show X12_start_11b (fun _ i S => kk i S) v (nI 32) S2 = _
    unfold X12_start_11b
    rw [if_pos (by decide), g1]
    show X12_start_32b (fun _ i S => k2 i S) v (nI 5) S3 = _
    unfold X12_start_32b
    rw [if_pos (by decide), pt_e, pt_e, pt_e, pt_e, pt_e]
  · rw [tA.I (by unfold mSr; omega)]; exact hm a ha
  · rw [gI_pI, if_neg (by omega), gI_pI, if_neg (by omega), gI_pI, if_neg (by omega), gI_pL, gI_pI, if_pos ⟨rfl, rfl⟩]; rfl
  · rw [t4.L (by omega), g2 4 (by omega)]; rfl
  · rw [t4.L (by omega), g3.L (by omega)]; exact d2 n hn
  · rw [t4.L (by omega)]; exact g2 k (by omega)
  · rw [gI_pI, if_pos ⟨rfl, rfl⟩]; rfl
  · rw [gL_pI, gL_pI, gL_pI, gL_pL, if_pos ⟨rfl, rfl⟩]; rfl
  · rw [gI_pI, if_neg (by omega), gI_pI, if_pos ⟨rfl, rfl⟩]; rfl
  · rw [gI_pI, if_neg (by omega), gI_pI, if_neg (by omega), gI_pI, if_pos ⟨rfl, rfl⟩]; rfl
  · rw [t4.I (by omega), g3.I (by omega), d3.I (by omega), gI_pI, if_pos ⟨rfl, rfl⟩]
/-- X's three flags -/
theorem XQ.fl {A : Sx} {U V : Nat} {m : Ma} {f6 f7 f8 : Int32} (h : XQ A U V m f6 f7 f8) (hO : OKa m) (g6 g7 g8 : Int32) : XQ (pI (pI (pI A 0 6 g6) 0 7 g7) 0 8 g8) U V m g6 g7 g8 ∧ Sm (fun c _ => c = 0) A (pI (pI (pI A 0 6 g6) 0 7 g7) 0 8 g8) := by
  have s : Sm (fun c _ => c = 0) A (pI (pI (pI A 0 6 g6) 0 7 g7) 0 8 g8) := ((Sm.pI (P := fun c _ => c = 0) rfl).trans (Sm.pI (P := fun c _ => c = 0) rfl)).trans (Sm.pI (P := fun c _ => c = 0) rfl)
  obtain ⟨fs, o1, -⟩ := hO
  obtain ⟨⟨h1, h2, h3, h4, h5, h6, h7, h8, h9⟩, -, k, g⟩ := h
  refine ⟨⟨⟨by rw [s.K]; exact h1, h2.sm o1 s (by intro c k; omega), h3.sm s (by intro c k; omega), h4.sm s (by intro c k; omega), h5.sm s (by intro c k; omega), h6.sm s (by intro c k; omega), by rw [s.L (by omega)]; exact h7, by rw [s.I (by omega)]; exact h8, by rw [s.I (by omega)]; exact h9⟩, ⟨?_, ?_, ?_⟩, fun c hc => by rw [s.K]; exact k c hc, g.sm s (fun c hc x => by unfold isI at hc; omega)⟩, s⟩
  · rw [gI_pI, if_neg (by omega), gI_pI, if_neg (by omega), gI_pI, if_pos ⟨rfl, rfl⟩]
  · rw [gI_pI, if_neg (by omega), gI_pI, if_pos ⟨rfl, rfl⟩]
  · rw [gI_pI, if_pos ⟨rfl, rfl⟩]
theorem bd_id {α : Type} (r : Rs α) : bd r (fun v1 S1 => rt v1 S1) = r := by
  cases r with
  | none => rfl
  | some q => obtain ⟨q, S⟩ := q; cases q <;> rfl
theorem top_load {j : Nat} {A B : Sx} (R : Rtop j A B) (hj : j < 64) : ∃ v A1 B1, X0_load A = rt v A1 ∧ X12_load (adopt B A1) = rt v B1 ∧ Rtop (j + 1) (adopt A1 B1) B1 := by
  obtain ⟨m, tp, tot, w, f6, f7, f8, h1, h2, h3, h4, h5, h6, h7, h8, h9, h10, h11⟩ := id R
  have hF := FU_ge
  have i5 : isI 165 := by unfold isI; omega
  have hw := h5.2.2.2.1.2.2.2
  have hg := h5.2.2.2.2
  have hrB : roomM B := by
    have := h1.2.2.2.room
    unfold roomM at this ⊢
    omega
  obtain ⟨fs, o1, o2, o3, o4, o5, o6, o7⟩ := id h7
  -- X
  obtain ⟨q1, s1⟩ := h1.fl h7 0 0 (-1)
  generalize hA3 : pI (pI (pI A 0 6 0) 0 7 0) 0 8 (-1) = A3 at q1 s1
  have hI5 := h1.2.2.2.1 165 i5
  have hT3 : XI A3 165 tp := h2.sm s1 ⟨by omega, by omega, fun k => by have := hI5.2.2.2.1; omega⟩
  have ht3 : gI A3 146 1 = nI tot := by rw [s1.I (by omega)]; exact h3
  have eX : X0_load A = X0_take_56 (some 165) A3 := by
    unfold X0_load X0_take
    rw [pt_e, pt_e, pt_e, if_pos rfl, bd_id, hA3]
  obtain ⟨A5, a1, a2, a3⟩ := x_load_init q1 h7 i5 hT3
  have hf : fOK tp := ⟨by omega, h8⟩
  -- M
  obtain ⟨B1, b1', b2, b3, b4, b5⟩ := m_begin (B := B) (tp := tp) (Or.inl rfl) h5.2.2.1.1 h5.2.2.1.2.1 h6
  have t2 : Sm (fun c k => c = 167 ∧ k = 7) B1 (pI B1 167 7 0) := Sm.pI ⟨rfl, rfl⟩
  have hML : ML (pI B1 167 7 0) 169 tp s0 := by
    obtain ⟨z1, z2, z3, z4, z5, z6, z7, z8, z9⟩ := b2
    exact ⟨z1, z2, z3, z4, fun a ha => by rw [t2.I (by omega)]; exact z5 a ha, fun p hp => by rw [t2.I (by omega)]; exact z6 p hp, z7, by rw [t2.I (by omega)]; exact z8, fun i hi => by rw [t2.I (by omega)]; exact z9 i hi⟩
  have sB2 : Sm (fun c k => (c = 167 ∧ (k = 37 ∨ k = 38 ∨ k = 5 ∨ k = 6 ∨ k = 7)) ∨ c = 169 ∨ c = 182) B (pI B1 167 7 0) := (b5.mono (fun c k x => by unfold mBg at x; omega)).trans (t2.mono (fun c k x => by omega))
  have hp := ld_pair (r0 := fr m.1) (tg := 169) hf (by omega) tp.length 0 FU FU 0 0 A5 (pI B1 167 7 0) s0 (by omega) (by omega) (by omega) (by omega) (by omega) (by omega) a2 hML s0_OK (hrB.sm sB2)
  have hgn : ∀ T : Sx, gn T = gn A → gn T = gn B := fun T e => e.trans h10
  rcases hp with ⟨s, v, A', B', k', A2, p1, p2, p3, p4, p5, p6, p7, p8⟩ | ⟨s, c, p, A', B', k', c1, c2, p1, p3, p4, p5, p6, p7, p8⟩
  · obtain ⟨A4, r1, r2, r3, r4, r5, r6⟩ := x_take_ok (k := k') q1 h7 i5 hT3 ht3 (a1.trans p1) p2 p5 (a3.trans p7)
    have sB3 : Sm (fun c k => (c = 167 ∧ (k = 37 ∨ k = 38 ∨ k = 5 ∨ k = 6 ∨ k = 7)) ∨ c = 169 ∨ c = 182) B B' := sB2.trans (p8.mono (fun c k x => by unfold mLd at x; omega))
    obtain ⟨B4, u1, u2, u3, u4⟩ := m_start (B := B') (m := m) (s := s) v (by rw [sB3.I (by omega)]; exact h5.1.1.1) p6.2.2.2.2.2.1 p6.2.2.2.2.1 (h5.1.2.2.2.2.2.1.sm sB3 (by intro c k; omega))
    have eM : X12_load B = rt 0 (pI B4 167 1 0) := by
      unfold X12_load
      replace p3 : X12_records (pI B1 167 7 0) = rt v B' := p3
      rw [b1', bd_rt, pt_e, p3, ct_rt, u1, ct_rt]
      unfold X12_load_45
      have q : gI (pI B4 167 1 0) 167 7 = 1 := by rw [gI_pI, if_neg (by omega), u3]
      rw [pt_e, q, if_neg (by decide)]
    have s5 : Sm (fun c k => c = 167 ∧ k = 1) B4 (pI B4 167 1 0) := Sm.pI ⟨rfl, rfl⟩
    unfold mSr at u4
    have sB5 : Sm (fun c k => (c = 167 ∧ (k = 37 ∨ k = 38 ∨ k = 5 ∨ k = 6 ∨ k = 7 ∨ k = 1 ∨ (11 ≤ k ∧ k ≤ 14) ∨ k = 16 ∨ k = 23 ∨ (25 ≤ k ∧ k ≤ 29))) ∨ c = 169 ∨ c = 182 ∨ c = 171 ∨ c = 172 ∨ (175 ≤ c ∧ c ≤ 179)) B (pI B4 167 1 0) := ((sB3.mono (fun c k x => by omega)).trans (u4.mono (fun c k x => by omega))).trans (s5.mono (fun c k x => by omega))
    have s56 : gI B4 167 5 = 0 ∧ gI B4 167 6 = -1 := by
      unfold mLd at p8
      constructor
      · rw [u4.I (by omega), p8.I (by omega), t2.I (by omega)]; exact b3
      · rw [u4.I (by omega), p8.I (by omega), t2.I (by omega)]; exact b4
    refine ⟨0, A4, pI B4 167 1 0, by rw [eX]; exact r1, ?_, ?_⟩
    · rw [adopt_e (by rw [r5, s1.1]; exact h10) (by rw [r6, s1.2.1]; exact h11)]; exact eM
    · rw [adopt_e (by rw [sB5.1, r5, s1.1]; exact h10.symm) (by rw [sB5.2.1, r6, s1.2.1]; exact h11.symm)]
      refine ⟨mLoad m s v, [], tot, w, 1, 0, -1, r2.up ?_ ?_ ?_ ?_, r3, r4, by simp; omega, ⟨u2.sm s5 (fun c k x => by omega), ⟨by rw [s5.I (by omega)]; exact u3, by rw [s5.I (by omega)]; exact s56.1, by rw [s5.I (by omega)]; exact s56.2⟩, h5.2.2.1.sg sB5.sg hg, h5.2.2.2.1.sg sB5.sg hg (by intro k a b; omega), by rw [sB5.1]; exact hg⟩, ⟨by rw [gI_pI, if_pos ⟨rfl, rfl⟩]; rfl, fun i hi => absurd hi (Nat.not_lt_zero _)⟩, mLoad_OK h7 p4, (fun i => by unfold fG; simp), Or.inr rfl, by rw [sB5.1, r5, s1.1]; exact h10, by rw [sB5.2.1, r6, s1.2.1]; exact h11⟩
      all_goals unfold U0 V0 at *
      all_goals omega
  · obtain ⟨A4, r1, r2, r3, r4, r5, r6⟩ := x_take_f (k := k') q1 h7 i5 hT3 ht3 ⟨c1, c2⟩ (a1.trans p1) p5 (a3.trans p7)
    have sB3 : Sm (fun c k => (c = 167 ∧ (k = 37 ∨ k = 38 ∨ k = 5 ∨ k = 6 ∨ k = 7)) ∨ c = 169 ∨ c = 182) B B' := sB2.trans (p8.mono (fun c k x => by unfold mLd at x; omega))
    have hgB' : 192 ≤ gn B' := by rw [sB3.1]; exact hg
    have sF : Sg (fun _ _ => False) B' (mF B' (nI c) (nI p)) := mF_sg B' (nI c) (nI p)
    have s2 : Sm (fun c k => c = 167 ∧ (k = 5 ∨ k = 6)) (mF B' (nI c) (nI p)) (pI (pI (mF B' (nI c) (nI p)) 167 5 (nI c)) 167 6 (nI p)) := (Sm.pI (by omega)).trans (Sm.pI (by omega))
    obtain ⟨B4, u1, u2, u3⟩ := m_settle (S := pI (pI (mF B' (nI c) (nI p)) 167 5 (nI c)) 167 6 (nI p)) (r := fr m.1) (o := s.2.1) (by rw [s2.I (by omega), sF.I (by omega) id, sB3.I (by omega)]; exact h5.1.1.1) (fun q hq => by rw [s2.I (by omega), sF.I (by omega) id]; exact p6.2.2.2.2.2.1 q hq)
    unfold fPl at u3
    have s5 : Sm (fun c k => c = 167 ∧ k = 1) B4 (pI B4 167 1 0) := Sm.pI ⟨rfl, rfl⟩
    have g2 : Sg (fun c k => (c = 167 ∧ (k = 37 ∨ k = 38 ∨ k = 5 ∨ k = 6 ∨ k = 7 ∨ k = 1 ∨ k = 23 ∨ (25 ≤ k ∧ k ≤ 29))) ∨ c = 169 ∨ c = 182 ∨ (175 ≤ c ∧ c ≤ 179)) B (pI B4 167 1 0) := ((((sB3.mono (fun c k x => by omega)).sg.trans (sF.mono (fun c k x => x.elim))).trans (s2.mono (fun c k x => by omega)).sg).trans (u3.mono (fun c k x => by omega)).sg).trans (s5.mono (fun c k x => by omega)).sg
    have x5 : gI B4 167 5 = nI c := by rw [u3.I (by omega), gI_pI, if_neg (by omega), gI_pI, if_pos ⟨rfl, rfl⟩]
    have x6 : gI B4 167 6 = nI p := by rw [u3.I (by omega), gI_pI, if_pos ⟨rfl, rfl⟩]
    have x7 : gI B4 167 7 = 0 := by
      unfold mLd at p8
      rw [u3.I (by omega), s2.I (by omega), sF.I (by omega) id, p8.I (by omega), gI_pI, if_pos ⟨rfl, rfl⟩]
    have eM : X12_load B = rt (-1) (pI B4 167 1 0) := by
      unfold X12_load
      replace p3 : X12_records (pI B1 167 7 0) = th (gn B') (mF B' (nI c) (nI p)) := p3
      have k1 : gK (mF B' (nI c) (nI p)) (gn B') = 13 + 6 := mF_K _ _ _
      rw [b1', bd_rt, pt_e, p3, ct_th, kd_e k1]
      unfold X12_load_24
      have v1 : gI (pI (mF B' (nI c) (nI p)) 167 5 (nI c)) (gn B') 7 = nI p := by rw [gI_pI, if_neg (by omega), mF_7]
      rw [kd_e k1, pt_e, mF_6, kd_e (show gK (pI (mF B' (nI c) (nI p)) 167 5 (nI c)) (gn B') = 13 + 6 from k1), pt_e, v1, u1, bd_rt]
      unfold X12_load_45
      have q : gI (pI B4 167 1 0) 167 7 = 0 := by rw [gI_pI, if_neg (by omega), x7]
      rw [pt_e, q, if_pos rfl]
    have n1 : gn (pI B4 167 1 0) = gn B + 1 := by rw [gn_pI, u3.1, s2.1, mF_gn, sB3.1]
    have n2 : gu (pI B4 167 1 0) = gu B + 8 := by rw [gu_pI, u3.2.1, s2.2.1, mF_gu, sB3.2.1]
    have n3 : gn A4 = gn B := by rw [r5, s1.1]; exact h10
    have n4 : gu A4 = gu B := by rw [r6, s1.2.1]; exact h11
    obtain ⟨y2, y1, y3, y4, y5, y6, y7, y8, y9⟩ := id h5.1
    have gE : ∀ c k, c < 192 → ¬ ((c = 167 ∧ (k = 37 ∨ k = 38 ∨ k = 5 ∨ k = 6 ∨ k = 7 ∨ k = 1 ∨ k = 23 ∨ (25 ≤ k ∧ k ≤ 29))) ∨ c = 169 ∨ c = 182 ∨ (175 ≤ c ∧ c ≤ 179)) → gI (pI B4 167 1 0) c k = gI B c k ∧ gL (pI B4 167 1 0) c k = gL B c k := fun c k hc hn => ⟨g2.I (by omega) hn, g2.L (by omega) hn⟩
    have sE : Sm (fun c k => ((c = 167 ∧ (k = 37 ∨ k = 38 ∨ k = 5 ∨ k = 6 ∨ k = 7 ∨ k = 1 ∨ k = 23 ∨ (25 ≤ k ∧ k ≤ 29))) ∨ c = 169 ∨ c = 182 ∨ (175 ≤ c ∧ c ≤ 179)) ∨ 192 ≤ c) B (B.1, B.2.1, B.2.2.1, B.2.2.2.1, (pI B4 167 1 0).2.2.2.2.1, (pI B4 167 1 0).2.2.2.2.2.1, B.2.2.2.2.2.2) := ⟨rfl, rfl, fun _ => rfl, fun _ => rfl, fun c k q => ⟨(gE c k (by omega) (fun x => q (Or.inl x))).1, (gE c k (by omega) (fun x => q (Or.inl x))).2, rfl⟩⟩
    refine ⟨-1, A4, pI B4 167 1 0, by rw [eX]; exact r1, ?_, ?_⟩
    · rw [adopt_e n3 n4]; exact eM
    · refine ⟨mFail m s, [], tot, w, 0, nI c, nI p, ⟨r2.1, r2.2.1, r2.2.2.1, r2.2.2.2.adopt ?_ ?_ ?_ ?_ ?_⟩, r3, r4, by simp; omega, ⟨⟨MP_back u2 s5 (by intro c k; omega), fun a ha => ?_, ?_, ?_, ?_, ?_, ?_, ?_, ?_⟩, ⟨by rw [s5.I (by omega)]; exact x7, by rw [s5.I (by omega)]; exact x5, by rw [s5.I (by omega)]; exact x6⟩, h5.2.2.1.sg g2 hg, h5.2.2.2.1.sg g2 hg (by intro k a b; omega), by omega⟩, ⟨by rw [gI_pI, if_pos ⟨rfl, rfl⟩]; rfl, fun i hi => absurd hi (Nat.not_lt_zero _)⟩, mFail_OK h7 p4, (fun i => by unfold fG; simp), Or.inl rfl, rfl, rfl⟩
      · omega
      · omega
      · omega
      · unfold U0; omega
      · unfold V0; omega
      · rw [s5.I (by omega), u3.I (by omega), s2.I (by omega), sF.I (by omega) id]; exact p6.2.2.2.2.1 a ha
      · have q := y3.sm sE (by intro c k; omega)
        exact q
      · have q := y4.sm sE (by intro c k; omega)
        exact q
      · have q := y5.sm sE (by intro c k; omega)
        exact q
      · have q := y6.sm sE (by intro c k; omega)
        exact q
      · rw [g2.L (by omega) (by omega)]; exact y7
      · rw [g2.I (by omega) (by omega)]; exact y8
      · rw [g2.I (by omega) (by omega)]; exact y9
