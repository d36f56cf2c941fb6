set_option maxRecDepth 100000
theorem dg_loop {FX FM : Nat → Int64 → Int32 → Rs Int64} {g : Nat → Int32} {N : Nat} {P : Rs Int64 → Rs Int64 → Prop} (hs : ∀ i x nX nM, i < N → ∃ x', FX (nX + 1) x (g i) = FX nX x' (g (i + 1)) ∧ FM (nM + 1) x (g i) = FM nM x' (g (i + 1))) (he : ∀ x nX nM, P (FX (nX + 1) x (g N)) (FM (nM + 1) x (g N))) : ∀ d i x nX nM, i + d = N → d < nX → d < nM → P (FX nX x (g i)) (FM nM x (g i)) := by
  intro d
  induction d with
  | zero =>
    intro i x nX nM hi h1 h2
    obtain ⟨nX, rfl⟩ : ∃ j, nX = j + 1 := ⟨nX - 1, by omega⟩
    obtain ⟨nM, rfl⟩ : ∃ j, nM = j + 1 := ⟨nM - 1, by omega⟩
    obtain rfl : i = N := by omega
    exact he x nX nM
  | succ d ih =>
    intro i x nX nM hi h1 h2
    obtain ⟨nX, rfl⟩ : ∃ j, nX = j + 1 := ⟨nX - 1, by omega⟩
    obtain ⟨nM, rfl⟩ : ∃ j, nM = j + 1 := ⟨nM - 1, by omega⟩
    obtain ⟨x', e1, e2⟩ := hs i x nX nM (by omega)
    rw [e1, e2]
    exact ih (i + 1) x' nX nM (by omega) (by omega) (by omega)
def Eqv (A B : Sx) (r r' : Rs Int64) : Prop := ∃ v, r = rt v A ∧ r' = rt v B
theorem q_digest {A B : Sx} {U V w : Nat} {m : Ma} {f6 f7 f8 : Int32} (hX : XQ A U V m f6 f7 f8) (hM : MQq B w m f6 f7 f8) (hO : OKa m) : Eqv A B (X0_digest A) (X12_digest B) := by
  have hF := FU_ge
  obtain ⟨fs, o1, o2, o3, o4, o5, o6, o7⟩ := id hO
  have d5 : ∀ x, Eqv A B (X0_digest_144 FU x 0 A) (X12_digest_142 FU x 0 B) := by
    intro x
    exact dg_loop (FX := fun n x i => X0_digest_144 n x i A) (FM := fun n x i => X12_digest_142 n x i B) (g := fun i => nI (8 * i)) (N := 8192) (P := Eqv A B) (fun i x nX nM hi => by
      obtain ⟨v, e1, e2⟩ := q_octa hX.1 hM.1 hO (nI (8 * i))
      refine ⟨x * 31 + v, ?_, ?_⟩
      · show X0_digest_144b (X0_digest_144 nX) x (nI (8 * i)) A = _
        unfold X0_digest_144b
        rw [if_neg (lit_ge (N := 65536) (by omega) (by omega)), e1, bd_rt, vl_e, vl_e, show nI (8 * i) + 8 = nI (8 * (i + 1)) from nI_add _ 8]
      · show X12_digest_142b (X12_digest_142 nM) x (nI (8 * i)) B = _
        unfold X12_digest_142b
        rw [if_neg (lit_ge (N := 65536) (by omega) (by omega)), e2, bd_rt, vl_e, vl_e, show nI (8 * i) + 8 = nI (8 * (i + 1)) from nI_add _ 8]) (fun x nX nM => ⟨x, by
        show X0_digest_144b (X0_digest_144 nX) x (nI (8 * 8192)) A = _
        unfold X0_digest_144b
        rw [if_pos (by decide)], by
        show X12_digest_142b (X12_digest_142 nM) x (nI (8 * 8192)) B = _
        unfold X12_digest_142b
        rw [if_pos (by decide)]⟩) 8192 0 x FU FU (by omega) (by omega) (by omega)
  have d4 : ∀ x, Eqv A B (X0_digest_112 FU x 0 A) (X12_digest_113 FU x 0 B) := by
    intro x
    have g1 : gI A 2 1 = nI (fr m.1) := hX.1.2.1.2.1.1
    have g2 : gI B 167 17 = nI (fr m.1) := hM.1.1.1
    have := o1.2.1
    exact dg_loop (FX := fun n x i => X0_digest_112 n x i A) (FM := fun n x i => X12_digest_113 n x i B) (g := nI) (N := fr m.1) (P := Eqv A B) (fun i x nX nM hi => by
      obtain ⟨v, e1, e2⟩ := q_page hX.1 hM.1 hO (nI i)
      refine ⟨x * 31 + v.toInt64, ?_, ?_⟩
      · show X0_digest_112b (X0_digest_112 nX) x (nI i) A = _
        unfold X0_digest_112b
        rw [g1, if_neg (nI_ge hi (by omega)), e1, bd_rt, vl_e, vl_e, nI_1]
      · show X12_digest_113b (X12_digest_113 nM) x (nI i) B = _
        unfold X12_digest_113b
        rw [g2, if_neg (nI_ge hi (by omega)), e2, bd_rt, vl_e, vl_e, nI_1]) (fun x nX nM => by
        show Eqv A B (X0_digest_112b (X0_digest_112 nX) x (nI (fr m.1)) A) (X12_digest_113b (X12_digest_113 nM) x (nI (fr m.1)) B)
        unfold X0_digest_112b X12_digest_113b
        rw [g1, g2, if_pos (nI_le (Nat.le_refl _) (by omega)), if_pos (nI_le (Nat.le_refl _) (by omega))]
        exact d5 x) (fr m.1) 0 x FU FU (by omega) (by omega) (by omega)
  have g1 : gI A 138 9 = nI m.2.2.2.2.2.2.2.1.length := hX.1.2.2.2.2.1.1
  have g2 : gI B 167 16 = nI m.2.2.2.2.2.2.2.1.length := hM.1.2.2.2.2.1.1
  have d3 : ∀ x, Eqv A B (X0_digest_83 FU x 0 A) (X12_digest_83 FU x 0 B) := by
    intro x
    exact dg_loop (FX := fun n x i => X0_digest_83 n x i A) (FM := fun n x i => X12_digest_83 n x i B) (g := nI) (N := m.2.2.2.2.2.2.2.1.length) (P := Eqv A B) (fun i x nX nM hi => by
      refine ⟨x * 31 + (m.2.2.2.2.2.2.2.1.getD i 0).toInt64, ?_, ?_⟩
      · show X0_digest_83b (X0_digest_83 nX) x (nI i) A = _
        unfold X0_digest_83b X0_outs X0_out
        rw [bd_rt, g1, if_neg (nI_ge hi (by omega)), if_neg (nI_pos (by omega)), if_pos (nI_lt hi (by omega)), lI_n (by omega) (by omega), hX.1.2.2.2.2.1.2 i hi, bd_rt, vl_e, vl_e, nI_1]
      · show X12_digest_83b (X12_digest_83 nM) x (nI i) B = _
        unfold X12_digest_83b
        rw [g2, if_neg (nI_ge hi (by omega)), lI_n (by omega) (by omega), hM.1.2.2.2.2.1.2 i hi, vl_e, vl_e, nI_1]) (fun x nX nM => by
        show Eqv A B (X0_digest_83b (X0_digest_83 nX) x (nI _) A) (X12_digest_83b (X12_digest_83 nM) x (nI _) B)
        unfold X0_digest_83b X12_digest_83b X0_outs
        rw [bd_rt, g1, g2, if_pos (nI_le (Nat.le_refl _) (by omega)), if_pos (nI_le (Nat.le_refl _) (by omega))]
        exact d4 x) m.2.2.2.2.2.2.2.1.length 0 x FU FU (by omega) (by omega) (by omega)
  have d2 : ∀ x, Eqv A B (X0_digest_44 FU x 0 A) (X12_digest_44 FU x 0 B) := by
    intro x
    exact dg_loop (FX := fun n x i => X0_digest_44 n x i A) (FM := fun n x i => X12_digest_44 n x i B) (g := nI) (N := 8) (P := Eqv A B) (fun i x nX nM hi => by
      obtain ⟨v, e1, e2⟩ := q_told hX hM hO (nI i)
      refine ⟨x * 31 + v.toInt64, ?_, ?_⟩
      · show X0_digest_44b (X0_digest_44 nX) x (nI i) A = _
        unfold X0_digest_44b
        rw [if_neg (fun e => by have := (n_lt (N := 7) (by omega) (by omega)).mp e; omega), e1, bd_rt, vl_e, vl_e, nI_1]
      · show X12_digest_44b (X12_digest_44 nM) x (nI i) B = _
        unfold X12_digest_44b
        rw [if_neg (lit_ge (N := 8) hi (by omega)), e2, bd_rt, vl_e, vl_e, nI_1]) (fun x nX nM => by
        show Eqv A B (X0_digest_44b (X0_digest_44 nX) x (nI 8) A) (X12_digest_44b (X12_digest_44 nM) x (nI 8) B)
        unfold X0_digest_44b X12_digest_44b X0_outs
        rw [if_pos (by decide), if_pos (by decide), bd_rt, vl_e, vl_e, g1, g2]
        exact d3 _) 8 0 x FU FU (by omega) (by omega) (by omega)
  have g3 : gI A 138 6 = m.2.2.2.2.2.2.2.2.2.2.1 := hX.1.2.2.2.2.2.2.2.1
  have g4 : gI B 167 14 = m.2.2.2.2.2.2.2.2.2.2.1 := hM.1.2.2.2.2.2.2.2.1
  exact dg_loop (FX := fun n x i => X0_digest_6 n x i A) (FM := fun n x i => X12_digest_6 n x i B) (g := nI) (N := 39) (P := Eqv A B) (fun i x nX nM hi => by
      obtain ⟨v, e1, e2⟩ := q_register hX.1 hM.1 hO (nI i)
      refine ⟨x * 31 + v, ?_, ?_⟩
      · show X0_digest_6b (X0_digest_6 nX) x (nI i) A = _
        unfold X0_digest_6b
        rw [if_neg (fun e => by have := (n_lt (N := 38) (by omega) (by omega)).mp e; omega), e1, bd_rt, vl_e, vl_e, nI_1]
      · show X12_digest_6b (X12_digest_6 nM) x (nI i) B = _
        unfold X12_digest_6b
        rw [if_neg (lit_ge (N := 39) hi (by omega)), e2, bd_rt, vl_e, vl_e, nI_1]) (fun x nX nM => by
        show Eqv A B (X0_digest_6b (X0_digest_6 nX) x (nI 39) A) (X12_digest_6b (X12_digest_6 nM) x (nI 39) B)
        unfold X0_digest_6b X12_digest_6b X0_steps
        rw [if_pos (by decide), if_pos (by decide), bd_rt, vl_e, vl_e, g3, g4]
        exact d2 _) 39 0 7 FU FU (by omega) (by omega) (by omega)
theorem top_digest {j : Nat} {A B : Sx} (R : Rtop j A B) (hj : j < 64) : ∃ v A1 B1, X0_digest A = rt v A1 ∧ X12_digest (adopt B A1) = rt v B1 ∧ Rtop (j + 1) (adopt A1 B1) B1 := by
  obtain ⟨m, tp, tot, w, f6, f7, f8, h1, h2, h3, h4, h5, h6, h7, h8⟩ := id R
  obtain ⟨v, e1, e2⟩ := q_digest h1 h5 h7
  exact top_same (rX := X0_digest) (rM := X12_digest) R hj e1 e2
/-! ===== M stays ===== -/
def mOut (c k : Nat) : Prop := (c = 167 ∧ (k = 1 ∨ (30 ≤ k ∧ ¬ (44 ≤ k ∧ k ≤ 47)))) ∨ c = 168 ∨ 182 ≤ c
theorem MMa.sm {P : Nat → Nat → Prop} {B B' : Sx} {m : Ma} (h : MMa B m) (hs : Sm P B B') (hp : ∀ c k, P c k → (c = 167 ∧ (k = 1 ∨ (5 ≤ k ∧ k ≤ 7) ∨ 30 ≤ k)) ∨ c = 168 ∨ 182 ≤ c) : MMa B' m := by
  have e5 := hs.mono hp
  obtain ⟨h2, h1, h3, h4, h5, h6, h7, h8, h9⟩ := h
  exact ⟨MP_back h2 e5 (by intro c k; omega), h1.sm e5 (by intro c k; omega), h3.sm e5 (by intro c k; omega), h4.sm e5 (by intro c k; omega), h5.sm e5 (by intro c k; omega), h6.sm e5 (by intro c k; omega), by rw [e5.L (by omega)]; exact h7, by rw [e5.I (by omega)]; exact h8, by rw [e5.I (by omega)]; exact h9⟩
theorem MMa.eo {P : Nat → Nat → Prop} {B B' : Sx} {m : Ma} (h : MMa B m) (hg : 192 ≤ gn B) (hs : Sg P B B') (hp : ∀ c k, P c k → (c = 167 ∧ (k = 1 ∨ (5 ≤ k ∧ k ≤ 7) ∨ 30 ≤ k)) ∨ c = 168 ∨ 182 ≤ c) : MMa B' m := by
  have e4 : Sm (fun c k => P c k ∨ 182 ≤ c) B (B.1, B.2.1, B.2.2.1, B.2.2.2.1, (fun c k => gI B' c k), (fun c k => gL B' c k), B.2.2.2.2.2.2) := by
    refine ⟨rfl, rfl, fun _ => rfl, fun _ => rfl, fun c k q => ?_⟩
    have hc : c < 182 := Nat.lt_of_not_le (fun x => q (Or.inr x))
    have hP : ¬ P c k := fun x => q (Or.inl x)
    exact ⟨hs.I (by omega) hP, hs.L (by omega) hP, rfl⟩
  have fin := h.sm e4 (fun c k x => x.elim (hp c k) (fun y => Or.inr (Or.inr y)))
  exact fin
theorem MQq.sg {P : Nat → Nat → Prop} {B B' : Sx} {w : Nat} {m : Ma} {f6 f7 f8 : Int32} (h : MQq B w m f6 f7 f8) (hs : Sg P B B') (hp : ∀ c k, P c k → mOut c k) : MQq B' w m f6 f7 f8 := by
  obtain ⟨h1, ⟨h2, h3, h4⟩, h5, h6, h7⟩ := h
  unfold mOut at hp
  exact ⟨h1.eo h7 hs (fun c k x => by have := hp c k x; omega), ⟨by rw [hs.I (by omega) (fun x => by have := hp _ _ x; omega)]; exact h2, by rw [hs.I (by omega) (fun x => by have := hp _ _ x; omega)]; exact h3, by rw [hs.I (by omega) (fun x => by have := hp _ _ x; omega)]; exact h4⟩, h5.sg hs h7, h6.sg hs h7 (fun k ha hb x => by have := hp _ _ x; omega), Nat.le_trans h7 hs.1⟩
theorem top_end {j : Nat} {A B : Sx} (R : Rtop j A B) (hj : j < 64) (a : Int32) : ∃ v A1 B1, X0_end a A = rt v A1 ∧ X12_end a (adopt B A1) = rt v B1 ∧ Rtop (j + 1) (adopt A1 B1) B1 := by
  obtain ⟨m, tp, tot, w, f6, f7, f8, h1, h2, h3, h4, h5, h6, h7, h8, h9, h10, h11⟩ := id R
  have eX : X0_end a A = if a < 0 then rt (-1) A else if a ≤ nI tp.length then rt a (pI A 165 1 a) else rt (-1) A := by
    unfold X0_end
    rw [h2.1]
    rfl
  have eM : X12_end a B = if a < 0 then rt (-1) B else if a ≤ nI tp.length then rt a (pI B 167 1 a) else rt (-1) B := by
    unfold X12_end
    rw [h6.1]
    rfl
  by_cases h0 : a < 0
  · exact top_same (rX := X0_end a) (rM := X12_end a) (v := -1) R hj (by rw [eX, if_pos h0]) (by rw [eM, if_pos h0])
  · obtain ⟨k, hk, rfl⟩ := nI_of h0
    by_cases hc : nI k ≤ nI tp.length
    · have hk2 : k ≤ tp.length := (nI_leI hk (by omega)).mp hc
      refine ⟨nI k, pI A 165 1 (nI k), pI B 167 1 (nI k), by rw [eX, if_neg h0, if_pos hc], ?_, ?_⟩
      · rw [adopt_e (show gn (pI A 165 1 (nI k)) = gn B from h10) (show gu (pI A 165 1 (nI k)) = gu B from h11), eM, if_neg h0, if_pos hc]
      · rw [adopt_e (S := pI A 165 1 (nI k)) (S' := pI B 167 1 (nI k)) h10.symm h11.symm]
        refine Rtop.up ?_ hj
        have sA : Sm (fun c k => c = 165 ∧ k = 1) A (pI A 165 1 (nI k)) := Sm.pI ⟨rfl, rfl⟩
        have sB : Sm (fun c k => c = 167 ∧ k = 1) B (pI B 167 1 (nI k)) := Sm.pI ⟨rfl, rfl⟩
        have hI := h1.2.2.2.1 146 (by unfold isI; omega)
        have hl : (tp.take k).length = k := by rw [List.length_take]; omega
        refine ⟨m, tp.take k, tot, w, f6, f7, f8, h1.sg h7 sA.sg (h1.2.2.2.sm sA (fun c hc x => by omega)) (fun c k x => ⟨by omega, ?_⟩), h2.cut (h1.2.2.2.1 165 (by unfold isI; omega)) (by unfold isI; omega) hk2, ?_, by rw [hl]; omega, h5.sg sB.sg (fun c k x => by unfold mOut; omega), ⟨?_, fun i hi => ?_⟩, h7, fun i => ?_, h9, h10, h11⟩
        · have := isI_row hI (by unfold isI; omega) (show isI 165 by unfold isI; omega)
          omega
        · rw [sA.I (by omega)]; exact h3
        · rw [gI_pI, if_pos ⟨rfl, rfl⟩, hl]
        · rw [hl] at hi
          rw [gI_pI, if_neg (by omega), h6.2 i (by omega)]
          unfold fG
          simp [List.getD, List.getElem?_take, hi]
        · have := h8 i
          unfold fG at this ⊢
          by_cases hik : i < k
          · simp [List.getD, List.getElem?_take, hik] at this ⊢; exact this
          · simp [List.getD, List.getElem?_take, hik]
    · exact top_same (rX := X0_end (nI k)) (rM := X12_end (nI k)) (v := -1) R hj (by rw [eX, if_neg h0, if_neg hc]) (by rw [eM, if_neg h0, if_neg hc])
theorem XG.room {A : Sx} {U V : Nat} (h : XG A U V) : roomM A := by
  have := h.w
  obtain ⟨h1, h2, h3, h4, h5, h6, h7, h8⟩ := h
  unfold roomM CAPC CAPS
  omega
theorem top_run {j : Nat} {A B : Sx} (R : Rtop j A B) (hj : j < 64) (a : Int32) : ∃ v A1 B1, X0_run a A = rt v A1 ∧ X12_run a (adopt B A1) = rt v B1 ∧ Rtop (j + 1) (adopt A1 B1) B1 := by
  obtain ⟨m, tp, tot, w, f6, f7, f8, h1, h2, h3, h4, h5, h6, h7, h8, h9, h10, h11⟩ := id R
  have eX : X0_run a A = if f6 = 0 then rt (-1) A else if a < 0 then rt (-1) A else if 20000 < a then rt (-1) A else X5_run a A := by
    unfold X0_run
    rw [h1.2.1.1]
    have : ∀ r : Rs Int32, bd r (fun v1 S1 => rt v1 S1) = r := by
      intro r
      cases r with
      | none => rfl
      | some q => obtain ⟨q, S⟩ := q; cases q <;> rfl
    rw [this]
  have eM : X12_run a B = if f6 = 0 then rt (-1) B else if a < 0 then rt (-1) B else if a ≤ 20000 then X12_run_22 FU a 0 B else rt (-1) B := by
    unfold X12_run
    rw [h5.2.1.1]
  by_cases c0 : f6 = 0
  · exact top_same (rX := X0_run a) (rM := X12_run a) (v := -1) R hj (by rw [eX, if_pos c0]) (by rw [eM, if_pos c0])
  by_cases c1 : a < 0
  · exact top_same (rX := X0_run a) (rM := X12_run a) (v := -1) R hj (by rw [eX, if_neg c0, if_pos c1]) (by rw [eM, if_neg c0, if_pos c1])
  obtain ⟨k, hk, rfl⟩ := nI_of c1
  by_cases c2 : k ≤ 20000
  · have q1 : ¬ (20000 : Int32) < nI k := fun e => by have := (n_lt (N := 20000) (by omega) (by omega)).mp e; omega
    have q2 : nI k ≤ 20000 := nI_le (a := k) (b := 20000) c2 (by omega)
    have hF := FU_ge
    have hrB : roomM B := by
      have := h1.2.2.2.room
      unfold roomM at this ⊢
      omega
    obtain ⟨A', B', pc, n, st, g1, g2, g3, g4, g5, g6, g7, g8⟩ := run_loop c2 k FU FU 0 A B _ _ _ (by omega) (by omega) (by omega) (ma_RMp h1.1 h5.1 h7) hrB (by have := h5.2.2.2.2; omega)
    obtain ⟨m', k1, k2, k3⟩ := RMp_ma g3
    refine ⟨st, A', B', by rw [eX, if_neg c0, if_neg c1, if_neg q1]; exact g1, ?_, ?_⟩
    · rw [adopt_e (g4.1.trans h10) (g4.2.1.trans h11), eM, if_neg c0, if_neg c1, if_pos q2]; exact g2
    · unfold xSt at g4
      have hG := h1.2.2.2.sm g4 (fun c hc x => by unfold isI at hc; omega)
      have hw := h5.2.2.2.1.2.2.2
      have e1 := g4.1
      have e2 := g4.2.1
      have hgn : gn B ≤ gn B' := g5.1
      have hI5 := h1.2.2.2.1 165 (by unfold isI; omega)
      refine ⟨m', tp, tot, w, f6, f7, f8, ⟨k1, ⟨?_, ?_, ?_⟩, fun c hc => ?_, hG.adopt ?_ ?_ ?_ ?_ ?_⟩, ?_, ?_, by omega, ⟨k2, ⟨?_, ?_, ?_⟩, h5.2.2.1.sg g5 h5.2.2.2.2, h5.2.2.2.1.sg g5 h5.2.2.2.2 ?_, Nat.le_trans h5.2.2.2.2 hgn⟩, h6.sg g5 h5.2.2.2.2 ?_, k3, h8, h9, rfl, rfl⟩
      · show gI A' 0 6 = _; rw [g4.I (by omega)]; exact h1.2.1.1
      · show gI A' 0 7 = _; rw [g4.I (by omega)]; exact h1.2.1.2.1
      · show gI A' 0 8 = _; rw [g4.I (by omega)]; exact h1.2.1.2.2
      · show gK A' c = _; rw [g4.K]; exact h1.2.2.1 c hc
      · omega
      · omega
      · omega
      · unfold U0; omega
      · unfold V0; omega
      · have := h2.sm g4 (by have := hI5.2.2.2.1; exact ⟨by omega, by omega, fun k => by omega⟩)
        exact this
      · show gI A' 146 1 = _; rw [g4.I (by omega)]; exact h3
      · rw [g5.I (by have := h5.2.2.2.2; omega) (by unfold mS2 mSt; omega)]; exact h5.2.1.1
      · rw [g5.I (by have := h5.2.2.2.2; omega) (by unfold mS2 mSt; omega)]; exact h5.2.1.2.1
      · rw [g5.I (by have := h5.2.2.2.2; omega) (by unfold mS2 mSt; omega)]; exact h5.2.1.2.2
      · intro k a b; unfold mS2 mSt; omega
      · exact ⟨by unfold mS2 mSt; omega, fun k => by unfold mS2 mSt; omega⟩
  · have q1 : (20000 : Int32) < nI k := (n_lt (N := 20000) (by omega) (by omega)).mpr (by omega)
    have q2 : ¬ nI k ≤ 20000 := nI_ge (a := 20000) (b := k) (by omega) (by omega)
    exact top_same (rX := X0_run (nI k)) (rM := X12_run (nI k)) (v := -1) R hj (by rw [eX, if_neg c0, if_neg c1, if_pos q1]) (by rw [eM, if_neg c0, if_neg c1, if_neg q2])
