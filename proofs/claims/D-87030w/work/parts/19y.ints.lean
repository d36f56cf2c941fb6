set_option maxRecDepth 100000
/-! ===== X's rows that grow ===== -/
def isI (c : Nat) : Prop := c = 146 ∨ c = 150 ∨ c = 156 ∨ c = 158 ∨ c = 160 ∨ c = 162 ∨ c = 165
def rowOf (A : Sx) (c : Nat) : Nat := (gR A c 0).getD 0
/-- the length of its row -/
def wOf (A : Sx) (c : Nat) : Nat := gN A (rowOf A c)
def IO (A : Sx) (c : Nat) : Prop := gR A c 0 = some (rowOf A c) ∧ gK A (rowOf A c) = 1 ∧ 64 ≤ wOf A c ∧ (rowOf A c = c + 1 ∨ 192 ≤ rowOf A c) ∧ rowOf A c < gn A
/-- how much it has at most -/
def capI (c : Nat) : Nat := if c = 150 then 90000 else 1280
def wX (A : Sx) : Nat := wOf A 146 + wOf A 150 + wOf A 156 + wOf A 158 + wOf A 160 + wOf A 162 + wOf A 165
def XG (A : Sx) (U V : Nat) : Prop := (∀ c, isI c → IO A c) ∧ (∀ c c', isI c → isI c' → rowOf A c = rowOf A c' → c = c') ∧ (∀ c, isI c → wOf A c ≤ 2 * capI c) ∧ gu A ≤ U + 2 * wX A ∧ 64 * gn A ≤ V + wX A ∧ U ≤ 6000000 ∧ V ≤ 30000000 ∧ 192 ≤ gn A
/-- what it has -/
def XI (A : Sx) (c : Nat) (l : List Nat) : Prop := gI A c 1 = nI l.length ∧ l.length ≤ wOf A c ∧ ∀ i, i < l.length → gI A (rowOf A c) i = nI (fG l i)
theorem XG.w {A : Sx} {U V : Nat} (h : XG A U V) : wX A ≤ 195360 := by
  have h3 := h.2.2.1
  have a1 := h3 146 (by unfold isI; omega)
  have a2 := h3 150 (by unfold isI; omega)
  have a3 := h3 156 (by unfold isI; omega)
  have a4 := h3 158 (by unfold isI; omega)
  have a5 := h3 160 (by unfold isI; omega)
  have a6 := h3 162 (by unfold isI; omega)
  have a7 := h3 165 (by unfold isI; omega)
  unfold capI at a1 a2 a3 a4 a5 a6 a7
  unfold wX
  simp at a1 a2 a3 a4 a5 a6 a7
  omega
theorem XG.cap {A : Sx} {U V c : Nat} (h : XG A U V) (hc : isI c) : wOf A c ≤ 180000 := by
  have := h.2.2.1 c hc
  unfold capI at this
  split at this <;> omega
/-- where an Ints changes -/
def pI8 (A : Sx) (c x k : Nat) : Prop := x = rowOf A c ∨ (x = c ∧ k ≤ 1)
theorem isI_row {A : Sx} {c c' : Nat} (h : IO A c) (hc : isI c) (hc' : isI c') : ¬ c' = rowOf A c := by
  have := h.2.2.2.1
  unfold isI at hc hc'
  omega
/-- an Ints that has n gets one more -/
theorem x_add8 {A : Sx} {c n : Nat} (v : Int32) (h : IO A c) (hc : isI c) (hK : gK A c = 14) (hn : gI A c 1 = nI n) (hw : n ≤ wOf A c) (hn2 : n < 90000) (hg : gn A + 1 ≤ CAPC) (hu : gu A + 2 * n ≤ CAPS) (hgn : 192 ≤ gn A) (hcap : wOf A c ≤ 180000) :
    ∃ A', X8_add c v A = rt (nI n) A' ∧ IO A' c ∧ gI A' c 1 = nI (n + 1) ∧ n + 1 ≤ wOf A' c ∧ gI A' (rowOf A' c) n = v ∧ (∀ i, i < n → gI A' (rowOf A' c) i = gI A (rowOf A c) i) ∧ Sg (pI8 A c) A A' ∧ (rowOf A' c = rowOf A c ∨ rowOf A' c = gn A) ∧
      ((gn A' = gn A ∧ gu A' = gu A ∧ wOf A' c = wOf A c) ∨ (gn A' = gn A + 1 ∧ gu A' = gu A + 2 * n ∧ wOf A' c = 2 * n ∧ wOf A c = n)) := by
  obtain ⟨h1, h2, h3, h4, h5⟩ := id h
  have hcr : ¬ c = rowOf A c := isI_row h hc hc
  have e40 : ∀ (T : Sx) (r : Nat), gR T c 0 = some r → gK T r = 1 → n < gN T r → gN T r < 2 ^ 30 → gI T c 1 = nI n → ¬ c = r → X8_add_40 c v T = rt (nI n) (pI (pI T r n v) c 1 (nI (n + 1))) := by
    intro T r t1 t2 t3 t4 t5 t6
    unfold X8_add_40
    have t7 : gI (pI T r n v) c 1 = nI n := by rw [gI_pI, if_neg (fun e => t6 e.1)]; exact t5
    rw [t1, dO_s t2, t5, sI_n t3 (by omega), pt_e, t7, nI_1, gI_pI, if_pos ⟨rfl, rfl⟩, nI_pred]
  by_cases hcase : n = wOf A c
  · have e0 : X8_add c v A = X8_add_40 c v (pR (cpI (nw A 1 (2 * n) (2 * n)) (rowOf A c) 0 (gn A) 0 n) c 0 (some (gn A))) := by
      unfold X8_add
      rw [h1, dO_s h2, hn, if_pos (show nI n = Int32.ofNat (gN A (rowOf A c)) by rw [hcase]; rfl), show (2 : Int32) * nI n = nI (2 * n) from pk_mul 2 n, alI_e (by omega) hg hu]
      have c1 : gI (nw A 1 (2 * n) (2 * n)) c 1 = nI n := by rw [gI_nw, if_neg (by unfold isI at hc; omega)]; exact hn
      have c2 : gR (nw A 1 (2 * n) (2 * n)) c 0 = some (rowOf A c) := by rw [gR_nw, if_neg (by unfold isI at hc; omega)]; exact h1
      have c3 : gK (nw A 1 (2 * n) (2 * n)) (rowOf A c) = 1 := by rw [gK_nw, if_neg (by omega)]; exact h2
      have c4 : gN (nw A 1 (2 * n) (2 * n)) (rowOf A c) = n := by rw [gN_nw, if_neg (by omega)]; exact hcase.symm
      rw [c1, c2, show (0 : Int32) = nI 0 from rfl, cpy_e c3 (by rw [gK_nw, if_pos rfl]) (by omega) (by omega) (by omega) (by rw [c4]; omega) (by rw [gN_nw, if_pos rfl]; omega) (by omega), pt_e]
    have hcg : ¬ c = gn A := by unfold isI at hc; omega
    have q1 : gR (pR (cpI (nw A 1 (2 * n) (2 * n)) (rowOf A c) 0 (gn A) 0 n) c 0 (some (gn A))) c 0 = some (gn A) := by rw [gR_pR, if_pos ⟨rfl, rfl⟩]
    have q2 : gK (pR (cpI (nw A 1 (2 * n) (2 * n)) (rowOf A c) 0 (gn A) 0 n) c 0 (some (gn A))) (gn A) = 1 := by rw [gK_pR, gK_cpI, gK_nw, if_pos rfl]
    have q3 : gN (pR (cpI (nw A 1 (2 * n) (2 * n)) (rowOf A c) 0 (gn A) 0 n) c 0 (some (gn A))) (gn A) = 2 * n := by rw [gN_pR, gN_cpI, gN_nw, if_pos rfl]
    have q4 : gI (pR (cpI (nw A 1 (2 * n) (2 * n)) (rowOf A c) 0 (gn A) 0 n) c 0 (some (gn A))) c 1 = nI n := by rw [gI_pR, gI_cpI, if_neg (by omega), gI_nw, if_neg hcg]; exact hn
    have e1 := e40 _ (gn A) q1 q2 (by rw [q3]; omega) (by rw [q3]; omega) q4 hcg
    generalize hT : pR (cpI (nw A 1 (2 * n) (2 * n)) (rowOf A c) 0 (gn A) 0 n) c 0 (some (gn A)) = T at *
    have hr' : rowOf (pI (pI T (gn A) n v) c 1 (nI (n + 1))) c = gn A := by
      unfold rowOf
      rw [gR_pI, gR_pI, q1]
      rfl
    have hgT : gn T = gn A + 1 := by rw [← hT]; rfl
    have huT : gu T = gu A + 2 * n := by rw [← hT]; rfl
    have hw' : wOf (pI (pI T (gn A) n v) c 1 (nI (n + 1))) c = 2 * n := by
      unfold wOf
      rw [hr', gN_pI, gN_pI, q3]
    refine ⟨_, by rw [e0, e1], ⟨?_, ?_, ?_, ?_, ?_⟩, ?_, ?_, ?_, fun i hi => ?_, ?_, Or.inr hr', Or.inr ⟨?_, ?_, hw', hcase.symm⟩⟩
    · rw [hr', gR_pI, gR_pI, q1]
    · rw [hr', gK_pI, gK_pI, q2]
    · rw [hw']; omega
    · rw [hr']; exact Or.inr hgn
    · rw [hr', gn_pI, gn_pI, hgT]; omega
    · rw [gI_pI, if_pos ⟨rfl, rfl⟩]
    · rw [hw']; omega
    · rw [hr', gI_pI, if_neg (by omega), gI_pI, if_pos ⟨rfl, rfl⟩]
    · rw [hr', gI_pI, if_neg (by omega), gI_pI, if_neg (by omega), ← hT, gI_pR, gI_cpI, if_pos ⟨rfl, by omega, by omega⟩, gI_nw, if_neg (by omega)]
      congr 1; omega
    · refine ⟨by rw [gn_pI, gn_pI, hgT]; omega, fun x hx => ⟨?_, ?_, fun k hk => ⟨?_, ?_, ?_⟩⟩⟩
      · rw [gK_pI, gK_pI, ← hT, gK_pR, gK_cpI, gK_nw, if_neg (by omega)]
      · rw [gN_pI, gN_pI, ← hT, gN_pR, gN_cpI, gN_nw, if_neg (by omega)]
      · unfold pI8 at hk
        rw [gI_pI, if_neg (by omega), gI_pI, if_neg (by omega), ← hT, gI_pR, gI_cpI, if_neg (by omega), gI_nw, if_neg (by omega)]
      · rw [gL_pI, gL_pI, ← hT, gL_pR, gL_cpI, gL_nw, if_neg (by omega)]
      · unfold pI8 at hk
        rw [gR_pI, gR_pI, ← hT, gR_pR, if_neg (by omega), gR_cpI, gR_nw, if_neg (by omega)]
    · rw [gn_pI, gn_pI, hgT]
    · rw [gu_pI, gu_pI, huT]
  · have e0 : X8_add c v A = X8_add_40 c v A := by
      unfold X8_add
      rw [h1, dO_s h2, hn, if_neg (show ¬ nI n = Int32.ofNat (gN A (rowOf A c)) from fun e => hcase ((nI_eq (by omega) (show wOf A c < 2 ^ 31 by omega)).mp e))]
    have e1 := e40 A (rowOf A c) h1 h2 (by unfold wOf at *; omega) (by unfold wOf at *; omega) hn hcr
    have hr' : rowOf (pI (pI A (rowOf A c) n v) c 1 (nI (n + 1))) c = rowOf A c := rfl
    refine ⟨pI (pI A (rowOf A c) n v) c 1 (nI (n + 1)), by rw [e0, e1], ⟨h1, h2, h3, h4, h5⟩, ?_, ?_, ?_, fun i hi => ?_, ?_, Or.inl hr', Or.inl ⟨rfl, rfl, rfl⟩⟩
    · rw [gI_pI, if_pos ⟨rfl, rfl⟩]
    · show n + 1 ≤ wOf A c; omega
    · rw [hr', gI_pI, if_neg (fun e => hcr e.1.symm), gI_pI, if_pos ⟨rfl, rfl⟩]
    · rw [hr', gI_pI, if_neg (fun e => hcr e.1.symm), gI_pI, if_neg (by omega)]
    · exact ((Sm.pI (P := pI8 A c) (Or.inl rfl)).trans (Sm.pI (P := pI8 A c) (Or.inr ⟨rfl, by omega⟩))).sg
theorem fG_app (l : List Nat) (v i : Nat) (hi : i < l.length + 1) : fG (l ++ [v]) i = if i = l.length then v else fG l i := by
  unfold fG
  by_cases h : i = l.length
  · rw [if_pos h, h]; simp
  · rw [if_neg h]
    simp only [List.getD]
    rw [List.getElem?_append_left (by omega)]
/-- an Ints gets one more: the whole -/
theorem x_addG {A : Sx} {U V c : Nat} {l : List Nat} (v : Nat) (h : XG A U V) (hc : isI c) (hK : gK A c = 14) (hl : XI A c l) (hcap : l.length < capI c) :
    ∃ A', X8_add c (nI v) A = rt (nI l.length) A' ∧ XG A' U V ∧ XI A' c (l ++ [v]) ∧ Sg (pI8 A c) A A' ∧ (∀ c', isI c' → ¬ c' = c → rowOf A' c' = rowOf A c' ∧ wOf A' c' = wOf A c' ∧ ∀ l', XI A c' l' → XI A' c' l') := by
  obtain ⟨h1, h2, h3, h4, h5, h6, h7, h8⟩ := id h
  have hw := h.w
  have hl9 : l.length < 90000 := by unfold capI at hcap; split at hcap <;> omega
  have hgc : gn A + 1 ≤ CAPC := by unfold CAPC; omega
  have hguc : gu A + 2 * l.length ≤ CAPS := by unfold CAPS; omega
  obtain ⟨A', e1, e2, e3, e4, e5, e6, e7, e8, e9⟩ := x_add8 (nI v) (h1 c hc) hc hK hl.1 hl.2.1 hl9 hgc hguc h8 (h.cap hc)
  have hoth : ∀ c', isI c' → ¬ c' = c → rowOf A' c' = rowOf A c' ∧ wOf A' c' = wOf A c' := by
    intro c' hc' hne
    have hr : rowOf A' c' = rowOf A c' := by
      unfold rowOf
      rw [e7.R (by unfold isI at hc'; omega)]
      unfold pI8
      have := isI_row (h1 c hc) hc hc'
      omega
    refine ⟨hr, ?_⟩
    unfold wOf
    rw [hr, e7.N (h1 c' hc').2.2.2.2]
  have hrow : ∀ c', isI c' → ¬ c' = c → ¬ rowOf A c' = rowOf A c := fun c' hc' hne e => hne (h2 c' c hc' hc e)
  refine ⟨A', e1, ⟨fun c' hc' => ?_, fun a b ha hb hab => ?_, fun c' hc' => ?_, ?_, ?_, h6, h7, Nat.le_trans h8 e7.1⟩, ⟨?_, ?_, fun i hi => ?_⟩, e7, fun c' hc' hne => ?_⟩
  · by_cases hne : c' = c
    · subst hne; exact e2
    · obtain ⟨o1, o2⟩ := hoth c' hc' hne
      obtain ⟨i1, i2, i3, i4, i5⟩ := h1 c' hc'
      have hR : gR A' c' 0 = gR A c' 0 := by
        rw [e7.R (by unfold isI at hc'; omega)]
        unfold pI8
        have := isI_row (h1 c hc) hc hc'
        omega
      refine ⟨by rw [hR, o1]; exact i1, by rw [o1, e7.K i5]; exact i2, by rw [o2]; exact i3, by rw [o1]; exact i4, by rw [o1]; exact Nat.lt_of_lt_of_le i5 e7.1⟩
  · by_cases hac : a = c
    · by_cases hbc : b = c
      · rw [hac, hbc]
      · exfalso
        obtain ⟨o1, o2⟩ := hoth b hb hbc
        rw [hac, o1] at hab
        rcases e8 with e8 | e8
        · rw [e8] at hab; exact hrow b hb hbc hab.symm
        · have := (h1 b hb).2.2.2.2; omega
    · obtain ⟨o1, o2⟩ := hoth a ha hac
      by_cases hbc : b = c
      · exfalso
        rw [hbc, o1] at hab
        rcases e8 with e8 | e8
        · rw [e8] at hab; exact hrow a ha hac hab
        · have := (h1 a ha).2.2.2.2; omega
      · rw [o1, (hoth b hb hbc).1] at hab
        exact h2 a b ha hb hab
  · by_cases hne : c' = c
    · subst hne
      rcases e9 with ⟨-, -, g⟩ | ⟨-, -, g, -⟩
      · rw [g]; exact h3 c' hc'
      · rw [g]; omega
    · rw [(hoth c' hc' hne).2]; exact h3 c' hc'
  · have hx : wX A' + wOf A c = wX A + wOf A' c := by
      unfold wX
      have hh : ∀ c', isI c' → c' = c ∨ wOf A' c' = wOf A c' := fun c' hc' => by
        by_cases hne : c' = c
        · exact Or.inl hne
        · exact Or.inr (hoth c' hc' hne).2
      rcases hc with rfl | rfl | rfl | rfl | rfl | rfl | rfl
      all_goals
        have a1 := hh 146 (by unfold isI; omega)
        have a2 := hh 150 (by unfold isI; omega)
        have a3 := hh 156 (by unfold isI; omega)
        have a4 := hh 158 (by unfold isI; omega)
        have a5 := hh 160 (by unfold isI; omega)
        have a6 := hh 162 (by unfold isI; omega)
        have a7 := hh 165 (by unfold isI; omega)
        omega
    rcases e9 with ⟨g1, g2, g3⟩ | ⟨g1, g2, g3, g4⟩
    · omega
    · omega
  · have hx : wX A' + wOf A c = wX A + wOf A' c := by
      unfold wX
      have hh : ∀ c', isI c' → c' = c ∨ wOf A' c' = wOf A c' := fun c' hc' => by
        by_cases hne : c' = c
        · exact Or.inl hne
        · exact Or.inr (hoth c' hc' hne).2
      rcases hc with rfl | rfl | rfl | rfl | rfl | rfl | rfl
      all_goals
        have a1 := hh 146 (by unfold isI; omega)
        have a2 := hh 150 (by unfold isI; omega)
        have a3 := hh 156 (by unfold isI; omega)
        have a4 := hh 158 (by unfold isI; omega)
        have a5 := hh 160 (by unfold isI; omega)
        have a6 := hh 162 (by unfold isI; omega)
        have a7 := hh 165 (by unfold isI; omega)
        omega
    have := (h1 c hc).2.2.1
    rcases e9 with ⟨g1, g2, g3⟩ | ⟨g1, g2, g3, g4⟩
    · omega
    · omega
  · rw [e3, List.length_append]; rfl
  · rw [List.length_append]; exact e4
  · rw [List.length_append] at hi
    rw [fG_app l v i hi]
    by_cases hil : i = l.length
    · rw [if_pos hil, hil]; exact e5
    · rw [if_neg hil, e6 i (by have : i < l.length + 1 := hi; omega)]
      exact hl.2.2 i (by have : i < l.length + 1 := hi; omega)
  · obtain ⟨o1, o2⟩ := hoth c' hc' hne
    refine ⟨o1, o2, fun l' hl' => ⟨?_, by rw [o2]; exact hl'.2.1, fun i hi => ?_⟩⟩
    · rw [e7.I (by unfold isI at hc'; omega)]
      · exact hl'.1
      · unfold pI8
        have := isI_row (h1 c hc) hc hc'
        omega
    · rw [o1, e7.I (h1 c' hc').2.2.2.2]
      · exact hl'.2.2 i hi
      · unfold pI8
        have := hrow c' hc' hne
        have := isI_row (h1 c' hc') hc' hc
        omega
/-! XG and XI stay -/
theorem XG.sm {P : Nat → Nat → Prop} {A A' : Sx} {U V : Nat} (h : XG A U V) (hs : Sm P A A') (hp : ∀ c, isI c → ¬ P c 0) : XG A' U V := by
  obtain ⟨h1, h2, h3, h4, h5, h6, h7, h8⟩ := h
  have hr : ∀ c, isI c → rowOf A' c = rowOf A c := fun c hc => by unfold rowOf; rw [hs.R (hp c hc)]
  have hw : ∀ c, isI c → wOf A' c = wOf A c := fun c hc => by unfold wOf; rw [hr c hc, hs.N]
  have hx : wX A' = wX A := by
    unfold wX
    rw [hw 146 (by unfold isI; omega), hw 150 (by unfold isI; omega), hw 156 (by unfold isI; omega), hw 158 (by unfold isI; omega), hw 160 (by unfold isI; omega), hw 162 (by unfold isI; omega), hw 165 (by unfold isI; omega)]
  refine ⟨fun c hc => ?_, fun a b ha hb hab => ?_, fun c hc => by rw [hw c hc]; exact h3 c hc, by rw [hs.2.1, hx]; exact h4, by rw [hs.1, hx]; exact h5, h6, h7, by rw [hs.1]; exact h8⟩
  · obtain ⟨i1, i2, i3, i4, i5⟩ := h1 c hc
    exact ⟨by rw [hs.R (hp c hc), hr c hc]; exact i1, by rw [hr c hc, hs.K]; exact i2, by rw [hw c hc]; exact i3, by rw [hr c hc]; exact i4, by rw [hr c hc, hs.1]; exact i5⟩
  · rw [hr a ha, hr b hb] at hab
    exact h2 a b ha hb hab
theorem XI.sm {P : Nat → Nat → Prop} {A A' : Sx} {c : Nat} {l : List Nat} (h : XI A c l) (hs : Sm P A A') (hp : ¬ P c 0 ∧ ¬ P c 1 ∧ ∀ k, ¬ P (rowOf A c) k) : XI A' c l := by
  have hr : rowOf A' c = rowOf A c := by unfold rowOf; rw [hs.R hp.1]
  have hw : wOf A' c = wOf A c := by unfold wOf; rw [hr, hs.N]
  exact ⟨by rw [hs.I hp.2.1]; exact h.1, by rw [hw]; exact h.2.1, fun i hi => by rw [hr, hs.I (hp.2.2 i)]; exact h.2.2 i hi⟩
/-- an Ints is cut -/
theorem XI.cut {A : Sx} {c n : Nat} {l : List Nat} (h : XI A c l) (hI : IO A c) (hc : isI c) (hn : n ≤ l.length) : XI (pI A c 1 (nI n)) c (l.take n) := by
  have hcr : ¬ c = rowOf A c := isI_row hI hc hc
  have hl : (l.take n).length = n := by rw [List.length_take]; omega
  refine ⟨by rw [gI_pI, if_pos ⟨rfl, rfl⟩, hl], by rw [hl]; exact Nat.le_trans hn h.2.1, fun i hi => ?_⟩
  rw [hl] at hi
  show gI (pI A c 1 (nI n)) (rowOf A c) i = _
  rw [gI_pI, if_neg (fun e => hcr e.1.symm), h.2.2 i (by omega)]
  unfold fG
  simp [List.getD, List.getElem?_take, hi]
