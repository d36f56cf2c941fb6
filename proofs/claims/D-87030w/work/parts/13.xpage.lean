set_option maxRecDepth 100000
/-! ===== X's cache ===== -/
theorem getD_eraseP {α : Type} (l : List α) (k i : Nat) (x : α) : (l.eraseIdx k).getD i x = if i < k then l.getD i x else l.getD (i + 1) x := by
  rw [List.getD_eq_getElem?_getD, List.getElem?_eraseIdx]
  split <;> rw [List.getD_eq_getElem?_getD]
theorem getD_in {α : Type} {l : List α} {i : Nat} (h : i < l.length) (x : α) : l.getD i x = l[i] := by
  rw [List.getD_eq_getElem?_getD, List.getElem?_eq_getElem h]
  rfl
theorem getD_mem {α : Type} {l : List α} {i : Nat} (h : i < l.length) (x : α) : l.getD i x ∈ l := by
  rw [getD_in h]
  exact List.getElem_mem h
theorem getD_appP {α : Type} (l : List α) (x d : α) (i : Nat) : (l ++ [x]).getD i d = if i < l.length then l.getD i d else if i = l.length then x else d := by
  rw [List.getD_eq_getElem?_getD]
  split
  · rename_i h
    rw [List.getElem?_append_left h, List.getD_eq_getElem?_getD]
  · rename_i h
    rw [List.getElem?_append_right (by omega)]
    split
    · rename_i h2
      subst h2
      simp
    · rw [List.getElem?_eq_none (by simp; omega)]
      rfl
/-- the frames' cells -/
def XF (S : Sx) : Prop := gK S 4 = 3 ∧ gN S 4 = 65536 ∧ ∀ f, f < 64 → gR S 3 f = some (10 + 2 * f) ∧ gK S (10 + 2 * f) = 10 ∧ gR S (10 + 2 * f) 0 = some (11 + 2 * f) ∧ gK S (11 + 2 * f) = 3 ∧ gN S (11 + 2 * f) = 64
theorem XF.sm {P : Nat → Nat → Prop} {S S' : Sx} (h : XF S) (hs : Sm P S S') (hp : ∀ f, f < 64 → ¬ P 3 f ∧ ¬ P (10 + 2 * f) 0) : XF S' := by
  obtain ⟨h1, h2, h3⟩ := h
  refine ⟨by rw [hs.K]; exact h1, by rw [hs.N]; exact h2, fun f hf => ?_⟩
  rw [hs.R (hp f hf).1, hs.R (hp f hf).2, hs.K, hs.K, hs.N]
  exact h3 f hf
def KX (S : Sx) (l : List (Nat × Nat)) : Prop := gI S 7 2 = nI l.length ∧ l.length ≤ 4 ∧ (∀ q ∈ l, q.1 < 1024 ∧ q.2 < 64) ∧ ∀ i, i < l.length → gI S 8 i = nI (l.getD i (0, 0)).1 ∧ gR S 9 i = some (10 + 2 * (l.getD i (0, 0)).2)
def kPl (c k : Nat) : Prop := c = 8 ∨ c = 9 ∨ (c = 7 ∧ k = 2)
theorem x_cut_loop {m : Nat} (hm : m < 4) : ∀ (d i n : Nat) (S : Sx), i + d = m → d < n → gI S 7 2 = nI m → (∀ j, i < j → j ≤ m → ∃ a, gR S 9 j = some a ∧ gK S a = 10) → ∃ S', X3_cut_12 n (nI i) S = rt () S' ∧ (∀ j, i ≤ j → j < m → gI S' 8 j = gI S 8 (j + 1) ∧ gR S' 9 j = gR S 9 (j + 1)) ∧ (∀ j, j < i ∨ m ≤ j → gI S' 8 j = gI S 8 j ∧ gR S' 9 j = gR S 9 j) ∧ Sm (fun c _ => c = 8 ∨ c = 9) S S' := by
  intro d
  induction d with
  | zero =>
    intro i n S hi hn hk _
    obtain ⟨n, rfl⟩ : ∃ j, n = j + 1 := ⟨n - 1, by omega⟩
    refine ⟨S, ?_, fun j h1 h2 => by omega, fun j _ => ⟨rfl, rfl⟩, Sm.rfl' S⟩
    show X3_cut_12b (X3_cut_12 n) (nI i) S = _
    unfold X3_cut_12b
    rw [hk, if_pos (nI_le (by omega) (by omega))]
  | succ d ih =>
    intro i n S hi hn hk hr
    obtain ⟨n, rfl⟩ : ∃ j, n = j + 1 := ⟨n - 1, by omega⟩
    obtain ⟨a, ha, ha2⟩ := hr (i + 1) (by omega) (by omega)
    obtain ⟨S', e, h1, h2, h3⟩ := ih (i + 1) n (pR (pI S 8 i (gI S 8 (i + 1))) 9 i (some a)) (by omega) (by omega) (by simp [gI_pI, gI_pR, hk]) (fun j h1 h2 => by
      obtain ⟨c, hc, hc2⟩ := hr j (by omega) h2
      exact ⟨c, by rw [gR_pR, if_neg (by omega)]; exact hc, hc2⟩)
    have hsm : Sm (fun c _ => c = 8 ∨ c = 9) S (pR (pI S 8 i (gI S 8 (i + 1))) 9 i (some a)) := (Sm.pI (P := fun c _ => c = 8 ∨ c = 9) (Or.inl rfl)).trans (Sm.pR (P := fun c _ => c = 8 ∨ c = 9) (Or.inr rfl))
    refine ⟨S', ?_, fun j h4 h5 => ?_, fun j h4 => ?_, hsm.trans h3⟩
    · show X3_cut_12b (X3_cut_12 n) (nI i) S = _
      unfold X3_cut_12b
      rw [hk, if_neg (nI_ge (by omega) (by omega)), nI_1, lI_n (by omega) (by omega), sI_n (by omega) (by omega), lR_n (by omega) (by omega)]
      rw [show gR (pI S 8 i (gI S 8 (i + 1))) 9 (i + 1) = some a from ha, dOn_s (S := pI S 8 i (gI S 8 (i + 1))) ha2, sR_n (by omega) (by omega), vl_e]
      exact e
    · by_cases hj : j = i
      · subst hj
        obtain ⟨q1, q2⟩ := h2 j (by omega)
        rw [q1, q2, gI_pR, gI_pI, if_pos ⟨rfl, rfl⟩, gR_pR, if_pos ⟨rfl, rfl⟩]
        exact ⟨rfl, ha.symm⟩
      · obtain ⟨q1, q2⟩ := h1 j (by omega) h5
        rw [q1, q2, gI_pR, gI_pI, if_neg (by omega), gR_pR, if_neg (by omega)]
        exact ⟨rfl, rfl⟩
    · obtain ⟨q1, q2⟩ := h2 j (by omega)
      rw [q1, q2, gI_pR, gI_pI, if_neg (by omega), gR_pR, if_neg (by omega)]
      exact ⟨rfl, rfl⟩
theorem x_cut {S : Sx} {l : List (Nat × Nat)} {k : Nat} (h : KX S l) (hF : XF S) (hk : k < l.length) : ∃ S', X3_cut (nI k) S = rt () S' ∧ KX S' (l.eraseIdx k) ∧ Sm kPl S S' := by
  obtain ⟨h1, h2, h2a, h3⟩ := h
  have hl : l.length - 1 + 1 = l.length := by omega
  have e1 : nI l.length - 1 = nI (l.length - 1) := by rw [← hl]; exact nI_pred _
  obtain ⟨S', e, a1, a2, a3⟩ := x_cut_loop (m := l.length - 1) (by omega) (l.length - 1 - k) k FU (pI S 7 2 (nI (l.length - 1))) (by omega) (by have := FU_ge; omega) (by simp [gI_pI]) (fun j q1 q2 => ⟨_, (h3 j (by omega)).2, (hF.2.2 _ (h2a _ (getD_mem (by omega) _)).2).2.1⟩)
  refine ⟨S', ?_, ⟨?_, ?_, fun q hq => h2a q (List.mem_of_mem_eraseIdx hq), fun i hi => ?_⟩, (Sm.pI (P := kPl) (Or.inr (Or.inr ⟨rfl, rfl⟩))).trans (a3.mono fun c j q => by unfold kPl; omega)⟩
  · unfold X3_cut
    rw [pt_e, vl_e, h1, e1]
    exact e
  · rw [a3.I (by decide), gI_pI, if_pos ⟨rfl, rfl⟩, List.length_eraseIdx, if_pos hk]
  · rw [List.length_eraseIdx, if_pos hk]; omega
  · rw [List.length_eraseIdx, if_pos hk] at hi
    rw [getD_eraseP]
    split
    · obtain ⟨q1, q2⟩ := a2 i (Or.inl (by assumption))
      rw [q1, q2, gI_pI, if_neg (by omega)]
      exact h3 i (by omega)
    · obtain ⟨q1, q2⟩ := a1 i (by omega) hi
      rw [q1, q2, gI_pI, if_neg (by omega)]
      exact h3 (i + 1) (by omega)
theorem x_find_loop {S : Sx} {l : List (Nat × Nat)} {p : Nat} (hK : KX S l) (hp : p < 1024) {e : Nat} (he : e ≤ l.length) (hne : ∀ i, i < e → (l.getD i (0, 0)).1 ≠ p) (hst : e = l.length ∨ (l.getD e (0, 0)).1 = p) : ∀ (d i n : Nat), i + d = e → d < n → X3_find_2 n (nI p) (nI i) S = rt (if e = l.length then none else some (10 + 2 * (l.getD e (0, 0)).2)) S := by
  obtain ⟨k1, k2, k2a, k3⟩ := hK
  have hlt : ∀ i, i < l.length → (l.getD i (0, 0)).1 < 1024 := fun i hi => (k2a _ (getD_mem hi _)).1
  intro d
  induction d with
  | zero =>
    intro i n hi hn
    obtain ⟨n, rfl⟩ : ∃ j, n = j + 1 := ⟨n - 1, by omega⟩
    obtain rfl : i = e := by omega
    show X3_find_2b (X3_find_2 n) (nI p) (nI i) S = _
    unfold X3_find_2b
    rw [k1]
    by_cases hie : i = l.length
    · rw [if_pos (nI_le (by omega) (by omega)), if_pos hie]
    · obtain ⟨q1, q2⟩ := k3 i (by omega)
      rw [if_neg (nI_ge (by omega) (by omega)), lI_n (by omega) (by omega), q1, hst.resolve_left hie, if_pos rfl, lR_n (by omega) (by omega), q2, if_neg hie]
  | succ d ih =>
    intro i n hi hn
    obtain ⟨n, rfl⟩ : ∃ j, n = j + 1 := ⟨n - 1, by omega⟩
    show X3_find_2b (X3_find_2 n) (nI p) (nI i) S = _
    unfold X3_find_2b
    rw [k1, if_neg (nI_ge (by omega) (by omega)), lI_n (by omega) (by omega), (k3 i (by omega)).1, if_neg (fun e => hne i (by omega) ((nI_eq (by have := hlt i (by omega); omega) (by omega)).mp e)), vl_e, nI_1]
    exact ih (i + 1) n (by omega) (by omega)
theorem x_drop_loop {p : Nat} (hp : p < 1024) : ∀ (d n : Nat) (S : Sx) (l : List (Nat × Nat)), d ≤ l.length → d < n → KX S l → XF S → ∃ S', X3_drop_7 n (nI p) (nI d - 1) S = rt () S' ∧ KX S' ((l.take d).filter (fun q => q.1 ≠ p) ++ l.drop d) ∧ Sm kPl S S' := by
  intro d
  induction d with
  | zero =>
    intro n S l hd hn hK hF
    obtain ⟨n, rfl⟩ : ∃ j, n = j + 1 := ⟨n - 1, by omega⟩
    refine ⟨S, ?_, ?_, Sm.rfl' S⟩
    · show X3_drop_7b (X3_drop_7 n) (nI p) (nI 0 - 1) S = _
      unfold X3_drop_7b
      rw [if_pos (by decide)]
    · simp only [List.take_zero, List.filter_nil, List.nil_append, List.drop_zero]
      exact hK
  | succ d ih =>
    intro n S l hd hn hK hF
    obtain ⟨n, rfl⟩ : ∃ j, n = j + 1 := ⟨n - 1, by omega⟩
    have hdl : d < l.length := by omega
    have hv : gI S 8 d = nI (l.getD d (0, 0)).1 := (hK.2.2.2 d hdl).1
    rw [getD_in hdl] at hv
    have hlt : l[d].1 < 1024 := (hK.2.2.1 _ (List.getElem_mem hdl)).1
    have htk : l.take (d + 1) = l.take d ++ [l[d]] := (List.take_append_getElem hdl).symm
    have hstep : X3_drop_7 (n + 1) (nI p) (nI (d + 1) - 1) S = if nI l[d].1 = nI p then bd (X3_cut (nI d) S) (fun _ S1 => X3_drop_7 n (nI p) (nI d - 1) S1) else X3_drop_7 n (nI p) (nI d - 1) S := by
      show X3_drop_7b (X3_drop_7 n) (nI p) (nI (d + 1) - 1) S = _
      unfold X3_drop_7b
      rw [nI_m1, nI_pred, if_neg (nI_pos (by have := hK.2.1; omega)), lI_n (by have := hK.2.1; omega) (by omega), hv]
      rfl
    by_cases hpe : l[d].1 = p
    · obtain ⟨S1, f1, f2, f3⟩ := x_cut hK hF hdl
      have hF1 : XF S1 := hF.sm f3 (fun f hf => ⟨by unfold kPl; omega, by unfold kPl; omega⟩)
      have hed : l.eraseIdx d = l.take d ++ l.drop (d + 1) := List.eraseIdx_eq_take_drop_succ l d
      have hlen : (l.take d).length = d := by rw [List.length_take]; omega
      obtain ⟨S', g1, g2, g4⟩ := ih n S1 (l.eraseIdx d) (by rw [List.length_eraseIdx, if_pos hdl]; omega) (by omega) f2 hF1
      refine ⟨S', ?_, ?_, f3.trans g4⟩
      · rw [hstep, if_pos (by rw [hpe]), f1, bd_rt]
        exact g1
      · rw [hed] at g2
        rw [htk, List.filter_append]
        have e3 : List.filter (fun q => decide (q.1 ≠ p)) [l[d]] = [] := by simp [hpe]
        rw [e3, List.append_nil]
        rwa [List.take_left' hlen, List.drop_left' hlen] at g2
    · obtain ⟨S', g1, g2, g4⟩ := ih n S l (by omega) (by omega) hK hF
      refine ⟨S', ?_, ?_, g4⟩
      · rw [hstep, if_neg (fun e => hpe ((nI_eq (by omega) (by omega)).mp e))]
        exact g1
      · rw [htk, List.filter_append]
        have e3 : List.filter (fun q => decide (q.1 ≠ p)) [l[d]] = [l[d]] := by simp [hpe]
        rw [e3, List.append_assoc, List.singleton_append, ← List.drop_eq_getElem_cons hdl]
        exact g2
theorem x_drop {S : Sx} {l : List (Nat × Nat)} {p : Nat} (hp : p < 1024) (hK : KX S l) (hF : XF S) : ∃ S', X3_drop (nI p) S = rt () S' ∧ KX S' (l.filter (fun q => q.1 ≠ p)) ∧ Sm kPl S S' := by
  obtain ⟨S', e1, e2, e3⟩ := x_drop_loop hp l.length FU S l (Nat.le_refl _) (by have := FU_ge; have := hK.2.1; omega) hK hF
  rw [List.take_length, List.drop_length, List.append_nil] at e2
  refine ⟨S', ?_, e2, e3⟩
  unfold X3_drop
  rw [vl_e, hK.1]
  exact e1
theorem x_add_13 {S : Sx} {l : List (Nat × Nat)} {p f : Nat} (hK : KX S l) (hF : XF S) (hl : l.length < 4) (hp : p < 1024) (hf : f < 64) : ∃ S', X3_add_13 (nI p) (some (10 + 2 * f)) S = rt () S' ∧ KX S' (l ++ [(p, f)]) ∧ Sm kPl S S' := by
  obtain ⟨k1, k2, k2a, k3⟩ := hK
  refine ⟨pI (pR (pI S 8 l.length (nI p)) 9 l.length (some (10 + 2 * f))) 7 2 (nI (l.length + 1)), ?_, ⟨?_, ?_, fun q hq => ?_, fun i hi => ?_⟩, ((Sm.pI (P := kPl) (Or.inl rfl)).trans (Sm.pR (P := kPl) (Or.inr (Or.inl rfl)))).trans (Sm.pI (P := kPl) (Or.inr (Or.inr ⟨rfl, rfl⟩)))⟩
  · unfold X3_add_13
    have e0 : gI (pI S 8 l.length (nI p)) 7 2 = nI l.length := by simp [gI_pI, k1]
    have e : gI (pR (pI S 8 l.length (nI p)) 9 l.length (some (10 + 2 * f))) 7 2 = nI l.length := by simp [gI_pR, gI_pI, k1]
    rw [k1, sI_n (by omega) (by omega), dOn_s (S := pI S 8 l.length (nI p)) (hF.2.2 f hf).2.1, e0, sR_n (by omega) (by omega), pt_e, e, nI_1]
  · simp [gI_pI]
  · rw [List.length_append]; show l.length + 1 ≤ 4; omega
  · rw [List.mem_append, List.mem_singleton] at hq
    rcases hq with hq | rfl
    · exact k2a q hq
    · exact ⟨hp, hf⟩
  · rw [getD_appP]
    rw [List.length_append] at hi
    have hi : i < l.length + 1 := hi
    by_cases h : i = l.length
    · subst h
      simp [gI_pI, gI_pR, gR_pI, gR_pR]
    · have hlt : i < l.length := by omega
      have := k3 i hlt
      simp [gI_pI, gI_pR, gR_pI, gR_pR, h, hlt] at this ⊢
      exact this
theorem x_add {S : Sx} {l : List (Nat × Nat)} {p f : Nat} (hK : KX S l) (hF : XF S) (hp : p < 1024) (hf : f < 64) : ∃ S', X3_add (nI p) (some (10 + 2 * f)) S = rt () S' ∧ KX S' ((if l.length = 4 then l.tail else l) ++ [(p, f)]) ∧ Sm kPl S S' := by
  unfold X3_add
  rw [hK.1]
  by_cases h4 : l.length = 4
  · rw [if_pos (by rw [h4]; rfl), if_pos h4]
    obtain ⟨S1, a1, a2, a3⟩ := x_cut (k := 0) hK hF (by omega)
    have hF1 : XF S1 := hF.sm a3 (fun f hf => ⟨by unfold kPl; omega, by unfold kPl; omega⟩)
    rw [List.eraseIdx_zero] at a2
    obtain ⟨S2, c1, c2, c3⟩ := x_add_13 a2 hF1 (by rw [List.length_tail]; omega) hp hf
    rw [nI_0] at a1
    rw [a1, bd_rt, c1]
    exact ⟨S2, rfl, c2, a3.trans c3⟩
  · rw [if_neg (fun e => h4 ((nI_eq (by have := hK.2.1; omega) (by omega)).mp (e.trans (rfl : (4 : Int32) = nI 4)))), if_neg h4]
    exact x_add_13 hK hF (by have := hK.2.1; omega) hp hf
/-! ===== X's pages ===== -/
def by8 (v : Nat) : Int32 := (nI v).toInt8.toInt32
def XB (S : Sx) (b : Pb) : Prop :=
  gI S 2 1 = nI (fr b) ∧ gI S 2 2 = nI (hd b) ∧ gI S 2 7 = fa b ∧ gI S 2 8 = re b ∧ gI S 2 9 = wr b ∧ gI S 2 10 = mi b ∧
  (∀ f, f < 64 → gI S (10 + 2 * f) 1 = pg (pin b f) ∧ (pin b f ≠ none → gI S (10 + 2 * f) 2 = b1 (tch b f) ∧ gI S (10 + 2 * f) 3 = b1 (wrt b f))) ∧
  ∀ p, p < 1024 → (∀ f, pin b f = some p → gR S 6 p = some (10 + 2 * f)) ∧ ((∀ f, pin b f ≠ some p) → gR S 6 p = none ∧ gI S 5 p = b1 (ot b p))
def XC (S : Sx) (b : Pb) : Prop := ∃ l, KX S l ∧ l.map (fun q => q.1) = kn b ∧ ∀ q ∈ l, pin b q.2 = some q.1
def XM (S : Sx) (b : Pb) (mem : Nat → Nat) : Prop := ∀ p, p < 1024 → (∀ f, pin b f = some p → ∀ k, k < 64 → gI S (11 + 2 * f) k = by8 (mem (64 * p + k))) ∧ ((∀ f, pin b f ≠ some p) → ∀ k, k < 64 → gI S 4 (64 * p + k) = by8 (mem (64 * p + k)))
def XP (S : Sx) (b : Pb) (mem : Nat → Nat) : Prop := XF S ∧ XB S b ∧ XC S b ∧ XM S b mem
/-- the places of X's pages -/
def xPl (c _ : Nat) : Prop := 2 ≤ c ∧ c ≤ 137
theorem XB.sm {P : Nat → Nat → Prop} {S S' : Sx} {b : Pb} (h : XB S b) (hs : Sm P S S') (hp : ∀ c k, P c k → ¬ (c = 2 ∨ c = 5 ∨ c = 6 ∨ (10 ≤ c ∧ c ≤ 136 ∧ c % 2 = 0))) : XB S' b := by
  have hI : ∀ c k, (c = 2 ∨ c = 5 ∨ c = 6 ∨ (10 ≤ c ∧ c ≤ 136 ∧ c % 2 = 0)) → gI S' c k = gI S c k ∧ gR S' c k = gR S c k := fun c k q => ⟨hs.I fun x => hp c k x q, hs.R fun x => hp c k x q⟩
  obtain ⟨h1, h2, h3, h4, h5, h6, h7, h8⟩ := h
  refine ⟨by rw [(hI _ _ (by omega)).1]; exact h1, by rw [(hI _ _ (by omega)).1]; exact h2, by rw [(hI _ _ (by omega)).1]; exact h3, by rw [(hI _ _ (by omega)).1]; exact h4, by rw [(hI _ _ (by omega)).1]; exact h5, by rw [(hI _ _ (by omega)).1]; exact h6, fun f hf => ?_, fun p hp => ?_⟩
  · rw [(hI _ _ (by omega)).1, (hI _ _ (by omega)).1, (hI _ _ (by omega)).1]
    exact h7 f hf
  · rw [(hI _ _ (by omega)).2, (hI _ _ (by omega)).1]
    exact h8 p hp
theorem XM.sm {P : Nat → Nat → Prop} {S S' : Sx} {b : Pb} {mem : Nat → Nat} (h : XM S b mem) (hb : ∀ f p, pin b f = some p → f < 64) (hs : Sm P S S') (hp : ∀ c k, P c k → ¬ (c = 4 ∨ (11 ≤ c ∧ c ≤ 137 ∧ c % 2 = 1))) : XM S' b mem := by
  intro p hp2
  obtain ⟨h1, h2⟩ := h p hp2
  refine ⟨fun f hf k hk => ?_, fun hf k hk => ?_⟩
  · have := hb f p hf
    rw [hs.I fun x => hp _ _ x (by omega)]
    exact h1 f hf k hk
  · rw [hs.I fun x => hp _ _ x (by omega)]
    exact h2 hf k hk
theorem KX.sm {P : Nat → Nat → Prop} {S S' : Sx} {l : List (Nat × Nat)} (h : KX S l) (hs : Sm P S S') (hp : ∀ c k, P c k → ¬ (7 ≤ c ∧ c ≤ 9)) : KX S' l := by
  obtain ⟨h1, h2, h3, h4⟩ := h
  refine ⟨by rw [hs.I fun x => hp _ _ x (by omega)]; exact h1, h2, h3, fun i hi => ?_⟩
  rw [hs.I fun x => hp _ _ x (by omega), hs.R fun x => hp _ _ x (by omega)]
  exact h4 i hi
theorem XC.sm {P : Nat → Nat → Prop} {S S' : Sx} {b : Pb} (h : XC S b) (hs : Sm P S S') (hp : ∀ c k, P c k → ¬ (7 ≤ c ∧ c ≤ 9)) : XC S' b := by
  obtain ⟨l, h1, h2⟩ := h
  exact ⟨l, h1.sm hs hp, h2⟩
theorem XP.sm {P : Nat → Nat → Prop} {S S' : Sx} {b : Pb} {mem : Nat → Nat} (h : XP S b mem) (hO : bOK b) (hs : Sm P S S') (hp : ∀ c k, P c k → ¬ (2 ≤ c ∧ c ≤ 137)) : XP S' b mem := by
  obtain ⟨h1, h2, h3, h4⟩ := h
  refine ⟨h1.sm hs (fun f hf => ⟨fun x => hp _ _ x (by omega), fun x => hp _ _ x (by omega)⟩), h2.sm hs (fun c k x q => hp c k x (by omega)), h3.sm hs (fun c k x q => hp c k x (by omega)), h4.sm (fun f p hf => by have := (hO.2.2.2.1 f p hf).1; have := hO.2.1; omega) hs (fun c k x q => hp c k x (by omega))⟩
/-- what a frame has goes to the disk -/
theorem x_keep {S : Sx} {b : Pb} {f p : Nat} (hF : XF S) (hf : f < 64) (hp : p < 1024) (hpg : gI S (10 + 2 * f) 1 = nI p) : X2_keep (some (10 + 2 * f)) S = rt () (pI (cpI S (11 + 2 * f) 0 4 (64 * p) 64) 5 p 1) := by
  obtain ⟨c1, c2, c3⟩ := hF
  obtain ⟨q1, q2, q3, q4, q5⟩ := c3 f hf
  unfold X2_keep
  rw [dO_s q2, dO_s q2, q3, hpg]
  have e64 : (64 : Int32) * nI p = nI (64 * p) := pk_mul 64 p
  rw [e64]
  show cpy S 3 (some (11 + 2 * f)) (nI 0) (some 4) (nI (64 * p)) (nI 64) _ = _
  rw [cpy_e q4 c1 (by omega) (by omega) (by omega) (by omega) (by omega) (by omega)]
  rw [dO_s (S := cpI S (11 + 2 * f) 0 4 (64 * p) 64) q2]
  have e1 : gI (cpI S (11 + 2 * f) 0 4 (64 * p) 64) (10 + 2 * f) 1 = nI p := by rw [gI_cpI, if_neg (by omega)]; exact hpg
  rw [e1, sI_n hp (by omega), nz_1]
