set_option maxRecDepth 100000
/-! ===== lists in rows ===== -/
theorem getD_erase (l : List Nat) (k i : Nat) : (l.eraseIdx k).getD i 0 = if i < k then l.getD i 0 else l.getD (i + 1) 0 := by
  rw [List.getD_eq_getElem?_getD, List.getElem?_eraseIdx]
  split <;> rw [List.getD_eq_getElem?_getD]
theorem mod_succ {h r : Nat} (hr : 0 < r) (hr2 : r < 2 ^ 30) (hh : h < r) : nI h + 1 - (nI h + 1) / nI r * nI r = nI ((h + 1) % r) := by
  rw [nI_1]
  exact pk_rem (by omega) hr (by omega)
/-! ===== the hand ===== -/
def cnt (t : Nat → Bool) : Nat → Nat
  | 0 => 0
  | n + 1 => cnt t n + (if t n then 1 else 0)
theorem cnt_le (t : Nat → Bool) (n : Nat) : cnt t n ≤ n := by
  induction n with
  | zero => exact Nat.le_refl 0
  | succ n ih =>
    unfold cnt
    split <;> omega
theorem cnt_n {t : Nat → Bool} {f : Nat} : ∀ {n : Nat}, n ≤ f → cnt (up t f false) n = cnt t n := by
  intro n
  induction n with
  | zero => intro _; rfl
  | succ n ih =>
    intro h
    unfold cnt
    rw [ih (by omega), up_n _ _ (by omega)]
theorem cnt_up {t : Nat → Bool} {f : Nat} (ht : t f = true) : ∀ {n : Nat}, f < n → cnt (up t f false) n + 1 = cnt t n := by
  intro n
  induction n with
  | zero => intro h; omega
  | succ n ih =>
    intro h
    unfold cnt
    by_cases hf : f = n
    · subst hf
      rw [cnt_n (Nat.le_refl _), up_s, ht]
      simp
    · rw [up_n _ _ (fun e => hf e.symm)]
      have := ih (by omega)
      omega
theorem bAdv_fr (n : Nat) : ∀ b, fr (bAdv n b) = fr b ∧ pin (bAdv n b) = pin b ∧ wrt (bAdv n b) = wrt b ∧ ot (bAdv n b) = ot b ∧ kn (bAdv n b) = kn b ∧ fa (bAdv n b) = fa b ∧ re (bAdv n b) = re b ∧ wr (bAdv n b) = wr b ∧ mi (bAdv n b) = mi b := by
  induction n with
  | zero => intro b; exact ⟨rfl, rfl, rfl, rfl, rfl, rfl, rfl, rfl, rfl⟩
  | succ n ih =>
    intro b
    unfold bAdv
    split
    · exact ih _
    · exact ⟨rfl, rfl, rfl, rfl, rfl, rfl, rfl, rfl, rfl⟩
theorem bAdv_hd (n : Nat) : ∀ b, hd b < fr b → hd (bAdv n b) < fr b := by
  induction n with
  | zero => intro b h; exact h
  | succ n ih =>
    intro b h
    unfold bAdv
    split
    · exact ih (mkPb (fr b) (pin b) (up (tch b) (hd b) false) (wrt b) (ot b) ((hd b + 1) % fr b) (kn b) (fa b) (re b) (wr b) (mi b)) (Nat.mod_lt _ (by show 0 < fr b; omega))
    · exact h
theorem bAdv_stab : ∀ (m : Nat) (b : Pb), cnt (tch b) (fr b) ≤ m → hd b < fr b → ∀ k, m < k → bAdv k b = bAdv (m + 1) b := by
  intro m
  induction m with
  | zero =>
    intro b hc hh k hk
    have ht : tch b (hd b) = false := by
      cases ht : tch b (hd b) with
      | false => rfl
      | true => have := cnt_up ht hh; omega
    obtain ⟨k, rfl⟩ : ∃ j, k = j + 1 := ⟨k - 1, by omega⟩
    unfold bAdv
    rw [ht]
    simp
  | succ m ih =>
    intro b hc hh k hk
    obtain ⟨k, rfl⟩ : ∃ j, k = j + 1 := ⟨k - 1, by omega⟩
    rw [bAdv, show m + 1 + 1 = (m + 1) + 1 from rfl, bAdv]
    cases ht : tch b (hd b) with
    | false => simp
    | true =>
      simp only [if_true]
      refine ih _ ?_ (Nat.mod_lt _ (by show 0 < fr b; omega)) k (by omega)
      have := cnt_up ht hh
      show cnt (up (tch b) (hd b) false) (fr b) ≤ m
      omega
/-! ===== M's pages ===== -/
def pg : Option Nat → Int32
  | none => -1
  | some p => nI p
theorem pg_s (p : Nat) : pg (some p) = nI p := rfl
def KM (S : Sx) (l : List Nat) : Prop := gI S 167 25 = nI l.length ∧ l.length ≤ 4 ∧ ∀ i, i < l.length → gI S 180 i = nI (l.getD i 0)
def MP (S : Sx) (b : Pb) : Prop :=
  gI S 167 17 = nI (fr b) ∧ gI S 167 23 = nI (hd b) ∧ KM S (kn b) ∧ gI S 167 26 = fa b ∧ gI S 167 27 = re b ∧ gI S 167 28 = wr b ∧ gI S 167 29 = mi b ∧
  (∀ f, f < 64 → gI S 177 f = pg (pin b f) ∧ gI S 178 f = b1 (tch b f) ∧ gI S 179 f = b1 (wrt b f)) ∧
  ∀ p, p < 1024 → (∀ f, pin b f = some p → gI S 175 p = nI f) ∧ ((∀ f, pin b f ≠ some p) → gI S 175 p = -1 ∧ gI S 176 p = b1 (ot b p))
/-- the places of M's pages -/
def mPl (c k : Nat) : Prop := (c = 167 ∧ 23 ≤ k ∧ k ≤ 29) ∨ (175 ≤ c ∧ c ≤ 180)
theorem m_forget_loop {m : Nat} (hm : m < 4) : ∀ (d i n : Nat) (S : Sx), i + d = m → d < n → gI S 167 25 = nI m → ∃ S', X12_forget_12 n (nI i) S = rt () S' ∧ (∀ j, i ≤ j → j < m → gI S' 180 j = gI S 180 (j + 1)) ∧ (∀ j, j < i ∨ m ≤ j → gI S' 180 j = gI S 180 j) ∧ Sm (fun c _ => c = 180) S S' := by
  intro d
  induction d with
  | zero =>
    intro i n S hi hn hk
    obtain ⟨n, rfl⟩ : ∃ j, n = j + 1 := ⟨n - 1, by omega⟩
    refine ⟨S, ?_, fun j h1 h2 => by omega, fun j _ => rfl, Sm.rfl' S⟩
    show X12_forget_12b (X12_forget_12 n) (nI i) S = _
    unfold X12_forget_12b
    rw [hk, if_pos (nI_le (by omega) (by omega))]
  | succ d ih =>
    intro i n S hi hn hk
    obtain ⟨n, rfl⟩ : ∃ j, n = j + 1 := ⟨n - 1, by omega⟩
    obtain ⟨S', e, h1, h2, h3⟩ := ih (i + 1) n (pI S 180 i (gI S 180 (i + 1))) (by omega) (by omega) (by simp [gI_pI, hk])
    refine ⟨S', ?_, fun j h4 h5 => ?_, fun j h4 => ?_, (Sm.pI (P := fun c _ => c = 180) rfl).trans h3⟩
    · show X12_forget_12b (X12_forget_12 n) (nI i) S = _
      unfold X12_forget_12b
      rw [hk, if_neg (nI_ge (by omega) (by omega)), nI_1, lI_n (by omega) (by omega), sI_n (by omega) (by omega), vl_e]
      exact e
    · by_cases hj : j = i
      · subst hj
        rw [h2 j (by omega), gI_pI, if_pos ⟨rfl, rfl⟩]
      · rw [h1 j (by omega) h5, gI_pI, if_neg (by omega)]
    · rw [h2 j (by omega), gI_pI, if_neg (by omega)]
theorem m_forget {S : Sx} {l : List Nat} {k : Nat} (h : KM S l) (hk : k < l.length) : ∃ S', X12_forget (nI k) S = rt () S' ∧ KM S' (l.eraseIdx k) ∧ Sm (fun c j => c = 180 ∨ (c = 167 ∧ j = 25)) S S' := by
  obtain ⟨h1, h2, h3⟩ := h
  have hl : l.length - 1 + 1 = l.length := by omega
  have e1 : nI l.length - 1 = nI (l.length - 1) := by rw [← hl]; exact nI_pred _
  obtain ⟨S', e, a1, a2, a3⟩ := m_forget_loop (m := l.length - 1) (by omega) (l.length - 1 - k) k FU (pI S 167 25 (nI (l.length - 1))) (by omega) (by have := FU_ge; omega) (by simp [gI_pI])
  refine ⟨S', ?_, ⟨?_, ?_, fun i hi => ?_⟩, (Sm.pI (Or.inr ⟨rfl, rfl⟩)).trans (a3.mono fun c j q => Or.inl q)⟩
  · unfold X12_forget
    rw [pt_e, vl_e, h1, e1]
    exact e
  · rw [a3.I (by decide), gI_pI, if_pos ⟨rfl, rfl⟩, List.length_eraseIdx, if_pos hk]
  · rw [List.length_eraseIdx, if_pos hk]; omega
  · rw [List.length_eraseIdx, if_pos hk] at hi
    rw [getD_erase]
    split
    · rw [a2 i (Or.inl (by assumption)), gI_pI, if_neg (by omega)]
      exact h3 i (by omega)
    · rw [a1 i (by omega) hi, gI_pI, if_neg (by omega)]
      exact h3 (i + 1) (by omega)
theorem nI_m1 (d : Nat) : nI (d + 1) - 1 + (-1) = nI d - 1 := by
  rw [nI_pred, Int32.sub_eq_add_neg]
theorem m_drop_loop {x1 : Int32} {p r h : Nat} (hr : 0 < r) (hr2 : r ≤ 64) (hh : h < r) : ∀ (d n : Nat) (S : Sx) (l : List Nat), d ≤ l.length → d < n → KM S l → (∀ q ∈ l, q < 1024) → p < 1024 → gI S 167 17 = nI r → gI S 167 23 = nI h →
    ∃ S', X12_leave_99 n x1 (nI p) (nI d - 1) S = rt x1 S' ∧ KM S' ((l.take d).filter (fun q => q ≠ p) ++ l.drop d) ∧ gI S' 167 23 = nI ((h + 1) % r) ∧ Sm (fun c j => c = 180 ∨ (c = 167 ∧ (j = 25 ∨ j = 23))) S S' := by
  intro d
  induction d with
  | zero =>
    intro n S l hd hn hK hq hp e1 e2
    obtain ⟨n, rfl⟩ : ∃ j, n = j + 1 := ⟨n - 1, by omega⟩
    refine ⟨pI S 167 23 (nI ((h + 1) % r)), ?_, ?_, by simp [gI_pI], Sm.pI (Or.inr ⟨rfl, Or.inr rfl⟩)⟩
    · show X12_leave_99b (X12_leave_99 n) x1 (nI p) (nI 0 - 1) S = _
      unfold X12_leave_99b
      rw [if_pos (by decide), e1, e2, if_neg (nI_ne0 hr (by omega)), mod_succ hr (by omega) hh, pt_e]
    · simp only [List.take_zero, List.filter_nil, List.nil_append, List.drop_zero]
      obtain ⟨k1, k2, k3⟩ := hK
      exact ⟨by simp [gI_pI, k1], k2, fun i hi => by simp [gI_pI, k3 i hi]⟩
  | succ d ih =>
    intro n S l hd hn hK hq hp e1 e2
    obtain ⟨n, rfl⟩ : ∃ j, n = j + 1 := ⟨n - 1, by omega⟩
    have hdl : d < l.length := by omega
    have hv : gI S 180 d = nI (l.getD d 0) := hK.2.2 d hdl
    have hget : l.getD d 0 = l[d] := by rw [List.getD_eq_getElem?_getD, List.getElem?_eq_getElem hdl]; rfl
    have hlt : l[d] < 1024 := hq _ (List.getElem_mem hdl)
    have htk : l.take (d + 1) = l.take d ++ [l[d]] := (List.take_append_getElem hdl).symm
    have hstep : X12_leave_99 (n + 1) x1 (nI p) (nI (d + 1) - 1) S = if nI l[d] = nI p then bd (X12_forget (nI d) S) (fun _ S1 => X12_leave_99 n x1 (nI p) (nI d - 1) S1) else X12_leave_99 n x1 (nI p) (nI d - 1) S := by
      show X12_leave_99b (X12_leave_99 n) x1 (nI p) (nI (d + 1) - 1) S = _
      unfold X12_leave_99b
      rw [nI_m1, nI_pred, if_neg (nI_pos (by have := hK.2.1; omega)), lI_n (by have := hK.2.1; omega) (by omega), hv, hget]
      rfl
    by_cases hpe : l[d] = p
    · obtain ⟨S1, f1, f2, f3⟩ := m_forget hK hdl
      have hed : l.eraseIdx d = l.take d ++ l.drop (d + 1) := List.eraseIdx_eq_take_drop_succ l d
      have hlen : (l.take d).length = d := by rw [List.length_take]; omega
      obtain ⟨S', g1, g2, g3, g4⟩ := ih n S1 (l.eraseIdx d) (by rw [List.length_eraseIdx, if_pos hdl]; omega) (by omega) f2 (fun q h => hq q (List.mem_of_mem_eraseIdx h)) hp (by rw [f3.I (by decide)]; exact e1) (by rw [f3.I (by decide)]; exact e2)
      refine ⟨S', ?_, ?_, g3, (f3.mono fun c j q => by rcases q with q | ⟨q, q'⟩; exact Or.inl q; exact Or.inr ⟨q, Or.inl q'⟩).trans g4⟩
      · rw [hstep, if_pos (by rw [hpe]), f1, bd_rt]
        exact g1
      · rw [hed] at g2
        rw [htk, List.filter_append]
        have e3 : List.filter (fun q => decide (q ≠ p)) [l[d]] = [] := by simp [hpe]
        rw [e3, List.append_nil]
        rwa [List.take_left' hlen, List.drop_left' hlen] at g2
    · obtain ⟨S', g1, g2, g3, g4⟩ := ih n S l (by omega) (by omega) hK hq hp e1 e2
      refine ⟨S', ?_, ?_, g3, g4⟩
      · rw [hstep, if_neg (fun e => hpe ((nI_eq (by omega) (by omega)).mp e))]
        exact g1
      · rw [htk, List.filter_append]
        have e3 : List.filter (fun q => decide (q ≠ p)) [l[d]] = [l[d]] := by simp [hpe]
        rw [e3, List.append_assoc, List.singleton_append, ← List.drop_eq_getElem_cons hdl]
        exact g2
theorem MP_known {S : Sx} {b : Pb} (h : MP S b) : KM S (kn b) := h.2.2.1
theorem MP_back {P : Nat → Nat → Prop} {S S' : Sx} {b : Pb} (h : MP S b) (hs : Sm P S S') (hp : ∀ c k, P c k → ¬ ((c = 167 ∧ 17 ≤ k ∧ k ≤ 29) ∨ (175 ≤ c ∧ c ≤ 180))) : MP S' b := by
  have hI : ∀ c k, ((c = 167 ∧ 17 ≤ k ∧ k ≤ 29) ∨ (175 ≤ c ∧ c ≤ 180)) → gI S' c k = gI S c k := fun c k q => hs.I fun x => hp c k x q
  obtain ⟨h1, h2, ⟨k1, k2, k3⟩, h4, h5, h6, h7, h8, h9⟩ := h
  refine ⟨by rw [hI _ _ (by omega)]; exact h1, by rw [hI _ _ (by omega)]; exact h2, ⟨by rw [hI _ _ (by omega)]; exact k1, k2, fun i hi => by rw [hI _ _ (by omega)]; exact k3 i hi⟩, by rw [hI _ _ (by omega)]; exact h4, by rw [hI _ _ (by omega)]; exact h5, by rw [hI _ _ (by omega)]; exact h6, by rw [hI _ _ (by omega)]; exact h7, fun f hf => ?_, fun p hp2 => ?_⟩
  · rw [hI _ _ (by omega), hI _ _ (by omega), hI _ _ (by omega)]
    exact h8 f hf
  · rw [hI _ _ (by omega), hI _ _ (by omega)]
    exact h9 p hp2
/-- the hand's loop -/
theorem m_hand_loop : ∀ (m : Nat) (b : Pb) (S : Sx) (n : Nat), MP S b → hd b < fr b → fr b ≤ 64 → cnt (tch b) (fr b) ≤ m → m < n → ∃ S1 k, X12_leave_0 n S = X12_leave_0b k S1 ∧ MP S1 (bAdv (m + 1) b) ∧ tch (bAdv (m + 1) b) (hd (bAdv (m + 1) b)) = false ∧ Sm mPl S S1 := by
  intro m
  induction m with
  | zero =>
    intro b S n hM hh hf hc hn
    obtain ⟨n, rfl⟩ : ∃ j, n = j + 1 := ⟨n - 1, by omega⟩
    have ht : tch b (hd b) = false := by
      cases ht : tch b (hd b) with
      | false => rfl
      | true => have := cnt_up ht hh; omega
    have e : bAdv (0 + 1) b = b := by
      unfold bAdv
      rw [ht]
      simp
    rw [e]
    exact ⟨S, X12_leave_0 n, rfl, hM, ht, Sm.rfl' S⟩
  | succ m ih =>
    intro b S n hM hh hf hc hn
    obtain ⟨n, rfl⟩ : ∃ j, n = j + 1 := ⟨n - 1, by omega⟩
    cases ht : tch b (hd b) with
    | false =>
      have e : bAdv (m + 1 + 1) b = b := by
        rw [bAdv, ht]
        simp
      rw [e]
      exact ⟨S, X12_leave_0 n, rfl, hM, ht, Sm.rfl' S⟩
    | true =>
      obtain ⟨h1, h2, hK, h4, h5, h6, h7, h8, h9⟩ := id hM
      have hb : bAdv (m + 1 + 1) b = bAdv (m + 1) (mkPb (fr b) (pin b) (up (tch b) (hd b) false) (wrt b) (ot b) ((hd b + 1) % fr b) (kn b) (fa b) (re b) (wr b) (mi b)) := by
        rw [bAdv, ht]
        simp
      have hM2 : MP (pI (pI S 178 (hd b) 0) 167 23 (nI ((hd b + 1) % fr b))) (mkPb (fr b) (pin b) (up (tch b) (hd b) false) (wrt b) (ot b) ((hd b + 1) % fr b) (kn b) (fa b) (re b) (wr b) (mi b)) := by
        refine ⟨by simp [gI_pI]; exact h1, by simp [gI_pI]; rfl, ⟨by simp [gI_pI]; exact hK.1, hK.2.1, fun i hi => by simp [gI_pI]; exact hK.2.2 i hi⟩, by simp [gI_pI]; exact h4, by simp [gI_pI]; exact h5, by simp [gI_pI]; exact h6, by simp [gI_pI]; exact h7, fun f hf => ?_, fun p hp => ?_⟩
        · simp [gI_pI]
          refine ⟨(h8 f hf).1, ?_, (h8 f hf).2.2⟩
          show _ = b1 (up (tch b) (hd b) false f)
          by_cases hfe : f = hd b
          · rw [if_pos hfe, hfe, up_s]; rfl
          · rw [if_neg hfe, up_n _ _ hfe]; exact (h8 f hf).2.1
        · simp [gI_pI]
          exact h9 p hp
      obtain ⟨S1, k, e1, e2, e3, e4⟩ := ih _ _ n hM2 (Nat.mod_lt _ (by show 0 < fr b; omega)) hf (by have := cnt_up ht hh; show cnt (up (tch b) (hd b) false) (fr b) ≤ m; omega) (by omega)
      rw [hb]
      refine ⟨S1, k, ?_, e2, e3, Sm.trans (Sm.trans (Sm.pI (Or.inr (by omega))) (Sm.pI (Or.inl (by omega)))) e4⟩
      show X12_leave_0b (X12_leave_0 n) S = _
      unfold X12_leave_0b
      rw [h2, lI_n (by omega) (by omega), (h8 _ (by omega)).2.1, ht, if_neg (by decide), sI_n (by omega) (by omega), nz_0]
      have g1 : gI (pI S 178 (hd b) 0) 167 17 = nI (fr b) := by simp [gI_pI]; exact h1
      have g2 : gI (pI S 178 (hd b) 0) 167 23 = nI (hd b) := by simp [gI_pI]; exact h2
      rw [g1, g2, if_neg (nI_ne0 (by omega) (by omega)), mod_succ (by omega) (by omega) hh, pt_e]
      exact e1
theorem i_add0 (x : Int32) : x + b1 false = x := by show x + 0 = x; exact Int32.add_zero x
theorem m_leave {S : Sx} {b : Pb} (hM : MP S b) (hO : bOK b) (hfull : ∀ i, i < fr b → pin b i ≠ none) : ∃ S', X12_leave S = rt (nI (hd (bAdv 65 b))) S' ∧ MP S' (bOut (bAdv 65 b)) ∧ Sm mPl S S' := by
  obtain ⟨o1, o2, o3, o4, o5, o6, o7, o8⟩ := hO
  obtain ⟨S1, k, e1, hM1, ht, hs1⟩ := m_hand_loop 64 b S FU hM o3 o2 (Nat.le_trans (cnt_le _ _) o2) (by have := FU_ge; omega)
  obtain ⟨a1, a2, a3, a4, a5, a6, a7, a8, a9⟩ := bAdv_fr 65 b
  have hh := bAdv_hd 65 b o3
  generalize hb' : bAdv 65 b = b' at *
  obtain ⟨p, hp⟩ : ∃ p, pin b' (hd b') = some p := by
    cases hq : pin b' (hd b') with
    | none => rw [a2] at hq; exact absurd hq (hfull _ hh)
    | some p => exact ⟨p, rfl⟩
  have hp2 : p < 1024 := (o4 (hd b') p (by rw [← a2]; exact hp)).2
  obtain ⟨h1, h2, hK, h4, h5, h6, h7, h8, h9⟩ := id hM1
  have hf64 : hd b' < 64 := by omega
  have f8 := h8 _ hf64
  rw [hp] at f8
  generalize hSw : pI S1 167 28 (wr b' + b1 (wrt b' (hd b'))) = Sw
  have hstep : X12_leave S = X12_leave_71 (nI (hd b')) (nI p) Sw := by
    unfold X12_leave
    rw [e1]
    unfold X12_leave_0b
    rw [h2, lI_n hf64 (by omega), f8.2.1, ht, if_pos b1_f, vl_e, lI_n hf64 (by omega), f8.1, vl_e, lI_n hf64 (by omega), f8.2.2]
    show (if b1 (wrt b' (hd b')) = 0 then X12_leave_71 (nI (hd b')) (nI p) S1 else pt (pI S1 167 28 (gI S1 167 28 + 1)) fun S1 => X12_leave_71 (nI (hd b')) (nI p) S1) = _
    cases hw : wrt b' (hd b') with
    | false =>
      rw [if_pos b1_f, ← hSw, hw, i_add0, pI_same h6]
    | true =>
      rw [if_neg (by decide), pt_e, ← hSw, hw, h6]
      rfl
  generalize hS3 : pI (pI (pI Sw 176 p 1) 175 p (-1)) 177 (hd b') (-1) = S3
  have g3 : ∀ c j, gI S3 c j = if c = 177 ∧ j = hd b' then -1 else if c = 175 ∧ j = p then -1 else if c = 176 ∧ j = p then 1 else if c = 167 ∧ j = 28 then wr b' + b1 (wrt b' (hd b')) else gI S1 c j := by
    intro c j
    rw [← hS3, ← hSw]
    simp only [gI_pI]
  have hK3 : KM S3 (kn b') := ⟨by rw [g3]; simp; exact hK.1, hK.2.1, fun i hi => by rw [g3]; simp; exact hK.2.2 i hi⟩
  obtain ⟨S', l1, l2, l3, l4⟩ := m_drop_loop (x1 := nI (hd b')) (p := p) (r := fr b') (h := hd b') (by omega) (by omega) (by omega) (kn b').length FU S3 (kn b') (Nat.le_refl _) (by have := FU_ge; have := hK.2.1; omega) hK3 (fun q hq => by rw [a5] at hq; obtain ⟨f, hf⟩ := o8 q hq; exact (o4 f q hf).2) hp2 (by rw [g3]; simp; exact h1) (by rw [g3]; simp; exact h2)
  rw [List.take_length, List.drop_length, List.append_nil] at l2
  have gI' : ∀ c j, ¬ (c = 180 ∨ (c = 167 ∧ (j = 25 ∨ j = 23))) → gI S' c j = gI S3 c j := fun c j q => l4.I q
  refine ⟨S', ?_, ⟨?_, l3, ?_, ?_, ?_, ?_, ?_, fun f hf => ?_, fun q hq => ?_⟩, hs1.trans ?_⟩
  · rw [hstep]
    unfold X12_leave_71
    rw [sI_n hp2 (by omega), sI_n hp2 (by omega), sI_n hf64 (by omega), nz_1, vl_e, hS3, hK3.1]
    exact l1
  · rw [gI' _ _ (by omega), g3]; simp; exact h1
  · have e : (pin b' (hd b')).getD 0 = p := by rw [hp]; rfl
    show KM S' ((kn b').filter (fun q => q ≠ (pin b' (hd b')).getD 0))
    rw [e]; exact l2
  · rw [gI' _ _ (by omega), g3]; simp; exact h4
  · rw [gI' _ _ (by omega), g3]; simp; exact h5
  · rw [gI' _ _ (by omega), g3]; simp; rfl
  · rw [gI' _ _ (by omega), g3]; simp; exact h7
  · rw [gI' _ _ (by omega), gI' _ _ (by omega), gI' _ _ (by omega), g3, g3, g3]
    simp
    refine ⟨?_, (h8 f hf).2.1, (h8 f hf).2.2⟩
    show _ = pg (up (pin b') (hd b') none f)
    by_cases hfe : f = hd b'
    · rw [if_pos hfe, hfe, up_s]; rfl
    · rw [if_neg hfe, up_n _ _ hfe]; exact (h8 f hf).1
  · rw [gI' _ _ (by omega), gI' _ _ (by omega), g3, g3]
    simp
    have e : (pin b' (hd b')).getD 0 = p := by rw [hp]; rfl
    refine ⟨fun g hg => ?_, fun hg => ?_⟩
    · have hg : up (pin b') (hd b') none g = some q := hg
      by_cases hge : g = hd b'
      · rw [hge, up_s] at hg; cases hg
      · rw [up_n _ _ hge] at hg
        have hqp : q ≠ p := fun e => hge (o5 g (hd b') p (by rw [← a2, ← e]; exact hg) (by rw [← a2]; exact hp))
        rw [if_neg hqp]
        exact (h9 q hq).1 g hg
    · have hg : ∀ g, up (pin b') (hd b') none g ≠ some q := hg
      show _ ∧ _ = b1 (up (ot b') ((pin b' (hd b')).getD 0) true q)
      rw [e]
      by_cases hqp : q = p
      · rw [if_pos hqp, hqp, up_s]; exact ⟨fun h => absurd rfl h, rfl⟩
      · rw [if_neg hqp, up_n _ _ hqp]
        have := (h9 q hq).2 fun g hg2 => by
          by_cases hge : g = hd b'
          · rw [hge, hp] at hg2; exact hqp (Option.some.inj hg2).symm
          · exact hg g (by rw [up_n _ _ hge]; exact hg2)
        exact ⟨fun _ => this.1, this.2⟩
  · refine Sm.trans (S' := S3) ?_ (l4.mono fun c j q => ?_)
    · rw [← hS3, ← hSw]
      exact (((Sm.pI (Or.inl (by omega))).trans (Sm.pI (Or.inr (by omega)))).trans (Sm.pI (Or.inr (by omega)))).trans (Sm.pI (Or.inr (by omega)))
    · unfold mPl
      omega
/-- a page comes into the frame f, which is free -/
theorem m_bring_48 {S : Sx} {b : Pb} {f p : Nat} (hM : MP S b) (hf : f < 64) (hp : p < 1024) (hn : pin b f = none) (hnp : ∀ i, pin b i ≠ some p) : ∃ S', X12_bring_48 (nI p) (nI f) S = rt () S' ∧ MP S' (bIn b f p) ∧ Sm mPl S S' := by
  obtain ⟨h1, h2, hK, h4, h5, h6, h7, h8, h9⟩ := id hM
  have hot := ((h9 p hp).2 hnp).2
  generalize hS' : pI (pI (pI (pI (pI S 177 f (nI p)) 175 p (nI f)) 179 f 0) 167 27 (re b + b1 (ot b p))) 176 p 0 = S'
  have g3 : ∀ c j, gI S' c j = if c = 176 ∧ j = p then 0 else if c = 167 ∧ j = 27 then re b + b1 (ot b p) else if c = 179 ∧ j = f then 0 else if c = 175 ∧ j = p then nI f else if c = 177 ∧ j = f then nI p else gI S c j := by
    intro c j
    rw [← hS']
    simp only [gI_pI]
  refine ⟨S', ?_, ⟨?_, ?_, ⟨?_, hK.2.1, fun i hi => ?_⟩, ?_, ?_, ?_, ?_, fun g hg => ?_, fun q hq => ?_⟩, ?_⟩
  · unfold X12_bring_48
    rw [sI_n hf (by omega), sI_n hp (by omega), sI_n hf (by omega), lI_n hp (by omega), nz_0]
    have e : gI (pI (pI (pI S 177 f (nI p)) 175 p (nI f)) 179 f 0) 176 p = b1 (ot b p) := by simp [gI_pI, hot]
    have e5 : gI (pI (pI (pI S 177 f (nI p)) 175 p (nI f)) 179 f 0) 167 27 = re b := by simp [gI_pI, h5]
    rw [e]
    cases ho : ot b p with
    | false =>
      rw [if_pos b1_f]
      unfold X12_bring_88
      rw [sI_n hp (by omega), nz_0, ← hS', ho, i_add0, pI_same e5]
    | true =>
      rw [if_neg (by decide), pt_e, e5]
      unfold X12_bring_88
      rw [sI_n hp (by omega), nz_0, ← hS', ho]
      rfl
  · simp [g3]; exact h1
  · simp [g3]; exact h2
  · simp [g3]; exact hK.1
  · simp [g3]; exact hK.2.2 i hi
  · simp [g3]; exact h4
  · simp [g3]; rfl
  · simp [g3]; exact h6
  · simp [g3]; exact h7
  · simp [g3]
    show _ = pg (up (pin b) f (some p) g) ∧ _ ∧ _ = b1 (up (wrt b) f false g)
    by_cases hge : g = f
    · rw [if_pos hge, if_pos hge, hge, up_s, up_s]; exact ⟨rfl, (h8 f hf).2.1, rfl⟩
    · rw [if_neg hge, if_neg hge, up_n _ _ hge, up_n _ _ hge]; exact h8 g hg
  · simp [g3]
    refine ⟨fun g hg => ?_, fun hg => ?_⟩
    · have hg : up (pin b) f (some p) g = some q := hg
      by_cases hge : g = f
      · rw [hge, up_s] at hg
        cases hg
        rw [if_pos rfl, hge]
      · rw [up_n _ _ hge] at hg
        have hqp : q ≠ p := fun e => hnp g (by rw [← e]; exact hg)
        rw [if_neg hqp]
        exact (h9 q hq).1 g hg
    · have hg : ∀ g, up (pin b) f (some p) g ≠ some q := hg
      have hqp : q ≠ p := fun e => hg f (by rw [up_s, e])
      show _ ∧ _ = b1 (up (ot b) p false q)
      rw [if_neg hqp, if_neg hqp, up_n _ _ hqp]
      refine (h9 q hq).2 fun g hg2 => ?_
      by_cases hge : g = f
      · rw [hge, hn] at hg2; cases hg2
      · exact hg g (by rw [up_n _ _ hge]; exact hg2)
  · rw [← hS']
    exact ((((Sm.pI (Or.inr (by omega))).trans (Sm.pI (Or.inr (by omega)))).trans (Sm.pI (Or.inr (by omega)))).trans (Sm.pI (Or.inl (by omega)))).trans (Sm.pI (Or.inr (by omega)))
theorem bFa_OK {b : Pb} (h : bOK b) : bOK (bFa b) := h
theorem MP_fa {S : Sx} {b : Pb} (h : MP S b) : MP (pI S 167 26 (fa b + 1)) (bFa b) := by
  obtain ⟨h1, h2, hK, h4, h5, h6, h7, h8, h9⟩ := h
  refine ⟨by simp [gI_pI]; exact h1, by simp [gI_pI]; exact h2, ⟨by simp [gI_pI]; exact hK.1, hK.2.1, fun i hi => by simp [gI_pI]; exact hK.2.2 i hi⟩, by simp [gI_pI]; rfl, by simp [gI_pI]; exact h5, by simp [gI_pI]; exact h6, by simp [gI_pI]; exact h7, fun f hf => by simp [gI_pI]; exact h8 f hf, fun p hp => by simp [gI_pI]; exact h9 p hp⟩
/-- the search for a free frame -/
theorem m_find_loop {b : Pb} {S : Sx} {x1 : Int32} (hM : MP S b) (hf : fr b ≤ 64) (ho : ∀ f p, pin b f = some p → p < 1024) {e : Nat} (he : e ≤ fr b) (hfull : ∀ i, i < e → pin b i ≠ none) (hst : e = fr b ∨ pin b e = none) : ∀ (d i n : Nat), i + d = e → d < n → X12_bring_12 n x1 (nI i) S = X12_bring_35 x1 (nI e) S := by
  intro d
  induction d with
  | zero =>
    intro i n hi hn
    obtain ⟨n, rfl⟩ : ∃ j, n = j + 1 := ⟨n - 1, by omega⟩
    obtain rfl : i = e := by omega
    show X12_bring_12b (X12_bring_12 n) x1 (nI i) S = _
    unfold X12_bring_12b
    rw [hM.1]
    rcases hst with h | h
    · rw [if_pos (nI_le (by omega) (by omega))]
    · by_cases hie : i = fr b
      · rw [if_pos (nI_le (by omega) (by omega))]
      · rw [if_neg (nI_ge (by omega) (by omega)), lI_n (by omega) (by omega), (hM.2.2.2.2.2.2.2.1 i (by omega)).1, h, if_pos (by decide)]
  | succ d ih =>
    intro i n hi hn
    obtain ⟨n, rfl⟩ : ∃ j, n = j + 1 := ⟨n - 1, by omega⟩
    show X12_bring_12b (X12_bring_12 n) x1 (nI i) S = _
    unfold X12_bring_12b
    rw [hM.1, if_neg (nI_ge (by omega) (by omega)), lI_n (by omega) (by omega), (hM.2.2.2.2.2.2.2.1 i (by omega)).1]
    cases hp : pin b i with
    | none => exact absurd hp (hfull i (by omega))
    | some p =>
      have := ho i p hp
      rw [pg_s, if_neg (nI_pos (n := p) (by omega)), vl_e, nI_1]
      exact ih (i + 1) n (by omega) (by omega)
theorem bAdv_OK {b : Pb} (n : Nat) (h : bOK b) : bOK (bAdv n b) := by
  obtain ⟨a1, a2, a3, a4, a5, -⟩ := bAdv_fr n b
  have hh := bAdv_hd n b h.2.2.1
  unfold bOK at h ⊢
  rw [a1, a2, a5]
  exact ⟨h.1, h.2.1, hh, h.2.2.2⟩
theorem bOut_OK {b : Pb} (h : bOK b) {p : Nat} (hp : pin b (hd b) = some p) : bOK (bOut b) := by
  obtain ⟨o1, o2, o3, o4, o5, o6, o7, o8⟩ := h
  have e : (pin b (hd b)).getD 0 = p := by rw [hp]; rfl
  have hpin : ∀ f q, pin (bOut b) f = some q → f ≠ hd b ∧ pin b f = some q := by
    intro f q hq
    have hq : up (pin b) (hd b) none f = some q := hq
    by_cases hf : f = hd b
    · rw [hf, up_s] at hq; cases hq
    · rw [up_n _ _ hf] at hq; exact ⟨hf, hq⟩
  have hkn : kn (bOut b) = (kn b).filter (fun q => q ≠ p) := by show (kn b).filter _ = _; rw [e]
  refine ⟨o1, o2, Nat.mod_lt _ (by show 0 < fr b; omega), fun f q hq => o4 f q (hpin f q hq).2, fun f g q h1 h2 => o5 f g q (hpin f q h1).2 (hpin g q h2).2, ?_, ?_, fun q hq => ?_⟩
  · rw [hkn]; exact o6.filter _
  · rw [hkn]; exact Nat.le_trans (List.length_filter_le _ _) o7
  · rw [hkn, List.mem_filter] at hq
    obtain ⟨f, hf⟩ := o8 q hq.1
    refine ⟨f, ?_⟩
    show up (pin b) (hd b) none f = some q
    rw [up_n]
    · exact hf
    · rintro rfl
      rw [hp] at hf
      cases hf
      simp at hq
theorem bIn_OK {b : Pb} (h : bOK b) {f p : Nat} (hf : f < fr b) (hp : p < 1024) (hn : pin b f = none) (hnp : ∀ i, pin b i ≠ some p) : bOK (bIn b f p) := by
  obtain ⟨o1, o2, o3, o4, o5, o6, o7, o8⟩ := h
  have hpin : ∀ g q, pin (bIn b f p) g = some q → (g = f ∧ q = p) ∨ (g ≠ f ∧ pin b g = some q) := by
    intro g q hq
    have hq : up (pin b) f (some p) g = some q := hq
    by_cases hg : g = f
    · rw [hg, up_s] at hq; cases hq; exact Or.inl ⟨hg, rfl⟩
    · rw [up_n _ _ hg] at hq; exact Or.inr ⟨hg, hq⟩
  refine ⟨o1, o2, o3, fun g q hq => ?_, fun g g' q h1 h2 => ?_, o6, o7, fun q hq => ?_⟩
  · rcases hpin g q hq with ⟨rfl, rfl⟩ | ⟨-, h⟩
    · exact ⟨hf, hp⟩
    · exact o4 g q h
  · rcases hpin g q h1 with ⟨rfl, rfl⟩ | ⟨-, h⟩ <;> rcases hpin g' _ h2 with ⟨rfl, e⟩ | ⟨-, h'⟩
    · rfl
    · exact absurd h' (hnp _)
    · rw [e] at h; exact absurd h (hnp _)
    · exact o5 g g' q h h'
  · obtain ⟨g, hg⟩ := o8 q hq
    refine ⟨g, ?_⟩
    show up (pin b) f (some p) g = some q
    rw [up_n]
    · exact hg
    · rintro rfl
      rw [hn] at hg
      cases hg
theorem m_bring_free {S : Sx} {b : Pb} {f p : Nat} (hM : MP S b) (hO : bOK b) (hp : p < 1024) (hnp : ∀ i, pin b i ≠ some p) (hf : bFree b f) : ∃ S', X12_bring (nI p) S = rt () S' ∧ MP S' (bIn (bFa b) f p) ∧ Sm mPl S S' := by
  obtain ⟨f1, f2, f3⟩ := hf
  have hM1 := MP_fa hM
  obtain ⟨S', e1, e2, e3⟩ := m_bring_48 (f := f) (p := p) hM1 (by have := hO.2.1; omega) hp f2 hnp
  refine ⟨S', ?_, e2, (Sm.pI (Or.inl (by omega))).trans e3⟩
  unfold X12_bring
  rw [pt_e, hM.2.2.2.1, ← nI_0, m_find_loop (e := f) hM1 hO.2.1 (fun f p h => (hO.2.2.2.1 f p h).2) (Nat.le_of_lt f1) f3 (Or.inr f2) f 0 FU (by omega) (by have := FU_ge; have := hO.2.1; omega)]
  unfold X12_bring_35
  rw [hM1.1, if_neg (fun e => by have := (nI_eq (by have := hO.2.1; omega) (by have := hO.2.1; show fr b < _; omega)).mp e; have f1' : f < fr b := f1; have : f = fr b := this; omega)]
  exact e1
theorem m_bring_full {S : Sx} {b : Pb} {p : Nat} (hM : MP S b) (hO : bOK b) (hp : p < 1024) (hnp : ∀ i, pin b i ≠ some p) (hfull : ∀ i, i < fr b → pin b i ≠ none) : ∃ S', X12_bring (nI p) S = rt () S' ∧ MP S' (bIn (bOut (bAdv 65 (bFa b))) (hd (bAdv 65 (bFa b))) p) ∧ Sm mPl S S' := by
  have hM1 := MP_fa hM
  obtain ⟨S1, l1, l2, l3⟩ := m_leave hM1 (bFa_OK hO) hfull
  obtain ⟨a1, a2, -⟩ := bAdv_fr 65 (bFa b)
  have hh : hd (bAdv 65 (bFa b)) < fr b := bAdv_hd 65 (bFa b) hO.2.2.1
  generalize hb' : bAdv 65 (bFa b) = b' at *
  obtain ⟨S', e1, e2, e3⟩ := m_bring_48 (f := hd b') (p := p) l2 (by have := hO.2.1; omega) hp (up_s _ _ _) (fun i e => by
    have e : up (pin b') (hd b') none i = some p := e
    by_cases hi : i = hd b'
    · rw [hi, up_s] at e; cases e
    · rw [up_n _ _ hi, a2] at e; exact hnp i e)
  refine ⟨S', ?_, e2, ((Sm.pI (Or.inl (by omega))).trans l3).trans e3⟩
  unfold X12_bring
  rw [pt_e, hM.2.2.2.1, ← nI_0, m_find_loop (e := fr b) hM1 hO.2.1 (fun f p h => (hO.2.2.2.1 f p h).2) (Nat.le_refl _) hfull (Or.inl rfl) (fr b) 0 FU (by omega) (by have := FU_ge; have := hO.2.1; omega)]
  unfold X12_bring_35
  rw [hM1.1, if_pos (show nI (fr b) = nI (fr (bFa b)) from rfl), l1, bd_rt, vl_e]
  exact e1
theorem m_known_loop {S : Sx} {l : List Nat} {p : Nat} (hK : KM S l) (hl : ∀ q ∈ l, q < 1024) (hp : p < 1024) {e : Nat} (he : e ≤ l.length) (hne : ∀ i, i < e → l.getD i 0 ≠ p) (hst : e = l.length ∨ l.getD e 0 = p) : ∀ (d i n : Nat), i + d = e → d < n → X12_touch_50 n (nI p) (nI i) S = X12_touch_76 (nI p) (nI e) S := by
  obtain ⟨k1, k2, k3⟩ := hK
  have hlt : ∀ i, i < l.length → l.getD i 0 < 1024 := fun i hi => by
    rw [List.getD_eq_getElem?_getD, List.getElem?_eq_getElem hi]
    exact hl _ (List.getElem_mem hi)
  intro d
  induction d with
  | zero =>
    intro i n hi hn
    obtain ⟨n, rfl⟩ : ∃ j, n = j + 1 := ⟨n - 1, by omega⟩
    obtain rfl : i = e := by omega
    show X12_touch_50b (X12_touch_50 n) (nI p) (nI i) S = _
    unfold X12_touch_50b
    rw [k1]
    by_cases hie : i = l.length
    · rw [if_pos (nI_le (by omega) (by omega))]
    · rw [if_neg (nI_ge (by omega) (by omega)), lI_n (by omega) (by omega), k3 i (by omega), hst.resolve_left hie, if_pos rfl]
  | succ d ih =>
    intro i n hi hn
    obtain ⟨n, rfl⟩ : ∃ j, n = j + 1 := ⟨n - 1, by omega⟩
    show X12_touch_50b (X12_touch_50 n) (nI p) (nI i) S = _
    unfold X12_touch_50b
    rw [k1, if_neg (nI_ge (by omega) (by omega)), lI_n (by omega) (by omega), k3 i (by omega), if_neg (fun e => hne i (by omega) ((nI_eq (by have := hlt i (by omega); omega) (by omega)).mp e)), vl_e, nI_1]
    exact ih (i + 1) n (by omega) (by omega)
theorem idx_of {l : List Nat} {p : Nat} (h : p ∈ l) : ∃ e, e < l.length ∧ l.getD e 0 = p ∧ ∀ i, i < e → l.getD i 0 ≠ p := by
  obtain ⟨i, hi, e⟩ := List.getElem_of_mem h
  obtain ⟨k, ⟨h1, h2⟩, h3⟩ := pk_least (fun i => i < l.length ∧ l.getD i 0 = p) ⟨i, hi, by rw [List.getD_eq_getElem?_getD, List.getElem?_eq_getElem hi]; exact e⟩
  exact ⟨k, h1, h2, fun j hj e => h3 j hj ⟨by omega, e⟩⟩
theorem not_of {l : List Nat} {p : Nat} (h : ¬ p ∈ l) : ∀ i, i < l.length → l.getD i 0 ≠ p := fun i hi e => h (by
  rw [List.getD_eq_getElem?_getD, List.getElem?_eq_getElem hi] at e
  have e : l[i] = p := e
  rw [← e]
  exact List.getElem_mem hi)
theorem getD_app (l : List Nat) (x i : Nat) : (l ++ [x]).getD i 0 = if i < l.length then l.getD i 0 else if i = l.length then x else 0 := by
  rw [List.getD_eq_getElem?_getD]
  split
  · rename_i h
    rw [List.getElem?_append_left h, List.getD_eq_getElem?_getD]
  · rename_i h
    rw [List.getElem?_append_right (by omega)]
    split
    · rename_i h2
      subst h2
      simp
    · rw [List.getElem?_eq_none (by simp; omega)]
      rfl
theorem m_known_add {S : Sx} {l : List Nat} {p : Nat} (hK : KM S l) (hl : l.length < 4) : ∃ S', X12_touch_109 (nI p) S = rt () S' ∧ KM S' (l ++ [p]) ∧ Sm (fun c j => c = 180 ∨ (c = 167 ∧ j = 25)) S S' := by
  obtain ⟨k1, k2, k3⟩ := hK
  refine ⟨pI (pI S 180 l.length (nI p)) 167 25 (nI (l.length + 1)), ?_, ⟨?_, ?_, fun i hi => ?_⟩, (Sm.pI (Or.inl rfl)).trans (Sm.pI (Or.inr ⟨rfl, rfl⟩))⟩
  · unfold X12_touch_109
    rw [k1, sI_n (by omega) (by omega), pt_e]
    have e : gI (pI S 180 l.length (nI p)) 167 25 = nI l.length := by simp [gI_pI, k1]
    rw [e, nI_1]
  · simp [gI_pI]
  · rw [List.length_append]; show l.length + 1 ≤ 4; omega
  · rw [getD_app]
    rw [List.length_append] at hi
    have hi : i < l.length + 1 := hi
    simp [gI_pI]
    by_cases h : i = l.length
    · rw [if_pos h, if_neg (by omega), if_pos h]
    · rw [if_neg h, if_pos (by omega)]
      exact k3 i (by omega)
theorem bHit_OK {b : Pb} (h : bOK b) {f p : Nat} {w : Bool} (hp : pin b f = some p) : bOK (bHit b f p w) := by
  obtain ⟨o1, o2, o3, o4, o5, o6, o7, o8⟩ := h
  refine ⟨o1, o2, o3, o4, o5, ?_⟩
  show (if p ∈ kn b then kn b else (if (kn b).length = 4 then (kn b).tail else kn b) ++ [p]).Nodup ∧ (if p ∈ kn b then kn b else (if (kn b).length = 4 then (kn b).tail else kn b) ++ [p]).length ≤ 4 ∧ ∀ q ∈ (if p ∈ kn b then kn b else (if (kn b).length = 4 then (kn b).tail else kn b) ++ [p]), ∃ f, pin b f = some q
  by_cases hk : p ∈ kn b
  · rw [if_pos hk]; exact ⟨o6, o7, o8⟩
  · rw [if_neg hk]
    have key : ∀ l : List Nat, l.Nodup → l.length < 4 → (∀ q ∈ l, q ∈ kn b) → (l ++ [p]).Nodup ∧ (l ++ [p]).length ≤ 4 ∧ ∀ q ∈ l ++ [p], ∃ f, pin b f = some q := by
      intro l h1 h2 h3
      refine ⟨?_, by rw [List.length_append]; show l.length + 1 ≤ 4; omega, fun q hq => ?_⟩
      · rw [List.nodup_append]
        refine ⟨h1, by simp, fun a ha c hc => ?_⟩
        rw [List.mem_singleton] at hc
        rintro rfl
        rw [hc] at ha
        exact hk (h3 _ ha)
      · rw [List.mem_append, List.mem_singleton] at hq
        rcases hq with hq | rfl
        · exact o8 q (h3 q hq)
        · exact ⟨f, hp⟩
    by_cases h4 : (kn b).length = 4
    · rw [if_pos h4]
      refine key _ (o6.tail) (by rw [List.length_tail]; omega) (fun q hq => List.mem_of_mem_tail hq)
    · rw [if_neg h4]
      exact key _ o6 (by omega) (fun q hq => hq)
theorem m_touch_19 {S : Sx} {b : Pb} {f p : Nat} {w : Bool} (hM : MP S b) (hO : bOK b) (hp : pin b f = some p) : ∃ S', X12_touch_19 (b1 w) (nI p) S = rt () S' ∧ MP S' (bHit b f p w) ∧ Sm mPl S S' := by
  obtain ⟨o1, o2, o3, o4, o5, o6, o7, o8⟩ := id hO
  obtain ⟨h1, h2, hK, h4, h5, h6, h7, h8, h9⟩ := id hM
  obtain ⟨hf, hp2⟩ := o4 f p hp
  have hf64 : f < 64 := by omega
  generalize hS2 : (if w then pI (pI S 178 f 1) 179 f 1 else pI S 178 f 1) = S2
  have g2 : ∀ c j, gI S2 c j = if c = 178 ∧ j = f then 1 else if w = true ∧ c = 179 ∧ j = f then 1 else gI S c j := by
    intro c j
    rw [← hS2]
    cases w
    · simp [gI_pI]
    · simp only [if_true, gI_pI, true_and]
      by_cases hc : c = 178 ∧ j = f
      · rw [if_pos hc, if_neg (by omega), if_pos hc]
      · rw [if_neg hc, if_neg hc]
  have hsm2 : Sm mPl S S2 := by
    rw [← hS2]
    cases w
    · exact Sm.pI (Or.inr (by omega))
    · exact (Sm.pI (Or.inr (by omega))).trans (Sm.pI (Or.inr (by omega)))
  have hstep : X12_touch_19 (b1 w) (nI p) S = X12_touch_50 FU (nI p) (nI 0) S2 := by
    unfold X12_touch_19
    rw [lI_n hp2 (by omega), (h9 p hp2).1 f hp, vl_e, sI_n hf64 (by omega), nz_1, ← hS2]
    cases w
    · rw [if_pos b1_f]; rfl
    · rw [if_neg (by decide), sI_n hf64 (by omega)]; rfl
  have hK2 : KM S2 (kn b) := ⟨by rw [g2]; simp; exact hK.1, hK.2.1, fun i hi => by rw [g2]; simp; exact hK.2.2 i hi⟩
  have hl : ∀ q ∈ kn b, q < 1024 := fun q hq => by obtain ⟨g, hg⟩ := o8 q hq; exact (o4 g q hg).2
  have fin : ∀ (S' : Sx) (l : List Nat) (m : Int32), KM S' l → gI S' 167 29 = m → (∀ c j, ¬ (c = 180 ∨ (c = 167 ∧ (j = 25 ∨ j = 29))) → gI S' c j = gI S2 c j) → l = (kn (bHit b f p w)) → m = mi (bHit b f p w) → MP S' (bHit b f p w) := by
    intro S' l m k1 k2 k3 e1 e2
    subst e1 e2
    refine ⟨?_, ?_, k1, ?_, ?_, ?_, k2, fun g hg => ?_, fun q hq => ?_⟩
    · rw [k3 _ _ (by omega), g2]; simp; exact h1
    · rw [k3 _ _ (by omega), g2]; simp; exact h2
    · rw [k3 _ _ (by omega), g2]; simp; exact h4
    · rw [k3 _ _ (by omega), g2]; simp; exact h5
    · rw [k3 _ _ (by omega), g2]; simp; exact h6
    · rw [k3 _ _ (by omega), k3 _ _ (by omega), k3 _ _ (by omega), g2, g2, g2]
      simp
      refine ⟨(h8 g hg).1, ?_, ?_⟩
      · show _ = b1 (up (tch b) f true g)
        by_cases hge : g = f
        · rw [if_pos hge, hge, up_s]; rfl
        · rw [if_neg hge, up_n _ _ hge]; exact (h8 g hg).2.1
      · show _ = b1 ((if w then up (wrt b) f true else wrt b) g)
        cases w
        · simp; exact (h8 g hg).2.2
        · simp
          by_cases hge : g = f
          · rw [if_pos hge, hge, up_s]; rfl
          · rw [if_neg hge, up_n _ _ hge]; exact (h8 g hg).2.2
    · rw [k3 _ _ (by omega), k3 _ _ (by omega), g2, g2]
      simp
      exact h9 q hq
  rw [hstep]
  by_cases hk : p ∈ kn b
  · obtain ⟨e, e1, e2, e3⟩ := idx_of hk
    rw [m_known_loop hK2 hl hp2 (Nat.le_of_lt e1) e3 (Or.inr e2) e 0 FU (by omega) (by have := FU_ge; omega)]
    unfold X12_touch_76
    rw [hK2.1, if_neg (nI_ge e1 (by omega))]
    refine ⟨S2, rfl, fin S2 (kn b) (mi b) hK2 (by rw [g2]; simp; exact h7) (fun _ _ _ => rfl) ?_ ?_, hsm2⟩
    · show kn b = if p ∈ kn b then _ else _
      rw [if_pos hk]
    · show mi b = if p ∈ kn b then _ else _
      rw [if_pos hk]
  · rw [m_known_loop hK2 hl hp2 (Nat.le_refl _) (not_of hk) (Or.inl rfl) (kn b).length 0 FU (by omega) (by have := FU_ge; omega)]
    unfold X12_touch_76
    have hmi : gI S2 167 29 = mi b := by rw [g2]; simp; exact h7
    rw [hK2.1, if_pos (nI_le (Nat.le_refl _) (by omega)), pt_e, hmi]
    have hK3 : KM (pI S2 167 29 (mi b + 1)) (kn b) := ⟨by simp [gI_pI, hK2.1], hK2.2.1, fun i hi => by simp [gI_pI, hK2.2.2 i hi]⟩
    have hkn : kn (bHit b f p w) = (if (kn b).length = 4 then (kn b).tail else kn b) ++ [p] := by
      show (if p ∈ kn b then _ else _) = _
      rw [if_neg hk]
    have hmi2 : mi (bHit b f p w) = mi b + 1 := by
      show (if p ∈ kn b then _ else _) = _
      rw [if_neg hk]
    rw [hK3.1]
    by_cases h4 : (kn b).length = 4
    · rw [if_pos (by rw [h4]; rfl)]
      obtain ⟨S4, a1, a2, a3⟩ := m_forget (k := 0) hK3 (by omega)
      have ht : (kn b).eraseIdx 0 = (kn b).tail := List.eraseIdx_zero
      rw [ht] at a2
      obtain ⟨S5, c1, c2, c3⟩ := m_known_add (p := p) a2 (by rw [List.length_tail]; omega)
      rw [nI_0] at a1
      rw [a1, bd_rt, c1]
      refine ⟨S5, rfl, fin S5 _ (mi b + 1) c2 (by rw [c3.I (by decide), a3.I (by decide)]; simp [gI_pI]) (fun c j q => by rw [c3.I (by omega), a3.I (by omega), gI_pI, if_neg (by omega)]) (by rw [hkn, if_pos h4]) hmi2.symm, ?_⟩
      refine ((hsm2.trans (Sm.pI (Or.inl (by omega)))).trans (a3.mono fun c j q => ?_)).trans (c3.mono fun c j q => ?_) <;> (unfold mPl; omega)
    · rw [if_neg (fun e => h4 ((nI_eq (by omega) (by omega)).mp (e.trans (rfl : (4 : Int32) = nI 4))))]
      obtain ⟨S5, c1, c2, c3⟩ := m_known_add (p := p) hK3 (by omega)
      rw [c1]
      refine ⟨S5, rfl, fin S5 _ (mi b + 1) c2 (by rw [c3.I (by decide)]; simp [gI_pI]) (fun c j q => by rw [c3.I (by omega), gI_pI, if_neg (by omega)]) (by rw [hkn, if_neg h4]) hmi2.symm, ?_⟩
      refine (hsm2.trans (Sm.pI (Or.inl (by omega)))).trans (c3.mono fun c j q => ?_)
      unfold mPl; omega
/-- M's touch -/
theorem m_touch {S : Sx} {b b' : Pb} {a f : Nat} {w : Bool} (hM : MP S b) (hO : bOK b) (ha : a < 65536) (hT : bTouch b (a / 64) w f b') : ∃ S', X12_touch (nI a) (b1 w) S = rt () S' ∧ MP S' b' ∧ Sm mPl S S' := by
  have hp : a / 64 < 1024 := by omega
  have e64 : nI a / (64 : Int32) = nI (a / 64) := pk_div (by omega) (by decide) (by decide)
  obtain ⟨h1, h2, hK, h4, h5, h6, h7, h8, h9⟩ := id hM
  unfold X12_touch
  rw [vl_e, e64, lI_n hp (by omega)]
  rcases hT with ⟨t1, t2, rfl⟩ | ⟨t1, t2, rfl⟩ | ⟨t1, t2, rfl, rfl⟩
  · rw [(h9 _ hp).1 f t1, if_pos (nI_pos' (by have := hO.2.1; omega))]
    exact m_touch_19 hM hO t1
  · rw [((h9 _ hp).2 t1).1, if_neg (by decide)]
    obtain ⟨S1, a1, a2, a3⟩ := m_bring_free hM hO hp t1 t2
    rw [a1, bd_rt]
    obtain ⟨S2, c1, c2, c3⟩ := m_touch_19 (f := f) (p := a / 64) (w := w) a2 (bIn_OK (bFa_OK hO) t2.1 hp t2.2.1 t1) (up_s _ _ _)
    exact ⟨S2, c1, c2, a3.trans c3⟩
  · rw [((h9 _ hp).2 t1).1, if_neg (by decide)]
    obtain ⟨S1, a1, a2, a3⟩ := m_bring_full hM hO hp t1 t2
    rw [a1, bd_rt]
    have hA := bAdv_OK 65 (bFa_OK hO)
    obtain ⟨q1, q2, -⟩ := bAdv_fr 65 (bFa b)
    obtain ⟨q, hq⟩ : ∃ q, pin (bAdv 65 (bFa b)) (hd (bAdv 65 (bFa b))) = some q := by
      cases hc : pin (bAdv 65 (bFa b)) (hd (bAdv 65 (bFa b))) with
      | none => rw [q2] at hc; exact absurd hc (t2 _ (bAdv_hd 65 (bFa b) hO.2.2.1))
      | some q => exact ⟨q, rfl⟩
    obtain ⟨S2, c1, c2, c3⟩ := m_touch_19 (f := hd (bAdv 65 (bFa b))) (p := a / 64) (w := w) a2 (bIn_OK (bOut_OK hA hq) hA.2.2.1 hp (up_s _ _ _) (fun i e => by
      have e : up (pin (bAdv 65 (bFa b))) (hd (bAdv 65 (bFa b))) none i = some (a / 64) := e
      by_cases hi : i = hd (bAdv 65 (bFa b))
      · rw [hi, up_s] at e; cases e
      · rw [up_n _ _ hi, q2] at e; exact t1 i e)) (up_s _ _ _)
    exact ⟨S2, c1, c2, a3.trans c3⟩
theorem bTouch_OK {b b' : Pb} {p f : Nat} {w : Bool} (hO : bOK b) (hp : p < 1024) (hT : bTouch b p w f b') : bOK b' ∧ pin b' f = some p ∧ f < fr b' ∧ fr b' = fr b := by
  rcases hT with ⟨t1, t2, rfl⟩ | ⟨t1, t2, rfl⟩ | ⟨t1, t2, rfl, rfl⟩
  · exact ⟨bHit_OK hO t1, t1, t2, rfl⟩
  · exact ⟨bHit_OK (bIn_OK (bFa_OK hO) t2.1 hp t2.2.1 t1) (up_s _ _ _), up_s _ _ _, t2.1, rfl⟩
  · have hA := bAdv_OK 65 (bFa_OK hO)
    obtain ⟨q1, q2, -⟩ := bAdv_fr 65 (bFa b)
    obtain ⟨q, hq⟩ : ∃ q, pin (bAdv 65 (bFa b)) (hd (bAdv 65 (bFa b))) = some q := by
      cases hc : pin (bAdv 65 (bFa b)) (hd (bAdv 65 (bFa b))) with
      | none => rw [q2] at hc; exact absurd hc (t2 _ (bAdv_hd 65 (bFa b) hO.2.2.1))
      | some q => exact ⟨q, rfl⟩
    have hI := bIn_OK (bOut_OK hA hq) hA.2.2.1 hp (up_s _ _ _) (fun i e => by
      have e : up (pin (bAdv 65 (bFa b))) (hd (bAdv 65 (bFa b))) none i = some p := e
      by_cases hi : i = hd (bAdv 65 (bFa b))
      · rw [hi, up_s] at e; cases e
      · rw [up_n _ _ hi, q2] at e; exact t1 i e)
    exact ⟨bHit_OK hI (up_s _ _ _), up_s _ _ _, hA.2.2.1, q1⟩
