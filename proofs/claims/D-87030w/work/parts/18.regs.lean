set_option maxRecDepth 100000
/-! ===== registers: sp values in the stack, L local ones above them, all in fl; gl the global ones ===== -/
def XR (S : Sx) (sp L : Nat) (fl gl : Nat → Int64) : Prop := gI S 139 3 = nI sp ∧ gI S 139 5 = nI L ∧
  (∃ sv, gI S 139 4 = nI sv ∧ sv ≤ sp ∧ sp + L ≤ sv + 40 ∧ (∀ i, i < sv → gL S 141 i = fl i) ∧ ∀ i, sv ≤ i → i < sp + L → gL S 140 (i % 40) = fl i) ∧
  ∀ n, 16 ≤ n → n < 32 → gL S 142 n = gl n
def MR (S : Sx) (sp L : Nat) (fl gl : Nat → Int64) : Prop := gI S 167 11 = nI sp ∧ gL S 172 4 = lN L ∧ (∀ i, i < sp → gL S 173 i = fl i) ∧ (∀ n, n < L → gL S 171 n = fl (sp + n)) ∧
  ∀ n, 16 ≤ n → n < 32 → gL S 171 n = gl n
def xRl (c _ : Nat) : Prop := 139 ≤ c ∧ c ≤ 142
def mRl (c k : Nat) : Prop := c = 171 ∨ (c = 172 ∧ k = 4) ∨ c = 173 ∨ c = 181 ∨ (c = 167 ∧ k = 11)
theorem XR.sm {P : Nat → Nat → Prop} {S S' : Sx} {sp L : Nat} {fl gl : Nat → Int64} (h : XR S sp L fl gl) (hs : Sm P S S') (hp : ∀ c k, P c k → ¬ (139 ≤ c ∧ c ≤ 142)) : XR S' sp L fl gl := by
  obtain ⟨a, b, ⟨sv, c1, c2, c3, c4, c5⟩, d⟩ := h
  refine ⟨?_, ?_, ⟨sv, ?_, c2, c3, fun i hi => ?_, fun i hi hi2 => ?_⟩, fun n hn hn2 => ?_⟩
  · rw [hs.I (fun x => hp _ _ x (by omega))]; exact a
  · rw [hs.I (fun x => hp _ _ x (by omega))]; exact b
  · rw [hs.I (fun x => hp _ _ x (by omega))]; exact c1
  · rw [hs.L (fun x => hp _ _ x (by omega))]; exact c4 i hi
  · rw [hs.L (fun x => hp _ _ x (by omega))]; exact c5 i hi hi2
  · rw [hs.L (fun x => hp _ _ x (by omega))]; exact d n hn hn2
theorem MR.sm {P : Nat → Nat → Prop} {S S' : Sx} {sp L : Nat} {fl gl : Nat → Int64} (h : MR S sp L fl gl) (hs : Sm P S S') (hp : ∀ c k, P c k → ¬ (c = 171 ∨ (c = 172 ∧ k = 4) ∨ c = 173 ∨ (c = 167 ∧ k = 11))) : MR S' sp L fl gl := by
  obtain ⟨a, b, c, d, e⟩ := h
  refine ⟨?_, ?_, fun i hi => ?_, fun n hn => ?_, fun n hn hn2 => ?_⟩
  · rw [hs.I (fun x => hp _ _ x (by omega))]; exact a
  · rw [hs.L (fun x => hp _ _ x (by omega))]; exact b
  · rw [hs.L (fun x => hp _ _ x (by omega))]; exact c i hi
  · rw [hs.L (fun x => hp _ _ x (by omega))]; exact d n hn
  · rw [hs.L (fun x => hp _ _ x (by omega))]; exact e n hn hn2
/-- a register's value -/
def rGet (sp L : Nat) (fl gl : Nat → Int64) (n : Nat) : Int64 := if n < 16 then (if n < L then fl (sp + n) else 0) else gl n
/-- the stack after register n got v -/
def rFl (sp L : Nat) (fl : Nat → Int64) (n : Nat) (v : Int64) : Nat → Int64 := if n < 16 then (fun i => if i = sp + n then v else if sp + L ≤ i ∧ i < sp + n then 0 else fl i) else fl
def rL (L n : Nat) : Nat := if n < 16 then (if n < L then L else n + 1) else L
def rGl (gl : Nat → Int64) (n : Nat) (v : Int64) : Nat → Int64 := if n < 16 then gl else up gl n v
/-! X -/
theorem mod40 {a : Nat} (h : a < 2 ^ 30) : nI a - nI a / 40 * 40 = nI (a % 40) := pk_rem (a := a) (d := 40) (by omega) (by omega) (by omega)
theorem x_rget {S : Sx} {sp L n : Nat} {fl gl : Nat → Int64} (h : XR S sp L fl gl) (hn : n < 32) (hL : L ≤ 16) (hs : sp + L ≤ 600) : X6_get (nI n) S = rt (rGet sp L fl gl n) S := by
  obtain ⟨a, b, ⟨sv, c1, c2, c3, c4, c5⟩, d⟩ := h
  unfold X6_get rGet
  by_cases h16 : n < 16
  · rw [if_pos (lit_lt h16 (by omega)), if_pos h16, b]
    by_cases hnL : n < L
    · rw [if_neg (nI_ge hnL (by omega)), if_pos hnL, a, nI_add, mod40 (by omega), lL_n (Nat.mod_lt _ (by omega)) (by omega), c5 _ (by omega) (by omega)]
    · rw [if_pos (nI_le (by omega) (by omega)), if_neg hnL]
  · rw [if_neg (lit_gt (N := 16) (by omega) (by omega)), if_neg h16, lL_n hn (by omega), d n (by omega) hn]
theorem x_push {S : Sx} {sp L : Nat} {fl gl : Nat → Int64} (v : Int64) (h : XR S sp L fl gl) (hL : L ≤ 16) (hs : sp + L ≤ 600) : ∃ S', X6_push v S = rt () S' ∧ XR S' sp (L + 1) (up fl (sp + L) v) gl ∧ Sm xRl S S' := by
  obtain ⟨a, b, ⟨sv, c1, c2, c3, c4, c5⟩, d⟩ := h
  have fin : ∀ (T : Sx) (w : Nat), Sm xRl S T → gI T 139 3 = nI sp → gI T 139 5 = nI L → gI T 139 4 = nI w → w ≤ sp → sp + L < w + 40 → (∀ i, i < w → gL T 141 i = fl i) → (∀ i, w ≤ i → i < sp + L → gL T 140 (i % 40) = fl i) → (∀ n, 16 ≤ n → n < 32 → gL T 142 n = gl n) → ∃ S', X6_push_50 v T = rt () S' ∧ XR S' sp (L + 1) (up fl (sp + L) v) gl ∧ Sm xRl S S' := by
    intro T w hs0 e1 e2 e3 e4 e5 e6 e7 e8
    refine ⟨pI (pL T 140 ((sp + L) % 40) v) 139 5 (nI (L + 1)), ?_, ⟨?_, ?_, ⟨w, ?_, e4, by omega, fun i hi => ?_, fun i hi hi2 => ?_⟩, fun n hn hn2 => ?_⟩, hs0.trans (Sm.trans (Sm.pL (by unfold xRl; omega)) (Sm.pI (by unfold xRl; omega)))⟩
    · unfold X6_push_50
      rw [e1, e2, nI_add, mod40 (by omega), sL_n (Nat.mod_lt _ (by omega)) (by omega), pt_e, gI_pL, e2, nI_1]
    · rw [gI_pI, if_neg (by omega), gI_pL]; exact e1
    · rw [gI_pI, if_pos ⟨rfl, rfl⟩]
    · rw [gI_pI, if_neg (by omega), gI_pL]; exact e3
    · rw [gL_pI, gL_pL, if_neg (by omega), e6 i hi, up_n _ _ (by omega)]
    · rw [gL_pI, gL_pL]
      by_cases hi3 : i = sp + L
      · rw [if_pos ⟨rfl, by rw [hi3]⟩, hi3, up_s]
      · rw [if_neg (fun x => by have := x.2; omega), e7 i hi (by omega), up_n _ _ hi3]
    · rw [gL_pI, gL_pL, if_neg (by omega)]; exact e8 n hn hn2
  unfold X6_push
  rw [a, b, c1, nI_add, pk_sub (by omega)]
  by_cases hf : sp + L - sv = 40
  · rw [if_pos (show nI (sp + L - sv) = 40 by rw [hf]; rfl), mod40 (by omega), lL_n (Nat.mod_lt _ (by omega)) (by omega), sL_n (k := sv) (by omega) (by omega), pt_e, gI_pL, c1, nI_1]
    have hs0 : Sm xRl S (pI (pL S 141 sv (gL S 140 (sv % 40))) 139 4 (nI (sv + 1))) := Sm.trans (Sm.pL (by unfold xRl; omega)) (Sm.pI (by unfold xRl; omega))
    refine fin _ (sv + 1) hs0 ?_ ?_ ?_ (by omega) (by omega) (fun i hi => ?_) (fun i hi hi2 => ?_) (fun n hn hn2 => ?_)
    · rw [gI_pI, if_neg (by omega), gI_pL]; exact a
    · rw [gI_pI, if_neg (by omega), gI_pL]; exact b
    · rw [gI_pI, if_pos ⟨rfl, rfl⟩]
    · rw [gL_pI, gL_pL]
      split
      · rename_i q; rw [q.2]; exact c5 sv (Nat.le_refl _) (by omega)
      · exact c4 i (by omega)
    · rw [gL_pI, gL_pL, if_neg (by omega)]; exact c5 i (by omega) hi2
    · rw [gL_pI, gL_pL, if_neg (by omega)]; exact d n hn hn2
  · rw [if_neg (show ¬ nI (sp + L - sv) = 40 from fun e => hf ((nI_eq (a := sp + L - sv) (b := 40) (by omega) (by omega)).mp e))]
    exact fin S sv (Sm.rfl' S) a b c1 c2 (by omega) c4 c5 d
def zf (fl : Nat → Int64) (a b : Nat) : Nat → Int64 := fun i => if a ≤ i ∧ i < b then 0 else fl i
theorem zf_0 (fl : Nat → Int64) {a b : Nat} (h : b ≤ a) : zf fl a b = fl := by
  funext i
  unfold zf
  rw [if_neg (by omega)]
theorem zf_s (fl : Nat → Int64) {a b : Nat} (h : a ≤ b) : up (zf fl a b) b 0 = zf fl a (b + 1) := by
  funext i
  unfold zf up
  by_cases hi : i = b
  · rw [if_pos hi, if_pos (by omega)]
  · rw [if_neg hi]
    by_cases h2 : a ≤ i ∧ i < b
    · rw [if_pos (by omega)]; exact if_pos h2
    · rw [if_neg (by omega)]; exact if_neg h2
theorem x_extend_loop {sp L0 m : Nat} {fl gl : Nat → Int64} (hm : m ≤ 17) (hs : sp + m ≤ 600) : ∀ (d L n : Nat) (S : Sx), L + d = m → d < n → L0 ≤ L → XR S sp L (zf fl (sp + L0) (sp + L)) gl → ∃ S', X6_extend_0 n (nI m) S = rt () S' ∧ XR S' sp m (zf fl (sp + L0) (sp + m)) gl ∧ Sm xRl S S' := by
  intro d
  induction d with
  | zero =>
    intro L n S hL hn h0 h
    obtain ⟨n, rfl⟩ : ∃ j, n = j + 1 := ⟨n - 1, by omega⟩
    obtain rfl : L = m := by omega
    refine ⟨S, ?_, h, Sm.rfl' S⟩
    show X6_extend_0b (X6_extend_0 n) (nI L) S = _
    unfold X6_extend_0b
    rw [h.2.1, if_pos (nI_le (Nat.le_refl _) (by omega))]
  | succ d ih =>
    intro L n S hL hn h0 h
    obtain ⟨n, rfl⟩ : ∃ j, n = j + 1 := ⟨n - 1, by omega⟩
    obtain ⟨S1, e1, e2, e3⟩ := x_push 0 h (by omega) (by omega)
    rw [zf_s _ (by omega)] at e2
    obtain ⟨S2, f1, f2, f3⟩ := ih (L + 1) n S1 (by omega) (by omega) (by omega) e2
    refine ⟨S2, ?_, f2, e3.trans f3⟩
    show X6_extend_0b (X6_extend_0 n) (nI m) S = _
    unfold X6_extend_0b
    rw [h.2.1, if_neg (nI_ge (by omega) (by omega)), e1, bd_rt, f1]
theorem x_extend {S : Sx} {sp L m : Nat} {fl gl : Nat → Int64} (h : XR S sp L fl gl) (hL : L ≤ 16) (hm : m ≤ 17) (hs : L < m → sp + m ≤ 600) : ∃ S', X6_extend (nI m) S = rt () S' ∧ XR S' sp (max L m) (zf fl (sp + L) (sp + m)) gl ∧ Sm xRl S S' := by
  by_cases hLm : L ≤ m
  · have hs' : sp + m ≤ 600 ∨ L = m := by rcases Nat.lt_or_eq_of_le hLm with q | q; exact Or.inl (hs q); exact Or.inr q
    rcases hs' with hs' | rfl
    · obtain ⟨S1, e1, e2, e3⟩ := x_extend_loop (sp := sp) (L0 := L) (m := m) (fl := fl) (gl := gl) hm hs' (m - L) L FU S (by omega) (by have := FU_ge; omega) (Nat.le_refl _) (by rw [zf_0 _ (Nat.le_refl _)]; exact h)
      refine ⟨S1, e1, ?_, e3⟩
      rw [show max L m = m by omega]
      exact e2
    · refine ⟨S, ?_, by rw [show max L L = L by omega, zf_0 _ (Nat.le_refl _)]; exact h, Sm.rfl' S⟩
      obtain ⟨n, hn⟩ : ∃ n, FU = n + 1 := ⟨FU - 1, by have := FU_ge; omega⟩
      unfold X6_extend
      rw [hn]
      show X6_extend_0b (X6_extend_0 n) (nI L) S = _
      unfold X6_extend_0b
      rw [h.2.1, if_pos (nI_le (Nat.le_refl _) (by omega))]
  · refine ⟨S, ?_, by rw [show max L m = L by omega, zf_0 _ (by omega)]; exact h, Sm.rfl' S⟩
    obtain ⟨n, hn⟩ : ∃ n, FU = n + 1 := ⟨FU - 1, by have := FU_ge; omega⟩
    unfold X6_extend
    rw [hn]
    show X6_extend_0b (X6_extend_0 n) (nI m) S = _
    unfold X6_extend_0b
    rw [h.2.1, if_pos (nI_le (by omega) (by omega))]
theorem x_local {S : Sx} {sp L n : Nat} {fl gl : Nat → Int64} {v : Int64} (h : XR S sp L fl gl) (hn : n < L) : XR (pL S 140 ((sp + n) % 40) v) sp L (up fl (sp + n) v) gl := by
  obtain ⟨a, b, ⟨sv, c1, c2, c3, c4, c5⟩, d⟩ := h
  refine ⟨a, b, ⟨sv, c1, c2, c3, fun i hi => ?_, fun i hi hi2 => ?_⟩, fun m hm hm2 => ?_⟩
  · rw [gL_pL, if_neg (by omega), up_n _ _ (by omega)]; exact c4 i hi
  · rw [gL_pL]
    by_cases e : i = sp + n
    · rw [if_pos ⟨rfl, by rw [e]⟩, e, up_s]
    · rw [if_neg (fun x => by have := x.2; omega), up_n _ _ e]; exact c5 i hi hi2
  · rw [gL_pL, if_neg (by omega)]; exact d m hm hm2
theorem x_rset {S : Sx} {sp L n : Nat} {fl gl : Nat → Int64} (v : Int64) (h : XR S sp L fl gl) (hn : n < 32) (hL : L ≤ 16) (hs : sp + rL L n ≤ 600) : ∃ S', X6_set (nI n) v S = rt () S' ∧ XR S' sp (rL L n) (rFl sp L fl n v) (rGl gl n v) ∧ Sm xRl S S' := by
  unfold rL at hs ⊢
  unfold rFl rGl X6_set
  by_cases h16 : n < 16
  · rw [if_pos h16] at hs
    rw [if_pos h16, if_pos h16, if_pos h16, if_pos (lit_lt h16 (by omega)), nI_1]
    obtain ⟨S1, e1, e2, e3⟩ := x_extend (m := n + 1) h hL (by omega) (fun q => by rw [if_neg (by omega)] at hs; exact hs)
    refine ⟨pL S1 140 ((sp + n) % 40) v, ?_, ?_, e3.trans (Sm.pL (by unfold xRl; omega))⟩
    · rw [e1, bd_rt, e2.1, nI_add, mod40 (by split at hs <;> omega), sL_n (Nat.mod_lt _ (by omega)) (by omega)]
    · have := x_local (n := n) (v := v) e2 (by omega)
      have e : up (zf fl (sp + L) (sp + (n + 1))) (sp + n) v = (fun i => if i = sp + n then v else if sp + L ≤ i ∧ i < sp + n then 0 else fl i) := by
        funext i
        unfold up zf
        by_cases hi : i = sp + n
        · rw [if_pos hi, if_pos hi]
        · rw [if_neg hi, if_neg hi]
          by_cases hi2 : sp + L ≤ i ∧ i < sp + n
          · rw [if_pos hi2, if_pos (by omega)]
          · rw [if_neg hi2, if_neg (by omega)]
      rw [e] at this
      rw [show (if n < L then L else n + 1) = max L (n + 1) by split <;> omega]
      exact this
  · rw [if_neg h16, if_neg h16, if_neg h16, if_neg (lit_gt (N := 16) (by omega) (by omega)), sL_n hn (by omega)]
    refine ⟨_, rfl, ?_, Sm.pL (by unfold xRl; omega)⟩
    obtain ⟨a, b, ⟨sv, c1, c2, c3, c4, c5⟩, d⟩ := h
    refine ⟨a, b, ⟨sv, c1, c2, c3, fun i hi => ?_, fun i hi hi2 => ?_⟩, fun m hm hm2 => ?_⟩
    · rw [gL_pL, if_neg (by omega)]; exact c4 i hi
    · rw [gL_pL, if_neg (by omega)]; exact c5 i hi hi2
    · rw [gL_pL]
      by_cases e : m = n
      · rw [if_pos ⟨rfl, e⟩, e, up_s]
      · rw [if_neg (by omega), up_n _ _ e]; exact d m hm hm2
/-! M -/
theorem m_rL {S : Sx} {sp L : Nat} {fl gl : Nat → Int64} (h : MR S sp L fl gl) : X12_rL S = rt (nI L) S := by
  unfold X12_rL
  rw [show (4 : Int32) = nI 4 from rfl, lL_n (by omega) (by omega), h.2.1, lN_i]
theorem m_rget {S : Sx} {sp L n : Nat} {fl gl : Nat → Int64} (h : MR S sp L fl gl) (hn : n < 32) (hL : L ≤ 16) : X12_get (nI n) S = rt (rGet sp L fl gl n) S := by
  unfold X12_get X12_get_18 rGet
  by_cases h16 : n < 16
  · rw [if_neg (lit_ge h16 (by omega)), if_pos h16, m_rL h, bd_rt]
    by_cases hnL : n < L
    · rw [if_pos (nI_lt hnL (by omega)), if_pos hnL, lL_n hn (by omega), h.2.2.2.1 n hnL]
    · rw [if_neg (nI_nlt (by omega) (by omega)), if_neg hnL]
  · rw [if_pos (lit_le (N := 16) (by omega) (by omega)), if_neg h16, lL_n hn (by omega), h.2.2.2.2 n (by omega) hn]
theorem m_set_loop {sp L m : Nat} {fl gl : Nat → Int64} {v : Int64} (hm : m < 16) : ∀ (d i n : Nat) (S : Sx), i + d = m → d < n → L ≤ i → gI S 167 11 = nI sp → (∀ j, j < sp → gL S 173 j = fl j) → (∀ j, j < i → gL S 171 j = zf fl (sp + L) (sp + i) (sp + j)) → (∀ j, 16 ≤ j → j < 32 → gL S 171 j = gl j) → ∃ S', X12_set_20 n (nI m) v (nI i) S = rt () S' ∧ MR S' sp (m + 1) (rFl sp L fl m v) gl ∧ Sm mRl S S' := by
  intro d
  induction d with
  | zero =>
    intro i n S hi hn h0 h1 h2 h3 h4
    obtain ⟨n, rfl⟩ : ∃ j, n = j + 1 := ⟨n - 1, by omega⟩
    obtain rfl : i = m := by omega
    refine ⟨pL (pL S 172 4 (lN (i + 1))) 171 i v, ?_, ⟨h1, ?_, fun j hj => ?_, fun j hj => ?_, fun j hj hj2 => ?_⟩, Sm.trans (Sm.pL (by unfold mRl; omega)) (Sm.pL (by unfold mRl; omega))⟩
    · show X12_set_20b (X12_set_20 n) (nI i) v (nI i) S = _
      unfold X12_set_20b X12_set_50
      rw [if_pos (nI_le (Nat.le_refl _) (by omega)), show (4 : Int32) = nI 4 from rfl, sL_n (by omega) (by omega), sL_n (by omega) (by omega), nI_l (by omega), lN_1]
    · rw [gL_pL, if_neg (by omega), gL_pL, if_pos ⟨rfl, rfl⟩]
    · rw [gL_pL, if_neg (by omega), gL_pL, if_neg (by omega), h2 j hj]
      unfold rFl
      rw [if_pos hm, if_neg (by omega), if_neg (by omega)]
    · rw [gL_pL]
      unfold rFl
      rw [if_pos hm]
      by_cases e : j = i
      · rw [if_pos ⟨rfl, e⟩, if_pos (by omega)]
      · rw [if_neg (by omega), if_neg (by omega), gL_pL, if_neg (by omega), h3 j (by omega)]
        unfold zf
        rfl
    · rw [gL_pL, if_neg (by omega), gL_pL, if_neg (by omega)]; exact h4 j hj hj2
  | succ d ih =>
    intro i n S hi hn h0 h1 h2 h3 h4
    obtain ⟨n, rfl⟩ : ∃ j, n = j + 1 := ⟨n - 1, by omega⟩
    obtain ⟨S1, e1, e2, e3⟩ := ih (i + 1) n (pL S 171 i 0) (by omega) (by omega) (by omega) h1 (fun j hj => by rw [gL_pL, if_neg (by omega)]; exact h2 j hj) (fun j hj => by
      rw [gL_pL]
      by_cases e : j = i
      · rw [if_pos ⟨rfl, e⟩]
        unfold zf
        rw [if_pos (by omega)]
      · rw [if_neg (by omega), h3 j (by omega)]
        unfold zf
        by_cases q : sp + L ≤ sp + j ∧ sp + j < sp + i
        · rw [if_pos q, if_pos (by omega)]
        · rw [if_neg q, if_neg (by omega)]) (fun j hj hj2 => by rw [gL_pL, if_neg (by omega)]; exact h4 j hj hj2)
    refine ⟨S1, ?_, e2, (Sm.pL (by unfold mRl; omega)).trans e3⟩
    show X12_set_20b (X12_set_20 n) (nI m) v (nI i) S = _
    unfold X12_set_20b
    rw [if_neg (nI_ge (by omega) (by omega)), sL_n (by omega) (by omega), vl_e, nI_1]
    exact e1
theorem m_rset {S : Sx} {sp L n : Nat} {fl gl : Nat → Int64} (v : Int64) (h : MR S sp L fl gl) (hn : n < 32) (hL : L ≤ 16) : ∃ S', X12_set (nI n) v S = rt () S' ∧ MR S' sp (rL L n) (rFl sp L fl n v) (rGl gl n v) ∧ Sm mRl S S' := by
  obtain ⟨a, b, c, d, e⟩ := id h
  unfold rL rGl X12_set
  by_cases h16 : n < 16
  · rw [if_pos h16, if_pos h16, if_neg (lit_ge h16 (by omega)), m_rL h, bd_rt]
    by_cases hnL : n < L
    · rw [if_pos (nI_lt hnL (by omega)), if_pos hnL]
      unfold X12_set_50
      rw [sL_n hn (by omega)]
      refine ⟨_, rfl, ⟨a, by rw [gL_pL, if_neg (by omega)]; exact b, fun i hi => ?_, fun i hi => ?_, fun i hi hi2 => ?_⟩, Sm.pL (by unfold mRl; omega)⟩
      · unfold rFl
        rw [gL_pL, if_neg (by omega), if_pos h16, if_neg (by omega), if_neg (by omega)]; exact c i hi
      · unfold rFl
        rw [gL_pL, if_pos h16]
        by_cases q : i = n
        · rw [if_pos ⟨rfl, q⟩, if_pos (by omega)]
        · rw [if_neg (by omega), if_neg (by omega), if_neg (by omega)]; exact d i hi
      · rw [gL_pL, if_neg (by omega)]; exact e i hi hi2
    · rw [if_neg (nI_nlt (by omega) (by omega)), if_neg hnL, m_rL h, bd_rt, vl_e]
      exact m_set_loop h16 (n - L) L FU S (by omega) (by have := FU_ge; omega) (Nat.le_refl _) a c (fun j hj => by rw [zf_0 _ (Nat.le_refl _)]; exact d j hj) e
  · rw [if_neg h16, if_neg h16, if_pos (lit_le (N := 16) (by omega) (by omega))]
    unfold X12_set_50
    rw [sL_n hn (by omega)]
    refine ⟨_, rfl, ⟨a, by rw [gL_pL, if_neg (by omega)]; exact b, fun i hi => ?_, fun i hi => ?_, fun i hi hi2 => ?_⟩, Sm.pL (by unfold mRl; omega)⟩
    · unfold rFl
      rw [gL_pL, if_neg (by omega), if_neg h16]; exact c i hi
    · unfold rFl
      rw [gL_pL, if_neg (by omega), if_neg h16]; exact d i hi
    · rw [gL_pL]
      by_cases q : i = n
      · rw [if_pos ⟨rfl, q⟩, q, up_s]
      · rw [if_neg (by omega), up_n _ _ q]; exact e i hi hi2
