set_option maxRecDepth 100000
/-! ===== loading ===== -/
def sOK (s : Ls) : Prop := memOK s.1 ∧ s.2.2 ≤ 65536
def s0 : Ls := (fun _ => 0, fun _ => false, 0)
theorem s0_OK : sOK s0 := ⟨fun _ => Nat.zero_lt_succ 255, Nat.zero_le _⟩
theorem inr4 {a a' b b' : Nat} {c c' : Int64} {d d' : Ls} (h : (.inr (a, b, c, d) : (Nat × Nat) ⊕ (Nat × Nat × Int64 × Ls)) = .inr (a', b', c', d')) : a = a' ∧ b = b' ∧ c = c' ∧ d = d' := by
  cases h
  exact ⟨rfl, rfl, rfl, rfl⟩
theorem ldW_ok {r k k' q : Nat} {s s' : Ls} {v v' : Int64} {n : Nat} (hs : sOK s) (hk : k + 9 ≤ n) (h : ldW r k s v = .inr (q, k', v', s')) : sOK s' ∧ k < k' ∧ k' ≤ n ∧ v' = v ∧ q = r := by
  unfold ldW at h
  by_cases c1 : r = 1 ∨ r = 6
  · rw [if_pos c1] at h
    by_cases c2 : v < 0 ∨ 65536 < v
    · rw [if_pos c2] at h; cases h
    · rw [if_neg c2] at h
      obtain ⟨e1, e2, e3, e4⟩ := inr4 h
      refine ⟨?_, by omega, by omega, e3.symm, e1.symm⟩
      rw [← e4]
      obtain ⟨a, ha, rfl⟩ := pk_lOf (fun x => c2 (Or.inl x))
      have ha3 : ¬ 65536 < a := fun x => c2 (Or.inr ((pk_lLT (a := 65536) (by omega) (by omega)).mpr x))
      rw [lN_tn (by omega)]
      split
      · exact ⟨hs.1, by show a ≤ 65536; omega⟩
      · exact hs
  · rw [if_neg c1] at h
    by_cases c2 : isA v = true ∧ v.toInt.toNat % (if r = 3 then 8 else 4) = 0
    · rw [if_pos c2] at h
      by_cases c3 : r = 3
      · rw [if_pos c3] at h
        obtain ⟨e1, e2, e3, e4⟩ := inr4 h
        exact ⟨by rw [← e4]; exact ⟨putB_OK hs.1 _ _ _, hs.2⟩, by omega, by omega, e3.symm, by omega⟩
      · rw [if_neg c3] at h
        by_cases c4 : r = 4
        · rw [if_pos c4] at h
          split at h
          · obtain ⟨e1, e2, e3, e4⟩ := inr4 h
            exact ⟨by rw [← e4]; exact ⟨putB_OK hs.1 _ _ _, hs.2⟩, by omega, by omega, e3.symm, by omega⟩
          · cases h
        · rw [if_neg c4] at h
          split at h
          · obtain ⟨e1, e2, e3, e4⟩ := inr4 h
            exact ⟨by rw [← e4]; exact ⟨putB_OK hs.1 _ _ _, hs.2⟩, by omega, by omega, e3.symm, by omega⟩
          · cases h
    · rw [if_neg c2] at h; cases h
theorem ldS_ok {f : List Nat} {k k' q : Nat} {s s' : Ls} {v' : Int64} (hf : fOK f) (hs : sOK s) (h : ldS f k s = .inr (q, k', v', s')) : sOK s' ∧ k < k' ∧ k' ≤ f.length ∧ q < 256 := by
  unfold ldS at h
  split at h
  · cases h
  · split at h
    · split at h
      · cases h
      · split at h
        · cases h
        · split at h
          · cases h
          · split at h
            · cases h
            · obtain ⟨e1, e2, e3, e4⟩ := inr4 h
              refine ⟨?_, by omega, by omega, by omega⟩
              rw [← e4]
              refine ⟨rowM_OK hs.1 (fun i => hf.2 _) _, ?_⟩
              show s.2.2 + fG f (k + 1) ≤ 65536
              omega
    · split at h
      · cases h
      · split at h
        · cases h
        · obtain ⟨a1, a2, a3, a4, a5⟩ := ldW_ok (n := f.length) hs (by omega) h
          exact ⟨a1, a2, a3, by rw [a5]; exact hf.2 k⟩
theorem ldW_f {r k c p : Nat} {s : Ls} {v : Int64} (h : ldW r k s v = .inl (c, p)) : 11 ≤ c ∧ c ≤ 14 := by
  unfold ldW at h
  by_cases c2 : isA v = true ∧ v.toInt.toNat % (if r = 3 then 8 else 4) = 0
  · rw [if_pos c2] at h
    repeat' split at h
    all_goals first
      | (cases h; omega)
      | cases h
  · rw [if_neg c2] at h
    repeat' split at h
    all_goals first
      | (cases h; omega)
      | cases h
theorem ldS_f {f : List Nat} {k c p : Nat} {s : Ls} (h : ldS f k s = .inl (c, p)) : 11 ≤ c ∧ c ≤ 14 := by
  unfold ldS at h
  repeat' split at h
  all_goals first
    | (cases h; omega)
    | cases h
    | exact ldW_f h
/-- a loading, in both -/
def LdP (A B : Sx) (r0 tg : Nat) (f : List Nat) (r r' : Rs Int64) : Prop :=
  (∃ s v A' B' k' A2, r = rt v A2 ∧ X2_settle A' = rt () A2 ∧ r' = rt v B' ∧ sOK s ∧ XL A' r0 f k' s ∧ ML B' tg f s ∧ Sm xLd A A' ∧ Sm (mLd tg) B B') ∨
  (∃ s c p A' B' k', 11 ≤ c ∧ c ≤ 14 ∧ r = th 1 (xF A' (nI c) (nI p)) ∧ r' = th (gn B') (mF B' (nI c) (nI p)) ∧ sOK s ∧ XL A' r0 f k' s ∧ ML B' tg f s ∧ Sm xLd A A' ∧ Sm (mLd tg) B B')
theorem LdP.pre {A B A1 B1 : Sx} {r0 tg : Nat} {f : List Nat} {r r' : Rs Int64} (h : LdP A1 B1 r0 tg f r r') (h1 : Sm xLd A A1) (h2 : Sm (mLd tg) B B1) : LdP A B r0 tg f r r' := by
  rcases h with ⟨s, v, A', B', k', A2, a, b, c, d, e, g, x, y⟩ | ⟨s, v, p, A', B', k', a, b, c, d, e, g, z, x, y⟩
  · exact Or.inl ⟨s, v, A', B', k', A2, a, b, c, d, e, g, h1.trans x, h2.trans y⟩
  · exact Or.inr ⟨s, v, p, A', B', k', a, b, c, d, e, g, z, h1.trans x, h2.trans y⟩
/-- X's loader behind the last record -/
theorem x_ld_end {A : Sx} {r0 n k : Nat} {f : List Nat} {s : Ls} {v : Int64} (h : XL A r0 f k s) (hf : fOK f) (hk : k ≤ f.length) : X11_load_32 (n + 1) (nI 6) v A = if k = f.length then bd (X2_settle A) (fun _ S2 => rt v S2) else th 1 (xF A 12 (nI k)) := by
  show X11_load_32b (X11_load_32 n) (nI 6) v A = _
  unfold X11_load_32b X11_load_230
  have hl := hf.1
  rw [if_pos (show nI 6 = 6 from rfl), h.a.1, h.a.2.1]
  by_cases hc : k = f.length
  · rw [if_pos hc, if_pos (by rw [hc]), xl_want1, bd_rt]
  · rw [if_neg hc, if_neg (fun x => hc ((nI_eq (by omega) (by omega)).mp x)), xl_want0 h.K, bd_th, ]
theorem x_settleL {A : Sx} {r0 k : Nat} {f : List Nat} {s : Ls} (h : XL A r0 f k s) : ∃ A2, X2_settle A = rt () A2 := by
  obtain ⟨r, b, h1, h2, h3, h4, h5, h6, h7, h8, h9, h10, h11, h12, h13, h14, h15⟩ := h
  obtain ⟨S', e, -⟩ := x_settle h14 h12
  exact ⟨S', e⟩
theorem ld_pair {r0 tg : Nat} {f : List Nat} (hf : fOK f) (hl : f.length ≤ 20000) : ∀ (d k nX nM r1 : Nat) (x4 : Int64) (A B : Sx) (s : Ls), f.length - k ≤ d → d + 1 < nX → d < nM → k ≤ f.length → ¬ r1 = 6 → r1 < 256 → XL A r0 f k s → ML B tg f s → sOK s → roomM B → LdP A B r0 tg f (X11_load_32 nX (nI r1) x4 A) (X12_records_2 nM (nI k) B) := by
  intro d
  induction d with
  | zero =>
    intro k nX nM r1 x4 A B s hd h1 h2 hk h6 h256 hX hM hs hr
    obtain ⟨nX, rfl⟩ : ∃ j, nX = j + 1 := ⟨nX - 1, by omega⟩
    obtain ⟨nM, rfl⟩ : ∃ j, nM = j + 1 := ⟨nM - 1, by omega⟩
    have a := x_ld (n := nX) (x4 := x4) hX hf hk hs.2 h6 h256
    have b := m_ld (n := nM) hM hf hl hr hk hs.2
    have e : ldS f k s = .inl (11, k) := by unfold ldS; rw [if_pos (by omega)]
    rw [e] at a b
    obtain ⟨A', k', a1, a2, a3⟩ := a
    obtain ⟨B', b1, b2, b3⟩ := b
    exact Or.inr ⟨s, 11, k, A', B', k', by omega, by omega, a1, b1, hs, a2, b2, a3, b3⟩
  | succ d ih =>
    intro k nX nM r1 x4 A B s hd h1 h2 hk h6 h256 hX hM hs hr
    obtain ⟨nX, rfl⟩ : ∃ j, nX = j + 1 := ⟨nX - 1, by omega⟩
    obtain ⟨nM, rfl⟩ : ∃ j, nM = j + 1 := ⟨nM - 1, by omega⟩
    have a := x_ld (n := nX) (x4 := x4) hX hf hk hs.2 h6 h256
    have b := m_ld (n := nM) hM hf hl hr hk hs.2
    cases e : ldS f k s with
    | inl cp =>
      obtain ⟨c, p⟩ := cp
      rw [e] at a b
      obtain ⟨A', k', a1, a2, a3⟩ := a
      obtain ⟨B', b1, b2, b3⟩ := b
      have := ldS_f e
      exact Or.inr ⟨s, c, p, A', B', k', by omega, by omega, a1, b1, hs, a2, b2, a3, b3⟩
    | inr o =>
      obtain ⟨q, k', v, s'⟩ := o
      obtain ⟨o1, o2, o3, o4⟩ := ldS_ok hf hs e
      rw [e] at a b
      obtain ⟨A', v', a1, a2, a3, a4⟩ := a
      obtain ⟨B', b1, b2, b3, b4⟩ := b
      by_cases hq : q = 6
      · subst hq
        rw [a2 (by decide)] at a1
        obtain ⟨nX, rfl⟩ : ∃ j, nX = j + 1 := ⟨nX - 1, by omega⟩
        rw [a1, b2 rfl, x_ld_end a3 hf o3]
        by_cases hc : k' = f.length
        · rw [if_pos hc, if_pos hc]
          obtain ⟨A2, e2⟩ := x_settleL a3
          rw [e2, bd_rt]
          exact Or.inl ⟨s', v, A', B', k', A2, rfl, e2, rfl, o1, a3, b3, a4, b4⟩
        · rw [if_neg hc, if_neg hc]
          exact Or.inr ⟨s', 12, k', A', B', k', by omega, by omega, rfl, rfl, o1, a3, b3, a4, b4⟩
      · rw [a1, b1 hq]
        exact (ih k' nX nM q v' A' B' s' (by omega) (by omega) (by omega) o3 hq o4 a3 b3 o1 (hr.sm b4)).pre a4 b4
