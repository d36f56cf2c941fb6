set_option maxRecDepth 100000
/-! ===== numbers by 4 ===== -/
theorem bmod64 {x : Int} (h1 : -9223372036854775808 ≤ x) (h2 : x < 9223372036854775808) : x.bmod (2 ^ 64) = x := by
  simp [Int.bmod]
  omega
theorem l_rng (w : Int64) : -9223372036854775808 ≤ w.toInt ∧ w.toInt < 9223372036854775808 := by
  have h1 := Int64.le_toInt w
  have h2 := Int64.toInt_lt w
  omega
theorem l_and3 (w : Int64) : (w &&& 3) = 0 ↔ w.toInt % 4 = 0 := by
  have h1 : (w &&& 3).toBitVec.toNat = w.toBitVec.toNat % 4 := by
    rw [Int64.toBitVec_and, BitVec.toNat_and]
    exact Nat.and_two_pow_sub_one_eq_mod _ 2
  have h2 : w.toInt = w.toBitVec.toInt := rfl
  rw [h2, BitVec.toInt_eq_toNat_cond]
  have h3 : (w &&& 3) = 0 ↔ w.toBitVec.toNat % 4 = 0 := by
    rw [← h1]
    constructor
    · intro e; rw [e]; rfl
    · intro e
      apply Int64.toBitVec_inj.mp
      apply BitVec.eq_of_toNat_eq
      rw [e]; rfl
  rw [h3]
  split <;> omega
theorem l_shr2 (w : Int64) : (w >>> (((2 : Int32)).toInt64 &&& 63)).toInt = w.toInt / 4 := by
  have h : (w >>> (((2 : Int32)).toInt64 &&& 63)).toBitVec = w.toBitVec.sshiftRight 2 := by
    rw [Int64.toBitVec_shiftRight]
    rfl
  show (w >>> (((2 : Int32)).toInt64 &&& 63)).toBitVec.toInt = _
  rw [h, BitVec.toInt_sshiftRight, Int.shiftRight_eq_div_pow]
  rfl
theorem l_div4 (w : Int64) : (w / 4).toInt = if 0 ≤ w.toInt ∨ w.toInt % 4 = 0 then w.toInt / 4 else w.toInt / 4 + 1 := by
  obtain ⟨h1, h2⟩ := l_rng w
  have e : w.toInt.tdiv 4 = if 0 ≤ w.toInt ∨ w.toInt % 4 = 0 then w.toInt / 4 else w.toInt / 4 + 1 := by
    rw [Int.tdiv_eq_ediv]
    by_cases h : 0 ≤ w.toInt ∨ w.toInt % 4 = 0
    · rw [if_pos h, if_pos (h.imp id Int.dvd_of_emod_eq_zero)]; omega
    · rw [if_neg h, if_neg (by rintro (h' | h'); exact h (Or.inl h'); exact h (Or.inr (Int.emod_eq_zero_of_dvd h')))]
      rfl
  rw [Int64.toInt_div, show (4 : Int64).toInt = 4 from rfl, e]
  apply bmod64
  · split <;> omega
  · split <;> omega
theorem l_rem4 (w : Int64) : (w - w / 4 * 4) = 0 ↔ (w &&& 3) = 0 := by
  obtain ⟨h1, h2⟩ := l_rng w
  rw [l_and3, l_eq, Int64.toInt_sub, Int64.toInt_mul, l_div4, show (4 : Int64).toInt = 4 from rfl, show (0 : Int64).toInt = 0 from rfl, bmod64 (x := _ * 4) (by split <;> omega) (by split <;> omega), bmod64 (by split <;> omega) (by split <;> omega)]
  split <;> omega
theorem l_q4 {w : Int64} (h : (w &&& 3) = 0) : w / 4 = w >>> (((2 : Int32)).toInt64 &&& 63) := by
  rw [l_eq, l_shr2, l_div4, if_pos (Or.inr ((l_and3 w).mp h))]
/-! ===== what is laid ===== -/
def layL (laid : Nat → Bool) (a : Nat) : Nat → Nat → Bool
  | 0 => laid
  | n + 1 => up (layL laid a n) ((a + n) / 64) true
theorem layL_1 (laid : Nat → Bool) (a : Nat) : layL laid a 1 = up laid (a / 64) true := rfl
theorem layL_p {laid : Nat → Bool} {a : Nat} : ∀ {m : Nat}, 0 < m → a % 64 + m ≤ 64 → layL laid a m = up laid (a / 64) true := by
  intro m
  induction m with
  | zero => intro h; omega
  | succ m ih =>
    intro _ h
    show up (layL laid a m) ((a + m) / 64) true = _
    rw [show (a + m) / 64 = a / 64 by omega]
    by_cases h0 : m = 0
    · subst h0; rfl
    · rw [ih (by omega) (by omega)]
      funext q
      unfold up
      split <;> rfl
def rowM (mem : Nat → Nat) (a : Nat) (g : Nat → Nat) : Nat → Nat → Nat
  | 0 => mem
  | n + 1 => up (rowM mem a g n) (a + n) (g n)
theorem rowM_OK {mem g : Nat → Nat} {a : Nat} (h : memOK mem) (hg : ∀ i, g i < 256) : ∀ n, memOK (rowM mem a g n) := by
  intro n
  induction n with
  | zero => exact h
  | succ n ih =>
    intro j
    show up (rowM mem a g n) (a + n) (g n) j < 256
    unfold up
    split
    · exact hg n
    · exact ih j
theorem putB_1 (mem : Nat → Nat) (a : Nat) (v : Int64) : putB mem a 1 v = up mem a (bN v 1 0) := by
  rw [← putI_m, putI_s, putI_0]
  rfl
theorem bN_one : ∀ g, g < 256 → bN ((nI g).toInt64) 1 0 = g := by decide +kernel
theorem bO_iff {b : Pb} {q : Nat} : bO b q = true ↔ (∃ f, pin b f = some q) ∨ ot b q = true := by
  by_cases h : ∃ f, pin b f = some q
  · obtain ⟨f, hf⟩ := h
    rw [bO_in hf]
    simp only [true_iff]
    exact Or.inl ⟨f, hf⟩
  · rw [bO_out (fun f e => h ⟨f, e⟩)]
    exact ⟨fun x => Or.inr x, fun x => x.resolve_left h⟩
theorem bO_touch {b b' : Pb} {p f : Nat} {w : Bool} (hO : bOK b) (hT : bTouch b p w f b') (q : Nat) : bO b' q = up (bO b) p true q := by
  have key : bO b' q = true ↔ (q = p ∨ bO b q = true) := by
    rw [bO_iff, bO_iff]
    rcases hT with ⟨h1, h2, rfl⟩ | ⟨h1, ⟨h2, h3, h4⟩, rfl⟩ | ⟨h1, h2, h3, rfl⟩
    · show (∃ g, pin b g = some q) ∨ ot b q = true ↔ _
      constructor
      · exact Or.inr
      · rintro (rfl | h)
        · exact Or.inl ⟨f, h1⟩
        · exact h
    · show (∃ g, up (pin b) f (some p) g = some q) ∨ up (ot b) p false q = true ↔ _
      by_cases hq : q = p
      · subst hq
        simp only [true_or, iff_true]
        exact Or.inl ⟨f, up_s _ _ _⟩
      · rw [up_n _ _ hq]
        constructor
        · rintro (⟨g, hg⟩ | h)
          · by_cases hgf : g = f
            · rw [hgf, up_s] at hg; exact absurd (Option.some.inj hg).symm hq
            · rw [up_n _ _ hgf] at hg; exact Or.inr (Or.inl ⟨g, hg⟩)
          · exact Or.inr (Or.inr h)
        · rintro (h | ⟨g, hg⟩ | h)
          · exact absurd h hq
          · refine Or.inl ⟨g, ?_⟩
            rw [up_n _ _ (fun e => by rw [e, h3] at hg; cases hg)]
            exact hg
          · exact Or.inr h
    · obtain ⟨e1, e2, e3, e4, -⟩ := bAdv_fr 65 (bFa b)
      have e2' : pin (bAdv 65 (bFa b)) = pin b := e2
      have e4' : ot (bAdv 65 (bFa b)) = ot b := e4
      have hh : hd (bAdv 65 (bFa b)) < fr b := bAdv_hd 65 (bFa b) hO.2.2.1
      rw [← h3] at hh
      show (∃ g, up (up (pin (bAdv 65 (bFa b))) (hd (bAdv 65 (bFa b))) none) f (some p) g = some q) ∨ up (up (ot (bAdv 65 (bFa b))) ((pin (bAdv 65 (bFa b)) (hd (bAdv 65 (bFa b)))).getD 0) true) p false q = true ↔ _
      rw [e2', e4', ← h3]
      obtain ⟨z, hz⟩ : ∃ z, pin b f = some z := Option.ne_none_iff_exists'.mp (h2 f hh)
      rw [hz]
      by_cases hq : q = p
      · subst hq
        simp only [true_or, iff_true]
        exact Or.inl ⟨f, up_s _ _ _⟩
      · rw [up_n _ _ hq]
        show (∃ g, up (up (pin b) f none) f (some p) g = some q) ∨ up (ot b) z true q = true ↔ _
        constructor
        · rintro (⟨g, hg⟩ | h)
          · by_cases hgf : g = f
            · rw [hgf, up_s] at hg; exact absurd (Option.some.inj hg).symm hq
            · rw [up_n _ _ hgf, up_n _ _ hgf] at hg; exact Or.inr (Or.inl ⟨g, hg⟩)
          · by_cases hqz : q = z
            · exact Or.inr (Or.inl ⟨f, by rw [hz, hqz]⟩)
            · rw [up_n _ _ hqz] at h; exact Or.inr (Or.inr h)
        · rintro (h | ⟨g, hg⟩ | h)
          · exact absurd h hq
          · by_cases hgf : g = f
            · rw [hgf, hz] at hg
              rw [← Option.some.inj hg]
              exact Or.inr (up_s _ _ _)
            · refine Or.inl ⟨g, ?_⟩
              rw [up_n _ _ hgf, up_n _ _ hgf]
              exact hg
          · refine Or.inr ?_
            unfold up
            split
            · rfl
            · exact h
  have k2 : up (bO b) p true q = true ↔ (q = p ∨ bO b q = true) := by
    unfold up
    split
    · simp_all
    · rename_i h; simp [h]
  exact Bool.eq_iff_iff.mpr (key.trans k2.symm)
/-! ===== a file, record by record ===== -/
/-- memory, what is laid, the address -/
abbrev Ls : Type := (Nat → Nat) × (Nat → Bool) × Nat
def fixA (s : Ls) (a m : Nat) (v : Int64) : Ls := (putB s.1 a m v, layL s.2.1 a m, s.2.2)
def q4 (w : Int64) : Int64 := w >>> (((2 : Int32)).toInt64 &&& 63)
def wayOK (bits : Int32) (w : Int64) : Bool := decide ((w &&& 3) = 0 ∧ ¬ q4 w < (-(((1 : Int64)) <<< ((bits - 1).toInt64 &&& 63))) ∧ q4 w < (((1 : Int64)) <<< ((bits - 1).toInt64 &&& 63)))
/-- a record of kind r with a number: a fault and its place, or kind, the next place, number, state -/
def ldW (r k : Nat) (s : Ls) (v : Int64) : (Nat × Nat) ⊕ (Nat × Nat × Int64 × Ls) :=
  if r = 1 ∨ r = 6 then (if v < 0 ∨ 65536 < v then .inl (13, k) else .inr (r, k + 9, v, if r = 1 then (s.1, s.2.1, v.toInt.toNat) else s))
  else if isA v = true ∧ v.toInt.toNat % (if r = 3 then 8 else 4) = 0 then
    (if r = 3 then .inr (3, k + 9, v, fixA s v.toInt.toNat 8 (lN s.2.2))
    else if r = 4 then (if wayOK 16 (lN s.2.2 - v) then .inr (4, k + 9, v, fixA s (v.toInt.toNat + 2) 2 (q4 (lN s.2.2 - v))) else .inl (14, k))
    else (if wayOK 24 (lN s.2.2 - v) then .inr (r, k + 9, v, fixA s (v.toInt.toNat + 1) 3 (q4 (lN s.2.2 - v))) else .inl (14, k)))
  else .inl (13, k)
def fG (f : List Nat) (i : Nat) : Nat := f.getD i 0
def ldS (f : List Nat) (k : Nat) (s : Ls) : (Nat × Nat) ⊕ (Nat × Nat × Int64 × Ls) :=
  if f.length ≤ k then .inl (11, k)
  else if fG f k = 2 then
    (if f.length ≤ k + 1 then .inl (11, k)
    else if fG f (k + 1) = 0 then .inl (12, k)
    else if f.length < k + 2 + fG f (k + 1) then .inl (11, k)
    else if 65536 < s.2.2 + fG f (k + 1) then .inl (13, k)
    else .inr (2, k + 2 + fG f (k + 1), 0, (rowM s.1 s.2.2 (fun i => fG f (k + 2 + i)) (fG f (k + 1)), layL s.2.1 s.2.2 (fG f (k + 1)), s.2.2 + fG f (k + 1))))
  else if fG f k < 1 ∨ 6 < fG f k then .inl (12, k)
  else if f.length < k + 9 then .inl (11, k)
  else ldW (fG f k) k s (numL (fG f) (k + 1) 8)
def fOK (f : List Nat) : Prop := f.length < 1073741824 ∧ ∀ i, fG f i < 256
