set_option maxRecDepth 100000
/-! ===== what an operation of the first kind reckons ===== -/
def fD (a b : Int64) : Int64 := if 0 ≤ (a ^^^ b) then a / b else if (a / b * b) = a then a / b else a / b - 1
def fM (a b : Int64) : Int64 := if 0 ≤ (a ^^^ b) then a - a / b * b else if (a - a / b * b) = 0 then a - a / b * b else a - a / b * b + b
theorem fD_e {a b : Int64} (S : Sx) (h : ¬ b = 0) : J7_floorDiv a b S = rt (fD a b) S := by
  unfold J7_floorDiv fD
  rw [if_neg h, vl_e]
  split
  · rfl
  · split <;> rfl
theorem fM_e {a b : Int64} (S : Sx) (h : ¬ b = 0) : J7_floorMod a b S = rt (fM a b) S := by
  unfold J7_floorMod fM
  rw [if_neg h, vl_e]
  split
  · rfl
  · split <;> rfl
noncomputable def rkV (k : Nat) (a b : Int64) (s : Nat → Int64) : Int64 :=
  if k = 2 then a * b else if k = 4 then (if b = 0 then 0 else fD a b) else if k = 6 then a + b else if k = 8 then a - b else if k = 10 then (if b ≤ a then (if a = b then 0 else 1) else -1)
  else if k = 12 then (if uN a < uN b then -1 else if a = b then 0 else 1) else if k = 14 then a * b else if k = 16 then (if uN (s 0) < uN b then (dvv (s 0) a b).2 else s 0)
  else if k = 18 then a &&& b else if k = 20 then a ||| b else if k = 22 then a ^^^ b else if k = 24 then a &&& (b ^^^ (-1))
  else if k = 26 then (if uN b < 64 then a <<< (b.toInt32.toInt64 &&& 63) else 0) else if k = 28 then (if uN b < 64 then a >>> (b.toInt32.toInt64 &&& 63) else a >>> (((63 : Int32)).toInt64 &&& 63))
  else if k = 30 then (if uN b < 64 then (a.toUInt64 >>> (b.toInt32.toInt64.toUInt64 &&& Int64.toUInt64 63)).toInt64 else 0) else if k = 32 then a - b else a + b
noncomputable def rkS (k : Nat) (a b : Int64) (s : Nat → Int64) : Nat → Int64 :=
  if k = 4 then up s 2 (if b = 0 then a else fM a b) else if k = 14 then up s 1 (mulH a b) else if k = 16 then up s 2 (if uN (s 0) < uN b then (dvv (s 0) a b).1 else a) else s
def XS (A : Sx) (s : Nat → Int64) : Prop := ∀ k, k < 4 → gL A 144 k = s k
def MS (B : Sx) (s : Nat → Int64) : Prop := ∀ k, k < 4 → gL B 172 k = s k
theorem XS.up {A : Sx} {s : Nat → Int64} {k : Nat} {v : Int64} (h : XS A s) : XS (pL A 144 k v) (up s k v) := by
  intro j hj
  rw [gL_pL]
  by_cases q : j = k
  · rw [if_pos ⟨rfl, q⟩, q, up_s]
  · rw [if_neg (by omega), up_n _ _ q]; exact h j hj
theorem MS.up {A : Sx} {s : Nat → Int64} {k : Nat} {v : Int64} (h : MS A s) : MS (pL A 172 k v) (up s k v) := by
  intro j hj
  rw [gL_pL]
  by_cases q : j = k
  · rw [if_pos ⟨rfl, q⟩, q, up_s]
  · rw [if_neg (by omega), up_n _ _ q]; exact h j hj
theorem XS.sm {P : Nat → Nat → Prop} {A A' : Sx} {s : Nat → Int64} (h : XS A s) (hs : Sm P A A') (hp : ∀ c k, P c k → c ≠ 144) : XS A' s := fun k hk => by rw [hs.L (fun x => hp _ _ x rfl)]; exact h k hk
theorem MS.sm {P : Nat → Nat → Prop} {A A' : Sx} {s : Nat → Int64} (h : MS A s) (hs : Sm P A A') (hp : ∀ c k, P c k → ¬ (c = 172 ∧ k < 4)) : MS A' s := fun k hk => by rw [hs.L (fun x => hp _ _ x ⟨rfl, hk⟩)]; exact h k hk
theorem op_even : ∀ op, op < 256 → nI op &&& (-2) = nI (op / 2 * 2) := by decide +kernel
theorem b64 (b : Int64) : uN b < 64 ↔ ¬ b < 0 ∧ b ≤ 63 := by
  have h := uN_lt b
  rw [l_lt, l_le, uN_int, show (0 : Int64).toInt = 0 from rfl, show (63 : Int64).toInt = 63 from rfl]
  split <;> omega
theorem x_moved (k : Nat) (a b : Int64) (A : Sx) : X5_moved (nI k) a b A = X5_moved_19 (nI k) a b (b1 (!decide (uN b < 64))) A := by
  unfold X5_moved
  by_cases h : uN b < 64
  · have h2 := (b64 b).mp h
    rw [if_neg h2.1, if_pos h2.2, decide_eq_true h]; rfl
  · rw [decide_eq_false h]
    by_cases h1 : b < 0
    · rw [if_pos h1]; rfl
    · rw [if_neg h1, if_neg (fun q => h ((b64 b).mpr ⟨h1, q⟩))]; rfl
def xRk (c k : Nat) : Prop := (c = 143 ∧ k < 2) ∨ (c = 144 ∧ k < 4)
def mRk (c k : Nat) : Prop := c = 172 ∧ k < 4
theorem x_reckon {A : Sx} {s : Nat → Int64} {op k : Nat} (a b : Int64) (hs : XS A s) (hop : op < 256) (hk : op / 2 * 2 = k) (hr : (2 ≤ k ∧ k ≤ 32) ∨ k = 50) : ∃ A', X5_reckon (nI op) a b A = rt (rkV k a b s) A' ∧ XS A' (rkS k a b s) ∧ Sm xRk A A' := by
  unfold X5_reckon
  rw [op_even op hop, hk]
  have hk' : k = 2 ∨ k = 4 ∨ k = 6 ∨ k = 8 ∨ k = 10 ∨ k = 12 ∨ k = 14 ∨ k = 16 ∨ k = 18 ∨ k = 20 ∨ k = 22 ∨ k = 24 ∨ k = 26 ∨ k = 28 ∨ k = 30 ∨ k = 32 ∨ k = 50 := by omega
  clear hk hr
  rcases hk' with rfl | rfl | rfl | rfl | rfl | rfl | rfl | rfl | rfl | rfl | rfl | rfl | rfl | rfl | rfl | rfl | rfl
  · rw [if_pos (by decide)]; exact ⟨A, rfl, hs, Sm.rfl' A⟩
  · rw [if_neg (by decide), if_pos (by decide)]
    unfold X5_reckon_243
    by_cases hb : b = 0
    · rw [if_pos hb, show (2 : Int32) = nI 2 from rfl, sL_n (by omega) (by omega), if_pos hb]
      refine ⟨_, congrArg (fun v => rt v _) (show (0 : Int64) = rkV 4 a b s from (if_pos hb).symm), ?_, Sm.pL (by unfold xRk; omega)⟩
      rw [show rkS 4 a b s = up s 2 a from congrArg (up s 2) (if_pos hb)]
      exact hs.up
    · rw [if_neg hb, fM_e _ hb, bd_rt, show (2 : Int32) = nI 2 from rfl, sL_n (by omega) (by omega), if_neg hb, fD_e _ hb, bd_rt]
      refine ⟨_, congrArg (fun v => rt v _) (show fD a b = rkV 4 a b s from (if_neg hb).symm), ?_, Sm.pL (by unfold xRk; omega)⟩
      rw [show rkS 4 a b s = up s 2 (fM a b) from congrArg (up s 2) (if_neg hb)]
      exact hs.up
  · rw [if_neg (by decide), if_neg (by decide), if_pos (by decide)]; exact ⟨A, rfl, hs, Sm.rfl' A⟩
  · rw [if_neg (by decide), if_neg (by decide), if_neg (by decide), if_pos (by decide)]; exact ⟨A, rfl, hs, Sm.rfl' A⟩
  · rw [if_neg (by decide), if_neg (by decide), if_neg (by decide), if_neg (by decide), if_pos (by decide)]
    unfold X5_reckon_284 X5_reckon_296 X5_compare
    refine ⟨A, ?_, hs, Sm.rfl' A⟩
    show _ = rt (if b ≤ a then (if a = b then 0 else 1) else -1) A
    by_cases h1 : b ≤ a
    · rw [if_pos h1, if_pos h1]
      by_cases h2 : a = b
      · rw [if_pos h2, if_pos h2]; rfl
      · rw [if_neg h2, if_neg h2]; rfl
    · rw [if_neg h1, if_neg h1]
      by_cases h2 : a = b
      · rw [if_pos h2]; rfl
      · rw [if_neg h2]; rfl
  · rw [if_neg (by decide), if_neg (by decide), if_neg (by decide), if_neg (by decide), if_neg (by decide), if_pos (by decide), x_below, bd_rt]
    unfold X5_reckon_319 X5_compare
    refine ⟨A, ?_, hs, Sm.rfl' A⟩
    show _ = rt (if uN a < uN b then -1 else if a = b then 0 else 1) A
    by_cases h1 : uN a < uN b
    · rw [if_pos h1, decide_eq_true h1]
      by_cases h2 : a = b
      · rw [if_pos h2]; rfl
      · rw [if_neg h2]; rfl
    · rw [if_neg h1, decide_eq_false h1]
      by_cases h2 : a = b
      · rw [if_pos h2, if_pos h2]; rfl
      · rw [if_neg h2, if_neg h2]; rfl
  · rw [if_neg (by decide), if_neg (by decide), if_neg (by decide), if_neg (by decide), if_neg (by decide), if_neg (by decide), if_pos (by decide), x_mul, bd_rt, show (1 : Int32) = nI 1 from rfl, sL_n (by omega) (by omega), gL_pL (x := 143) (y := 0), if_pos ⟨rfl, rfl⟩, gL_pL, if_neg (by omega), gL_pL, if_neg (by omega), gL_pL, if_pos ⟨rfl, rfl⟩]
    exact ⟨_, rfl, XS.up ((hs.sm (Sm.pL (P := fun c _ => c = 143) rfl) (fun c _ x => by omega)).sm (Sm.pL (P := fun c _ => c = 143) rfl) (fun c _ x => by omega)), Sm.trans (Sm.trans (Sm.pL (by unfold xRk; omega)) (Sm.pL (by unfold xRk; omega))) (Sm.pL (by unfold xRk; omega))⟩
  · rw [if_neg (by decide), if_neg (by decide), if_neg (by decide), if_neg (by decide), if_neg (by decide), if_neg (by decide), if_neg (by decide), if_pos (by decide)]
    unfold X5_divided
    rw [← nI_0, lL_n (by omega) (by omega), hs 0 (by omega), x_below, bd_rt, nI_0]
    by_cases h1 : uN (s 0) < uN b
    · rw [decide_eq_true h1, if_neg (by decide), ← nI_0, lL_n (by omega) (by omega), hs 0 (by omega), x_quo, bd_rt, show (2 : Int32) = nI 2 from rfl, sL_n (by omega) (by omega), gL_pL, if_neg (by omega), gL_pL, if_pos ⟨rfl, rfl⟩, bd_rt, gL_pL, if_neg (by omega), gL_pL, if_pos ⟨rfl, rfl⟩]
      refine ⟨_, congrArg (fun v => rt v _) (show (dvv (s 0) a b).2 = rkV 16 a b s from (if_pos h1).symm), ?_, Sm.trans (Sm.trans (Sm.pL (by unfold xRk; omega)) (Sm.pL (by unfold xRk; omega))) (Sm.pL (by unfold xRk; omega))⟩
      rw [show rkS 16 a b s = up s 2 (dvv (s 0) a b).1 from congrArg (up s 2) (if_pos h1)]
      exact XS.up ((hs.sm (Sm.pL (P := fun c _ => c = 143) rfl) (fun c _ x => by omega)).sm (Sm.pL (P := fun c _ => c = 143) rfl) (fun c _ x => by omega))
    · rw [decide_eq_false h1, if_pos (by rfl), show (2 : Int32) = nI 2 from rfl, sL_n (by omega) (by omega), ← nI_0, lL_n (by omega) (by omega), gL_pL, if_neg (by omega), hs 0 (by omega), bd_rt]
      refine ⟨_, congrArg (fun v => rt v _) (show s 0 = rkV 16 a b s from (if_neg h1).symm), ?_, Sm.pL (by unfold xRk; omega)⟩
      rw [show rkS 16 a b s = up s 2 a from congrArg (up s 2) (if_neg h1)]
      exact hs.up
  · rw [if_neg (by decide), if_neg (by decide), if_neg (by decide), if_neg (by decide), if_neg (by decide), if_neg (by decide), if_neg (by decide), if_neg (by decide), if_pos (by decide)]; exact ⟨A, rfl, hs, Sm.rfl' A⟩
  · rw [if_neg (by decide), if_neg (by decide), if_neg (by decide), if_neg (by decide), if_neg (by decide), if_neg (by decide), if_neg (by decide), if_neg (by decide), if_neg (by decide), if_pos (by decide)]; exact ⟨A, rfl, hs, Sm.rfl' A⟩
  · rw [if_neg (by decide), if_neg (by decide), if_neg (by decide), if_neg (by decide), if_neg (by decide), if_neg (by decide), if_neg (by decide), if_neg (by decide), if_neg (by decide), if_neg (by decide), if_pos (by decide)]; exact ⟨A, rfl, hs, Sm.rfl' A⟩
  · rw [if_neg (by decide), if_neg (by decide), if_neg (by decide), if_neg (by decide), if_neg (by decide), if_neg (by decide), if_neg (by decide), if_neg (by decide), if_neg (by decide), if_neg (by decide), if_neg (by decide), if_pos (by decide)]; exact ⟨A, rfl, hs, Sm.rfl' A⟩
  · rw [if_neg (by decide), if_neg (by decide), if_neg (by decide), if_neg (by decide), if_neg (by decide), if_neg (by decide), if_neg (by decide), if_neg (by decide), if_neg (by decide), if_neg (by decide), if_neg (by decide), if_neg (by decide), if_neg (by decide), if_neg (by decide), x_moved]
    unfold X5_moved_19
    refine ⟨A, ?_, hs, Sm.rfl' A⟩
    by_cases h1 : uN b < 64
    · rw [decide_eq_true h1, show rkV 26 a b s = a <<< (b.toInt32.toInt64 &&& 63) from if_pos h1]; rfl
    · rw [decide_eq_false h1, show rkV 26 a b s = 0 from if_neg h1]; rfl
  · rw [if_neg (by decide), if_neg (by decide), if_neg (by decide), if_neg (by decide), if_neg (by decide), if_neg (by decide), if_neg (by decide), if_neg (by decide), if_neg (by decide), if_neg (by decide), if_neg (by decide), if_neg (by decide), if_neg (by decide), if_neg (by decide), x_moved]
    unfold X5_moved_19
    refine ⟨A, ?_, hs, Sm.rfl' A⟩
    by_cases h1 : uN b < 64
    · rw [decide_eq_true h1, show rkV 28 a b s = a >>> (b.toInt32.toInt64 &&& 63) from if_pos h1]; rfl
    · rw [decide_eq_false h1, show rkV 28 a b s = a >>> (((63 : Int32)).toInt64 &&& 63) from if_neg h1]; rfl
  · rw [if_neg (by decide), if_neg (by decide), if_neg (by decide), if_neg (by decide), if_neg (by decide), if_neg (by decide), if_neg (by decide), if_neg (by decide), if_neg (by decide), if_neg (by decide), if_neg (by decide), if_neg (by decide), if_neg (by decide), if_neg (by decide), x_moved]
    unfold X5_moved_19
    refine ⟨A, ?_, hs, Sm.rfl' A⟩
    by_cases h1 : uN b < 64
    · rw [decide_eq_true h1, show rkV 30 a b s = (a.toUInt64 >>> (b.toInt32.toInt64.toUInt64 &&& Int64.toUInt64 63)).toInt64 from if_pos h1]; rfl
    · rw [decide_eq_false h1, show rkV 30 a b s = 0 from if_neg h1]; rfl
  · rw [if_neg (by decide), if_neg (by decide), if_neg (by decide), if_neg (by decide), if_neg (by decide), if_neg (by decide), if_neg (by decide), if_neg (by decide), if_neg (by decide), if_neg (by decide), if_neg (by decide), if_neg (by decide), if_pos (by decide)]; exact ⟨A, rfl, hs, Sm.rfl' A⟩
  · rw [if_neg (by decide), if_neg (by decide), if_neg (by decide), if_neg (by decide), if_neg (by decide), if_neg (by decide), if_neg (by decide), if_neg (by decide), if_neg (by decide), if_neg (by decide), if_neg (by decide), if_neg (by decide), if_neg (by decide), if_pos (by decide)]; exact ⟨A, rfl, hs, Sm.rfl' A⟩
theorem m_reckon {A : Sx} {s : Nat → Int64} {k : Nat} (a b : Int64) (hs : MS A s) (hr : 2 ≤ k ∧ k ≤ 32 ∧ k % 2 = 0) : ∃ A', X12_reckoned (nI k) a b A = rt (rkV k a b s) A' ∧ MS A' (rkS k a b s) ∧ Sm mRk A A' := by
  unfold X12_reckoned
  have hk' : k = 2 ∨ k = 4 ∨ k = 6 ∨ k = 8 ∨ k = 10 ∨ k = 12 ∨ k = 14 ∨ k = 16 ∨ k = 18 ∨ k = 20 ∨ k = 22 ∨ k = 24 ∨ k = 26 ∨ k = 28 ∨ k = 30 ∨ k = 32 := by omega
  clear hr
  rcases hk' with rfl | rfl | rfl | rfl | rfl | rfl | rfl | rfl | rfl | rfl | rfl | rfl | rfl | rfl | rfl | rfl
  · rw [if_pos (by decide)]; exact ⟨A, rfl, hs, Sm.rfl' A⟩
  · rw [if_neg (by decide), if_pos (by decide)]
    unfold X12_reckoned_159
    by_cases hb : b = 0
    · rw [if_pos hb, show (2 : Int32) = nI 2 from rfl, sL_n (by omega) (by omega), if_pos hb]
      refine ⟨_, congrArg (fun v => rt v _) (show (0 : Int64) = rkV 4 a b s from (if_pos hb).symm), ?_, Sm.pL (by unfold mRk; omega)⟩
      rw [show rkS 4 a b s = up s 2 a from congrArg (up s 2) (if_pos hb)]
      exact hs.up
    · rw [if_neg hb, fM_e _ hb, bd_rt, show (2 : Int32) = nI 2 from rfl, sL_n (by omega) (by omega), if_neg hb, fD_e _ hb, bd_rt]
      refine ⟨_, congrArg (fun v => rt v _) (show fD a b = rkV 4 a b s from (if_neg hb).symm), ?_, Sm.pL (by unfold mRk; omega)⟩
      rw [show rkS 4 a b s = up s 2 (fM a b) from congrArg (up s 2) (if_neg hb)]
      exact hs.up
  · rw [if_neg (by decide), if_neg (by decide), if_pos (by decide)]; exact ⟨A, rfl, hs, Sm.rfl' A⟩
  · rw [if_neg (by decide), if_neg (by decide), if_neg (by decide), if_pos (by decide)]; exact ⟨A, rfl, hs, Sm.rfl' A⟩
  · rw [if_neg (by decide), if_neg (by decide), if_neg (by decide), if_neg (by decide), if_pos (by decide)]
    refine ⟨A, ?_, hs, Sm.rfl' A⟩
    show _ = rt (if b ≤ a then (if a = b then 0 else 1) else -1) A
    by_cases h1 : b ≤ a
    · rw [if_pos h1, if_pos h1]
      by_cases h2 : a = b
      · rw [if_pos h2, if_pos h2]
      · rw [if_neg h2, if_neg h2]
    · rw [if_neg h1, if_neg h1]
  · rw [if_neg (by decide), if_neg (by decide), if_neg (by decide), if_neg (by decide), if_neg (by decide), if_pos (by decide), m_less, bd_rt]
    refine ⟨A, ?_, hs, Sm.rfl' A⟩
    show _ = rt (if uN a < uN b then -1 else if a = b then 0 else 1) A
    by_cases h1 : uN a < uN b
    · rw [if_pos h1, decide_eq_true h1]; rfl
    · rw [if_neg h1, decide_eq_false h1]
      by_cases h2 : a = b
      · rw [if_pos h2, if_pos h2]; rfl
      · rw [if_neg h2, if_neg h2]; rfl
  · rw [if_neg (by decide), if_neg (by decide), if_neg (by decide), if_neg (by decide), if_neg (by decide), if_neg (by decide), if_pos (by decide), m_upper, bd_rt, show (1 : Int32) = nI 1 from rfl, sL_n (by omega) (by omega)]
    exact ⟨_, rfl, hs.up, Sm.pL (by unfold mRk; omega)⟩
  · rw [if_neg (by decide), if_neg (by decide), if_neg (by decide), if_neg (by decide), if_neg (by decide), if_neg (by decide), if_neg (by decide), if_pos (by decide), ← nI_0, lL_n (by omega) (by omega), hs 0 (by omega), m_less, bd_rt, nI_0]
    by_cases h1 : uN (s 0) < uN b
    · rw [decide_eq_true h1, if_neg (by decide), ← nI_0, lL_n (by omega) (by omega), hs 0 (by omega), m_quo, bd_rt]
      refine ⟨_, congrArg (fun v => rt v _) (show (dvv (s 0) a b).2 = rkV 16 a b s from (if_pos h1).symm), ?_, Sm.pL (by unfold mRk; omega)⟩
      rw [show rkS 16 a b s = up s 2 (dvv (s 0) a b).1 from congrArg (up s 2) (if_pos h1)]
      exact hs.up
    · rw [decide_eq_false h1, if_pos (by rfl), show (2 : Int32) = nI 2 from rfl, sL_n (by omega) (by omega), ← nI_0, lL_n (by omega) (by omega), gL_pL, if_neg (by omega), hs 0 (by omega)]
      refine ⟨_, congrArg (fun v => rt v _) (show s 0 = rkV 16 a b s from (if_neg h1).symm), ?_, Sm.pL (by unfold mRk; omega)⟩
      rw [show rkS 16 a b s = up s 2 a from congrArg (up s 2) (if_neg h1)]
      exact hs.up
  · rw [if_neg (by decide), if_neg (by decide), if_neg (by decide), if_neg (by decide), if_neg (by decide), if_neg (by decide), if_neg (by decide), if_neg (by decide), if_pos (by decide)]; exact ⟨A, rfl, hs, Sm.rfl' A⟩
  · rw [if_neg (by decide), if_neg (by decide), if_neg (by decide), if_neg (by decide), if_neg (by decide), if_neg (by decide), if_neg (by decide), if_neg (by decide), if_neg (by decide), if_pos (by decide)]; exact ⟨A, rfl, hs, Sm.rfl' A⟩
  · rw [if_neg (by decide), if_neg (by decide), if_neg (by decide), if_neg (by decide), if_neg (by decide), if_neg (by decide), if_neg (by decide), if_neg (by decide), if_neg (by decide), if_neg (by decide), if_pos (by decide)]; exact ⟨A, rfl, hs, Sm.rfl' A⟩
  · rw [if_neg (by decide), if_neg (by decide), if_neg (by decide), if_neg (by decide), if_neg (by decide), if_neg (by decide), if_neg (by decide), if_neg (by decide), if_neg (by decide), if_neg (by decide), if_neg (by decide), if_pos (by decide)]; exact ⟨A, rfl, hs, Sm.rfl' A⟩
  · rw [if_neg (by decide), if_neg (by decide), if_neg (by decide), if_neg (by decide), if_neg (by decide), if_neg (by decide), if_neg (by decide), if_neg (by decide), if_neg (by decide), if_neg (by decide), if_neg (by decide), if_neg (by decide), if_pos (by decide), m_less, bd_rt]
    refine ⟨A, ?_, hs, Sm.rfl' A⟩
    by_cases h1 : uN b < 64
    · rw [decide_eq_true (show uN b < uN 64 from h1), show rkV 26 a b s = a <<< (b.toInt32.toInt64 &&& 63) from if_pos h1]; rfl
    · rw [decide_eq_false (show ¬ uN b < uN 64 from h1), show rkV 26 a b s = 0 from if_neg h1]; rfl
  · rw [if_neg (by decide), if_neg (by decide), if_neg (by decide), if_neg (by decide), if_neg (by decide), if_neg (by decide), if_neg (by decide), if_neg (by decide), if_neg (by decide), if_neg (by decide), if_neg (by decide), if_neg (by decide), if_neg (by decide), if_pos (by decide), m_less, bd_rt]
    refine ⟨A, ?_, hs, Sm.rfl' A⟩
    by_cases h1 : uN b < 64
    · rw [decide_eq_true (show uN b < uN 64 from h1), show rkV 28 a b s = a >>> (b.toInt32.toInt64 &&& 63) from if_pos h1]; rfl
    · rw [decide_eq_false (show ¬ uN b < uN 64 from h1), show rkV 28 a b s = a >>> (((63 : Int32)).toInt64 &&& 63) from if_neg h1]; rfl
  · rw [if_neg (by decide), if_neg (by decide), if_neg (by decide), if_neg (by decide), if_neg (by decide), if_neg (by decide), if_neg (by decide), if_neg (by decide), if_neg (by decide), if_neg (by decide), if_neg (by decide), if_neg (by decide), if_neg (by decide), if_neg (by decide), if_pos (by decide), m_less, bd_rt]
    refine ⟨A, ?_, hs, Sm.rfl' A⟩
    by_cases h1 : uN b < 64
    · rw [decide_eq_true (show uN b < uN 64 from h1), show rkV 30 a b s = (a.toUInt64 >>> (b.toInt32.toInt64.toUInt64 &&& Int64.toUInt64 63)).toInt64 from if_pos h1]; rfl
    · rw [decide_eq_false (show ¬ uN b < uN 64 from h1), show rkV 30 a b s = 0 from if_neg h1]; rfl
  · rw [if_neg (by decide), if_neg (by decide), if_neg (by decide), if_neg (by decide), if_neg (by decide), if_neg (by decide), if_neg (by decide), if_neg (by decide), if_neg (by decide), if_neg (by decide), if_neg (by decide), if_neg (by decide), if_neg (by decide), if_neg (by decide), if_neg (by decide)]; exact ⟨A, rfl, hs, Sm.rfl' A⟩
