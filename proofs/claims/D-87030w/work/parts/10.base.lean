set_option maxRecDepth 100000
/-! ===== running the pure functions ===== -/
theorem bd_rt {α β : Type} (v : α) (S : Sx) (f : α → Sx → Rs β) : bd (rt v S) f = f v S := rfl
theorem bd_th {α β : Type} (x : Nat) (S : Sx) (f : α → Sx → Rs β) : bd (th x S : Rs α) f = th x S := rfl
theorem ct_rt {α β : Type} (v : α) (S : Sx) (f : α → Sx → Rs β) (h : Nat → Sx → Rs β) : ct (rt v S) f h = f v S := rfl
theorem ct_th {α β : Type} (x : Nat) (S : Sx) (f : α → Sx → Rs β) (h : Nat → Sx → Rs β) : ct (th x S : Rs α) f h = h x S := rfl
theorem pt_e {β : Type} (S : Sx) (f : Sx → Rs β) : pt S f = f S := rfl
theorem vl_e {α β : Type} (v : α) (f : α → Rs β) : vl v f = f v := rfl
/-- what comes of it: Q where it returns, E where it throws -/
def Out {α : Type} (r : Rs α) (Q : α → Sx → Prop) (E : Nat → Sx → Prop) : Prop := match r with
  | none => False
  | some (.inl v, S) => Q v S
  | some (.inr x, S) => E x S
theorem out_rt {α : Type} {v : α} {S : Sx} {Q : α → Sx → Prop} {E : Nat → Sx → Prop} : Out (rt v S) Q E ↔ Q v S := Iff.rfl
theorem out_th {α : Type} {x : Nat} {S : Sx} {Q : α → Sx → Prop} {E : Nat → Sx → Prop} : Out (th x S) Q E ↔ E x S := Iff.rfl
theorem out_bd {α β : Type} {r : Rs α} {f : α → Sx → Rs β} {Q : β → Sx → Prop} {E : Nat → Sx → Prop} : Out (bd r f) Q E ↔ Out r (fun v S => Out (f v S) Q E) E := by
  cases r with
  | none => exact Iff.rfl
  | some q =>
    obtain ⟨q, S⟩ := q
    cases q <;> exact Iff.rfl
theorem out_ct {α β : Type} {r : Rs α} {f : α → Sx → Rs β} {h : Nat → Sx → Rs β} {Q : β → Sx → Prop} {E : Nat → Sx → Prop} : Out (ct r f h) Q E ↔ Out r (fun v S => Out (f v S) Q E) (fun x S => Out (h x S) Q E) := by
  cases r with
  | none => exact Iff.rfl
  | some q =>
    obtain ⟨q, S⟩ := q
    cases q <;> exact Iff.rfl
theorem Out.mono {α : Type} {r : Rs α} {Q Q' : α → Sx → Prop} {E E' : Nat → Sx → Prop} (h : Out r Q E) (hq : ∀ v S, Q v S → Q' v S) (he : ∀ x S, E x S → E' x S) : Out r Q' E' := by
  cases r with
  | none => exact h
  | some q =>
    obtain ⟨q, S⟩ := q
    cases q with
    | inl v => exact hq v S h
    | inr x => exact he x S h
theorem Out.bind {α β : Type} {r : Rs α} {f : α → Sx → Rs β} {Q : α → Sx → Prop} {E E' : Nat → Sx → Prop} {Q' : β → Sx → Prop} (h : Out r Q E) (hq : ∀ v S, Q v S → Out (f v S) Q' E') (he : ∀ x S, E x S → E' x S) : Out (bd r f) Q' E' := out_bd.mpr (h.mono hq he)
theorem Out.eq {α : Type} {r r' : Rs α} {Q : α → Sx → Prop} {E : Nat → Sx → Prop} (e : r = r') (h : Out r' Q E) : Out r Q E := e ▸ h
theorem Out.ret {α : Type} {r : Rs α} {Q : α → Sx → Prop} (h : Out r Q (fun _ _ => False)) : ∃ v S, r = rt v S ∧ Q v S := by
  cases r with
  | none => exact absurd h id
  | some q =>
    obtain ⟨q, S⟩ := q
    cases q with
    | inl v => exact ⟨v, S, rfl, h⟩
    | inr x => exact absurd h id
/-! ===== numbers ===== -/
theorem inb_nI {k N : Nat} (h : k < N) (hN : N < 2 ^ 31) : inb (nI k) N = true := decide_eq_true (nI_in h hN)
theorem ix_nI {k : Nat} (h : k < 2 ^ 31) : ix (nI k) = k := nI_clamp h
theorem lI_n {β : Type} {S : Sx} {a N k : Nat} {f : Int32 → Rs β} (h : k < N) (hN : N < 2 ^ 31) : lI S a N (nI k) f = f (gI S a k) := by
  unfold lI
  rw [if_pos (inb_nI h hN), ix_nI (by omega)]
theorem lL_n {β : Type} {S : Sx} {a N k : Nat} {f : Int64 → Rs β} (h : k < N) (hN : N < 2 ^ 31) : lL S a N (nI k) f = f (gL S a k) := by
  unfold lL
  rw [if_pos (inb_nI h hN), ix_nI (by omega)]
theorem lR_n {β : Type} {S : Sx} {a N k : Nat} {f : Option Nat → Rs β} (h : k < N) (hN : N < 2 ^ 31) : lR S a N (nI k) f = f (gR S a k) := by
  unfold lR
  rw [if_pos (inb_nI h hN), ix_nI (by omega)]
theorem sI_n {β : Type} {S : Sx} {a N k : Nat} {v : Int32} {f : Sx → Rs β} (h : k < N) (hN : N < 2 ^ 31) : sI S a N (nI k) v f = f (pI S a k v) := by
  unfold sI
  rw [if_pos (inb_nI h hN), ix_nI (by omega)]
theorem sL_n {β : Type} {S : Sx} {a N k : Nat} {v : Int64} {f : Sx → Rs β} (h : k < N) (hN : N < 2 ^ 31) : sL S a N (nI k) v f = f (pL S a k v) := by
  unfold sL
  rw [if_pos (inb_nI h hN), ix_nI (by omega)]
theorem sR_n {β : Type} {S : Sx} {a N k : Nat} {v : Option Nat} {f : Sx → Rs β} (h : k < N) (hN : N < 2 ^ 31) : sR S a N (nI k) v f = f (pR S a k v) := by
  unfold sR
  rw [if_pos (inb_nI h hN), ix_nI (by omega)]
theorem dO_s {β : Type} {S : Sx} {K a : Nat} {f : Nat → Rs β} (h : gK S a = K) : dO S K (some a) f = f a := if_pos h
theorem dOn_s {β : Type} {S : Sx} {K a : Nat} {f : Rs β} (h : gK S a = K) : dOn S K (some a) f = f := if_pos h
theorem dOn_0 {β : Type} {S : Sx} {K : Nat} {f : Rs β} : dOn S K none f = f := rfl
theorem kd_e {β : Type} {S : Sx} {K c : Nat} {r : Rs β} (h : gK S c = K) : kd S K c r = r := if_pos h
theorem tk_e {β : Type} {t : Nat} {r : Rs β} (h : t < 6) : tk t r = r := if_pos h
theorem al_e {β : Type} {S : Sx} {K N u : Nat} {f : Nat → Sx → Rs β} (h1 : gn S + 1 ≤ CAPC) (h2 : gu S + u ≤ CAPS) : al S K N u f = f (gn S) (nw S K N u) := if_pos ⟨h1, h2⟩
theorem alI_e {β : Type} {S : Sx} {m : Nat} {f : Nat → Sx → Rs β} (hm : m ≤ 134217728) (h1 : gn S + 1 ≤ CAPC) (h2 : gu S + m ≤ CAPS) : alI S (nI m) f = f (gn S) (nw S 1 m m) := by
  unfold alI
  rw [ix_nI (by omega), if_pos ⟨nI_pos (by omega), hm⟩]
  exact al_e h1 h2
theorem cpy_e {β : Type} {S : Sx} {K a b i j n : Nat} {f : Sx → Rs β} (ha : gK S a = K) (hb : gK S b = K) (hi : i < 2 ^ 31) (hj : j < 2 ^ 31) (hn : n < 2 ^ 31) (h1 : i + n ≤ gN S a) (h2 : j + n ≤ gN S b) (hab : a ≠ b) : cpy S K (some a) (nI i) (some b) (nI j) (nI n) f = f (cpI S a i b j n) := by
  unfold cpy
  rw [dO_s ha, dO_s hb, ix_nI hi, ix_nI hj, ix_nI hn, if_pos ⟨nI_pos hi, nI_pos hj, nI_pos hn, h1, h2, hab⟩]
theorem rb_0 (S : Sx) : rb 0 S = rt 0 S := rfl
theorem rb_1 (S : Sx) : rb 1 S = rt 1 S := rfl
theorem nz_0 : nz 0 = 0 := by decide
theorem nz_1 : nz 1 = 1 := by decide
/-- a truth value as an int -/
def b1 (b : Bool) : Int32 := if b then 1 else 0
theorem b1_t : b1 true = 1 := rfl
theorem b1_f : b1 false = 0 := rfl
theorem b1_0 {b : Bool} : b1 b = 0 ↔ b = false := by cases b <;> decide
theorem nz_b (b : Bool) : nz (b1 b) = b1 b := by cases b <;> decide
theorem rb_b (b : Bool) (S : Sx) : rb (b1 b) S = rt (b1 b) S := by cases b <;> rfl
/-- small integers as ints -/
def iI (x : Int) : Int32 := Int32.ofInt x
theorem iI_toInt {x : Int} (h1 : -2147483648 ≤ x) (h2 : x < 2147483648) : (iI x).toInt = x := by
  unfold iI
  rw [Int32.toInt_ofInt]
  simp [Int.bmod]
  omega
theorem iI_nI (n : Nat) : iI (n : Int) = nI n := by
  unfold iI nI
  exact Int32.ofInt_eq_ofNat
theorem i_lt {x y : Int32} : x < y ↔ x.toInt < y.toInt := Int32.lt_iff_toInt_lt
theorem i_le {x y : Int32} : x ≤ y ↔ x.toInt ≤ y.toInt := Int32.le_iff_toInt_le
theorem i_eq {x y : Int32} : x = y ↔ x.toInt = y.toInt := Int32.toInt_inj.symm
theorem l_lt {x y : Int64} : x < y ↔ x.toInt < y.toInt := Int64.lt_iff_toInt_lt
theorem l_le {x y : Int64} : x ≤ y ↔ x.toInt ≤ y.toInt := Int64.le_iff_toInt_le
theorem l_eq {x y : Int64} : x = y ↔ x.toInt = y.toInt := Int64.toInt_inj.symm
/-! ===== states that are the same ===== -/
theorem Sx_ext {S S' : Sx} (h1 : gn S = gn S') (h2 : gu S = gu S') (h3 : ∀ a, gK S a = gK S' a) (h4 : ∀ a, gN S a = gN S' a) (h5 : ∀ a b, gI S a b = gI S' a b) (h6 : ∀ a b, gL S a b = gL S' a b) (h7 : ∀ a b, gR S a b = gR S' a b) : S = S' := by
  obtain ⟨a1, a2, a3, a4, a5, a6, a7⟩ := S
  obtain ⟨c1, c2, c3, c4, c5, c6, c7⟩ := S'
  have e3 : a3 = c3 := funext h3
  have e4 : a4 = c4 := funext h4
  have e5 : a5 = c5 := funext fun a => funext fun b => h5 a b
  have e6 : a6 = c6 := funext fun a => funext fun b => h6 a b
  have e7 : a7 = c7 := funext fun a => funext fun b => h7 a b
  have e1 : a1 = c1 := h1
  have e2 : a2 = c2 := h2
  subst e1 e2 e3 e4 e5 e6 e7
  rfl
theorem pI_same {S : Sx} {c k : Nat} {v : Int32} (h : gI S c k = v) : pI S c k v = S := by
  refine Sx_ext rfl rfl (fun _ => rfl) (fun _ => rfl) (fun a b => ?_) (fun _ _ => rfl) (fun _ _ => rfl)
  rw [gI_pI]
  split
  · rename_i q; rw [q.1, q.2]; exact h.symm
  · rfl
theorem pI_pI (S : Sx) (c k : Nat) (v w : Int32) : pI (pI S c k v) c k w = pI S c k w := by
  refine Sx_ext rfl rfl (fun _ => rfl) (fun _ => rfl) (fun a b => ?_) (fun _ _ => rfl) (fun _ _ => rfl)
  rw [gI_pI, gI_pI, gI_pI]
  split <;> rfl
theorem pL_pL (S : Sx) (c k : Nat) (v w : Int64) : pL (pL S c k v) c k w = pL S c k w := by
  refine Sx_ext rfl rfl (fun _ => rfl) (fun _ => rfl) (fun _ _ => rfl) (fun a b => ?_) (fun _ _ => rfl)
  rw [gL_pL, gL_pL, gL_pL]
  split <;> rfl
theorem pL_same {S : Sx} {c k : Nat} {v : Int64} (h : gL S c k = v) : pL S c k v = S := by
  refine Sx_ext rfl rfl (fun _ => rfl) (fun _ => rfl) (fun _ _ => rfl) (fun a b => ?_) (fun _ _ => rfl)
  rw [gL_pL]
  split
  · rename_i q; rw [q.1, q.2]; exact h.symm
  · rfl
theorem pR_same {S : Sx} {c k : Nat} {v : Option Nat} (h : gR S c k = v) : pR S c k v = S := by
  refine Sx_ext rfl rfl (fun _ => rfl) (fun _ => rfl) (fun _ _ => rfl) (fun _ _ => rfl) (fun a b => ?_)
  rw [gR_pR]
  split
  · rename_i q; rw [q.1, q.2]; exact h.symm
  · rfl
theorem aI_pI (S : Sx) (c k : Nat) (f : Nat → Int32) (v : Int32) : pI (aI S c f) c k v = aI S c (fun j => if j = k then v else f j) := by
  refine Sx_ext rfl rfl (fun _ => rfl) (fun _ => rfl) (fun a b => ?_) (fun _ _ => rfl) (fun _ _ => rfl)
  rw [gI_pI, gI_aI, gI_aI]
  by_cases h : a = c <;> by_cases h2 : b = k <;> simp [h, h2]
theorem aL_pL (S : Sx) (c k : Nat) (f : Nat → Int64) (v : Int64) : pL (aL S c f) c k v = aL S c (fun j => if j = k then v else f j) := by
  refine Sx_ext rfl rfl (fun _ => rfl) (fun _ => rfl) (fun _ _ => rfl) (fun a b => ?_) (fun _ _ => rfl)
  rw [gL_pL, gL_aL, gL_aL]
  by_cases h : a = c <;> by_cases h2 : b = k <;> simp [h, h2]
theorem aI_self (S : Sx) (c : Nat) : aI S c (gI S c) = S := by
  refine Sx_ext rfl rfl (fun _ => rfl) (fun _ => rfl) (fun a b => ?_) (fun _ _ => rfl) (fun _ _ => rfl)
  rw [gI_aI]
  split
  · rename_i q; rw [q]
  · rfl
theorem aL_self (S : Sx) (c : Nat) : aL S c (gL S c) = S := by
  refine Sx_ext rfl rfl (fun _ => rfl) (fun _ => rfl) (fun _ _ => rfl) (fun a b => ?_) (fun _ _ => rfl)
  rw [gL_aL]
  split
  · rename_i q; rw [q]
  · rfl
theorem aI_aI (S : Sx) (c : Nat) (f g : Nat → Int32) : aI (aI S c f) c g = aI S c g := by
  refine Sx_ext rfl rfl (fun _ => rfl) (fun _ => rfl) (fun a b => ?_) (fun _ _ => rfl) (fun _ _ => rfl)
  rw [gI_aI, gI_aI, gI_aI]
  split <;> rfl
theorem aL_aL (S : Sx) (c : Nat) (f g : Nat → Int64) : aL (aL S c f) c g = aL S c g := by
  refine Sx_ext rfl rfl (fun _ => rfl) (fun _ => rfl) (fun _ _ => rfl) (fun a b => ?_) (fun _ _ => rfl)
  rw [gL_aL, gL_aL, gL_aL]
  split <;> rfl
