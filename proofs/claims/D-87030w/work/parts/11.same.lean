set_option maxRecDepth 100000
/-! ===== what stays ===== -/
/-- nothing but the places P has changed; no new cells -/
def Sm (P : Nat → Nat → Prop) (S S' : Sx) : Prop := gn S' = gn S ∧ gu S' = gu S ∧ (∀ c, gK S' c = gK S c) ∧ (∀ c, gN S' c = gN S c) ∧ ∀ c k, ¬ P c k → gI S' c k = gI S c k ∧ gL S' c k = gL S c k ∧ gR S' c k = gR S c k
theorem Sm.rfl' {P : Nat → Nat → Prop} (S : Sx) : Sm P S S := ⟨rfl, rfl, fun _ => rfl, fun _ => rfl, fun _ _ _ => ⟨rfl, rfl, rfl⟩⟩
theorem Sm.trans {P : Nat → Nat → Prop} {S S' S'' : Sx} (h : Sm P S S') (h' : Sm P S' S'') : Sm P S S'' := by
  obtain ⟨a1, a2, a3, a4, a5⟩ := h
  obtain ⟨b1, b2, b3, b4, b5⟩ := h'
  refine ⟨b1.trans a1, b2.trans a2, fun c => (b3 c).trans (a3 c), fun c => (b4 c).trans (a4 c), fun c k hp => ?_⟩
  obtain ⟨x1, x2, x3⟩ := a5 c k hp
  obtain ⟨y1, y2, y3⟩ := b5 c k hp
  exact ⟨y1.trans x1, y2.trans x2, y3.trans x3⟩
theorem Sm.mono {P P' : Nat → Nat → Prop} {S S' : Sx} (h : Sm P S S') (hp : ∀ c k, P c k → P' c k) : Sm P' S S' := ⟨h.1, h.2.1, h.2.2.1, h.2.2.2.1, fun c k q => h.2.2.2.2 c k fun x => q (hp c k x)⟩
theorem Sm.pI {P : Nat → Nat → Prop} {S : Sx} {c k : Nat} {v : Int32} (hp : P c k) : Sm P S (pI S c k v) := ⟨rfl, rfl, fun _ => rfl, fun _ => rfl, fun a b q => ⟨by rw [gI_pI, if_neg (fun e => q (by rw [e.1, e.2]; exact hp))], rfl, rfl⟩⟩
theorem Sm.pL {P : Nat → Nat → Prop} {S : Sx} {c k : Nat} {v : Int64} (hp : P c k) : Sm P S (pL S c k v) := ⟨rfl, rfl, fun _ => rfl, fun _ => rfl, fun a b q => ⟨rfl, by rw [gL_pL, if_neg (fun e => q (by rw [e.1, e.2]; exact hp))], rfl⟩⟩
theorem Sm.pR {P : Nat → Nat → Prop} {S : Sx} {c k : Nat} {v : Option Nat} (hp : P c k) : Sm P S (pR S c k v) := ⟨rfl, rfl, fun _ => rfl, fun _ => rfl, fun a b q => ⟨rfl, rfl, by rw [gR_pR, if_neg (fun e => q (by rw [e.1, e.2]; exact hp))]⟩⟩
theorem Sm.aI {P : Nat → Nat → Prop} {S : Sx} {c : Nat} {f : Nat → Int32} (hp : ∀ k, ¬ P c k → f k = gI S c k) : Sm P S (aI S c f) := by
  refine ⟨rfl, rfl, fun _ => rfl, fun _ => rfl, fun a b q => ⟨?_, rfl, rfl⟩⟩
  rw [gI_aI]
  split
  · rename_i e; subst e; exact hp b q
  · rfl
theorem Sm.aL {P : Nat → Nat → Prop} {S : Sx} {c : Nat} {f : Nat → Int64} (hp : ∀ k, ¬ P c k → f k = gL S c k) : Sm P S (aL S c f) := by
  refine ⟨rfl, rfl, fun _ => rfl, fun _ => rfl, fun a b q => ⟨rfl, ?_, rfl⟩⟩
  rw [gL_aL]
  split
  · rename_i e; subst e; exact hp b q
  · rfl
theorem Sm.cpI {P : Nat → Nat → Prop} {S : Sx} {a i b j n : Nat} (hp : ∀ k, j ≤ k → k < j + n → P b k) : Sm P S (cpI S a i b j n) := by
  refine ⟨rfl, rfl, fun _ => rfl, fun _ => rfl, fun x y q => ⟨?_, rfl, rfl⟩⟩
  rw [gI_cpI, if_neg]
  rintro ⟨rfl, h1, h2⟩
  exact q (hp y h1 h2)
theorem Sm.K {P : Nat → Nat → Prop} {S S' : Sx} (h : Sm P S S') (c : Nat) : gK S' c = gK S c := h.2.2.1 c
theorem Sm.N {P : Nat → Nat → Prop} {S S' : Sx} (h : Sm P S S') (c : Nat) : gN S' c = gN S c := h.2.2.2.1 c
theorem Sm.I {P : Nat → Nat → Prop} {S S' : Sx} (h : Sm P S S') {c k : Nat} (q : ¬ P c k) : gI S' c k = gI S c k := (h.2.2.2.2 c k q).1
theorem Sm.L {P : Nat → Nat → Prop} {S S' : Sx} (h : Sm P S S') {c k : Nat} (q : ¬ P c k) : gL S' c k = gL S c k := (h.2.2.2.2 c k q).2.1
theorem Sm.R {P : Nat → Nat → Prop} {S S' : Sx} (h : Sm P S S') {c k : Nat} (q : ¬ P c k) : gR S' c k = gR S c k := (h.2.2.2.2 c k q).2.2
/-! ===== pages: the book of who would be where ===== -/
abbrev Pb : Type := Nat × (Nat → Option Nat) × (Nat → Bool) × (Nat → Bool) × (Nat → Bool) × Nat × List Nat × Int32 × Int32 × Int32 × Int32
def fr (b : Pb) : Nat := b.1
/-- the page in a frame; touched; written; on the disk; the hand; the known pages; faults, reads, writes, misses -/
def pin (b : Pb) : Nat → Option Nat := b.2.1
def tch (b : Pb) : Nat → Bool := b.2.2.1
def wrt (b : Pb) : Nat → Bool := b.2.2.2.1
def ot (b : Pb) : Nat → Bool := b.2.2.2.2.1
def hd (b : Pb) : Nat := b.2.2.2.2.2.1
def kn (b : Pb) : List Nat := b.2.2.2.2.2.2.1
def fa (b : Pb) : Int32 := b.2.2.2.2.2.2.2.1
def re (b : Pb) : Int32 := b.2.2.2.2.2.2.2.2.1
def wr (b : Pb) : Int32 := b.2.2.2.2.2.2.2.2.2.1
def mi (b : Pb) : Int32 := b.2.2.2.2.2.2.2.2.2.2
def up {α : Type} (f : Nat → α) (k : Nat) (v : α) : Nat → α := fun j => if j = k then v else f j
theorem up_s {α : Type} (f : Nat → α) (k : Nat) (v : α) : up f k v k = v := if_pos rfl
theorem up_n {α : Type} (f : Nat → α) {k j : Nat} (v : α) (h : j ≠ k) : up f k v j = f j := if_neg h
def mkPb (r : Nat) (p : Nat → Option Nat) (t w o : Nat → Bool) (h : Nat) (k : List Nat) (a b c d : Int32) : Pb := (r, p, t, w, o, h, k, a, b, c, d)
/-- the hand goes on over what was touched -/
def bAdv : Nat → Pb → Pb
  | 0, b => b
  | n + 1, b => if tch b (hd b) then bAdv n (mkPb (fr b) (pin b) (up (tch b) (hd b) false) (wrt b) (ot b) ((hd b + 1) % fr b) (kn b) (fa b) (re b) (wr b) (mi b)) else b
/-- the frame under the hand becomes free -/
def bOut (b : Pb) : Pb :=
  mkPb (fr b) (up (pin b) (hd b) none) (tch b) (wrt b) (up (ot b) ((pin b (hd b)).getD 0) true) ((hd b + 1) % fr b) ((kn b).filter (fun p => p ≠ (pin b (hd b)).getD 0)) (fa b) (re b) (wr b + b1 (wrt b (hd b))) (mi b)
/-- a page comes into a frame -/
def bIn (b : Pb) (f p : Nat) : Pb := mkPb (fr b) (up (pin b) f (some p)) (tch b) (up (wrt b) f false) (up (ot b) p false) (hd b) (kn b) (fa b) (re b + b1 (ot b p)) (wr b) (mi b)
/-- one fault more -/
def bFa (b : Pb) : Pb := mkPb (fr b) (pin b) (tch b) (wrt b) (ot b) (hd b) (kn b) (fa b + 1) (re b) (wr b) (mi b)
/-- a free frame, if there is one -/
def bFree (b : Pb) (f : Nat) : Prop := f < fr b ∧ pin b f = none ∧ ∀ i, i < f → pin b i ≠ none
/-- the frame f, in which the page p is, is touched -/
def bHit (b : Pb) (f p : Nat) (w : Bool) : Pb :=
  mkPb (fr b) (pin b) (up (tch b) f true) (if w then up (wrt b) f true else wrt b) (ot b) (hd b) (if p ∈ kn b then kn b else (if (kn b).length = 4 then (kn b).tail else kn b) ++ [p]) (fa b) (re b) (wr b) (if p ∈ kn b then mi b else mi b + 1)
/-- b' is b after page p was touched; f is its frame -/
def bTouch (b : Pb) (p : Nat) (w : Bool) (f : Nat) (b' : Pb) : Prop :=
  (pin b f = some p ∧ f < fr b ∧ b' = bHit b f p w) ∨ ((∀ i, pin b i ≠ some p) ∧ bFree b f ∧ b' = bHit (bIn (bFa b) f p) f p w) ∨
  ((∀ i, pin b i ≠ some p) ∧ (∀ i, i < fr b → pin b i ≠ none) ∧ f = hd (bAdv 65 (bFa b)) ∧ b' = bHit (bIn (bOut (bAdv 65 (bFa b))) f p) f p w)
/-- what holds of every book -/
def bOK (b : Pb) : Prop := 2 ≤ fr b ∧ fr b ≤ 64 ∧ hd b < fr b ∧ (∀ f p, pin b f = some p → f < fr b ∧ p < 1024) ∧ (∀ f g p, pin b f = some p → pin b g = some p → f = g) ∧ (kn b).Nodup ∧ (kn b).length ≤ 4 ∧ ∀ p ∈ kn b, ∃ f, pin b f = some p
theorem bTouch_ex (b : Pb) (p : Nat) (w : Bool) (h : bOK b) : ∃ f b', bTouch b p w f b' := by
  by_cases h1 : ∃ f, pin b f = some p
  · obtain ⟨f, hf⟩ := h1
    exact ⟨f, _, Or.inl ⟨hf, (h.2.2.2.1 f p hf).1, rfl⟩⟩
  · have h1' : ∀ i, pin b i ≠ some p := fun i e => h1 ⟨i, e⟩
    by_cases h2 : ∃ i, i < fr b ∧ pin b i = none
    · obtain ⟨f, ⟨hf1, hf2⟩, hmin⟩ := pk_least (fun i => i < fr b ∧ pin b i = none) h2
      exact ⟨f, _, Or.inr (Or.inl ⟨h1', ⟨hf1, hf2, fun i hi e => hmin i hi ⟨by omega, e⟩⟩, rfl⟩)⟩
    · exact ⟨_, _, Or.inr (Or.inr ⟨h1', fun i hi e => h2 ⟨i, hi, e⟩, rfl, rfl⟩)⟩
