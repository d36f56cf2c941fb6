section
set_option maxRecDepth 100000
/-! ===== the mini heap ===== -/
/-- number of cells, slots used, kind and length of a cell, ints, longs, refs (cell numbers) -/
abbrev Sx : Type := Nat × Nat × (Nat → Nat) × (Nat → Nat) × (Nat → Nat → Int32) × (Nat → Nat → Int64) × (Nat → Nat → Option Nat)
def gn (S : Sx) : Nat := S.1
def gu (S : Sx) : Nat := S.2.1
def gK (S : Sx) (c : Nat) : Nat := S.2.2.1 c
def gN (S : Sx) (c : Nat) : Nat := S.2.2.2.1 c
def gI (S : Sx) (c k : Nat) : Int32 := S.2.2.2.2.1 c k
def gL (S : Sx) (c k : Nat) : Int64 := S.2.2.2.2.2.1 c k
def gR (S : Sx) (c k : Nat) : Option Nat := S.2.2.2.2.2.2 c k
def up2 {α : Type} (f : Nat → Nat → α) (c k : Nat) (v : α) : Nat → Nat → α := fun a b => if a = c ∧ b = k then v else f a b
def pI (S : Sx) (c k : Nat) (v : Int32) : Sx := (S.1, S.2.1, S.2.2.1, S.2.2.2.1, up2 S.2.2.2.2.1 c k v, S.2.2.2.2.2.1, S.2.2.2.2.2.2)
def pL (S : Sx) (c k : Nat) (v : Int64) : Sx := (S.1, S.2.1, S.2.2.1, S.2.2.2.1, S.2.2.2.2.1, up2 S.2.2.2.2.2.1 c k v, S.2.2.2.2.2.2)
def pR (S : Sx) (c k : Nat) (v : Option Nat) : Sx := (S.1, S.2.1, S.2.2.1, S.2.2.2.1, S.2.2.2.2.1, S.2.2.2.2.2.1, up2 S.2.2.2.2.2.2 c k v)
/-- another kind for a cell -/
def pK (S : Sx) (c K : Nat) : Sx := (S.1, S.2.1, (fun a => if a = c then K else S.2.2.1 a), S.2.2.2.1, S.2.2.2.2.1, S.2.2.2.2.2.1, S.2.2.2.2.2.2)
/-- a new cell of kind K, length N, u slots -/
def nw (S : Sx) (K N u : Nat) : Sx := (S.1 + 1, S.2.1 + u, (fun a => if a = S.1 then K else S.2.2.1 a), (fun a => if a = S.1 then N else S.2.2.2.1 a), (fun a b => if a = S.1 then 0 else S.2.2.2.2.1 a b), (fun a b => if a = S.1 then 0 else S.2.2.2.2.2.1 a b), (fun a b => if a = S.1 then none else S.2.2.2.2.2.2 a b))
/-- n ints of the cell a from i on go into the cell b from j on -/
def cpI (S : Sx) (a i b j n : Nat) : Sx := (S.1, S.2.1, S.2.2.1, S.2.2.2.1, (fun c k => if c = b ∧ j ≤ k ∧ k < j + n then S.2.2.2.2.1 a (i + (k - j)) else S.2.2.2.2.1 c k), S.2.2.2.2.2.1, S.2.2.2.2.2.2)
/-! ===== results: none: stuck; inl: returned; inr: threw that cell ===== -/
abbrev Rs (α : Type) : Type := Option ((α ⊕ Nat) × Sx)
def rt {α : Type} (v : α) (S : Sx) : Rs α := some (.inl v, S)
def th {α : Type} (x : Nat) (S : Sx) : Rs α := some (.inr x, S)
def bd {α β : Type} (r : Rs α) (f : α → Sx → Rs β) : Rs β := match r with
  | none => none
  | some (.inl v, S) => f v S
  | some (.inr x, S) => some (.inr x, S)
/-- a call within a try: its handler gets what was thrown -/
def ct {α β : Type} (r : Rs α) (f : α → Sx → Rs β) (h : Nat → Sx → Rs β) : Rs β := match r with
  | none => none
  | some (.inl v, S) => f v S
  | some (.inr x, S) => h x S
def pt {β : Type} (S : Sx) (f : Sx → Rs β) : Rs β := f S
def vl {α β : Type} (v : α) (f : α → Rs β) : Rs β := f v
def inb (i : Int32) (n : Nat) : Bool := decide (¬ (i < 0 ∨ n ≤ i.toNatClampNeg))
def ix (i : Int32) : Nat := i.toNatClampNeg
/-- array loads and stores; N: the length -/
def lI {β : Type} (S : Sx) (a N : Nat) (i : Int32) (f : Int32 → Rs β) : Rs β := if inb i N then f (gI S a (ix i)) else none
def lL {β : Type} (S : Sx) (a N : Nat) (i : Int32) (f : Int64 → Rs β) : Rs β := if inb i N then f (gL S a (ix i)) else none
def lR {β : Type} (S : Sx) (a N : Nat) (i : Int32) (f : Option Nat → Rs β) : Rs β := if inb i N then f (gR S a (ix i)) else none
def sI {β : Type} (S : Sx) (a N : Nat) (i : Int32) (v : Int32) (f : Sx → Rs β) : Rs β := if inb i N then f (pI S a (ix i) v) else none
def sL {β : Type} (S : Sx) (a N : Nat) (i : Int32) (v : Int64) (f : Sx → Rs β) : Rs β := if inb i N then f (pL S a (ix i) v) else none
def sR {β : Type} (S : Sx) (a N : Nat) (i : Int32) (v : Option Nat) (f : Sx → Rs β) : Rs β := if inb i N then f (pR S a (ix i) v) else none
/-- a reference that has to be a cell of kind K -/
def dO {β : Type} (S : Sx) (K : Nat) (r : Option Nat) (f : Nat → Rs β) : Rs β := match r with
  | none => none
  | some a => if gK S a = K then f a else none
/-- .. or null -/
def dOn {β : Type} (S : Sx) (K : Nat) (r : Option Nat) (f : Rs β) : Rs β := match r with
  | none => f
  | some a => if gK S a = K then f else none
def CAPC : Nat := 601024
def CAPS : Nat := 7293034
/-- a new cell, if there is room -/
def al {β : Type} (S : Sx) (K N u : Nat) (f : Nat → Sx → Rs β) : Rs β := if gn S + 1 ≤ CAPC ∧ gu S + u ≤ CAPS then f (gn S) (nw S K N u) else none
/-- a new int array of a computed length -/
def alI {β : Type} (S : Sx) (n : Int32) (f : Nat → Sx → Rs β) : Rs β := if ¬ n < 0 ∧ ix n ≤ 134217728 then al S 1 (ix n) (ix n) f else none
/-- System.arraycopy between arrays of one kind of ints, inside both -/
def cpy {β : Type} (S : Sx) (K : Nat) (a : Option Nat) (i : Int32) (b : Option Nat) (j n : Int32) (f : Sx → Rs β) : Rs β := dO S K a fun a => dO S K b fun b => if ¬ i < 0 ∧ ¬ j < 0 ∧ ¬ n < 0 ∧ ix i + ix n ≤ gN S a ∧ ix j + ix n ≤ gN S b ∧ a ≠ b then f (cpI S a (ix i) b (ix j) (ix n)) else none
/-! ===== layout: static cells: kind, length, references ===== -/
abbrev Sta : Type := (Nat → Nat) × (Nat → Nat) × (Nat → Nat → Option Nat)
def LY (st : Sta) (S : Sx) : Prop := ∀ c, st.1 c ≠ 0 → gK S c = st.1 c ∧ (st.2.1 c ≠ 0 → gN S c = st.2.1 c) ∧ ∀ k r, st.2.2 c k = some r → gR S c k = some r
/-! ===== values ===== -/
def rv (b0 : Nat) (r : Option Nat) : Value := match r with
  | none => .null
  | some c => .ref (b0 + c)
def fv (b0 : Nat) (S : Sx) (c t k : Nat) : Value := match t with
  | 0 => .int (gI S c k)
  | 1 => .long (gL S c k)
  | _ => rv b0 (gR S c k)
def cvI (v : Int32) : Option Value := some (.int v)
def cvL (v : Int64) : Option Value := some (.long v)
def cvU (_ : Unit) : Option Value := none
def cvR (b0 : Nat) (r : Option Nat) : Option Value := some (rv b0 r)
/-- the String constants: class, entry, text -/
def pmS : List (String × Nat × String) := [("PagedMachine$Assembler", 186, "MUL DIV ADD SUB CMP CMPU MULU DIVU AND OR XOR ANDN SL SR SRU NEG . LDB LDBU LDT LDO STB STT STO LDA GO "), ("PagedMachine$Assembler", 192, "BN BZ BP BNN BNZ BNP JMP PUSHJ POP GETA SETL SETML SETMH SETH INCL INCML INCMH INCH GET PUT SWYM "), ("PagedMachine$Assembler", 194, "IS LOC BYTE TETRA OCTA "), ("PagedMachine$Assembler", 196, "TRAP "), ("PagedMachine$Assembler", 108, "Main"), ("PagedMachineModel", 414, "MUL 2 DIV 4 ADD 6 SUB 8 CMP 10 CMPU 12 MULU 14 DIVU 16 AND 18 OR 20 XOR 22 ANDN 24 SL 26 SR 28 SRU 30 NEG 32 LDB 36 LDBU 38 LDT 40 LDO 42 STB 44 STT 46 STO 48 LDA 50 GO 52 BN 60 BZ 61 BP 62 BNN 63 BNZ 64 BNP 65 JMP 66 PUSHJ 67 POP 68 GETA 69 SETL 70 SETML 71 SETMH 72 SETH 73 INCL 74 INCML 75 INCMH 76 INCH 77 GET 78 PUT 79 SWYM 80 TRAP 0 IS 100 LOC 101 BYTE 102 TETRA 103 OCTA 104 ")]
def pmSl : List Nat := [103, 97, 23, 5, 4, 382]
def pmSb : List (List Int32) := [[77, 85, 76, 32, 68, 73, 86, 32, 65, 68, 68, 32, 83, 85, 66, 32, 67, 77, 80, 32, 67, 77, 80, 85, 32, 77, 85, 76, 85, 32, 68, 73, 86, 85, 32, 65, 78, 68, 32, 79, 82, 32, 88, 79, 82, 32, 65, 78, 68, 78, 32, 83, 76, 32, 83, 82, 32, 83, 82, 85, 32, 78, 69, 71, 32, 46, 32, 76, 68, 66, 32, 76, 68, 66, 85, 32, 76, 68, 84, 32, 76, 68, 79, 32, 83, 84, 66, 32, 83, 84, 84, 32, 83, 84, 79, 32, 76, 68, 65, 32, 71, 79, 32], [66, 78, 32, 66, 90, 32, 66, 80, 32, 66, 78, 78, 32, 66, 78, 90, 32, 66, 78, 80, 32, 74, 77, 80, 32, 80, 85, 83, 72, 74, 32, 80, 79, 80, 32, 71, 69, 84, 65, 32, 83, 69, 84, 76, 32, 83, 69, 84, 77, 76, 32, 83, 69, 84, 77, 72, 32, 83, 69, 84, 72, 32, 73, 78, 67, 76, 32, 73, 78, 67, 77, 76, 32, 73, 78, 67, 77, 72, 32, 73, 78, 67, 72, 32, 71, 69, 84, 32, 80, 85, 84, 32, 83, 87, 89, 77, 32], [73, 83, 32, 76, 79, 67, 32, 66, 89, 84, 69, 32, 84, 69, 84, 82, 65, 32, 79, 67, 84, 65, 32], [84, 82, 65, 80, 32], [77, 97, 105, 110], [77, 85, 76, 32, 50, 32, 68, 73, 86, 32, 52, 32, 65, 68, 68, 32, 54, 32, 83, 85, 66, 32, 56, 32, 67, 77, 80, 32, 49, 48, 32, 67, 77, 80, 85, 32, 49, 50, 32, 77, 85, 76, 85, 32, 49, 52, 32, 68, 73, 86, 85, 32, 49, 54, 32, 65, 78, 68, 32, 49, 56, 32, 79, 82, 32, 50, 48, 32, 88, 79, 82, 32, 50, 50, 32, 65, 78, 68, 78, 32, 50, 52, 32, 83, 76, 32, 50, 54, 32, 83, 82, 32, 50, 56, 32, 83, 82, 85, 32, 51, 48, 32, 78, 69, 71, 32, 51, 50, 32, 76, 68, 66, 32, 51, 54, 32, 76, 68, 66, 85, 32, 51, 56, 32, 76, 68, 84, 32, 52, 48, 32, 76, 68, 79, 32, 52, 50, 32, 83, 84, 66, 32, 52, 52, 32, 83, 84, 84, 32, 52, 54, 32, 83, 84, 79, 32, 52, 56, 32, 76, 68, 65, 32, 53, 48, 32, 71, 79, 32, 53, 50, 32, 66, 78, 32, 54, 48, 32, 66, 90, 32, 54, 49, 32, 66, 80, 32, 54, 50, 32, 66, 78, 78, 32, 54, 51, 32, 66, 78, 90, 32, 54, 52, 32, 66, 78, 80, 32, 54, 53, 32, 74, 77, 80, 32, 54, 54, 32, 80, 85, 83, 72, 74, 32, 54, 55, 32, 80, 79, 80, 32, 54, 56, 32, 71, 69, 84, 65, 32, 54, 57, 32, 83, 69, 84, 76, 32, 55, 48, 32, 83, 69, 84, 77, 76, 32, 55, 49, 32, 83, 69, 84, 77, 72, 32, 55, 50, 32, 83, 69, 84, 72, 32, 55, 51, 32, 73, 78, 67, 76, 32, 55, 52, 32, 73, 78, 67, 77, 76, 32, 55, 53, 32, 73, 78, 67, 77, 72, 32, 55, 54, 32, 73, 78, 67, 72, 32, 55, 55, 32, 71, 69, 84, 32, 55, 56, 32, 80, 85, 84, 32, 55, 57, 32, 83, 87, 89, 77, 32, 56, 48, 32, 84, 82, 65, 80, 32, 48, 32, 73, 83, 32, 49, 48, 48, 32, 76, 79, 67, 32, 49, 48, 49, 32, 66, 89, 84, 69, 32, 49, 48, 50, 32, 84, 69, 84, 82, 65, 32, 49, 48, 51, 32, 79, 67, 84, 65, 32, 49, 48, 52, 32]]
/-! ===== more results ===== -/
/-- a cell that has to be of kind K -/
def kd {β : Type} (S : Sx) (K c : Nat) (r : Rs β) : Rs β := if gK S c = K then r else none
/-- the int as a boolean array keeps it -/
def nz (v : Int32) : Int32 := vp_nar .boolean v
/-- a boolean answer has to be 0 or 1 -/
def rb (v : Int32) (S : Sx) : Rs Int32 := if v = 0 ∨ v = 1 then rt v S else none
/-- a blank exception is made ready: its ints are 0 -/
def xs (S : Sx) (c K : Nat) : Sx := (S.1, S.2.1, (fun a => if a = c then K else S.2.2.1 a), S.2.2.2.1, (fun a b => if a = c then 0 else S.2.2.2.2.1 a b), S.2.2.2.2.2.1, S.2.2.2.2.2.2)
def xi {β : Type} (S : Sx) (i c : Nat) (f : Sx → Rs β) : Rs β := if gK S c = i + 50 + 6 then f (xs S c (i + 6)) else none
/-- a String constant has a number below 6 -/
def tk {β : Type} (t : Nat) (r : Rs β) : Rs β := if t < 6 then r else none
/-- the layout, asked -/
noncomputable def lyc {β : Type} (st : Sta) (S : Sx) (r : Rs β) : Rs β := @ite _ (LY st S) (Classical.propDecidable _) r none
/-- the fuel of every loop: at least a million, nobody knows how much -/
theorem FU_ex : ∃ n : Nat, 1000000 ≤ n := ⟨1000000, Nat.le_refl _⟩
noncomputable def FU : Nat := Classical.choose FU_ex
theorem FU_ge : 1000000 ≤ FU := Classical.choose_spec FU_ex
/-- String constants -/
def chv (t : Nat) (i : Int32) : Int32 := (pmSb.getD t []).getD (ix i) 0
def J3_charAt (t : Nat) (i : Int32) (S : Sx) : Rs Int32 := if t < 6 ∧ inb i (pmSl.getD t 0) = true then rt (chv t i) S else none
def J3_length (t : Nat) (S : Sx) : Rs Int32 := if t < 6 then rt (Int32.ofNat (pmSl.getD t 0)) S else none
/-- the static layouts -/
def st0 : Sta := (fun _ => 0, fun _ => 0, fun _ _ => none)
def lkp (l : List (Nat × Nat)) (k : Nat) : Option Nat := (l.find? (fun p => p.1 == k)).map (fun p => p.2)
def kXl : List Nat := [6, 7, 8, 5, 3, 4, 5, 9, 1, 5, 0, 0, 0, 0, 0, 0, 0, 0, 0, 0, 0, 0, 0, 0, 0, 0, 0, 0, 0, 0, 0, 0, 0, 0, 0, 0, 0, 0, 0, 0, 0, 0, 0, 0, 0, 0, 0, 0, 0, 0, 0, 0, 0, 0, 0, 0, 0, 0, 0, 0, 0, 0, 0, 0, 0, 0, 0, 0, 0, 0, 0, 0, 0, 0, 0, 0, 0, 0, 0, 0, 0, 0, 0, 0, 0, 0, 0, 0, 0, 0, 0, 0, 0, 0, 0, 0, 0, 0, 0, 0, 0, 0, 0, 0, 0, 0, 0, 0, 0, 0, 0, 0, 0, 0, 0, 0, 0, 0, 0, 0, 0, 0, 0, 0, 0, 0, 0, 0, 0, 0, 0, 0, 0, 0, 0, 0, 0, 0, 11, 12, 2, 2, 2, 13, 2, 1, 14, 0, 15, 16, 14, 0, 1, 1, 1, 2, 14, 0, 14, 0, 14, 0, 14, 0, 17, 14, 0]
def nXl : List Nat := [0, 0, 0, 64, 65536, 1024, 1024, 0, 4, 4, 0, 0, 0, 0, 0, 0, 0, 0, 0, 0, 0, 0, 0, 0, 0, 0, 0, 0, 0, 0, 0, 0, 0, 0, 0, 0, 0, 0, 0, 0, 0, 0, 0, 0, 0, 0, 0, 0, 0, 0, 0, 0, 0, 0, 0, 0, 0, 0, 0, 0, 0, 0, 0, 0, 0, 0, 0, 0, 0, 0, 0, 0, 0, 0, 0, 0, 0, 0, 0, 0, 0, 0, 0, 0, 0, 0, 0, 0, 0, 0, 0, 0, 0, 0, 0, 0, 0, 0, 0, 0, 0, 0, 0, 0, 0, 0, 0, 0, 0, 0, 0, 0, 0, 0, 0, 0, 0, 0, 0, 0, 0, 0, 0, 0, 0, 0, 0, 0, 0, 0, 0, 0, 0, 0, 0, 0, 0, 0, 0, 0, 40, 632, 32, 0, 4, 1000, 0, 0, 0, 0, 0, 0, 300, 300, 300, 300, 0, 0, 0, 0, 0, 0, 0, 0, 0, 0, 0]
def rXl : List (List (Nat × Nat)) := [[(0, 1), (1, 2), (2, 138), (3, 148), (4, 164), (5, 165)], [], [(0, 3), (3, 4), (4, 5), (5, 6), (6, 7)], [], [], [], [], [(0, 8), (1, 9)], [], [], [], [], [], [], [], [], [], [], [], [], [], [], [], [], [], [], [], [], [], [], [], [], [], [], [], [], [], [], [], [], [], [], [], [], [], [], [], [], [], [], [], [], [], [], [], [], [], [], [], [], [], [], [], [], [], [], [], [], [], [], [], [], [], [], [], [], [], [], [], [], [], [], [], [], [], [], [], [], [], [], [], [], [], [], [], [], [], [], [], [], [], [], [], [], [], [], [], [], [], [], [], [], [], [], [], [], [], [], [], [], [], [], [], [], [], [], [], [], [], [], [], [], [], [], [], [], [], [], [(0, 2), (1, 139), (2, 143), (3, 1), (4, 144), (8, 145), (10, 146)], [(0, 140), (1, 141), (2, 142)], [], [], [], [], [], [], [], [], [(0, 149), (1, 1), (9, 152), (10, 153), (11, 154), (12, 155), (13, 156), (14, 158), (15, 160), (16, 162)], [(0, 150)], [], [], [], [], [], [], [], [], [], [], [], [], [], [], [(0, 2), (1, 1)], [], []]
def stX : Sta := (fun c => kXl.getD c 0, fun c => nXl.getD c 0, fun c k => lkp (rXl.getD c []) k)
def kMl : List Nat := [0, 0, 0, 0, 0, 0, 0, 0, 0, 0, 0, 0, 0, 0, 0, 0, 0, 0, 0, 0, 0, 0, 0, 0, 0, 0, 0, 0, 0, 0, 0, 0, 0, 0, 0, 0, 0, 0, 0, 0, 0, 0, 0, 0, 0, 0, 0, 0, 0, 0, 0, 0, 0, 0, 0, 0, 0, 0, 0, 0, 0, 0, 0, 0, 0, 0, 0, 0, 0, 0, 0, 0, 0, 0, 0, 0, 0, 0, 0, 0, 0, 0, 0, 0, 0, 0, 0, 0, 0, 0, 0, 0, 0, 0, 0, 0, 0, 0, 0, 0, 0, 0, 0, 0, 0, 0, 0, 0, 0, 0, 0, 0, 0, 0, 0, 0, 0, 0, 0, 0, 0, 0, 0, 0, 0, 0, 0, 0, 0, 0, 0, 0, 0, 0, 0, 0, 0, 0, 0, 0, 0, 0, 0, 0, 0, 0, 0, 0, 0, 0, 0, 0, 0, 0, 0, 0, 0, 0, 0, 0, 0, 0, 0, 0, 0, 0, 0, 18, 1, 1, 1, 2, 2, 2, 1, 1, 4, 1, 4, 4, 1, 2, 4, 1, 1, 1, 1, 2]
def nMl : List Nat := [0, 0, 0, 0, 0, 0, 0, 0, 0, 0, 0, 0, 0, 0, 0, 0, 0, 0, 0, 0, 0, 0, 0, 0, 0, 0, 0, 0, 0, 0, 0, 0, 0, 0, 0, 0, 0, 0, 0, 0, 0, 0, 0, 0, 0, 0, 0, 0, 0, 0, 0, 0, 0, 0, 0, 0, 0, 0, 0, 0, 0, 0, 0, 0, 0, 0, 0, 0, 0, 0, 0, 0, 0, 0, 0, 0, 0, 0, 0, 0, 0, 0, 0, 0, 0, 0, 0, 0, 0, 0, 0, 0, 0, 0, 0, 0, 0, 0, 0, 0, 0, 0, 0, 0, 0, 0, 0, 0, 0, 0, 0, 0, 0, 0, 0, 0, 0, 0, 0, 0, 0, 0, 0, 0, 0, 0, 0, 0, 0, 0, 0, 0, 0, 0, 0, 0, 0, 0, 0, 0, 0, 0, 0, 0, 0, 0, 0, 0, 0, 0, 0, 0, 0, 0, 0, 0, 0, 0, 0, 0, 0, 0, 0, 0, 0, 0, 0, 0, 20000, 65536, 4000, 32, 5, 601, 1000, 1024, 1024, 64, 64, 64, 4, 16, 1024, 65536, 300, 300, 300, 300]
def rMl : List (List (Nat × Nat)) := [[], [], [], [], [], [], [], [], [], [], [], [], [], [], [], [], [], [], [], [], [], [], [], [], [], [], [], [], [], [], [], [], [], [], [], [], [], [], [], [], [], [], [], [], [], [], [], [], [], [], [], [], [], [], [], [], [], [], [], [], [], [], [], [], [], [], [], [], [], [], [], [], [], [], [], [], [], [], [], [], [], [], [], [], [], [], [], [], [], [], [], [], [], [], [], [], [], [], [], [], [], [], [], [], [], [], [], [], [], [], [], [], [], [], [], [], [], [], [], [], [], [], [], [], [], [], [], [], [], [], [], [], [], [], [], [], [], [], [], [], [], [], [], [], [], [], [], [], [], [], [], [], [], [], [], [], [], [], [], [], [], [], [], [], [], [], [], [(0, 168), (2, 169), (3, 170), (8, 171), (9, 172), (10, 173), (15, 174), (18, 175), (19, 176), (20, 177), (21, 178), (22, 179), (24, 180), (34, 181), (35, 182), (36, 183), (39, 184), (40, 185), (41, 186), (42, 187)], [], [], [], [], [], [], [], [], [], [], [], [], [], [], [], [], [], [], [], []]
def stM : Sta := (fun c => kMl.getD c 0, fun c => nMl.getD c 0, fun c k => lkp (rMl.getD c []) k)
/-! ===== getters over setters ===== -/
/-- all ints, all longs of a cell -/
def aI (S : Sx) (c : Nat) (f : Nat → Int32) : Sx := (S.1, S.2.1, S.2.2.1, S.2.2.2.1, (fun a b => if a = c then f b else S.2.2.2.2.1 a b), S.2.2.2.2.2.1, S.2.2.2.2.2.2)
def aL (S : Sx) (c : Nat) (f : Nat → Int64) : Sx := (S.1, S.2.1, S.2.2.1, S.2.2.2.1, S.2.2.2.2.1, (fun a b => if a = c then f b else S.2.2.2.2.2.1 a b), S.2.2.2.2.2.2)
theorem gn_pI (S : Sx) (c k : Nat) (v : Int32) : gn (pI S c k v) = gn S := rfl
theorem gu_pI (S : Sx) (c k : Nat) (v : Int32) : gu (pI S c k v) = gu S := rfl
theorem gK_pI (S : Sx) (c k : Nat) (v : Int32) (x : Nat) : gK (pI S c k v) x = gK S x := rfl
theorem gN_pI (S : Sx) (c k : Nat) (v : Int32) (x : Nat) : gN (pI S c k v) x = gN S x := rfl
theorem gI_pI (S : Sx) (c k : Nat) (v : Int32) (x y : Nat) : gI (pI S c k v) x y = if x = c ∧ y = k then v else gI S x y := rfl
theorem gL_pI (S : Sx) (c k : Nat) (v : Int32) (x y : Nat) : gL (pI S c k v) x y = gL S x y := rfl
theorem gR_pI (S : Sx) (c k : Nat) (v : Int32) (x y : Nat) : gR (pI S c k v) x y = gR S x y := rfl
theorem gn_pL (S : Sx) (c k : Nat) (v : Int64) : gn (pL S c k v) = gn S := rfl
theorem gu_pL (S : Sx) (c k : Nat) (v : Int64) : gu (pL S c k v) = gu S := rfl
theorem gK_pL (S : Sx) (c k : Nat) (v : Int64) (x : Nat) : gK (pL S c k v) x = gK S x := rfl
theorem gN_pL (S : Sx) (c k : Nat) (v : Int64) (x : Nat) : gN (pL S c k v) x = gN S x := rfl
theorem gI_pL (S : Sx) (c k : Nat) (v : Int64) (x y : Nat) : gI (pL S c k v) x y = gI S x y := rfl
theorem gL_pL (S : Sx) (c k : Nat) (v : Int64) (x y : Nat) : gL (pL S c k v) x y = if x = c ∧ y = k then v else gL S x y := rfl
theorem gR_pL (S : Sx) (c k : Nat) (v : Int64) (x y : Nat) : gR (pL S c k v) x y = gR S x y := rfl
theorem gn_pR (S : Sx) (c k : Nat) (v : Option Nat) : gn (pR S c k v) = gn S := rfl
theorem gu_pR (S : Sx) (c k : Nat) (v : Option Nat) : gu (pR S c k v) = gu S := rfl
theorem gK_pR (S : Sx) (c k : Nat) (v : Option Nat) (x : Nat) : gK (pR S c k v) x = gK S x := rfl
theorem gN_pR (S : Sx) (c k : Nat) (v : Option Nat) (x : Nat) : gN (pR S c k v) x = gN S x := rfl
theorem gI_pR (S : Sx) (c k : Nat) (v : Option Nat) (x y : Nat) : gI (pR S c k v) x y = gI S x y := rfl
theorem gL_pR (S : Sx) (c k : Nat) (v : Option Nat) (x y : Nat) : gL (pR S c k v) x y = gL S x y := rfl
theorem gR_pR (S : Sx) (c k : Nat) (v : Option Nat) (x y : Nat) : gR (pR S c k v) x y = if x = c ∧ y = k then v else gR S x y := rfl
theorem gn_nw (S : Sx) (K N u : Nat) : gn (nw S K N u) = gn S + 1 := rfl
theorem gu_nw (S : Sx) (K N u : Nat) : gu (nw S K N u) = gu S + u := rfl
theorem gK_nw (S : Sx) (K N u : Nat) (x : Nat) : gK (nw S K N u) x = if x = gn S then K else gK S x := rfl
theorem gN_nw (S : Sx) (K N u : Nat) (x : Nat) : gN (nw S K N u) x = if x = gn S then N else gN S x := rfl
theorem gI_nw (S : Sx) (K N u : Nat) (x y : Nat) : gI (nw S K N u) x y = if x = gn S then 0 else gI S x y := rfl
theorem gL_nw (S : Sx) (K N u : Nat) (x y : Nat) : gL (nw S K N u) x y = if x = gn S then 0 else gL S x y := rfl
theorem gR_nw (S : Sx) (K N u : Nat) (x y : Nat) : gR (nw S K N u) x y = if x = gn S then none else gR S x y := rfl
theorem gn_cpI (S : Sx) (a0 i b0 j n : Nat) : gn (cpI S a0 i b0 j n) = gn S := rfl
theorem gu_cpI (S : Sx) (a0 i b0 j n : Nat) : gu (cpI S a0 i b0 j n) = gu S := rfl
theorem gK_cpI (S : Sx) (a0 i b0 j n : Nat) (x : Nat) : gK (cpI S a0 i b0 j n) x = gK S x := rfl
theorem gN_cpI (S : Sx) (a0 i b0 j n : Nat) (x : Nat) : gN (cpI S a0 i b0 j n) x = gN S x := rfl
theorem gI_cpI (S : Sx) (a0 i b0 j n : Nat) (x y : Nat) : gI (cpI S a0 i b0 j n) x y = if x = b0 ∧ j ≤ y ∧ y < j + n then gI S a0 (i + (y - j)) else gI S x y := rfl
theorem gL_cpI (S : Sx) (a0 i b0 j n : Nat) (x y : Nat) : gL (cpI S a0 i b0 j n) x y = gL S x y := rfl
theorem gR_cpI (S : Sx) (a0 i b0 j n : Nat) (x y : Nat) : gR (cpI S a0 i b0 j n) x y = gR S x y := rfl
theorem gn_xs (S : Sx) (c K : Nat) : gn (xs S c K) = gn S := rfl
theorem gu_xs (S : Sx) (c K : Nat) : gu (xs S c K) = gu S := rfl
theorem gK_xs (S : Sx) (c K : Nat) (x : Nat) : gK (xs S c K) x = if x = c then K else gK S x := rfl
theorem gN_xs (S : Sx) (c K : Nat) (x : Nat) : gN (xs S c K) x = gN S x := rfl
theorem gI_xs (S : Sx) (c K : Nat) (x y : Nat) : gI (xs S c K) x y = if x = c then 0 else gI S x y := rfl
theorem gL_xs (S : Sx) (c K : Nat) (x y : Nat) : gL (xs S c K) x y = gL S x y := rfl
theorem gR_xs (S : Sx) (c K : Nat) (x y : Nat) : gR (xs S c K) x y = gR S x y := rfl
theorem gn_aI (S : Sx) (c : Nat) (f : Nat → Int32) : gn (aI S c f) = gn S := rfl
theorem gu_aI (S : Sx) (c : Nat) (f : Nat → Int32) : gu (aI S c f) = gu S := rfl
theorem gK_aI (S : Sx) (c : Nat) (f : Nat → Int32) (x : Nat) : gK (aI S c f) x = gK S x := rfl
theorem gN_aI (S : Sx) (c : Nat) (f : Nat → Int32) (x : Nat) : gN (aI S c f) x = gN S x := rfl
theorem gI_aI (S : Sx) (c : Nat) (f : Nat → Int32) (x y : Nat) : gI (aI S c f) x y = if x = c then f y else gI S x y := rfl
theorem gL_aI (S : Sx) (c : Nat) (f : Nat → Int32) (x y : Nat) : gL (aI S c f) x y = gL S x y := rfl
theorem gR_aI (S : Sx) (c : Nat) (f : Nat → Int32) (x y : Nat) : gR (aI S c f) x y = gR S x y := rfl
theorem gn_aL (S : Sx) (c : Nat) (f : Nat → Int64) : gn (aL S c f) = gn S := rfl
theorem gu_aL (S : Sx) (c : Nat) (f : Nat → Int64) : gu (aL S c f) = gu S := rfl
theorem gK_aL (S : Sx) (c : Nat) (f : Nat → Int64) (x : Nat) : gK (aL S c f) x = gK S x := rfl
theorem gN_aL (S : Sx) (c : Nat) (f : Nat → Int64) (x : Nat) : gN (aL S c f) x = gN S x := rfl
theorem gI_aL (S : Sx) (c : Nat) (f : Nat → Int64) (x y : Nat) : gI (aL S c f) x y = gI S x y := rfl
theorem gL_aL (S : Sx) (c : Nat) (f : Nat → Int64) (x y : Nat) : gL (aL S c f) x y = if x = c then f y else gL S x y := rfl
theorem gR_aL (S : Sx) (c : Nat) (f : Nat → Int64) (x y : Nat) : gR (aL S c f) x y = gR S x y := rfl
end
section
set_option maxRecDepth 100000
noncomputable def X1_init (c0 : Nat) (S : Sx) : Rs Unit :=
  xi S 1 c0 (fun S1 => rt () S1)
noncomputable def X3_init (c0 : Nat) (S : Sx) : Rs Unit :=
  al S 1 4 4 (fun c1 S1 => kd S1 (3 + 6) c0 (pt (pR S1 c0 0 (some c1)) (fun S2 => al S2 5 4 4 (fun c2 S3 => kd S3 (3 + 6) c0 (pt (pR S3 c0 1 (some c2)) (fun S4 => rt () S4))))))
noncomputable def X4_init (c0 : Nat) (S : Sx) : Rs Unit :=
  al S 3 64 64 (fun c1 S1 => kd S1 (4 + 6) c0 (pt (pR S1 c0 0 (some c1)) (fun S2 => kd S2 (4 + 6) c0 (pt (pI S2 c0 1 ((-1))) (fun S3 => rt () S3)))))
noncomputable def X2_init_59b (k59 : Nat → Int32 → Sx → Rs Unit) (x0 : Nat) (x1 : Int32) (S : Sx) : Rs Unit :=
  if 64 ≤ x1 then rt () S else kd S (2 + 6) x0 (al S (4 + 6) 0 4 (fun c1 S1 => bd (X4_init c1 S1) (fun _ S2 => dO S2 5 (gR S x0 0) (fun c2 => dOn S2 10 (some c1) (sR S2 c2 (gN S2 c2) x1 (some c1) (fun S3 => vl (x1 + 1) (fun v3 => k59 x0 v3 S3)))))))
noncomputable def X2_init_59 : Nat → Nat → Int32 → Sx → Rs Unit
  | 0 => fun _ _ _ => none
  | n + 1 => X2_init_59b  (X2_init_59 n)
noncomputable def X2_init (c0 : Nat) (S : Sx) : Rs Unit :=
  al S 5 64 64 (fun c1 S1 => kd S1 (2 + 6) c0 (pt (pR S1 c0 0 (some c1)) (fun S2 => kd S2 (2 + 6) c0 (pt (pI S2 c0 1 16) (fun S3 => al S3 3 65536 65536 (fun c2 S4 => kd S4 (2 + 6) c0 (pt (pR S4 c0 3 (some c2)) (fun S5 => al S5 4 1024 1024 (fun c3 S6 => kd S6 (2 + 6) c0 (pt (pR S6 c0 4 (some c3)) (fun S7 => al S7 5 1024 1024 (fun c4 S8 => kd S8 (2 + 6) c0 (pt (pR S8 c0 5 (some c4)) (fun S9 => al S9 (3 + 6) 0 3 (fun c5 S10 => bd (X3_init c5 S10) (fun _ S11 => kd S11 (2 + 6) c0 (pt (pR S11 c0 6 (some c5)) (fun S12 => X2_init_59 FU c0 0 S12))))))))))))))))))
noncomputable def X6_init (c0 : Nat) (S : Sx) : Rs Unit :=
  al S 2 40 40 (fun c1 S1 => kd S1 (6 + 6) c0 (pt (pR S1 c0 0 (some c1)) (fun S2 => al S2 2 632 632 (fun c2 S3 => kd S3 (6 + 6) c0 (pt (pR S3 c0 1 (some c2)) (fun S4 => al S4 2 32 32 (fun c3 S5 => kd S5 (6 + 6) c0 (pt (pR S5 c0 2 (some c3)) (fun S6 => rt () S6)))))))))
noncomputable def X7_init (c0 : Nat) (S : Sx) : Rs Unit :=
  rt () S
noncomputable def X8_init (c0 : Nat) (S : Sx) : Rs Unit :=
  al S 1 64 64 (fun c1 S1 => kd S1 (8 + 6) c0 (pt (pR S1 c0 0 (some c1)) (fun S2 => rt () S2)))
noncomputable def X5_init (c0 : Nat) (a1 : Option Nat) (a2 : Option Nat) (S : Sx) : Rs Unit :=
  al S (6 + 6) 0 6 (fun c1 S1 => bd (X6_init c1 S1) (fun _ S2 => kd S2 (5 + 6) c0 (pt (pR S2 c0 1 (some c1)) (fun S3 => al S3 (7 + 6) 0 2 (fun c2 S4 => bd (X7_init c2 S4) (fun _ S5 => kd S5 (5 + 6) c0 (pt (pR S5 c0 2 (some c2)) (fun S6 => al S6 2 4 4 (fun c3 S7 => kd S7 (5 + 6) c0 (pt (pR S7 c0 4 (some c3)) (fun S8 => al S8 1 1000 1000 (fun c4 S9 => kd S9 (5 + 6) c0 (pt (pR S9 c0 8 (some c4)) (fun S10 => al S10 (8 + 6) 0 2 (fun c5 S11 => bd (X8_init c5 S11) (fun _ S12 => kd S12 (5 + 6) c0 (pt (pR S12 c0 10 (some c5)) (fun S13 => kd S13 (5 + 6) c0 (pt (pR S13 c0 0 a1) (fun S14 => kd S14 (5 + 6) c0 (pt (pR S14 c0 3 a2) (fun S15 => rt () S15))))))))))))))))))))))
noncomputable def X10_init (c0 : Nat) (S : Sx) : Rs Unit :=
  al S (8 + 6) 0 2 (fun c1 S1 => bd (X8_init c1 S1) (fun _ S2 => kd S2 (10 + 6) c0 (pt (pR S2 c0 0 (some c1)) (fun S3 => rt () S3))))
noncomputable def X9_init (c0 : Nat) (a1 : Option Nat) (S : Sx) : Rs Unit :=
  al S (10 + 6) 0 3 (fun c1 S1 => bd (X10_init c1 S1) (fun _ S2 => kd S2 (9 + 6) c0 (pt (pR S2 c0 0 (some c1)) (fun S3 => al S3 1 300 300 (fun c2 S4 => kd S4 (9 + 6) c0 (pt (pR S4 c0 9 (some c2)) (fun S5 => al S5 1 300 300 (fun c3 S6 => kd S6 (9 + 6) c0 (pt (pR S6 c0 10 (some c3)) (fun S7 => al S7 1 300 300 (fun c4 S8 => kd S8 (9 + 6) c0 (pt (pR S8 c0 11 (some c4)) (fun S9 => al S9 2 300 300 (fun c5 S10 => kd S10 (9 + 6) c0 (pt (pR S10 c0 12 (some c5)) (fun S11 => al S11 (8 + 6) 0 2 (fun c6 S12 => bd (X8_init c6 S12) (fun _ S13 => kd S13 (9 + 6) c0 (pt (pR S13 c0 13 (some c6)) (fun S14 => al S14 (8 + 6) 0 2 (fun c7 S15 => bd (X8_init c7 S15) (fun _ S16 => kd S16 (9 + 6) c0 (pt (pR S16 c0 14 (some c7)) (fun S17 => al S17 (8 + 6) 0 2 (fun c8 S18 => bd (X8_init c8 S18) (fun _ S19 => kd S19 (9 + 6) c0 (pt (pR S19 c0 15 (some c8)) (fun S20 => al S20 (8 + 6) 0 2 (fun c9 S21 => bd (X8_init c9 S21) (fun _ S22 => kd S22 (9 + 6) c0 (pt (pR S22 c0 16 (some c9)) (fun S23 => kd S23 (9 + 6) c0 (pt (pR S23 c0 1 a1) (fun S24 => rt () S24))))))))))))))))))))))))))))))))))
noncomputable def X11_init (c0 : Nat) (a1 : Option Nat) (a2 : Option Nat) (S : Sx) : Rs Unit :=
  kd S (11 + 6) c0 (pt (pR S c0 0 a1) (fun S1 => kd S1 (11 + 6) c0 (pt (pR S1 c0 1 a2) (fun S2 => rt () S2))))
noncomputable def X0_init (c0 : Nat) (S : Sx) : Rs Unit :=
  al S (1 + 50 + 6) 0 8 (fun c1 S1 => bd (X1_init c1 S1) (fun _ S2 => kd S2 (0 + 6) c0 (pt (pR S2 c0 0 (some c1)) (fun S3 => al S3 (2 + 6) 0 11 (fun c2 S4 => bd (X2_init c2 S4) (fun _ S5 => kd S5 (0 + 6) c0 (pt (pR S5 c0 1 (some c2)) (fun S6 => al S6 (5 + 6) 0 12 (fun c3 S7 => kd S7 (0 + 6) c0 (kd S7 (0 + 6) c0 (bd (X5_init c3 (gR S7 c0 1) (gR S7 c0 0) S7) (fun _ S8 => kd S8 (0 + 6) c0 (pt (pR S8 c0 2 (some c3)) (fun S9 => al S9 (9 + 6) 0 22 (fun c4 S10 => kd S10 (0 + 6) c0 (bd (X9_init c4 (gR S10 c0 0) S10) (fun _ S11 => kd S11 (0 + 6) c0 (pt (pR S11 c0 3 (some c4)) (fun S12 => al S12 (11 + 6) 0 6 (fun c5 S13 => kd S13 (0 + 6) c0 (kd S13 (0 + 6) c0 (bd (X11_init c5 (gR S13 c0 1) (gR S13 c0 0) S13) (fun _ S14 => kd S14 (0 + 6) c0 (pt (pR S14 c0 4 (some c5)) (fun S15 => al S15 (8 + 6) 0 2 (fun c6 S16 => bd (X8_init c6 S16) (fun _ S17 => kd S17 (0 + 6) c0 (pt (pR S17 c0 5 (some c6)) (fun S18 => kd S18 (0 + 6) c0 (pt (pI S18 c0 8 ((-1))) (fun S19 => rt () S19)))))))))))))))))))))))))))))))
noncomputable def X12_freePages_31b (k31 : Int32 → Sx → Rs Unit) (x1 : Int32) (S : Sx) : Rs Unit :=
  if 64 ≤ x1 then pt (pI S 167 23 0) (fun S1 => pt (pI S1 167 25 0) (fun S2 => pt (pI S2 167 26 0) (fun S3 => pt (pI S3 167 27 0) (fun S4 => pt (pI S4 167 28 0) (fun S5 => pt (pI S5 167 29 0) (fun S6 => rt () S6)))))) else sI S 177 64 x1 ((-1)) (fun S1 => sI S1 178 64 x1 (nz 0) (fun S2 => sI S2 179 64 x1 (nz 0) (fun S3 => vl (x1 + 1) (fun v1 => k31 v1 S3))))
noncomputable def X12_freePages_31 : Nat → Int32 → Sx → Rs Unit
  | 0 => fun _ _ => none
  | n + 1 => X12_freePages_31b  (X12_freePages_31 n)
noncomputable def X12_freePages_2b (k2 : Int32 → Sx → Rs Unit) (x1 : Int32) (S : Sx) : Rs Unit :=
  if 1024 ≤ x1 then X12_freePages_31 FU 0 S else sI S 175 1024 x1 ((-1)) (fun S1 => sI S1 176 1024 x1 (nz 0) (fun S2 => vl (x1 + 1) (fun v1 => k2 v1 S2)))
noncomputable def X12_freePages_2 : Nat → Int32 → Sx → Rs Unit
  | 0 => fun _ _ => none
  | n + 1 => X12_freePages_2b  (X12_freePages_2 n)
noncomputable def X12_freePages (S : Sx) : Rs Unit :=
  X12_freePages_2 FU 0 S
noncomputable def X12_init (c0 : Nat) (S : Sx) : Rs Unit :=
  al S 1 20000 20000 (fun c1 S1 => kd S1 (12 + 6) c0 (pt (pR S1 c0 0 (some c1)) (fun S2 => al S2 1 65536 65536 (fun c2 S3 => kd S3 (12 + 6) c0 (pt (pR S3 c0 2 (some c2)) (fun S4 => al S4 1 4000 4000 (fun c3 S5 => kd S5 (12 + 6) c0 (pt (pR S5 c0 3 (some c3)) (fun S6 => kd S6 (12 + 6) c0 (pt (pI S6 c0 6 ((-1))) (fun S7 => al S7 2 32 32 (fun c4 S8 => kd S8 (12 + 6) c0 (pt (pR S8 c0 8 (some c4)) (fun S9 => al S9 2 5 5 (fun c5 S10 => kd S10 (12 + 6) c0 (pt (pR S10 c0 9 (some c5)) (fun S11 => al S11 2 601 601 (fun c6 S12 => kd S12 (12 + 6) c0 (pt (pR S12 c0 10 (some c6)) (fun S13 => al S13 1 1000 1000 (fun c7 S14 => kd S14 (12 + 6) c0 (pt (pR S14 c0 15 (some c7)) (fun S15 => kd S15 (12 + 6) c0 (pt (pI S15 c0 17 16) (fun S16 => al S16 1 1024 1024 (fun c8 S17 => kd S17 (12 + 6) c0 (pt (pR S17 c0 18 (some c8)) (fun S18 => al S18 4 1024 1024 (fun c9 S19 => kd S19 (12 + 6) c0 (pt (pR S19 c0 19 (some c9)) (fun S20 => al S20 1 64 64 (fun c10 S21 => kd S21 (12 + 6) c0 (pt (pR S21 c0 20 (some c10)) (fun S22 => al S22 4 64 64 (fun c11 S23 => kd S23 (12 + 6) c0 (pt (pR S23 c0 21 (some c11)) (fun S24 => al S24 4 64 64 (fun c12 S25 => kd S25 (12 + 6) c0 (pt (pR S25 c0 22 (some c12)) (fun S26 => al S26 1 4 4 (fun c13 S27 => kd S27 (12 + 6) c0 (pt (pR S27 c0 24 (some c13)) (fun S28 => al S28 2 16 16 (fun c14 S29 => kd S29 (12 + 6) c0 (pt (pR S29 c0 34 (some c14)) (fun S30 => al S30 4 1024 1024 (fun c15 S31 => kd S31 (12 + 6) c0 (pt (pR S31 c0 35 (some c15)) (fun S32 => al S32 1 65536 65536 (fun c16 S33 => kd S33 (12 + 6) c0 (pt (pR S33 c0 36 (some c16)) (fun S34 => kd S34 (12 + 6) c0 (kd S34 (12 + 6) c0 (pt (pR S34 c0 37 (gR S34 c0 2)) (fun S35 => al S35 1 300 300 (fun c17 S36 => kd S36 (12 + 6) c0 (pt (pR S36 c0 39 (some c17)) (fun S37 => al S37 1 300 300 (fun c18 S38 => kd S38 (12 + 6) c0 (pt (pR S38 c0 40 (some c18)) (fun S39 => al S39 1 300 300 (fun c19 S40 => kd S40 (12 + 6) c0 (pt (pR S40 c0 41 (some c19)) (fun S41 => al S41 2 300 300 (fun c20 S42 => kd S42 (12 + 6) c0 (pt (pR S42 c0 42 (some c20)) (fun S43 => al S43 1 64 64 (fun c21 S44 => kd S44 (12 + 6) c0 (pt (pR S44 c0 44 (some c21)) (fun S45 => al S45 1 64 64 (fun c22 S46 => kd S46 (12 + 6) c0 (pt (pR S46 c0 45 (some c22)) (fun S47 => al S47 1 64 64 (fun c23 S48 => kd S48 (12 + 6) c0 (pt (pR S48 c0 46 (some c23)) (fun S49 => al S49 1 64 64 (fun c24 S50 => kd S50 (12 + 6) c0 (pt (pR S50 c0 47 (some c24)) (fun S51 => if c0 = 167 then kd S51 (12 + 6) 167 (lyc stM S51 (bd (X12_freePages S51) (fun _ S52 => rt () S52))) else none)))))))))))))))))))))))))))))))))))))))))))))))))))))))))))))))))))))))))))))))
noncomputable def X8_add_40 (c : Nat) (x1 : Int32) (S : Sx) : Rs Int32 :=
  dO S 1 (gR S c 0) (fun c1 => sI S c1 (gN S c1) (gI S c 1) x1 (fun S1 => pt (pI S1 c 1 ((gI S1 c 1) + 1)) (fun S2 => rt ((gI S2 c 1) - 1) S2)))
noncomputable def X8_add (c : Nat) (a1 : Int32) (S : Sx) : Rs Int32 :=
  dO S 1 (gR S c 0) (fun c1 => if (gI S c 1) = (Int32.ofNat ((gN S c1))) then alI S (2 * (gI S c 1)) (fun c2 S1 => cpy S1 1 (gR S1 c 0) 0 (some c2) 0 (gI S1 c 1) (fun S2 => pt (pR S2 c 0 (some c2)) (fun S3 => X8_add_40 c a1 S3))) else X8_add_40 c a1 S)
noncomputable def X0_lay_3b (k3 : Int32 → Int32 → Sx → Rs Unit) (x1 : Int32) (x2 : Int32) (S : Sx) : Rs Unit :=
  if x2 < 0 then rt () S else bd (X8_add 165 ((x1 >>> (x2 &&& 31)) &&& 255) S) (fun v1 S1 => vl (x2 + (-8)) (fun v2 => k3 x1 v2 S1))
noncomputable def X0_lay_3 : Nat → Int32 → Int32 → Sx → Rs Unit
  | 0 => fun _ _ _ => none
  | n + 1 => X0_lay_3b  (X0_lay_3 n)
noncomputable def X0_lay (a1 : Int32) (S : Sx) : Rs Unit :=
  X0_lay_3 FU a1 24 S
noncomputable def X0_feed (a1 : Int32) (a2 : Int32) (a3 : Int32) (a4 : Int32) (a5 : Int32) (S : Sx) : Rs Int32 :=
  if ((gI S 165 1) + 20) ≤ 20000 then bd (X0_lay a1 S) (fun _ S1 => bd (X0_lay a2 S1) (fun _ S2 => bd (X0_lay a3 S2) (fun _ S3 => bd (X0_lay a4 S3) (fun _ S4 => bd (X0_lay a5 S4) (fun _ S5 => rt (gI S5 165 1) S5))))) else rt ((-1)) S
noncomputable def X12_four_3b (k3 : Int32 → Int32 → Sx → Rs Unit) (x1 : Int32) (x2 : Int32) (S : Sx) : Rs Unit :=
  if x2 < 0 then rt () S else sI S 168 20000 (gI S 167 1) ((x1 >>> (x2 &&& 31)) &&& 255) (fun S1 => pt (pI S1 167 1 ((gI S1 167 1) + 1)) (fun S2 => vl (x2 + (-8)) (fun v1 => k3 x1 v1 S2)))
noncomputable def X12_four_3 : Nat → Int32 → Int32 → Sx → Rs Unit
  | 0 => fun _ _ _ => none
  | n + 1 => X12_four_3b  (X12_four_3 n)
noncomputable def X12_four (a1 : Int32) (S : Sx) : Rs Unit :=
  X12_four_3 FU a1 24 S
noncomputable def X12_feed (a1 : Int32) (a2 : Int32) (a3 : Int32) (a4 : Int32) (a5 : Int32) (S : Sx) : Rs Int32 :=
  if ((gI S 167 1) + 20) ≤ 20000 then bd (X12_four a1 S) (fun _ S1 => bd (X12_four a2 S1) (fun _ S2 => bd (X12_four a3 S2) (fun _ S3 => bd (X12_four a4 S3) (fun _ S4 => bd (X12_four a5 S4) (fun _ S5 => rt (gI S5 167 1) S5))))) else rt ((-1)) S
noncomputable def X0_end (a1 : Int32) (S : Sx) : Rs Int32 :=
  if a1 < 0 then rt ((-1)) S else if a1 ≤ (gI S 165 1) then pt (pI S 165 1 a1) (fun S1 => rt a1 S1) else rt ((-1)) S
noncomputable def X12_end (a1 : Int32) (S : Sx) : Rs Int32 :=
  if a1 < 0 then rt ((-1)) S else if a1 ≤ (gI S 167 1) then pt (pI S 167 1 a1) (fun S1 => rt a1 S1) else rt ((-1)) S
noncomputable def X3_clear (S : Sx) : Rs Unit :=
  pt (pI S 7 2 0) (fun S1 => rt () S1)
noncomputable def X2_reset_24b (k24 : Int32 → Sx → Rs Unit) (x1 : Int32) (S : Sx) : Rs Unit :=
  if 64 ≤ x1 then bd (X3_clear S) (fun _ S1 => pt (pI S1 2 2 0) (fun S2 => pt (pI S2 2 7 0) (fun S3 => pt (pI S3 2 8 0) (fun S4 => pt (pI S4 2 9 0) (fun S5 => pt (pI S5 2 10 0) (fun S6 => rt () S6)))))) else lR S 3 64 x1 (fun v1 => dO S (4 + 6) v1 (fun c2 => pt (pI S c2 1 ((-1))) (fun S1 => vl (x1 + 1) (fun v3 => k24 v3 S1))))
noncomputable def X2_reset_24 : Nat → Int32 → Sx → Rs Unit
  | 0 => fun _ _ => none
  | n + 1 => X2_reset_24b  (X2_reset_24 n)
noncomputable def X2_reset_2b (k2 : Int32 → Sx → Rs Unit) (x1 : Int32) (S : Sx) : Rs Unit :=
  if 1024 ≤ x1 then X2_reset_24 FU 0 S else dOn S 10 none (sR S 6 1024 x1 none (fun S1 => vl (x1 + 1) (fun v1 => k2 v1 S1)))
noncomputable def X2_reset_2 : Nat → Int32 → Sx → Rs Unit
  | 0 => fun _ _ => none
  | n + 1 => X2_reset_2b  (X2_reset_2 n)
noncomputable def X2_reset (S : Sx) : Rs Unit :=
  X2_reset_2 FU 0 S
noncomputable def X2_clear_23b (k23 : Int32 → Sx → Rs Unit) (x1 : Int32) (S : Sx) : Rs Unit :=
  if 1024 ≤ x1 then bd (X2_reset S) (fun _ S1 => rt () S1) else sI S 5 1024 x1 (nz 0) (fun S1 => vl (x1 + 1) (fun v1 => k23 v1 S1))
noncomputable def X2_clear_23 : Nat → Int32 → Sx → Rs Unit
  | 0 => fun _ _ => none
  | n + 1 => X2_clear_23b  (X2_clear_23 n)
noncomputable def X2_clear_2b (k2 : Int32 → Sx → Rs Unit) (x1 : Int32) (S : Sx) : Rs Unit :=
  if 65536 ≤ x1 then X2_clear_23 FU 0 S else sI S 4 65536 x1 ((0 : Int32).toInt8.toInt32) (fun S1 => vl (x1 + 1) (fun v1 => k2 v1 S1))
noncomputable def X2_clear_2 : Nat → Int32 → Sx → Rs Unit
  | 0 => fun _ _ => none
  | n + 1 => X2_clear_2b  (X2_clear_2 n)
noncomputable def X2_clear (S : Sx) : Rs Unit :=
  X2_clear_2 FU 0 S
noncomputable def X0_frames (a1 : Int32) (S : Sx) : Rs Int32 :=
  if a1 < 2 then rt ((-1)) S else if a1 ≤ 64 then pt (pI S 2 1 a1) (fun S1 => bd (X2_clear S1) (fun _ S2 => pt (pI S2 0 6 0) (fun S3 => rt a1 S3))) else rt ((-1)) S
noncomputable def X12_frames_24b (k24 : Int32 → Int32 → Sx → Rs Int32) (x1 : Int32) (x2 : Int32) (S : Sx) : Rs Int32 :=
  if 65536 ≤ x2 then pt (pI S 167 7 0) (fun S1 => rt x1 S1) else sI S 169 65536 x2 0 (fun S1 => vl (x2 + 1) (fun v1 => k24 x1 v1 S1))
noncomputable def X12_frames_24 : Nat → Int32 → Int32 → Sx → Rs Int32
  | 0 => fun _ _ _ => none
  | n + 1 => X12_frames_24b  (X12_frames_24 n)
noncomputable def X12_frames (a1 : Int32) (S : Sx) : Rs Int32 :=
  if a1 < 2 then rt ((-1)) S else if a1 ≤ 64 then pt (pI S 167 17 a1) (fun S1 => bd (X12_freePages S1) (fun _ S2 => X12_frames_24 FU a1 0 S2)) else rt ((-1)) S
noncomputable def X10_clear (S : Sx) : Rs Unit :=
  pt (pI S 150 1 0) (fun S1 => pt (pL S1 149 1 0) (fun S2 => pt (pI S2 149 2 ((-1))) (fun S3 => rt () S3)))
noncomputable def X9_here (S : Sx) : Rs Int32 :=
  if (gI S 148 5) ≤ (gI S 148 4) then rt ((-1)) S else dO S 1 (gR S 148 2) (fun c2 => lI S c2 (gN S c2) (gI S 148 4) (fun v1 => rt v1 S))
noncomputable def X9_isGreat (a1 : Int32) (S : Sx) : Rs Int32 :=
  if a1 < 65 then rt 0 S else if 90 < a1 then rt 0 S else rt 1 S
noncomputable def X9_isLetter (a1 : Int32) (S : Sx) : Rs Int32 :=
  bd (X9_isGreat a1 S) (fun v1 S1 => if v1 = 0 then if a1 < 97 then rt 0 S1 else if 122 < a1 then rt 0 S1 else rt 1 S1 else rt 1 S1)
noncomputable def X9_isDigit (a1 : Int32) (S : Sx) : Rs Int32 :=
  if a1 < 48 then rt 0 S else if 57 < a1 then rt 0 S else rt 1 S
noncomputable def X1_of (a1 : Int32) (a2 : Int32) (S : Sx) : Rs (Option Nat) :=
  pt (pI S 1 6 a1) (fun S1 => pt (pI S1 1 7 a2) (fun S2 => rt (some 1) S2))
noncomputable def X9_wrong (a1 : Int32) (a2 : Int32) (S : Sx) : Rs (Option Nat) :=
  bd (X1_of a1 a2 S) (fun v1 S1 => rt v1 S1)
noncomputable def X9_want (a1 : Int32) (a2 : Int32) (a3 : Int32) (S : Sx) : Rs Unit :=
  if a1 = 0 then bd (X9_wrong a2 a3 S) (fun v1 S1 => dO S1 7 v1 (fun c2 => th c2 S1)) else rt () S
noncomputable def X9_known_25 (k5 : Int32 → Sx → Rs Int32) (x1 : Int32) (S : Sx) : Rs Int32 :=
  pt (pI S 148 4 ((gI S 148 4) + 1)) (fun S1 => k5 x1 S1)
noncomputable def X9_known_142 (k64 : Int32 → Int32 → Int32 → Sx → Rs Int32) (x1 : Int32) (x2 : Int32) (x3 : Int32) (x4 : Int32) (S : Sx) : Rs Int32 :=
  if x4 = 0 then vl (x3 + 1) (fun v1 => k64 x1 x2 v1 S) else rt x3 S
noncomputable def X9_known_92b (k64 : Int32 → Int32 → Int32 → Sx → Rs Int32) (k92 : Int32 → Int32 → Int32 → Int32 → Int32 → Sx → Rs Int32) (x1 : Int32) (x2 : Int32) (x3 : Int32) (x4 : Int32) (x5 : Int32) (S : Sx) : Rs Int32 :=
  if x2 ≤ x5 then X9_known_142 k64 x1 x2 x3 x4 S else if x4 = 0 then X9_known_142 k64 x1 x2 x3 x4 S else lI S 152 300 x3 (fun v1 => dO S 1 (gR S 148 2) (fun c3 => lI S c3 (gN S c3) (v1 + x5) (fun v2 => dO S 1 (gR S 148 2) (fun c5 => lI S c5 (gN S c5) (x1 + x5) (fun v4 => if v2 = v4 then vl (x5 + 1) (fun v6 => k92 x1 x2 x3 1 v6 S) else vl (x5 + 1) (fun v6 => k92 x1 x2 x3 0 v6 S))))))
noncomputable def X9_known_92 (k64 : Int32 → Int32 → Int32 → Sx → Rs Int32) : Nat → Int32 → Int32 → Int32 → Int32 → Int32 → Sx → Rs Int32
  | 0 => fun _ _ _ _ _ _ => none
  | n + 1 => X9_known_92b k64 (X9_known_92 k64 n)
noncomputable def X9_known_64b (k64 : Int32 → Int32 → Int32 → Sx → Rs Int32) (x1 : Int32) (x2 : Int32) (x3 : Int32) (S : Sx) : Rs Int32 :=
  if (gI S 148 8) ≤ x3 then rt ((-1)) S else lI S 153 300 x3 (fun v1 => if v1 = x2 then X9_known_92 k64 FU x1 x2 x3 1 0 S else X9_known_92 k64 FU x1 x2 x3 0 0 S)
noncomputable def X9_known_64 : Nat → Int32 → Int32 → Int32 → Sx → Rs Int32
  | 0 => fun _ _ _ _ => none
  | n + 1 => X9_known_64b  (X9_known_64 n)
noncomputable def X9_known_57 (x1 : Int32) (x2 : Int32) (y0 : Int32) (S : Sx) : Rs Int32 :=
  bd (X9_want y0 1 x1 S) (fun _ S1 => X9_known_64 FU x1 x2 0 S1)
noncomputable def X9_known_5b (k5 : Int32 → Sx → Rs Int32) (x1 : Int32) (S : Sx) : Rs Int32 :=
  bd (X9_here S) (fun v1 S1 => bd (X9_isLetter v1 S1) (fun v2 S2 => if v2 = 0 then bd (X9_here S2) (fun v3 S3 => bd (X9_isDigit v3 S3) (fun v4 S4 => if v4 = 0 then vl ((gI S4 148 4) - x1) (fun v5 => if 12 < v5 then X9_known_57 x1 v5 0 S4 else X9_known_57 x1 v5 1 S4) else X9_known_25 k5 x1 S4)) else X9_known_25 k5 x1 S2))
noncomputable def X9_known_5 : Nat → Int32 → Sx → Rs Int32
  | 0 => fun _ _ => none
  | n + 1 => X9_known_5b  (X9_known_5 n)
noncomputable def X9_known (S : Sx) : Rs Int32 :=
  vl (gI S 148 4) (fun v1 => X9_known_5 FU v1 S)
noncomputable def X9_label_22 (x2 : Int32) (y0 : Int32) (S : Sx) : Rs Int32 :=
  bd (X9_want y0 6 x2 S) (fun _ S1 => sI S1 152 300 (gI S1 148 8) x2 (fun S2 => sI S2 153 300 (gI S2 148 8) ((gI S2 148 4) - x2) (fun S3 => sI S3 154 300 (gI S3 148 8) 0 (fun S4 => pt (pI S4 148 8 ((gI S4 148 8) + 1)) (fun S5 => rt ((gI S5 148 8) - 1) S5)))))
noncomputable def X9_label (a1 : Int32) (a2 : Int32) (S : Sx) : Rs Int32 :=
  if a1 < 0 then if 300 ≤ (gI S 148 8) then X9_label_22 a2 0 S else X9_label_22 a2 1 S else rt a1 S
noncomputable def X9_isStop (a1 : Int32) (S : Sx) : Rs Int32 :=
  if a1 < 0 then rt 1 S else if a1 = 32 then rt 1 S else rt 0 S
noncomputable def X9_skip_0b (k0 : Sx → Rs Unit) (S : Sx) : Rs Unit :=
  bd (X9_here S) (fun v1 S1 => if v1 = 32 then pt (pI S1 148 4 ((gI S1 148 4) + 1)) (fun S2 => k0 S2) else rt () S1)
noncomputable def X9_skip_0 : Nat → Sx → Rs Unit
  | 0 => fun _ => none
  | n + 1 => X9_skip_0b  (X9_skip_0 n)
noncomputable def X9_skip (S : Sx) : Rs Unit :=
  X9_skip_0 FU S
noncomputable def X9_isWord_18b (k18 : Nat → Int32 → Int32 → Int32 → Int32 → Int32 → Sx → Rs Int32) (x1 : Nat) (x2 : Int32) (x4 : Int32) (x5 : Int32) (x6 : Int32) (x7 : Int32) (S : Sx) : Rs Int32 :=
  if x5 ≤ x7 then rb x6 S else if x6 = 0 then rb x6 S else tk x1 (bd (J3_charAt x1 (x2 + x7) S) (fun v1 S1 => dO S1 1 (gR S1 148 2) (fun c3 => lI S1 c3 (gN S1 c3) (x4 + x7) (fun v2 => if v1 = v2 then vl (x7 + 1) (fun v4 => k18 x1 x2 x4 x5 1 v4 S1) else vl (x7 + 1) (fun v4 => k18 x1 x2 x4 x5 0 v4 S1)))))
noncomputable def X9_isWord_18 : Nat → Nat → Int32 → Int32 → Int32 → Int32 → Int32 → Sx → Rs Int32
  | 0 => fun _ _ _ _ _ _ _ => none
  | n + 1 => X9_isWord_18b  (X9_isWord_18 n)
noncomputable def X9_isWord (a1 : Nat) (a2 : Int32) (a3 : Int32) (a4 : Int32) (a5 : Int32) (S : Sx) : Rs Int32 :=
  if (a3 - a2) = a5 then X9_isWord_18 FU a1 a2 a4 a5 1 0 S else X9_isWord_18 FU a1 a2 a4 a5 0 0 S
noncomputable def X9_indexIn_9b (k9 : Nat → Int32 → Int32 → Int32 → Int32 → Int32 → Sx → Rs Int32) (x1 : Nat) (x2 : Int32) (x3 : Int32) (x4 : Int32) (x5 : Int32) (x6 : Int32) (S : Sx) : Rs Int32 :=
  tk x1 (bd (J3_length x1 S) (fun v1 S1 => if v1 ≤ x6 then rt ((-1)) S1 else tk x1 (bd (J3_charAt x1 x6 S1) (fun v2 S2 => if v2 = 32 then bd (X9_isWord x1 x5 x6 x2 x3 S2) (fun v3 S3 => if v3 = 0 then vl (x4 + 1) (fun v4 => vl (x6 + 1) (fun v5 => vl (x6 + 1) (fun v6 => k9 x1 x2 x3 v4 v5 v6 S3))) else rt x4 S3) else vl (x6 + 1) (fun v3 => k9 x1 x2 x3 x4 x5 v3 S2)))))
noncomputable def X9_indexIn_9 : Nat → Nat → Int32 → Int32 → Int32 → Int32 → Int32 → Sx → Rs Int32
  | 0 => fun _ _ _ _ _ _ _ => none
  | n + 1 => X9_indexIn_9b  (X9_indexIn_9 n)
noncomputable def X9_indexIn (a1 : Nat) (a2 : Int32) (a3 : Int32) (S : Sx) : Rs Int32 :=
  X9_indexIn_9 FU a1 a2 a3 0 0 0 S
noncomputable def X9_opOf_2b (k2 : Int32 → Int32 → Int32 → Sx → Rs Int32) (x1 : Int32) (x2 : Int32) (x3 : Int32) (S : Sx) : Rs Int32 :=
  if (x1 + x2) ≤ x3 then bd (X9_indexIn 0 x1 x2 S) (fun v1 S1 => vl v1 (fun v2 => if v2 < 0 then bd (X9_indexIn 1 x1 x2 S1) (fun v3 S2 => vl v3 (fun v4 => if v4 < 0 then bd (X9_indexIn 2 x1 x2 S2) (fun v5 S3 => vl v5 (fun v6 => if v6 < 0 then bd (X9_indexIn 3 x1 x2 S3) (fun v7 S4 => if v7 = 0 then rt 0 S4 else rt ((-1)) S4) else rt (100 + v6) S3)) else rt (60 + v4) S2)) else rt (2 + (2 * v2)) S1)) else dO S 1 (gR S 148 2) (fun c2 => lI S c2 (gN S c2) x3 (fun v1 => bd (X9_isGreat v1 S) (fun v3 S1 => if v3 = 0 then rt ((-1)) S1 else vl (x3 + 1) (fun v4 => k2 x1 x2 v4 S1))))
noncomputable def X9_opOf_2 : Nat → Int32 → Int32 → Int32 → Sx → Rs Int32
  | 0 => fun _ _ _ _ => none
  | n + 1 => X9_opOf_2b  (X9_opOf_2 n)
noncomputable def X9_opOf (a1 : Int32) (a2 : Int32) (S : Sx) : Rs Int32 :=
  vl a1 (fun v1 => X9_opOf_2 FU a1 a2 v1 S)
noncomputable def X9_register_60 (k28 : Int32 → Sx → Rs Unit) (y0 : Int32) (S : Sx) : Rs Unit :=
  vl y0 (fun v1 => pt (pI S 148 4 ((gI S 148 4) + 1)) (fun S1 => k28 v1 S1))
noncomputable def X9_register_86 (x1 : Int32) (y0 : Int32) (S : Sx) : Rs Unit :=
  bd (X9_want y0 1 (gI S 148 19) S) (fun _ S1 => pt (pI S1 148 17 1) (fun S2 => pt (pL S2 148 18 x1.toInt64) (fun S3 => rt () S3)))
noncomputable def X9_register_28b (k28 : Int32 → Sx → Rs Unit) (x1 : Int32) (S : Sx) : Rs Unit :=
  bd (X9_here S) (fun v1 S1 => bd (X9_isDigit v1 S1) (fun v2 S2 => if v2 = 0 then if 31 < x1 then X9_register_86 x1 0 S2 else X9_register_86 x1 1 S2 else if x1 ≤ 31 then bd (X9_here S2) (fun v3 S3 => X9_register_60 k28 (((10 * x1) + v3) - 48) S3) else X9_register_60 k28 x1 S2))
noncomputable def X9_register_28 : Nat → Int32 → Sx → Rs Unit
  | 0 => fun _ _ => none
  | n + 1 => X9_register_28b  (X9_register_28 n)
noncomputable def X9_register (S : Sx) : Rs Unit :=
  pt (pI S 148 4 ((gI S 148 4) + 1)) (fun S1 => bd (X9_here S1) (fun v1 S2 => bd (X9_isDigit v1 S2) (fun v2 S3 => bd (X9_want v2 1 (gI S3 148 4) S3) (fun _ S4 => X9_register_28 FU 0 S4))))
noncomputable def X9_ends_26 (y0 : Int32) (S : Sx) : Rs Unit :=
  bd (X9_want y0 1 (gI S 148 4) S) (fun _ S1 => rt () S1)
noncomputable def X9_ends (S : Sx) : Rs Unit :=
  bd (X9_here S) (fun v1 S1 => bd (X9_isStop v1 S1) (fun v2 S2 => if v2 = 0 then bd (X9_here S2) (fun v3 S3 => if v3 = 44 then X9_ends_26 1 S3 else X9_ends_26 0 S3) else X9_ends_26 1 S2))
noncomputable def X9_digits_43 (k2 : Int32 → Int64 → Sx → Rs Int64) (x1 : Int32) (x2 : Int64) (x4 : Int32) (y0 : Int32) (S : Sx) : Rs Int64 :=
  bd (X9_want y0 1 x1 S) (fun _ S1 => vl ((10 * x2) + x4.toInt64) (fun v1 => pt (pI S1 148 4 ((gI S1 148 4) + 1)) (fun S2 => k2 x1 v1 S2)))
noncomputable def X9_digits_2b (k2 : Int32 → Int64 → Sx → Rs Int64) (x1 : Int32) (x2 : Int64) (S : Sx) : Rs Int64 :=
  bd (X9_here S) (fun v1 S1 => bd (X9_isDigit v1 S1) (fun v2 S2 => if v2 = 0 then rt x2 S2 else bd (X9_here S2) (fun v3 S3 => vl (v3 - 48) (fun v4 => if ((9223372036854775807 - v4.toInt64) / 10) < x2 then X9_digits_43 k2 x1 x2 v4 0 S3 else X9_digits_43 k2 x1 x2 v4 1 S3))))
noncomputable def X9_digits_2 : Nat → Int32 → Int64 → Sx → Rs Int64
  | 0 => fun _ _ _ => none
  | n + 1 => X9_digits_2b  (X9_digits_2 n)
noncomputable def X9_digits (a1 : Int32) (S : Sx) : Rs Int64 :=
  X9_digits_2 FU a1 0 S
noncomputable def X9_hexOf_36 (x0 : Int32) (S : Sx) : Rs Int32 :=
  if x0 < 65 then rt ((-1)) S else if 70 < x0 then rt ((-1)) S else rt ((x0 - 65) + 10) S
noncomputable def X9_hexOf (a1 : Int32) (S : Sx) : Rs Int32 :=
  bd (X9_isDigit a1 S) (fun v1 S1 => if v1 = 0 then if a1 < 97 then X9_hexOf_36 a1 S1 else if 102 < a1 then X9_hexOf_36 a1 S1 else rt ((a1 - 97) + 10) S1 else rt (a1 - 48) S1)
noncomputable def X9_hex_54 (k15 : Int32 → Int64 → Int32 → Sx → Rs Int64) (x1 : Int32) (x2 : Int64) (x4 : Int32) (y0 : Int32) (S : Sx) : Rs Int64 :=
  bd (X9_want y0 1 x1 S) (fun _ S1 => pt (pI S1 148 4 ((gI S1 148 4) + 1)) (fun S2 => k15 x1 x2 x4 S2))
noncomputable def X9_hex_83 (x2 : Int64) (y0 : Int32) (S : Sx) : Rs Int64 :=
  bd (X9_want y0 1 (gI S 148 4) S) (fun _ S1 => rt x2 S1)
noncomputable def X9_hex_15b (k15 : Int32 → Int64 → Int32 → Sx → Rs Int64) (x1 : Int32) (x2 : Int64) (x4 : Int32) (S : Sx) : Rs Int64 :=
  bd (X9_here S) (fun v1 S1 => bd (X9_hexOf v1 S1) (fun v2 S2 => if v2 < 0 then if x4 ≤ 0 then X9_hex_83 x2 0 S2 else X9_hex_83 x2 1 S2 else bd (X9_here S2) (fun v3 S3 => bd (X9_hexOf v3 S3) (fun v4 S4 => vl ((x2 <<< (((4 : Int32)).toInt64 &&& 63)) ||| v4.toInt64) (fun v5 => vl (x4 + 1) (fun v6 => if 16 < v6 then X9_hex_54 k15 x1 v5 v6 0 S4 else X9_hex_54 k15 x1 v5 v6 1 S4))))))
noncomputable def X9_hex_15 : Nat → Int32 → Int64 → Int32 → Sx → Rs Int64
  | 0 => fun _ _ _ _ => none
  | n + 1 => X9_hex_15b  (X9_hex_15 n)
noncomputable def X9_hex (a1 : Int32) (S : Sx) : Rs Int64 :=
  pt (pI S 148 4 ((gI S 148 4) + 1)) (fun S1 => X9_hex_15 FU a1 0 0 S1)
noncomputable def J7_min (a1 : Int32) (a2 : Int32) (S : Sx) : Rs Int32 :=
  if a2 < a1 then rt a2 S else rt a1 S
noncomputable def X9_named_66 (x1 : Int32) (x3 : Int32) (y0 : Int32) (S : Sx) : Rs Int64 :=
  bd (X9_want y0 2 x1 S) (fun _ S1 => pt (pI S1 148 17 3) (fun S2 => pt (pI S2 148 20 x3) (fun S3 => rt 0 S3)))
noncomputable def X9_named_51 (x1 : Int32) (x2 : Int32) (x3 : Int32) (x4 : Int32) (S : Sx) : Rs Int64 :=
  if x2 = 0 then X9_named_66 x1 x3 0 S else if x4 = 0 then X9_named_66 x1 x3 0 S else X9_named_66 x1 x3 1 S
noncomputable def X9_named_107 (x3 : Int32) (y0 : Int32) (S : Sx) : Rs Int64 :=
  pt (pI S 148 17 y0) (fun S1 => lL S1 155 300 x3 (fun v1 => pt (pL S1 148 18 v1) (fun S2 => rt 0 S2)))
noncomputable def X9_named_36 (x1 : Int32) (x2 : Int32) (x3 : Int32) (y0 : Int32) (S : Sx) : Rs Int64 :=
  vl y0 (fun v1 => if x3 < 0 then X9_named_51 x1 x2 x3 v1 S else lI S 154 300 x3 (fun v2 => if v2 = 0 then X9_named_51 x1 x2 x3 v1 S else lI S 154 300 x3 (fun v3 => if v3 = 3 then if x1 = (gI S 148 19) then X9_named_107 x3 1 S else X9_named_107 x3 4 S else lL S 155 300 x3 (fun v4 => rt v4 S))))
noncomputable def X9_named (a1 : Int32) (a2 : Int32) (S : Sx) : Rs Int64 :=
  bd (X9_known S) (fun v1 S1 => vl v1 (fun v2 => if a1 = (gI S1 148 19) then bd (X9_here S1) (fun v3 S2 => if v3 = 43 then X9_named_36 a1 a2 v2 0 S2 else bd (X9_here S2) (fun v4 S3 => if v4 = 45 then X9_named_36 a1 a2 v2 0 S3 else X9_named_36 a1 a2 v2 1 S3)) else X9_named_36 a1 a2 v2 0 S1))
noncomputable def X9_term_97 (x3 : Int32) (y0 : Int32) (S : Sx) : Rs Int64 :=
  bd (J7_min ((gI S 148 4) + 2) (gI S 148 5) S) (fun v1 S1 => bd (X9_want y0 1 v1 S1) (fun _ S2 => pt (pI S2 148 4 ((gI S2 148 4) + 3)) (fun S3 => dO S3 1 (gR S3 148 2) (fun c3 => lI S3 c3 (gN S3 c3) (x3 + 1) (fun v2 => rt v2.toInt64 S3)))))
noncomputable def X9_term (a1 : Int32) (S : Sx) : Rs Int64 :=
  bd (X9_here S) (fun v1 S1 => vl v1 (fun v2 => vl (gI S1 148 4) (fun v3 => bd (X9_isDigit v2 S1) (fun v4 S2 => if v4 = 0 then if v2 = 35 then bd (X9_hex v3 S2) (fun v5 S3 => rt v5 S3) else if v2 = 64 then pt (pI S2 148 4 ((gI S2 148 4) + 1)) (fun S3 => rt (gL S3 148 7) S3) else if v2 = 39 then if (gI S2 148 5) ≤ ((gI S2 148 4) + 2) then X9_term_97 v3 0 S2 else dO S2 1 (gR S2 148 2) (fun c6 => lI S2 c6 (gN S2 c6) ((gI S2 148 4) + 2) (fun v5 => if v5 = 39 then X9_term_97 v3 1 S2 else X9_term_97 v3 0 S2)) else bd (X9_isLetter v2 S2) (fun v5 S3 => bd (X9_want v5 1 (gI S3 148 4) S3) (fun _ S4 => bd (X9_named v3 a1 S4) (fun v6 S5 => rt v6 S5))) else bd (X9_digits v3 S2) (fun v5 S3 => rt v5 S3)))))
noncomputable def X9_sum_120 (k14 : Int32 → Int32 → Int32 → Sx → Rs Unit) (x1 : Int32) (x2 : Int32) (x3 : Int32) (y0 : Int32) (y1 : Int32) (S : Sx) : Rs Unit :=
  pt (pI S 148 4 (y1 + y0)) (fun S1 => k14 x1 x2 x3 S1)
noncomputable def X9_sum_105 (k14 : Int32 → Int32 → Int32 → Sx → Rs Unit) (x1 : Int32) (x3 : Int32) (y0 : Int32) (S : Sx) : Rs Unit :=
  vl y0 (fun v1 => if x3 = 0 then X9_sum_120 k14 x1 v1 x3 0 (gI S 148 4) S else X9_sum_120 k14 x1 v1 x3 1 (gI S 148 4) S)
noncomputable def X9_sum_90 (k14 : Int32 → Int32 → Int32 → Sx → Rs Unit) (x1 : Int32) (y0 : Int32) (S : Sx) : Rs Unit :=
  vl y0 (fun v1 => bd (X9_here S) (fun v2 S1 => if v2 = 45 then X9_sum_105 k14 x1 v1 ((-1)) S1 else X9_sum_105 k14 x1 v1 1 S1))
noncomputable def X9_sum_64 (k14 : Int32 → Int32 → Int32 → Sx → Rs Unit) (x1 : Int32) (y0 : Int64) (S : Sx) : Rs Unit :=
  pt (pL S 148 18 y0) (fun S1 => bd (X9_here S1) (fun v1 S2 => if v1 = 43 then X9_sum_90 k14 x1 1 S2 else bd (X9_here S2) (fun v2 S3 => if v2 = 45 then X9_sum_90 k14 x1 1 S3 else X9_sum_90 k14 x1 0 S3)))
noncomputable def X9_sum_14b (k14 : Int32 → Int32 → Int32 → Sx → Rs Unit) (x1 : Int32) (x2 : Int32) (x3 : Int32) (S : Sx) : Rs Unit :=
  if x3 = 0 then rt () S else bd (X9_term x1 S) (fun v1 S1 => vl v1 (fun v2 => if (gI S1 148 17) = 1 then rt () S1 else if (gI S1 148 17) = 3 then rt () S1 else if x2 ≤ 0 then X9_sum_64 k14 x1 ((gL S1 148 18) - v2) S1 else X9_sum_64 k14 x1 ((gL S1 148 18) + v2) S1))
noncomputable def X9_sum_14 : Nat → Int32 → Int32 → Int32 → Sx → Rs Unit
  | 0 => fun _ _ _ _ => none
  | n + 1 => X9_sum_14b  (X9_sum_14 n)
noncomputable def X9_sum (a1 : Int32) (S : Sx) : Rs Unit :=
  pt (pI S 148 17 2) (fun S1 => pt (pL S1 148 18 0) (fun S2 => X9_sum_14 FU a1 1 1 S2))
noncomputable def X9_operand_29 (S : Sx) : Rs Unit :=
  bd (X9_ends S) (fun _ S1 => if (gI S1 148 17) = 3 then bd (X9_label (gI S1 148 20) (gI S1 148 19) S1) (fun v1 S2 => pt (pI S2 148 20 v1) (fun S3 => rt () S3)) else rt () S1)
noncomputable def X9_operand (a1 : Int32) (S : Sx) : Rs Unit :=
  pt (pI S 148 19 (gI S 148 4)) (fun S1 => bd (X9_here S1) (fun v1 S2 => if v1 = 36 then bd (X9_register S2) (fun _ S3 => X9_operand_29 S3) else bd (X9_sum a1 S2) (fun _ S3 => X9_operand_29 S3)))
noncomputable def X9_isMore (S : Sx) : Rs Int32 :=
  bd (X9_here S) (fun v1 S1 => if v1 = 44 then pt (pI S1 148 4 ((gI S1 148 4) + 1)) (fun S2 => rt 1 S2) else bd (X9_here S1) (fun v2 S2 => bd (X9_isStop v2 S2) (fun v3 S3 => bd (X9_want v3 1 (gI S3 148 4) S3) (fun _ S4 => rt 0 S4))))
noncomputable def X9_last (S : Sx) : Rs Unit :=
  bd (X9_isMore S) (fun v1 S1 => if v1 = 0 then rt () S1 else bd (X9_wrong 3 (gI S1 148 4) S1) (fun v2 S2 => dO S2 7 v2 (fun c3 => th c3 S2)))
noncomputable def X8_at (c : Nat) (a1 : Int32) (S : Sx) : Rs Int32 :=
  dO S 1 (gR S c 0) (fun c2 => lI S c2 (gN S c2) a1 (fun v1 => rt v1 S))
noncomputable def X9_offset_83 (x6 : Int32) (x7 : Int64) (y0 : Int32) (S : Sx) : Rs Int32 :=
  bd (X9_want y0 4 x6 S) (fun _ S1 => rt ((x7 / 4).toInt32) S1)
noncomputable def X9_offset_45 (x6 : Int32) (x7 : Int64) (x9 : Int64) (y0 : Int32) (S : Sx) : Rs Int32 :=
  vl y0 (fun v1 => if v1 = 0 then X9_offset_83 x6 x7 0 S else if (x7 / 4) < (-x9) then X9_offset_83 x6 x7 0 S else if x9 ≤ (x7 / 4) then X9_offset_83 x6 x7 0 S else X9_offset_83 x6 x7 1 S)
noncomputable def X9_offset (a1 : Int64) (a2 : Int64) (a3 : Int32) (a4 : Int32) (S : Sx) : Rs Int32 :=
  vl (a1 - a2) (fun v1 => vl (((1 : Int64)) <<< ((a3 - 1).toInt64 &&& 63)) (fun v2 => if a1 < ((-1099511627776)) then X9_offset_45 a4 v1 v2 0 S else if 1099511627776 < a1 then X9_offset_45 a4 v1 v2 0 S else if (v1 - v1 / 4 * 4) = 0 then X9_offset_45 a4 v1 v2 1 S else X9_offset_45 a4 v1 v2 0 S))
noncomputable def X10_record_13b (k13 : Int64 → Int32 → Sx → Rs Unit) (x2 : Int64) (x4 : Int32) (S : Sx) : Rs Unit :=
  if x4 < 0 then pt (pI S 149 2 ((-1))) (fun S1 => rt () S1) else bd (X8_add 150 (((x2 >>> (x4.toInt64 &&& 63)) &&& 255).toInt32) S) (fun v1 S1 => vl (x4 + (-8)) (fun v2 => k13 x2 v2 S1))
noncomputable def X10_record_13 : Nat → Int64 → Int32 → Sx → Rs Unit
  | 0 => fun _ _ _ => none
  | n + 1 => X10_record_13b  (X10_record_13 n)
noncomputable def X10_record (a1 : Int32) (a2 : Int64) (S : Sx) : Rs Unit :=
  bd (X8_add 150 a1 S) (fun v1 S1 => X10_record_13 FU a2 56 S1)
noncomputable def X10_goTo (a1 : Int64) (S : Sx) : Rs Unit :=
  if (gL S 149 1) = a1 then rt () S else bd (X10_record 1 a1 S) (fun _ S1 => pt (pL S1 149 1 a1) (fun S2 => rt () S2))
noncomputable def X10_fix (a1 : Int32) (a2 : Int64) (a3 : Int64) (S : Sx) : Rs Unit :=
  bd (X10_goTo a3 S) (fun _ S1 => bd (X10_record a1 a2 S1) (fun _ S2 => rt () S2))
noncomputable def X10_lay_2_50 (x3 : Int32) (S : Sx) : Rs Unit :=
  dO S 1 (gR S 150 0) (fun c2 => lI S c2 (gN S c2) (gI S 149 2) (fun v1 => dO S 1 (gR S 150 0) (fun c3 => sI S c3 (gN S c3) (gI S 149 2) (v1 + 1) (fun S1 => bd (X8_add 150 (x3 &&& 255) S1) (fun v4 S2 => pt (pL S2 149 1 ((gL S2 149 1) + 1)) (fun S3 => rt () S3))))))
noncomputable def X10_lay_2_29 (x3 : Int32) (S : Sx) : Rs Unit :=
  bd (X8_add 150 2 S) (fun v1 S1 => bd (X8_add 150 0 S1) (fun v2 S2 => pt (pI S2 149 2 v2) (fun S3 => X10_lay_2_50 x3 S3)))
noncomputable def X10_lay_2 (a1 : Int64) (a2 : Int32) (S : Sx) : Rs Unit :=
  bd (X10_goTo a1 S) (fun _ S1 => if (gI S1 149 2) < 0 then X10_lay_2_29 a2 S1 else bd (X8_at 150 (gI S1 149 2) S1) (fun v1 S2 => if v1 = 255 then X10_lay_2_29 a2 S2 else X10_lay_2_50 a2 S2))
noncomputable def X10_lay_3b (k3 : Int64 → Int32 → Int64 → Int32 → Sx → Rs Unit) (x1 : Int64) (x3 : Int32) (x4 : Int64) (x6 : Int32) (S : Sx) : Rs Unit :=
  if x3 ≤ x6 then rt () S else bd (X10_lay_2 (x1 + x6.toInt64) ((x4 >>> ((8 * ((x3 - 1) - x6)).toInt64 &&& 63)).toInt32) S) (fun _ S1 => vl (x6 + 1) (fun v1 => k3 x1 x3 x4 v1 S1))
noncomputable def X10_lay_3 : Nat → Int64 → Int32 → Int64 → Int32 → Sx → Rs Unit
  | 0 => fun _ _ _ _ _ => none
  | n + 1 => X10_lay_3b  (X10_lay_3 n)
noncomputable def X10_lay (a1 : Int64) (a2 : Int32) (a3 : Int64) (S : Sx) : Rs Unit :=
  X10_lay_3 FU a1 a2 a3 0 S
noncomputable def X9_tell_216 (k17 : Int32 → Int32 → Int64 → Int32 → Sx → Rs Unit) (x1 : Int32) (x2 : Int32) (x3 : Int64) (x5 : Int32) (x6 : Int32) (y0 : Int32) (y1 : Int64) (y2 : Int64) (y4 : Int32) (y5 : Int64) (S : Sx) : Rs Unit :=
  bd (X9_offset y2 y1 y0 x6 S) (fun v1 S1 => bd (X10_lay y5 y4 v1.toInt64 S1) (fun _ S2 => vl (x5 + 1) (fun v2 => k17 x1 x2 x3 v2 S2)))
noncomputable def X9_tell_198 (k17 : Int32 → Int32 → Int64 → Int32 → Sx → Rs Unit) (x1 : Int32) (x2 : Int32) (x3 : Int64) (x5 : Int32) (x6 : Int32) (x7 : Int32) (x8 : Int32) (y0 : Int32) (y1 : Int64) (S : Sx) : Rs Unit :=
  if x8 = 5 then X9_tell_216 k17 x1 x2 x3 x5 x6 24 x7.toInt64 x3 y0 y1 S else X9_tell_216 k17 x1 x2 x3 x5 x6 16 x7.toInt64 x3 y0 y1 S
noncomputable def X9_tell_185 (k17 : Int32 → Int32 → Int64 → Int32 → Sx → Rs Unit) (x1 : Int32) (x2 : Int32) (x3 : Int64) (x5 : Int32) (x6 : Int32) (x7 : Int32) (x8 : Int32) (y0 : Int32) (y1 : Int32) (S : Sx) : Rs Unit :=
  if x8 = 5 then X9_tell_198 k17 x1 x2 x3 x5 x6 x7 x8 3 ((y1 + y0).toInt64) S else X9_tell_198 k17 x1 x2 x3 x5 x6 x7 x8 2 ((y1 + y0).toInt64) S
noncomputable def X9_tell_125 (k17 : Int32 → Int32 → Int64 → Int32 → Sx → Rs Unit) (x1 : Int32) (x2 : Int32) (x3 : Int64) (x5 : Int32) (x6 : Int32) (x7 : Int32) (x8 : Int32) (S : Sx) : Rs Unit :=
  if x2 = 1 then bd (X10_fix x8 x7.toInt64 x3 S) (fun _ S1 => vl (x5 + 1) (fun v1 => k17 x1 x2 x3 v1 S1)) else if x8 = 3 then bd (X10_lay x7.toInt64 8 x3 S) (fun _ S1 => vl (x5 + 1) (fun v1 => k17 x1 x2 x3 v1 S1)) else if x8 = 5 then X9_tell_185 k17 x1 x2 x3 x5 x6 x7 x8 1 x7 S else X9_tell_185 k17 x1 x2 x3 x5 x6 x7 x8 2 x7 S
noncomputable def X9_tell_119 (k17 : Int32 → Int32 → Int64 → Int32 → Sx → Rs Unit) (x1 : Int32) (x2 : Int32) (x3 : Int64) (x5 : Int32) (x6 : Int32) (x7 : Int32) (x8 : Int32) (y0 : Int32) (y1 : Int64) (y2 : Int64) (S : Sx) : Rs Unit :=
  bd (X9_offset y2 y1 y0 x6 S) (fun v1 S1 => X9_tell_125 k17 x1 x2 x3 x5 x6 x7 x8 S1)
noncomputable def X9_tell_67 (k17 : Int32 → Int32 → Int64 → Int32 → Sx → Rs Unit) (x1 : Int32) (x2 : Int32) (x3 : Int64) (x5 : Int32) (x6 : Int32) (y0 : Int32) (S : Sx) : Rs Unit :=
  bd (X9_want y0 3 x6 S) (fun _ S1 => bd (X8_at 160 x5 S1) (fun v1 S2 => vl v1 (fun v2 => bd (X8_at 162 x5 S2) (fun v3 S3 => vl v3 (fun v4 => if v4 = 3 then X9_tell_125 k17 x1 x2 x3 x5 x6 v2 v4 S3 else if v4 = 5 then X9_tell_119 k17 x1 x2 x3 x5 x6 v2 v4 24 v2.toInt64 x3 S3 else X9_tell_119 k17 x1 x2 x3 x5 x6 v2 v4 16 v2.toInt64 x3 S3)))))
noncomputable def X9_tell_17b (k17 : Int32 → Int32 → Int64 → Int32 → Sx → Rs Unit) (x1 : Int32) (x2 : Int32) (x3 : Int64) (x5 : Int32) (S : Sx) : Rs Unit :=
  if (gI S 156 1) ≤ x5 then rt () S else bd (X8_at 156 x5 S) (fun v1 S1 => if v1 = x1 then bd (X8_at 158 x5 S1) (fun v2 S2 => vl v2 (fun v3 => if x2 = 3 then X9_tell_67 k17 x1 x2 x3 x5 v3 0 S2 else X9_tell_67 k17 x1 x2 x3 x5 v3 1 S2)) else vl (x5 + 1) (fun v2 => k17 x1 x2 x3 v2 S1))
noncomputable def X9_tell_17 : Nat → Int32 → Int32 → Int64 → Int32 → Sx → Rs Unit
  | 0 => fun _ _ _ _ _ => none
  | n + 1 => X9_tell_17b  (X9_tell_17 n)
noncomputable def X9_tell (a1 : Int32) (a2 : Int32) (a3 : Int64) (S : Sx) : Rs Unit :=
  sI S 154 300 a1 a2 (fun S1 => sL S1 155 300 a1 a3 (fun S2 => X9_tell_17 FU a1 a2 a3 0 S2))
noncomputable def X9_lay_20 (x1 : Int32) (x2 : Int64) (y0 : Int32) (S : Sx) : Rs Unit :=
  bd (X9_want y0 5 (gI S 148 6) S) (fun _ S1 => bd (X10_lay (gL S1 148 7) x1 x2 S1) (fun _ S2 => pt (pL S2 148 7 ((gL S2 148 7) + x1.toInt64)) (fun S3 => rt () S3)))
noncomputable def X9_lay (a1 : Int32) (a2 : Int64) (S : Sx) : Rs Unit :=
  if 65536 < ((gL S 148 7) + a1.toInt64) then X9_lay_20 a1 a2 0 S else X9_lay_20 a1 a2 1 S
noncomputable def X9_letters_78b (k78 : Int32 → Int32 → Sx → Rs Unit) (x2 : Int32) (x3 : Int32) (S : Sx) : Rs Unit :=
  if x2 ≤ x3 then rt () S else dO S 1 (gR S 148 2) (fun c2 => lI S c2 (gN S c2) x3 (fun v1 => bd (X9_lay 1 v1.toInt64 S) (fun _ S1 => vl (x3 + 1) (fun v3 => k78 x2 v3 S1))))
noncomputable def X9_letters_78 : Nat → Int32 → Int32 → Sx → Rs Unit
  | 0 => fun _ _ _ => none
  | n + 1 => X9_letters_78b  (X9_letters_78 n)
noncomputable def X9_letters_58 (x1 : Int32) (x2 : Int32) (y0 : Int32) (S : Sx) : Rs Unit :=
  bd (X9_want y0 1 x2 S) (fun _ S1 => pt (pI S1 148 4 (x2 + 1)) (fun S2 => bd (X9_ends S2) (fun _ S3 => vl (x1 + 1) (fun v1 => X9_letters_78 FU x2 v1 S3))))
noncomputable def X9_letters_37 (x1 : Int32) (x2 : Int32) (S : Sx) : Rs Unit :=
  if (gI S 148 5) ≤ x2 then X9_letters_58 x1 x2 0 S else if x2 ≤ (x1 + 1) then X9_letters_58 x1 x2 0 S else X9_letters_58 x1 x2 1 S
noncomputable def X9_letters_12b (k12 : Int32 → Int32 → Sx → Rs Unit) (x1 : Int32) (x2 : Int32) (S : Sx) : Rs Unit :=
  if (gI S 148 5) ≤ x2 then X9_letters_37 x1 x2 S else dO S 1 (gR S 148 2) (fun c2 => lI S c2 (gN S c2) x2 (fun v1 => if v1 = 34 then X9_letters_37 x1 x2 S else vl (x2 + 1) (fun v3 => k12 x1 v3 S)))
noncomputable def X9_letters_12 : Nat → Int32 → Int32 → Sx → Rs Unit
  | 0 => fun _ _ _ => none
  | n + 1 => X9_letters_12b  (X9_letters_12 n)
noncomputable def X9_letters (S : Sx) : Rs Unit :=
  vl (gI S 148 4) (fun v1 => vl ((gI S 148 4) + 1) (fun v2 => X9_letters_12 FU v1 v2 S))
noncomputable def X9_use (a1 : Int32) (a2 : Int64) (S : Sx) : Rs Unit :=
  bd (X8_add 156 (gI S 148 20) S) (fun v1 S1 => bd (X8_add 158 (gI S1 148 19) S1) (fun v2 S2 => bd (X8_add 160 a2.toInt32 S2) (fun v3 S3 => bd (X8_add 162 a1 S3) (fun v4 S4 => rt () S4))))
noncomputable def X9_data_111 (k2 : Int32 → Int32 → Int32 → Sx → Rs Unit) (x1 : Int32) (x2 : Int32) (S : Sx) : Rs Unit :=
  bd (X9_isMore S) (fun v1 S1 => vl v1 (fun v2 => k2 x1 x2 v2 S1))
noncomputable def X9_data_108 (k2 : Int32 → Int32 → Int32 → Sx → Rs Unit) (x1 : Int32) (x2 : Int32) (y0 : Int64) (y1 : Int32) (S : Sx) : Rs Unit :=
  bd (X9_lay y1 y0 S) (fun _ S1 => X9_data_111 k2 x1 x2 S1)
noncomputable def X9_data_90 (k2 : Int32 → Int32 → Int32 → Sx → Rs Unit) (x1 : Int32) (x2 : Int32) (S : Sx) : Rs Unit :=
  if (gI S 148 17) = 3 then X9_data_108 k2 x1 x2 0 x2 S else X9_data_108 k2 x1 x2 (gL S 148 18) x2 S
noncomputable def X9_data_65 (k2 : Int32 → Int32 → Int32 → Sx → Rs Unit) (x1 : Int32) (x2 : Int32) (y0 : Int32) (S : Sx) : Rs Unit :=
  bd (X9_want y0 3 (gI S 148 19) S) (fun _ S1 => if (gI S1 148 17) = 3 then bd (X9_use 3 (gL S1 148 7) S1) (fun _ S2 => X9_data_90 k2 x1 x2 S2) else X9_data_90 k2 x1 x2 S1)
noncomputable def X9_data_40 (k2 : Int32 → Int32 → Int32 → Sx → Rs Unit) (x1 : Int32) (x2 : Int32) (y0 : Int32) (S : Sx) : Rs Unit :=
  bd (X9_operand y0 S) (fun _ S1 => if (gI S1 148 17) = 2 then X9_data_65 k2 x1 x2 1 S1 else if (gI S1 148 17) = 3 then X9_data_65 k2 x1 x2 1 S1 else X9_data_65 k2 x1 x2 0 S1)
noncomputable def X9_data_28 (k2 : Int32 → Int32 → Int32 → Sx → Rs Unit) (x1 : Int32) (x2 : Int32) (S : Sx) : Rs Unit :=
  if x1 = 104 then X9_data_40 k2 x1 x2 1 S else X9_data_40 k2 x1 x2 0 S
noncomputable def X9_data_2b (k2 : Int32 → Int32 → Int32 → Sx → Rs Unit) (x1 : Int32) (x2 : Int32) (x3 : Int32) (S : Sx) : Rs Unit :=
  if x3 = 0 then rt () S else if x1 = 102 then bd (X9_here S) (fun v1 S1 => if v1 = 34 then bd (X9_letters S1) (fun _ S2 => X9_data_111 k2 x1 x2 S2) else X9_data_28 k2 x1 x2 S1) else X9_data_28 k2 x1 x2 S
noncomputable def X9_data_2 : Nat → Int32 → Int32 → Int32 → Sx → Rs Unit
  | 0 => fun _ _ _ _ => none
  | n + 1 => X9_data_2b  (X9_data_2 n)
noncomputable def X9_data (a1 : Int32) (a2 : Int32) (S : Sx) : Rs Unit :=
  X9_data_2 FU a1 a2 1 S
noncomputable def X9_aRegister_19 (y0 : Int32) (S : Sx) : Rs Int32 :=
  bd (X9_want y0 3 (gI S 148 19) S) (fun _ S1 => rt ((gL S1 148 18).toInt32) S1)
noncomputable def X9_aRegister (S : Sx) : Rs Int32 :=
  bd (X9_operand 0 S) (fun _ S1 => if (gI S1 148 17) = 1 then X9_aRegister_19 1 S1 else X9_aRegister_19 0 S1)
noncomputable def X9_comma (S : Sx) : Rs Unit :=
  bd (X9_isMore S) (fun v1 S1 => bd (X9_want v1 3 (gI S1 148 4) S1) (fun _ S2 => rt () S2))
noncomputable def X9_code (a1 : Int32) (a2 : Int32) (a3 : Int32) (a4 : Int32) (S : Sx) : Rs Unit :=
  bd (X9_lay 4 ((((a1.toInt64 <<< (((24 : Int32)).toInt64 &&& 63)) ||| ((a2 <<< ((16 : Int32) &&& 31)).toInt64)) ||| ((a3 <<< ((8 : Int32) &&& 31)).toInt64)) ||| a4.toInt64) S) (fun _ S1 => rt () S1)
noncomputable def X9_three_271 (x2 : Int32) (x4 : Int32) (y0 : Int32) (S : Sx) : Rs Unit :=
  bd (X9_code y0 x2 x4 ((gL S 148 18).toInt32) S) (fun _ S1 => rt () S1)
noncomputable def X9_three_255 (x1 : Int32) (x2 : Int32) (x4 : Int32) (S : Sx) : Rs Unit :=
  if (gI S 148 17) = 1 then X9_three_271 x2 x4 x1 S else X9_three_271 x2 x4 (x1 + 1) S
noncomputable def X9_three_243 (x1 : Int32) (x2 : Int32) (x4 : Int32) (y0 : Int32) (S : Sx) : Rs Unit :=
  bd (X9_want y0 4 (gI S 148 19) S) (fun _ S1 => bd (X9_last S1) (fun _ S2 => X9_three_255 x1 x2 x4 S2))
noncomputable def X9_three_201 (x1 : Int32) (x2 : Int32) (x4 : Int32) (y0 : Int32) (S : Sx) : Rs Unit :=
  bd (X9_want y0 3 (gI S 148 19) S) (fun _ S1 => if (gI S1 148 17) = 2 then if (gL S1 148 18) < 0 then X9_three_243 x1 x2 x4 0 S1 else if 255 < (gL S1 148 18) then X9_three_243 x1 x2 x4 0 S1 else X9_three_243 x1 x2 x4 1 S1 else X9_three_243 x1 x2 x4 1 S1)
noncomputable def X9_three_151 (x1 : Int32) (x2 : Int32) (x4 : Int32) (x5 : Int32) (y0 : Int32) (S : Sx) : Rs Unit :=
  bd (X9_want y0 3 (gI S 148 4) S) (fun _ S1 => pt (pI S1 148 17 2) (fun S2 => pt (pL S2 148 18 0) (fun S3 => if x5 = 0 then X9_three_255 x1 x2 x4 S3 else bd (X9_operand 0 S3) (fun _ S4 => if (gI S4 148 17) = 2 then X9_three_201 x1 x2 x4 1 S4 else if (gI S4 148 17) = 1 then X9_three_201 x1 x2 x4 1 S4 else X9_three_201 x1 x2 x4 0 S4))))
noncomputable def X9_three_128 (x1 : Int32) (x2 : Int32) (x4 : Int32) (S : Sx) : Rs Unit :=
  bd (X9_isMore S) (fun v1 S1 => vl v1 (fun v2 => if v2 = 0 then if x1 = 32 then X9_three_151 x1 x2 x4 v2 0 S1 else X9_three_151 x1 x2 x4 v2 1 S1 else X9_three_151 x1 x2 x4 v2 1 S1))
noncomputable def X9_three_120 (x1 : Int32) (x2 : Int32) (x4 : Int32) (y0 : Int32) (S : Sx) : Rs Unit :=
  bd (X9_want y0 4 (gI S 148 19) S) (fun _ S1 => X9_three_128 x1 x2 x4 S1)
noncomputable def X9_three_86 (x1 : Int32) (x2 : Int32) (x4 : Int32) (y0 : Int32) (S : Sx) : Rs Unit :=
  bd (X9_want y0 3 (gI S 148 19) S) (fun _ S1 => if (gL S1 148 18) < 0 then X9_three_120 x1 x2 x4 0 S1 else if 255 < (gL S1 148 18) then X9_three_120 x1 x2 x4 0 S1 else X9_three_120 x1 x2 x4 1 S1)
noncomputable def X9_three_27 (x1 : Int32) (x2 : Int32) (y0 : Int32) (S : Sx) : Rs Unit :=
  vl y0 (fun v1 => vl ((gL S 148 18).toInt32) (fun v2 => if x1 = 32 then if v1 = 0 then if (gI S 148 17) = 2 then X9_three_86 x1 x2 v2 1 S else X9_three_86 x1 x2 v2 0 S else bd (X9_last S) (fun _ S1 => bd (X9_code x1 x2 0 v2 S1) (fun _ S2 => rt () S2)) else bd (X9_want v1 3 (gI S 148 19) S) (fun _ S1 => X9_three_128 x1 x2 v2 S1)))
noncomputable def X9_three (a1 : Int32) (S : Sx) : Rs Unit :=
  bd (X9_aRegister S) (fun v1 S1 => vl v1 (fun v2 => bd (X9_comma S1) (fun _ S2 => bd (X9_operand 0 S2) (fun _ S3 => if (gI S3 148 17) = 1 then X9_three_27 a1 v2 1 S3 else X9_three_27 a1 v2 0 S3))))
noncomputable def X9_way_73 (y0 : Int32) (S : Sx) : Rs Int32 :=
  bd (X9_use y0 (gL S 148 7) S) (fun _ S1 => rt 0 S1)
noncomputable def X9_way_27 (x1 : Int32) (y0 : Int32) (S : Sx) : Rs Int32 :=
  bd (X9_want y0 3 (gI S 148 19) S) (fun _ S1 => if (gI S1 148 17) = 2 then bd (X9_offset (gL S1 148 18) (gL S1 148 7) x1 (gI S1 148 19) S1) (fun v1 S2 => rt v1 S2) else if x1 = 24 then X9_way_73 5 S1 else X9_way_73 4 S1)
noncomputable def X9_way (a1 : Int32) (S : Sx) : Rs Int32 :=
  bd (X9_operand 1 S) (fun _ S1 => if (gI S1 148 17) = 2 then X9_way_27 a1 1 S1 else if (gI S1 148 17) = 3 then X9_way_27 a1 1 S1 else X9_way_27 a1 0 S1)
noncomputable def X9_number_51 (y0 : Int32) (S : Sx) : Rs Int64 :=
  bd (X9_want y0 4 (gI S 148 19) S) (fun _ S1 => rt (gL S1 148 18) S1)
noncomputable def X9_number_19 (x1 : Int64) (y0 : Int32) (S : Sx) : Rs Int64 :=
  bd (X9_want y0 3 (gI S 148 19) S) (fun _ S1 => if (gL S1 148 18) < 0 then X9_number_51 0 S1 else if x1 < (gL S1 148 18) then X9_number_51 0 S1 else X9_number_51 1 S1)
noncomputable def X9_number (a1 : Int64) (S : Sx) : Rs Int64 :=
  bd (X9_operand 0 S) (fun _ S1 => if (gI S1 148 17) = 2 then X9_number_19 a1 1 S1 else X9_number_19 a1 0 S1)
noncomputable def X9_pop_44 (x1 : Int32) (x2 : Int32) (S : Sx) : Rs Unit :=
  bd (X9_code 68 x1 (x2 >>> ((8 : Int32) &&& 31)) (x2 &&& 255) S) (fun _ S1 => rt () S1)
noncomputable def X9_pop (S : Sx) : Rs Unit :=
  bd (X9_here S) (fun v1 S1 => bd (X9_isStop v1 S1) (fun v2 S2 => if v2 = 0 then bd (X9_number 255 S2) (fun v3 S3 => vl v3.toInt32 (fun v4 => bd (X9_isMore S3) (fun v5 S4 => if v5 = 0 then X9_pop_44 v4 0 S4 else bd (X9_number 65535 S4) (fun v6 S5 => vl v6.toInt32 (fun v7 => bd (X9_last S5) (fun _ S6 => X9_pop_44 v4 v7 S6)))))) else X9_pop_44 0 0 S2))
noncomputable def X9_trap_48 (x1 : Int32) (x2 : Int32) (x3 : Int32) (S : Sx) : Rs Unit :=
  bd (X9_code 0 x1 x2 x3 S) (fun _ S1 => rt () S1)
noncomputable def X9_trap (S : Sx) : Rs Unit :=
  bd (X9_number 255 S) (fun v1 S1 => vl v1.toInt32 (fun v2 => bd (X9_isMore S1) (fun v3 S2 => if v3 = 0 then X9_trap_48 0 0 v2 S2 else vl v2 (fun v4 => bd (X9_number 255 S2) (fun v5 S3 => vl v5.toInt32 (fun v6 => bd (X9_comma S3) (fun _ S4 => bd (X9_number 255 S4) (fun v7 S5 => vl v7.toInt32 (fun v8 => bd (X9_last S5) (fun _ S6 => X9_trap_48 v4 v6 v8 S6))))))))))
noncomputable def X9_two_103 (x1 : Int32) (x2 : Int32) (y0 : Int32) (S : Sx) : Rs Unit :=
  vl y0 (fun v1 => bd (X9_last S) (fun _ S1 => bd (X9_code x1 x2 ((v1 >>> ((8 : Int32) &&& 31)) &&& 255) (v1 &&& 255) S1) (fun _ S2 => rt () S2)))
noncomputable def X9_two_99 (x1 : Int32) (x2 : Int32) (y0 : Int64) (S : Sx) : Rs Unit :=
  bd (X9_number y0 S) (fun v1 S1 => X9_two_103 x1 x2 v1.toInt32 S1)
noncomputable def X9_two_69 (x1 : Int32) (x2 : Int32) (y0 : Int32) (S : Sx) : Rs Unit :=
  vl y0 (fun v1 => if v1 = 0 then if x1 = 78 then X9_two_99 x1 x2 255 S else X9_two_99 x1 x2 65535 S else bd (X9_way 16 S) (fun v2 S1 => X9_two_103 x1 x2 v2 S1))
noncomputable def X9_two (a1 : Int32) (S : Sx) : Rs Unit :=
  if a1 = 79 then bd (X9_number 255 S) (fun v1 S1 => vl v1.toInt32 (fun v2 => bd (X9_comma S1) (fun _ S2 => bd (X9_aRegister S2) (fun v3 S3 => vl v3 (fun v4 => bd (X9_last S3) (fun _ S4 => bd (X9_code a1 v2 0 v4 S4) (fun _ S5 => rt () S5))))))) else bd (X9_aRegister S) (fun v1 S1 => vl v1 (fun v2 => bd (X9_comma S1) (fun _ S2 => if a1 ≤ 65 then X9_two_69 a1 v2 1 S2 else if a1 = 67 then X9_two_69 a1 v2 1 S2 else if a1 = 69 then X9_two_69 a1 v2 1 S2 else X9_two_69 a1 v2 0 S2)))
noncomputable def X9_instruction_19 (x1 : Int32) (S : Sx) : Rs Unit :=
  if x1 = 66 then bd (X9_way 24 S) (fun v1 S1 => vl v1 (fun v2 => bd (X9_last S1) (fun _ S2 => bd (X9_code x1 ((v2 >>> ((16 : Int32) &&& 31)) &&& 255) ((v2 >>> ((8 : Int32) &&& 31)) &&& 255) (v2 &&& 255) S2) (fun _ S3 => rt () S3)))) else if x1 = 68 then bd (X9_pop S) (fun _ S1 => rt () S1) else if x1 = 0 then bd (X9_trap S) (fun _ S1 => rt () S1) else if x1 = 80 then bd (X9_here S) (fun v1 S1 => bd (X9_isStop v1 S1) (fun v2 S2 => bd (X9_want v2 3 (gI S2 148 4) S2) (fun _ S3 => bd (X9_code x1 0 0 0 S3) (fun _ S4 => rt () S4)))) else bd (X9_two x1 S) (fun _ S1 => rt () S1)
noncomputable def X9_instruction (a1 : Int32) (S : Sx) : Rs Unit :=
  if a1 < 2 then X9_instruction_19 a1 S else if 60 ≤ a1 then X9_instruction_19 a1 S else bd (X9_three a1 S) (fun _ S1 => rt () S1)
noncomputable def X9_work_217 (y0 : Int32) (y1 : Int32) (S : Sx) : Rs Unit :=
  bd (X9_tell y1 y0 (gL S 148 18) S) (fun _ S1 => rt () S1)
noncomputable def X9_work_190 (x1 : Int32) (y0 : Int32) (S : Sx) : Rs Unit :=
  bd (X9_want y0 3 (gI S 148 19) S) (fun _ S1 => bd (X9_last S1) (fun _ S2 => if (gI S2 148 17) = 1 then X9_work_217 3 x1 S2 else X9_work_217 2 x1 S2))
noncomputable def X9_work_333 (x1 : Int32) (x4 : Int64) (S : Sx) : Rs Unit :=
  if x1 < 0 then rt () S else bd (X9_tell x1 1 x4 S) (fun _ S1 => rt () S1)
noncomputable def X9_work_288 (x1 : Int32) (y0 : Int32) (S : Sx) : Rs Unit :=
  bd (X9_want y0 5 (gI S 148 6) S) (fun _ S1 => pt (pL S1 148 7 (gL S1 148 18)) (fun S2 => vl (gL S2 148 18) (fun v1 => X9_work_333 x1 v1 S2)))
noncomputable def X9_work_250 (x1 : Int32) (y0 : Int32) (S : Sx) : Rs Unit :=
  bd (X9_want y0 3 (gI S 148 19) S) (fun _ S1 => bd (X9_last S1) (fun _ S2 => if (gL S2 148 18) < 0 then X9_work_288 x1 0 S2 else if 65536 < (gL S2 148 18) then X9_work_288 x1 0 S2 else X9_work_288 x1 1 S2))
noncomputable def X9_work_131 (x1 : Int32) (x2 : Int32) (y0 : Int32) (S : Sx) : Rs Unit :=
  vl y0 (fun v1 => if v1.toInt64 = 0 then none else pt (pL S 148 7 (((((gL S 148 7) + v1.toInt64) - 1) / v1.toInt64) * v1.toInt64)) (fun S1 => vl (gL S1 148 7) (fun v2 => if x2 = 100 then bd (X9_operand 0 S1) (fun _ S2 => if (gI S2 148 17) = 2 then X9_work_190 x1 1 S2 else if (gI S2 148 17) = 1 then X9_work_190 x1 1 S2 else X9_work_190 x1 0 S2) else if x2 = 101 then bd (X9_operand 0 S1) (fun _ S2 => if (gI S2 148 17) = 2 then X9_work_250 x1 1 S2 else X9_work_250 x1 0 S2) else if x2 < 102 then bd (X9_instruction x2 S1) (fun _ S2 => X9_work_333 x1 v2 S2) else bd (X9_data x2 v1 S1) (fun _ S2 => X9_work_333 x1 v2 S2))))
noncomputable def X9_work_85 (x1 : Int32) (x2 : Int32) (y0 : Int32) (S : Sx) : Rs Unit :=
  bd (X9_want y0 1 (gI S 148 6) S) (fun _ S1 => bd (X9_skip S1) (fun _ S2 => if x2 = 102 then X9_work_131 x1 x2 1 S2 else if x2 = 100 then X9_work_131 x1 x2 1 S2 else if x2 = 101 then X9_work_131 x1 x2 1 S2 else if x2 = 104 then X9_work_131 x1 x2 8 S2 else X9_work_131 x1 x2 4 S2))
noncomputable def X9_work_61 (x1 : Int32) (x2 : Int32) (y0 : Int32) (S : Sx) : Rs Unit :=
  bd (X9_want y0 1 (gI S 148 6) S) (fun _ S1 => if x2 = 100 then if x1 < 0 then X9_work_85 x1 x2 0 S1 else X9_work_85 x1 x2 1 S1 else X9_work_85 x1 x2 1 S1)
noncomputable def X9_work_8b (k8 : Int32 → Sx → Rs Unit) (x1 : Int32) (S : Sx) : Rs Unit :=
  bd (X9_here S) (fun v1 S1 => bd (X9_isStop v1 S1) (fun v2 S2 => if v2 = 0 then pt (pI S2 148 4 ((gI S2 148 4) + 1)) (fun S3 => k8 x1 S3) else bd (X9_opOf (gI S2 148 6) ((gI S2 148 4) - (gI S2 148 6)) S2) (fun v3 S3 => vl v3 (fun v4 => if v4 = ((-1)) then X9_work_61 x1 v4 0 S3 else X9_work_61 x1 v4 1 S3))))
noncomputable def X9_work_8 : Nat → Int32 → Sx → Rs Unit
  | 0 => fun _ _ => none
  | n + 1 => X9_work_8b  (X9_work_8 n)
noncomputable def X9_work (a1 : Int32) (S : Sx) : Rs Unit :=
  pt (pI S 148 6 (gI S 148 4)) (fun S1 => X9_work_8 FU a1 S1)
noncomputable def X9_line_77 (x1 : Int32) (S : Sx) : Rs Unit :=
  bd (X9_skip S) (fun _ S1 => if (gI S1 148 5) ≤ (gI S1 148 4) then if x1 < 0 then rt () S1 else bd (X9_tell x1 1 (gL S1 148 7) S1) (fun _ S2 => rt () S2) else bd (X9_work x1 S1) (fun _ S2 => rt () S2))
noncomputable def X9_line_42 (x1 : Int32) (x2 : Int32) (y0 : Int32) (S : Sx) : Rs Unit :=
  bd (X9_want y0 2 x2 S) (fun _ S1 => bd (X9_here S1) (fun v1 S2 => bd (X9_isStop v1 S2) (fun v2 S3 => bd (X9_want v2 1 (gI S3 148 4) S3) (fun _ S4 => X9_line_77 x1 S4))))
noncomputable def X9_line (S : Sx) : Rs Unit :=
  bd (X9_here S) (fun v1 S1 => bd (X9_isLetter v1 S1) (fun v2 S2 => if v2 = 0 then bd (X9_here S2) (fun v3 S3 => if v3 = 32 then X9_line_77 ((-1)) S3 else rt () S3) else vl (gI S2 148 4) (fun v3 => bd (X9_known S2) (fun v4 S3 => bd (X9_label v4 v3 S3) (fun v5 S4 => vl v5 (fun v6 => lI S4 154 300 v6 (fun v7 => if v7 = 0 then X9_line_42 v6 v3 1 S4 else X9_line_42 v6 v3 0 S4)))))))
noncomputable def X9_start_81 (k2 : Int32 → Sx → Rs Int64) (x1 : Int32) (x2 : Int32) (S : Sx) : Rs Int64 :=
  if x2 = 0 then vl (x1 + 1) (fun v1 => k2 v1 S) else lL S 155 300 x1 (fun v1 => rt v1 S)
noncomputable def X9_start_38b (k2 : Int32 → Sx → Rs Int64) (k38 : Int32 → Int32 → Int32 → Sx → Rs Int64) (x1 : Int32) (x2 : Int32) (x3 : Int32) (S : Sx) : Rs Int64 :=
  if 4 ≤ x3 then X9_start_81 k2 x1 x2 S else if x2 = 0 then X9_start_81 k2 x1 x2 S else lI S 152 300 x1 (fun v1 => dO S 1 (gR S 148 2) (fun c3 => lI S c3 (gN S c3) (v1 + x3) (fun v2 => bd (J3_charAt 4 x3 S) (fun v4 S1 => if v2 = v4 then vl (x3 + 1) (fun v5 => k38 x1 1 v5 S1) else vl (x3 + 1) (fun v5 => k38 x1 0 v5 S1)))))
noncomputable def X9_start_38 (k2 : Int32 → Sx → Rs Int64) : Nat → Int32 → Int32 → Int32 → Sx → Rs Int64
  | 0 => fun _ _ _ _ => none
  | n + 1 => X9_start_38b k2 (X9_start_38 k2 n)
noncomputable def X9_start_2b (k2 : Int32 → Sx → Rs Int64) (x1 : Int32) (S : Sx) : Rs Int64 :=
  if (gI S 148 8) ≤ x1 then rt 0 S else lI S 153 300 x1 (fun v1 => if v1 = 4 then lI S 154 300 x1 (fun v2 => if v2 = 1 then X9_start_38 k2 FU x1 1 0 S else X9_start_38 k2 FU x1 0 0 S) else X9_start_38 k2 FU x1 0 0 S)
noncomputable def X9_start_2 : Nat → Int32 → Sx → Rs Int64
  | 0 => fun _ _ => none
  | n + 1 => X9_start_2b  (X9_start_2 n)
noncomputable def X9_start (S : Sx) : Rs Int64 :=
  X9_start_2 FU 0 S
noncomputable def X10_end (a1 : Int64) (S : Sx) : Rs Unit :=
  bd (X10_record 6 a1 S) (fun _ S1 => rt () S1)
noncomputable def X9_read_121 (k64 : Sx → Rs Unit) (S : Sx) : Rs Unit :=
  bd (X9_line S) (fun _ S1 => pt (pI S1 148 4 ((gI S1 148 5) + 1)) (fun S2 => k64 S2))
noncomputable def X9_read_83b (k64 : Sx → Rs Unit) (k83 : Sx → Rs Unit) (S : Sx) : Rs Unit :=
  if (gI S 148 3) ≤ (gI S 148 5) then X9_read_121 k64 S else dO S 1 (gR S 148 2) (fun c2 => lI S c2 (gN S c2) (gI S 148 5) (fun v1 => if v1 = 10 then X9_read_121 k64 S else pt (pI S 148 5 ((gI S 148 5) + 1)) (fun S1 => k83 S1)))
noncomputable def X9_read_83 (k64 : Sx → Rs Unit) : Nat → Sx → Rs Unit
  | 0 => fun _ => none
  | n + 1 => X9_read_83b k64 (X9_read_83 k64 n)
noncomputable def X9_read_173 (k140 : Int32 → Sx → Rs Unit) (x3 : Int32) (y0 : Int32) (S : Sx) : Rs Unit :=
  bd (X8_at 158 x3 S) (fun v1 S1 => bd (X9_want y0 2 v1 S1) (fun _ S2 => vl (x3 + 1) (fun v2 => k140 v2 S2)))
noncomputable def X9_read_140b (k140 : Int32 → Sx → Rs Unit) (x3 : Int32) (S : Sx) : Rs Unit :=
  if (gI S 156 1) ≤ x3 then bd (X9_start S) (fun v1 S1 => bd (X10_end v1 S1) (fun _ S2 => rt () S2)) else bd (X8_at 156 x3 S) (fun v1 S1 => lI S1 154 300 v1 (fun v2 => if v2 = 0 then X9_read_173 k140 x3 0 S1 else X9_read_173 k140 x3 1 S1))
noncomputable def X9_read_140 : Nat → Int32 → Sx → Rs Unit
  | 0 => fun _ _ => none
  | n + 1 => X9_read_140b  (X9_read_140 n)
noncomputable def X9_read_64b (k64 : Sx → Rs Unit) (S : Sx) : Rs Unit :=
  if (gI S 148 3) ≤ (gI S 148 4) then X9_read_140 FU 0 S else pt (pI S 148 5 (gI S 148 4)) (fun S1 => X9_read_83 k64 FU S1)
noncomputable def X9_read_64 : Nat → Sx → Rs Unit
  | 0 => fun _ => none
  | n + 1 => X9_read_64b  (X9_read_64 n)
noncomputable def X9_read (a1 : Option Nat) (a2 : Int32) (S : Sx) : Rs Unit :=
  pt (pR S 148 2 a1) (fun S1 => pt (pI S1 148 3 a2) (fun S2 => pt (pI S2 148 4 0) (fun S3 => pt (pL S3 148 7 0) (fun S4 => pt (pI S4 148 8 0) (fun S5 => pt (pI S5 156 1 0) (fun S6 => pt (pI S6 158 1 0) (fun S7 => pt (pI S7 160 1 0) (fun S8 => pt (pI S8 162 1 0) (fun S9 => bd (X10_clear S9) (fun _ S10 => X9_read_64 FU S10))))))))))
noncomputable def X11_want (a1 : Int32) (a2 : Int32) (a3 : Int32) (S : Sx) : Rs Unit :=
  if a1 = 0 then bd (X1_of a2 a3 S) (fun v1 S1 => dO S1 7 v1 (fun c2 => th c2 S1)) else rt () S
noncomputable def X3_find_2b (k2 : Int32 → Int32 → Sx → Rs (Option Nat)) (x1 : Int32) (x2 : Int32) (S : Sx) : Rs (Option Nat) :=
  if (gI S 7 2) ≤ x2 then rt none S else lI S 8 4 x2 (fun v1 => if v1 = x1 then lR S 9 4 x2 (fun v2 => rt v2 S) else vl (x2 + 1) (fun v2 => k2 x1 v2 S))
noncomputable def X3_find_2 : Nat → Int32 → Int32 → Sx → Rs (Option Nat)
  | 0 => fun _ _ _ => none
  | n + 1 => X3_find_2b  (X3_find_2 n)
noncomputable def X3_find (a1 : Int32) (S : Sx) : Rs (Option Nat) :=
  X3_find_2 FU a1 0 S
noncomputable def X2_keep (a1 : Option Nat) (S : Sx) : Rs Unit :=
  dO S (4 + 6) a1 (fun c1 => dO S (4 + 6) a1 (fun c2 => cpy S 3 (gR S c1 0) 0 (some 4) (64 * (gI S c2 1)) 64 (fun S1 => dO S1 (4 + 6) a1 (fun c5 => sI S1 5 1024 (gI S1 c5 1) (nz 1) (fun S2 => rt () S2)))))
noncomputable def X3_cut_12b (k12 : Int32 → Sx → Rs Unit) (x2 : Int32) (S : Sx) : Rs Unit :=
  if (gI S 7 2) ≤ x2 then rt () S else lI S 8 4 (x2 + 1) (fun v1 => sI S 8 4 x2 v1 (fun S1 => lR S1 9 4 (x2 + 1) (fun v2 => dOn S1 10 v2 (sR S1 9 4 x2 v2 (fun S2 => vl (x2 + 1) (fun v3 => k12 v3 S2))))))
noncomputable def X3_cut_12 : Nat → Int32 → Sx → Rs Unit
  | 0 => fun _ _ => none
  | n + 1 => X3_cut_12b  (X3_cut_12 n)
noncomputable def X3_cut (a1 : Int32) (S : Sx) : Rs Unit :=
  pt (pI S 7 2 ((gI S 7 2) - 1)) (fun S1 => vl a1 (fun v1 => X3_cut_12 FU v1 S1))
noncomputable def X3_drop_7b (k7 : Int32 → Int32 → Sx → Rs Unit) (x1 : Int32) (x2 : Int32) (S : Sx) : Rs Unit :=
  if x2 < 0 then rt () S else lI S 8 4 x2 (fun v1 => if v1 = x1 then bd (X3_cut x2 S) (fun _ S1 => vl (x2 + (-1)) (fun v2 => k7 x1 v2 S1)) else vl (x2 + (-1)) (fun v2 => k7 x1 v2 S))
noncomputable def X3_drop_7 : Nat → Int32 → Int32 → Sx → Rs Unit
  | 0 => fun _ _ _ => none
  | n + 1 => X3_drop_7b  (X3_drop_7 n)
noncomputable def X3_drop (a1 : Int32) (S : Sx) : Rs Unit :=
  vl ((gI S 7 2) - 1) (fun v1 => X3_drop_7 FU a1 v1 S)
noncomputable def X2_room_123 (x1 : Option Nat) (S : Sx) : Rs (Option Nat) :=
  bd (X2_keep x1 S) (fun _ S1 => dO S1 (4 + 6) x1 (fun c1 => bd (X3_drop (gI S1 c1 1) S1) (fun _ S2 => dO S2 (4 + 6) x1 (fun c2 => dOn S2 10 none (sR S2 6 1024 (gI S2 c2 1) none (fun S3 => rt x1 S3))))))
noncomputable def X2_room_35b (k35 : Sx → Rs (Option Nat)) (S : Sx) : Rs (Option Nat) :=
  lR S 3 64 (gI S 2 2) (fun v1 => dO S (4 + 6) v1 (fun c2 => if (gI S c2 2) = 0 then lR S 3 64 (gI S 2 2) (fun v3 => vl v3 (fun v4 => if (gI S 2 1) = 0 then none else pt (pI S 2 2 (((gI S 2 2) + 1) - ((gI S 2 2) + 1) / (gI S 2 1) * (gI S 2 1))) (fun S1 => dO S1 (4 + 6) v4 (fun c5 => if (gI S1 c5 3) = 0 then X2_room_123 v4 S1 else pt (pI S1 2 9 ((gI S1 2 9) + 1)) (fun S2 => X2_room_123 v4 S2))))) else lR S 3 64 (gI S 2 2) (fun v3 => dO S (4 + 6) v3 (fun c4 => pt (pI S c4 2 0) (fun S1 => if (gI S1 2 1) = 0 then none else pt (pI S1 2 2 (((gI S1 2 2) + 1) - ((gI S1 2 2) + 1) / (gI S1 2 1) * (gI S1 2 1))) (fun S2 => k35 S2))))))
noncomputable def X2_room_35 : Nat → Sx → Rs (Option Nat)
  | 0 => fun _ => none
  | n + 1 => X2_room_35b  (X2_room_35 n)
noncomputable def X2_room_2b (k2 : Int32 → Sx → Rs (Option Nat)) (x1 : Int32) (S : Sx) : Rs (Option Nat) :=
  if (gI S 2 1) ≤ x1 then X2_room_35 FU S else lR S 3 64 x1 (fun v1 => dO S (4 + 6) v1 (fun c2 => if 0 ≤ (gI S c2 1) then vl (x1 + 1) (fun v3 => k2 v3 S) else lR S 3 64 x1 (fun v3 => rt v3 S)))
noncomputable def X2_room_2 : Nat → Int32 → Sx → Rs (Option Nat)
  | 0 => fun _ _ => none
  | n + 1 => X2_room_2b  (X2_room_2 n)
noncomputable def X2_room (S : Sx) : Rs (Option Nat) :=
  X2_room_2 FU 0 S
noncomputable def X2_bring_34 (x1 : Int32) (x2 : Option Nat) (S : Sx) : Rs (Option Nat) :=
  dO S (4 + 6) x2 (fun c1 => cpy S 3 (some 4) (64 * x1) (gR S c1 0) 0 64 (fun S1 => dO S1 (4 + 6) x2 (fun c4 => pt (pI S1 c4 1 x1) (fun S2 => dO S2 (4 + 6) x2 (fun c5 => pt (pI S2 c5 3 0) (fun S3 => dOn S3 10 x2 (sR S3 6 1024 x1 x2 (fun S4 => rt x2 S4))))))))
noncomputable def X2_bring (a1 : Int32) (S : Sx) : Rs (Option Nat) :=
  pt (pI S 2 7 ((gI S 2 7) + 1)) (fun S1 => bd (X2_room S1) (fun v1 S2 => vl v1 (fun v2 => lI S2 5 1024 a1 (fun v3 => if v3 = 0 then X2_bring_34 a1 v2 S2 else pt (pI S2 2 8 ((gI S2 2 8) + 1)) (fun S3 => X2_bring_34 a1 v2 S3)))))
noncomputable def X3_add_13 (x1 : Int32) (x2 : Option Nat) (S : Sx) : Rs Unit :=
  sI S 8 4 (gI S 7 2) x1 (fun S1 => dOn S1 10 x2 (sR S1 9 4 (gI S1 7 2) x2 (fun S2 => pt (pI S2 7 2 ((gI S2 7 2) + 1)) (fun S3 => rt () S3))))
noncomputable def X3_add (a1 : Int32) (a2 : Option Nat) (S : Sx) : Rs Unit :=
  if (gI S 7 2) = 4 then bd (X3_cut 0 S) (fun _ S1 => X3_add_13 a1 a2 S1) else X3_add_13 a1 a2 S
noncomputable def X2_touch_49 (x2 : Option Nat) (S : Sx) : Rs (Option Nat) :=
  dO S (4 + 6) x2 (fun c1 => pt (pI S c1 2 1) (fun S1 => rt x2 S1))
noncomputable def X2_touch_40 (x1 : Int32) (x2 : Option Nat) (S : Sx) : Rs (Option Nat) :=
  bd (X3_add x1 x2 S) (fun _ S1 => X2_touch_49 x2 S1)
noncomputable def X2_touch (a1 : Int32) (S : Sx) : Rs (Option Nat) :=
  bd (X3_find a1 S) (fun v1 S1 => vl v1 (fun v2 => if v2 = none then pt (pI S1 2 10 ((gI S1 2 10) + 1)) (fun S2 => lR S2 6 1024 a1 (fun v3 => vl v3 (fun v4 => if v4 = none then bd (X2_bring a1 S2) (fun v5 S3 => vl v5 (fun v6 => X2_touch_40 a1 v6 S3)) else X2_touch_40 a1 v4 S2))) else X2_touch_49 v2 S1))
noncomputable def X2_set_19b (k19 : Int32 → Int32 → Int64 → Option Nat → Int32 → Sx → Rs Unit) (x1 : Int32) (x2 : Int32) (x3 : Int64) (x5 : Option Nat) (x6 : Int32) (S : Sx) : Rs Unit :=
  if x2 ≤ x6 then rt () S else dO S (4 + 6) x5 (fun c1 => dO S 3 (gR S c1 0) (fun c2 => sI S c2 (gN S c2) ((x1 - x1 / 64 * 64) + x6) ((((x3 >>> ((8 * ((x2 - 1) - x6)).toInt64 &&& 63)).toInt32).toInt8.toInt32).toInt8.toInt32) (fun S1 => vl (x6 + 1) (fun v3 => k19 x1 x2 x3 x5 v3 S1))))
noncomputable def X2_set_19 : Nat → Int32 → Int32 → Int64 → Option Nat → Int32 → Sx → Rs Unit
  | 0 => fun _ _ _ _ _ _ => none
  | n + 1 => X2_set_19b  (X2_set_19 n)
noncomputable def X2_set (a1 : Int32) (a2 : Int32) (a3 : Int64) (S : Sx) : Rs Unit :=
  bd (X2_touch (a1 / 64) S) (fun v1 S1 => vl v1 (fun v2 => dO S1 (4 + 6) v2 (fun c3 => pt (pI S1 c3 3 1) (fun S2 => X2_set_19 FU a1 a2 a3 v2 0 S2))))
noncomputable def X11_row_112b (k112 : Int32 → Int32 → Sx → Rs Unit) (x2 : Int32) (x3 : Int32) (S : Sx) : Rs Unit :=
  if x2 ≤ x3 then rt () S else dO S 1 (gR S 164 2) (fun c2 => lI S c2 (gN S c2) (gI S 164 4) (fun v1 => bd (X2_set ((gL S 164 5).toInt32) 1 v1.toInt64 S) (fun _ S1 => pt (pL S1 164 5 ((gL S1 164 5) + 1)) (fun S2 => pt (pI S2 164 4 ((gI S2 164 4) + 1)) (fun S3 => vl (x3 + 1) (fun v3 => k112 x2 v3 S3))))))
noncomputable def X11_row_112 : Nat → Int32 → Int32 → Sx → Rs Unit
  | 0 => fun _ _ _ => none
  | n + 1 => X11_row_112b  (X11_row_112 n)
noncomputable def X11_row_104 (x1 : Int32) (x2 : Int32) (y0 : Int32) (S : Sx) : Rs Unit :=
  bd (X11_want y0 13 x1 S) (fun _ S1 => X11_row_112 FU x2 0 S1)
noncomputable def X11_row_78 (x1 : Int32) (x2 : Int32) (y0 : Int32) (S : Sx) : Rs Unit :=
  bd (X11_want y0 11 x1 S) (fun _ S1 => if 65536 < ((gL S1 164 5) + x2.toInt64) then X11_row_104 x1 x2 0 S1 else X11_row_104 x1 x2 1 S1)
noncomputable def X11_row_53 (x1 : Int32) (x2 : Int32) (y0 : Int32) (S : Sx) : Rs Unit :=
  bd (X11_want y0 12 x1 S) (fun _ S1 => if ((gI S1 164 3) - (gI S1 164 4)) < x2 then X11_row_78 x1 x2 0 S1 else X11_row_78 x1 x2 1 S1)
noncomputable def X11_row_17 (x1 : Int32) (y0 : Int32) (S : Sx) : Rs Unit :=
  bd (X11_want y0 11 x1 S) (fun _ S1 => dO S1 1 (gR S1 164 2) (fun c2 => lI S1 c2 (gN S1 c2) (gI S1 164 4) (fun v1 => vl v1 (fun v3 => pt (pI S1 164 4 ((gI S1 164 4) + 1)) (fun S2 => if v3 ≤ 0 then X11_row_53 x1 v3 0 S2 else X11_row_53 x1 v3 1 S2)))))
noncomputable def X11_row (a1 : Int32) (S : Sx) : Rs Unit :=
  if (gI S 164 3) ≤ (gI S 164 4) then X11_row_17 a1 0 S else X11_row_17 a1 1 S
noncomputable def X11_octa_31b (k31 : Int64 → Int32 → Sx → Rs Int64) (x2 : Int64) (x4 : Int32) (S : Sx) : Rs Int64 :=
  if 8 ≤ x4 then rt x2 S else dO S 1 (gR S 164 2) (fun c2 => lI S c2 (gN S c2) (gI S 164 4) (fun v1 => vl ((x2 <<< (((8 : Int32)).toInt64 &&& 63)) ||| (v1.toInt64 &&& 255)) (fun v3 => pt (pI S 164 4 ((gI S 164 4) + 1)) (fun S1 => vl (x4 + 1) (fun v4 => k31 v3 v4 S1)))))
noncomputable def X11_octa_31 : Nat → Int64 → Int32 → Sx → Rs Int64
  | 0 => fun _ _ _ => none
  | n + 1 => X11_octa_31b  (X11_octa_31 n)
noncomputable def X11_octa_20 (x1 : Int32) (y0 : Int32) (S : Sx) : Rs Int64 :=
  bd (X11_want y0 11 x1 S) (fun _ S1 => X11_octa_31 FU 0 0 S1)
noncomputable def X11_octa (a1 : Int32) (S : Sx) : Rs Int64 :=
  if ((gI S 164 3) - (gI S 164 4)) < 8 then X11_octa_20 a1 0 S else X11_octa_20 a1 1 S
noncomputable def X0_isAddress (a1 : Int64) (S : Sx) : Rs Int32 :=
  if a1 < 0 then rt 0 S else if 65536 ≤ a1 then rt 0 S else rt 1 S
noncomputable def X11_fix_159b (k159 : Int64 → Int64 → Int32 → Sx → Rs Unit) (x2 : Int64) (x7 : Int64) (x10 : Int32) (S : Sx) : Rs Unit :=
  if 4 ≤ x10 then rt () S else bd (X2_set (x2.toInt32 + x10) 1 ((x7 / 4) >>> ((8 * (3 - x10)).toInt64 &&& 63)) S) (fun _ S1 => vl (x10 + 1) (fun v1 => k159 x2 x7 v1 S1))
noncomputable def X11_fix_159 : Nat → Int64 → Int64 → Int32 → Sx → Rs Unit
  | 0 => fun _ _ _ _ => none
  | n + 1 => X11_fix_159b  (X11_fix_159 n)
noncomputable def X11_fix_136 (x1 : Int32) (x2 : Int64) (x4 : Int32) (x7 : Int64) (y0 : Int32) (S : Sx) : Rs Unit :=
  bd (X11_want y0 14 x4 S) (fun _ S1 => if x1 = 4 then X11_fix_159 FU x2 x7 2 S1 else X11_fix_159 FU x2 x7 1 S1)
noncomputable def X11_fix_76 (x1 : Int32) (x2 : Int64) (x4 : Int32) (y0 : Int32) (S : Sx) : Rs Unit :=
  vl y0 (fun v1 => vl ((gL S 164 5) - x2) (fun v2 => if (v2 - v2 / 4 * 4) = 0 then if (v2 / 4) < (-(((1 : Int64)) <<< ((v1 - 1).toInt64 &&& 63))) then X11_fix_136 x1 x2 x4 v2 0 S else if (((1 : Int64)) <<< ((v1 - 1).toInt64 &&& 63)) ≤ (v2 / 4) then X11_fix_136 x1 x2 x4 v2 0 S else X11_fix_136 x1 x2 x4 v2 1 S else X11_fix_136 x1 x2 x4 v2 0 S))
noncomputable def X11_fix_36 (x1 : Int32) (x2 : Int64) (x4 : Int32) (y0 : Int32) (S : Sx) : Rs Unit :=
  bd (X11_want y0 13 x4 S) (fun _ S1 => if x1 = 3 then bd (X2_set x2.toInt32 8 (gL S1 164 5) S1) (fun _ S2 => rt () S2) else if x1 = 4 then X11_fix_76 x1 x2 x4 16 S1 else X11_fix_76 x1 x2 x4 24 S1)
noncomputable def X11_fix_11 (x1 : Int32) (x2 : Int64) (x4 : Int32) (y0 : Int32) (S : Sx) : Rs Unit :=
  vl y0 (fun v1 => bd (X0_isAddress x2 S) (fun v2 S1 => if v2 = 0 then X11_fix_36 x1 x2 x4 0 S1 else if v1.toInt64 = 0 then none else if (x2 - x2 / v1.toInt64 * v1.toInt64) = 0 then X11_fix_36 x1 x2 x4 1 S1 else X11_fix_36 x1 x2 x4 0 S1))
noncomputable def X11_fix (a1 : Int32) (a2 : Int64) (a3 : Int32) (S : Sx) : Rs Unit :=
  if a1 = 3 then X11_fix_11 a1 a2 a3 8 S else X11_fix_11 a1 a2 a3 4 S
noncomputable def X2_settle_2b (k2 : Int32 → Sx → Rs Unit) (x1 : Int32) (S : Sx) : Rs Unit :=
  if (gI S 2 1) ≤ x1 then bd (X2_reset S) (fun _ S1 => rt () S1) else lR S 3 64 x1 (fun v1 => dO S (4 + 6) v1 (fun c2 => if (gI S c2 1) < 0 then vl (x1 + 1) (fun v3 => k2 v3 S) else lR S 3 64 x1 (fun v3 => bd (X2_keep v3 S) (fun _ S1 => vl (x1 + 1) (fun v4 => k2 v4 S1)))))
noncomputable def X2_settle_2 : Nat → Int32 → Sx → Rs Unit
  | 0 => fun _ _ => none
  | n + 1 => X2_settle_2b  (X2_settle_2 n)
noncomputable def X2_settle (S : Sx) : Rs Unit :=
  X2_settle_2 FU 0 S
noncomputable def X11_load_203 (k32 : Int32 → Int64 → Sx → Rs Int64) (x3 : Int32) (x7 : Int64) (y0 : Int64) (S : Sx) : Rs Int64 :=
  pt (pL S 164 5 y0) (fun S1 => vl x7 (fun v1 => k32 x3 v1 S1))
noncomputable def X11_load_188 (k32 : Int32 → Int64 → Sx → Rs Int64) (x3 : Int32) (x7 : Int64) (S : Sx) : Rs Int64 :=
  if x3 = 1 then X11_load_203 k32 x3 x7 x7 S else X11_load_203 k32 x3 x7 (gL S 164 5) S
noncomputable def X11_load_169 (k32 : Int32 → Int64 → Sx → Rs Int64) (x3 : Int32) (x6 : Int32) (x7 : Int64) (y0 : Int32) (S : Sx) : Rs Int64 :=
  bd (X11_want y0 13 x6 S) (fun _ S1 => X11_load_188 k32 x3 x7 S1)
noncomputable def X11_load_147 (k32 : Int32 → Int64 → Sx → Rs Int64) (x3 : Int32) (x6 : Int32) (x7 : Int64) (S : Sx) : Rs Int64 :=
  if x7 < 0 then X11_load_169 k32 x3 x6 x7 0 S else if 65536 < x7 then X11_load_169 k32 x3 x6 x7 0 S else X11_load_169 k32 x3 x6 x7 1 S
noncomputable def X11_load_107 (k32 : Int32 → Int64 → Sx → Rs Int64) (x3 : Int32) (x4 : Int64) (x6 : Int32) (y0 : Int32) (S : Sx) : Rs Int64 :=
  bd (X11_want y0 12 x6 S) (fun _ S1 => if x3 = 2 then bd (X11_row x6 S1) (fun _ S2 => k32 x3 x4 S2) else bd (X11_octa x6 S1) (fun v1 S2 => vl v1 (fun v2 => if x3 = 1 then X11_load_147 k32 x3 x6 v2 S2 else if x3 = 6 then X11_load_147 k32 x3 x6 v2 S2 else bd (X11_fix x3 v2 x6 S2) (fun _ S3 => X11_load_188 k32 x3 v2 S3))))
noncomputable def X11_load_55 (k32 : Int32 → Int64 → Sx → Rs Int64) (x4 : Int64) (y0 : Int32) (S : Sx) : Rs Int64 :=
  bd (X11_want y0 11 (gI S 164 4) S) (fun _ S1 => vl (gI S1 164 4) (fun v1 => dO S1 1 (gR S1 164 2) (fun c3 => lI S1 c3 (gN S1 c3) (gI S1 164 4) (fun v2 => vl v2 (fun v4 => pt (pI S1 164 4 ((gI S1 164 4) + 1)) (fun S2 => if v4 < 1 then X11_load_107 k32 v4 x4 v1 0 S2 else if 6 < v4 then X11_load_107 k32 v4 x4 v1 0 S2 else X11_load_107 k32 v4 x4 v1 1 S2))))))
noncomputable def X11_load_230 (x4 : Int64) (y0 : Int32) (S : Sx) : Rs Int64 :=
  bd (X11_want y0 12 (gI S 164 4) S) (fun _ S1 => bd (X2_settle S1) (fun _ S2 => rt x4 S2))
noncomputable def X11_load_32b (k32 : Int32 → Int64 → Sx → Rs Int64) (x3 : Int32) (x4 : Int64) (S : Sx) : Rs Int64 :=
  if x3 = 6 then if (gI S 164 4) = (gI S 164 3) then X11_load_230 x4 1 S else X11_load_230 x4 0 S else if (gI S 164 3) ≤ (gI S 164 4) then X11_load_55 k32 x4 0 S else X11_load_55 k32 x4 1 S
noncomputable def X11_load_32 : Nat → Int32 → Int64 → Sx → Rs Int64
  | 0 => fun _ _ _ => none
  | n + 1 => X11_load_32b  (X11_load_32 n)
noncomputable def X11_load (a1 : Option Nat) (a2 : Int32) (S : Sx) : Rs Int64 :=
  pt (pR S 164 2 a1) (fun S1 => pt (pI S1 164 3 a2) (fun S2 => pt (pI S2 164 4 0) (fun S3 => pt (pL S3 164 5 0) (fun S4 => bd (X2_clear S4) (fun _ S5 => X11_load_32 FU 0 0 S5)))))
noncomputable def X6_clear_2b (k2 : Int32 → Sx → Rs Unit) (x1 : Int32) (S : Sx) : Rs Unit :=
  if 32 ≤ x1 then pt (pI S 139 3 0) (fun S1 => pt (pI S1 139 4 0) (fun S2 => pt (pI S2 139 5 0) (fun S3 => rt () S3))) else sL S 142 32 x1 0 (fun S1 => vl (x1 + 1) (fun v1 => k2 v1 S1))
noncomputable def X6_clear_2 : Nat → Int32 → Sx → Rs Unit
  | 0 => fun _ _ => none
  | n + 1 => X6_clear_2b  (X6_clear_2 n)
noncomputable def X6_clear (S : Sx) : Rs Unit :=
  X6_clear_2 FU 0 S
noncomputable def X5_begin_9b (k9 : Int64 → Int32 → Sx → Rs Unit) (x1 : Int64) (x3 : Int32) (S : Sx) : Rs Unit :=
  if 4 ≤ x3 then pt (pL S 138 5 x1) (fun S1 => pt (pI S1 138 6 0) (fun S2 => pt (pI S2 138 7 0) (fun S3 => pt (pI S3 138 9 0) (fun S4 => rt () S4)))) else sL S 144 4 x3 0 (fun S1 => vl (x3 + 1) (fun v1 => k9 x1 v1 S1))
noncomputable def X5_begin_9 : Nat → Int64 → Int32 → Sx → Rs Unit
  | 0 => fun _ _ _ => none
  | n + 1 => X5_begin_9b  (X5_begin_9 n)
noncomputable def X5_begin (a1 : Int64) (S : Sx) : Rs Unit :=
  bd (X6_clear S) (fun _ S1 => X5_begin_9 FU a1 0 S1)
noncomputable def X0_take_119 (S : Sx) : Rs Int32 :=
  pt (pI S 165 1 0) (fun S1 => if (gI S1 0 6) = 0 then rt ((-1)) S1 else rt 0 S1)
noncomputable def X0_take_86 (y0 : Nat) (S : Sx) : Rs Int32 :=
  kd S (1 + 6) y0 (pt (pI S 0 7 (gI S y0 6)) (fun S1 => kd S1 (1 + 6) y0 (pt (pI S1 0 8 (gI S1 y0 7)) (fun S2 => if (gI S2 0 7) ≤ 10 then X0_take_119 S2 else bd (X2_settle S2) (fun _ S3 => X0_take_119 S3)))))
noncomputable def X0_take_56 (x2 : Option Nat) (S : Sx) : Rs Int32 :=
  dO S (8 + 6) x2 (fun c1 => dO S (8 + 6) x2 (fun c2 => ct (X11_load (gR S c1 0) (gI S c2 1) S) (fun v3 S1 => ct (X5_begin v3 S1) (fun _ S2 => pt (pI S2 0 6 1) (fun S3 => X0_take_119 S3)) (fun c5 S2 => kd S2 (1 + 6) c5 (X0_take_86 c5 S2))) (fun c4 S1 => kd S1 (1 + 6) c4 (X0_take_86 c4 S1))))
noncomputable def X0_take (a1 : Int32) (S : Sx) : Rs Int32 :=
  pt (pI S 0 6 0) (fun S1 => pt (pI S1 0 7 0) (fun S2 => pt (pI S2 0 8 ((-1))) (fun S3 => if a1 = 0 then X0_take_56 (some 165) S3 else ct (X9_read (gR S3 165 0) (gI S3 165 1) S3) (fun _ S4 => X0_take_56 (some 150) S4) (fun c1 S4 => kd S4 (1 + 6) c1 (X0_take_86 c1 S4)))))
noncomputable def X0_assemble (S : Sx) : Rs Int32 :=
  bd (X0_take 1 S) (fun v1 S1 => rt v1 S1)
noncomputable def X12_begin_25b (k25 : Int32 → Sx → Rs Unit) (x2 : Int32) (S : Sx) : Rs Unit :=
  if 1024 ≤ x2 then pt (pL S 167 38 0) (fun S1 => pt (pI S1 167 5 0) (fun S2 => pt (pI S2 167 6 ((-1))) (fun S3 => rt () S3))) else sI S 182 1024 x2 (nz 0) (fun S1 => vl (x2 + 1) (fun v1 => k25 v1 S1))
noncomputable def X12_begin_25 : Nat → Int32 → Sx → Rs Unit
  | 0 => fun _ _ => none
  | n + 1 => X12_begin_25b  (X12_begin_25 n)
noncomputable def X12_begin_7b (k7 : Option Nat → Int32 → Sx → Rs Unit) (x1 : Option Nat) (x2 : Int32) (S : Sx) : Rs Unit :=
  if 65536 ≤ x2 then X12_begin_25 FU 0 S else dO S 1 x1 (fun c1 => sI S c1 (gN S c1) x2 0 (fun S1 => vl (x2 + 1) (fun v2 => k7 x1 v2 S1)))
noncomputable def X12_begin_7 : Nat → Option Nat → Int32 → Sx → Rs Unit
  | 0 => fun _ _ _ => none
  | n + 1 => X12_begin_7b  (X12_begin_7 n)
noncomputable def X12_begin (a1 : Option Nat) (S : Sx) : Rs Unit :=
  pt (pR S 167 37 a1) (fun S1 => X12_begin_7 FU a1 0 S1)
noncomputable def X12_byteAt (a1 : Int32) (S : Sx) : Rs Int32 :=
  if (gI S 167 1) ≤ a1 then rt ((-1)) S else lI S 168 20000 a1 (fun v1 => if v1 = 10 then rt ((-1)) S else lI S 168 20000 a1 (fun v2 => rt v2 S))
noncomputable def X12_isLetter_12 (x0 : Int32) (S : Sx) : Rs Int32 :=
  if x0 < 97 then rt 0 S else if 122 < x0 then rt 0 S else rt 1 S
noncomputable def X12_isLetter (a1 : Int32) (S : Sx) : Rs Int32 :=
  if a1 < 65 then X12_isLetter_12 a1 S else if a1 ≤ 90 then rt 1 S else X12_isLetter_12 a1 S
noncomputable def X12_isDigit (a1 : Int32) (S : Sx) : Rs Int32 :=
  if a1 < 48 then rt 0 S else if 57 < a1 then rt 0 S else rt 1 S
noncomputable def X13_init (c0 : Nat) (a1 : Int32) (a2 : Int32) (S : Sx) : Rs Unit :=
  xi S 13 c0 (fun S1 => kd S1 (13 + 6) c0 (pt (pI S1 c0 6 a1) (fun S2 => kd S2 (13 + 6) c0 (pt (pI S2 c0 7 a2) (fun S3 => rt () S3)))))
noncomputable def X12_must (a1 : Int32) (a2 : Int32) (a3 : Int32) (S : Sx) : Rs Unit :=
  if a1 = 0 then al S (13 + 50 + 6) 0 8 (fun c1 S1 => bd (X13_init c1 a2 a3 S1) (fun _ S2 => th c1 S2)) else rt () S
noncomputable def X12_word_49 (k5 : Int32 → Sx → Rs Int32) (x1 : Int32) (y0 : Int32) (S : Sx) : Rs Int32 :=
  bd (X12_must y0 1 x1 S) (fun _ S1 => pt (pI S1 167 49 ((gI S1 167 49) + 1)) (fun S2 => k5 x1 S2))
noncomputable def X12_word_33 (k5 : Int32 → Sx → Rs Int32) (x1 : Int32) (S : Sx) : Rs Int32 :=
  if 12 ≤ ((gI S 167 49) - x1) then X12_word_49 k5 x1 0 S else X12_word_49 k5 x1 1 S
noncomputable def X12_word_5b (k5 : Int32 → Sx → Rs Int32) (x1 : Int32) (S : Sx) : Rs Int32 :=
  bd (X12_byteAt (gI S 167 49) S) (fun v1 S1 => bd (X12_isLetter v1 S1) (fun v2 S2 => if v2 = 0 then bd (X12_byteAt (gI S2 167 49) S2) (fun v3 S3 => bd (X12_isDigit v3 S3) (fun v4 S4 => if v4 = 0 then rt ((gI S4 167 49) - x1) S4 else X12_word_33 k5 x1 S4)) else X12_word_33 k5 x1 S2))
noncomputable def X12_word_5 : Nat → Int32 → Sx → Rs Int32
  | 0 => fun _ _ => none
  | n + 1 => X12_word_5b  (X12_word_5 n)
noncomputable def X12_word (S : Sx) : Rs Int32 :=
  vl (gI S 167 49) (fun v1 => X12_word_5 FU v1 S)
noncomputable def X12_known_80 (k2 : Int32 → Int32 → Int32 → Sx → Rs Int32) (x1 : Int32) (x2 : Int32) (x3 : Int32) (x4 : Int32) (S : Sx) : Rs Int32 :=
  if x4 = 0 then vl (x3 + 1) (fun v1 => k2 x1 x2 v1 S) else rt x3 S
noncomputable def X12_known_30b (k2 : Int32 → Int32 → Int32 → Sx → Rs Int32) (k30 : Int32 → Int32 → Int32 → Int32 → Int32 → Sx → Rs Int32) (x1 : Int32) (x2 : Int32) (x3 : Int32) (x4 : Int32) (x5 : Int32) (S : Sx) : Rs Int32 :=
  if x2 ≤ x5 then X12_known_80 k2 x1 x2 x3 x4 S else if x4 = 0 then X12_known_80 k2 x1 x2 x3 x4 S else lI S 184 300 x3 (fun v1 => lI S 168 20000 (v1 + x5) (fun v2 => lI S 168 20000 (x1 + x5) (fun v3 => if v2 = v3 then vl (x5 + 1) (fun v4 => k30 x1 x2 x3 1 v4 S) else vl (x5 + 1) (fun v4 => k30 x1 x2 x3 0 v4 S))))
noncomputable def X12_known_30 (k2 : Int32 → Int32 → Int32 → Sx → Rs Int32) : Nat → Int32 → Int32 → Int32 → Int32 → Int32 → Sx → Rs Int32
  | 0 => fun _ _ _ _ _ _ => none
  | n + 1 => X12_known_30b k2 (X12_known_30 k2 n)
noncomputable def X12_known_2b (k2 : Int32 → Int32 → Int32 → Sx → Rs Int32) (x1 : Int32) (x2 : Int32) (x3 : Int32) (S : Sx) : Rs Int32 :=
  if (gI S 167 43) ≤ x3 then rt ((-1)) S else lI S 185 300 x3 (fun v1 => if v1 = x2 then X12_known_30 k2 FU x1 x2 x3 1 0 S else X12_known_30 k2 FU x1 x2 x3 0 0 S)
noncomputable def X12_known_2 : Nat → Int32 → Int32 → Int32 → Sx → Rs Int32
  | 0 => fun _ _ _ _ => none
  | n + 1 => X12_known_2b  (X12_known_2 n)
noncomputable def X12_known (a1 : Int32) (a2 : Int32) (S : Sx) : Rs Int32 :=
  X12_known_2 FU a1 a2 0 S
noncomputable def X12_label_15 (x1 : Int32) (x2 : Int32) (y0 : Int32) (S : Sx) : Rs Int32 :=
  bd (X12_must y0 6 x1 S) (fun _ S1 => sI S1 184 300 (gI S1 167 43) x1 (fun S2 => sI S2 185 300 (gI S2 167 43) x2 (fun S3 => sI S3 186 300 (gI S3 167 43) ((-1)) (fun S4 => pt (pI S4 167 43 ((gI S4 167 43) + 1)) (fun S5 => rt ((gI S5 167 43) - 1) S5)))))
noncomputable def X12_label (a1 : Int32) (a2 : Int32) (S : Sx) : Rs Int32 :=
  if 300 ≤ (gI S 167 43) then X12_label_15 a1 a2 0 S else X12_label_15 a1 a2 1 S
noncomputable def X12_isPause (a1 : Int32) (S : Sx) : Rs Int32 :=
  bd (X12_byteAt a1 S) (fun v1 S1 => if v1 < 0 then rt 1 S1 else bd (X12_byteAt a1 S1) (fun v2 S2 => if v2 = 32 then rt 1 S2 else rt 0 S2))
noncomputable def X12_passBlanks_0b (k0 : Sx → Rs Unit) (S : Sx) : Rs Unit :=
  bd (X12_byteAt (gI S 167 49) S) (fun v1 S1 => if v1 = 32 then pt (pI S1 167 49 ((gI S1 167 49) + 1)) (fun S2 => k0 S2) else rt () S1)
noncomputable def X12_passBlanks_0 : Nat → Sx → Rs Unit
  | 0 => fun _ => none
  | n + 1 => X12_passBlanks_0b  (X12_passBlanks_0 n)
noncomputable def X12_passBlanks (S : Sx) : Rs Unit :=
  X12_passBlanks_0 FU S
noncomputable def X12_opAt_103b (k2 : Int32 → Int32 → Int32 → Sx → Rs Int32) (k103 : Int32 → Int32 → Int32 → Int32 → Int32 → Sx → Rs Int32) (x1 : Int32) (x2 : Int32) (x3 : Int32) (x5 : Int32) (x6 : Int32) (S : Sx) : Rs Int32 :=
  bd (J3_charAt 5 x3 S) (fun v1 S1 => if v1 = 32 then vl (x3 + 1) (fun v2 => if x5 = 0 then k2 x1 x2 v2 S1 else rt x6 S1) else bd (J3_charAt 5 x3 S1) (fun v2 S2 => vl (((10 * x6) + v2) - 48) (fun v3 => vl (x3 + 1) (fun v4 => k103 x1 x2 v4 x5 v3 S2))))
noncomputable def X12_opAt_103 (k2 : Int32 → Int32 → Int32 → Sx → Rs Int32) : Nat → Int32 → Int32 → Int32 → Int32 → Int32 → Sx → Rs Int32
  | 0 => fun _ _ _ _ _ _ => none
  | n + 1 => X12_opAt_103b k2 (X12_opAt_103 k2 n)
noncomputable def X12_opAt_95 (k2 : Int32 → Int32 → Int32 → Sx → Rs Int32) (x1 : Int32) (x2 : Int32) (x3 : Int32) (y0 : Int32) (S : Sx) : Rs Int32 :=
  vl y0 (fun v1 => vl (x3 + 1) (fun v2 => X12_opAt_103 k2 FU x1 x2 v2 v1 0 S))
noncomputable def X12_opAt_18b (k2 : Int32 → Int32 → Int32 → Sx → Rs Int32) (k18 : Int32 → Int32 → Int32 → Int32 → Int32 → Sx → Rs Int32) (x1 : Int32) (x2 : Int32) (x3 : Int32) (x4 : Int32) (x5 : Int32) (S : Sx) : Rs Int32 :=
  bd (J3_charAt 5 x3 S) (fun v1 S1 => if v1 = 32 then if x5 = 0 then X12_opAt_95 k2 x1 x2 x3 0 S1 else if (x3 - x4) = x2 then X12_opAt_95 k2 x1 x2 x3 1 S1 else X12_opAt_95 k2 x1 x2 x3 0 S1 else if x5 = 0 then vl (x3 + 1) (fun v2 => k18 x1 x2 v2 x4 0 S1) else if x2 ≤ (x3 - x4) then vl (x3 + 1) (fun v2 => k18 x1 x2 v2 x4 0 S1) else bd (J3_charAt 5 x3 S1) (fun v2 S2 => lI S2 168 20000 ((x1 + x3) - x4) (fun v3 => if v2 = v3 then vl (x3 + 1) (fun v4 => k18 x1 x2 v4 x4 1 S2) else vl (x3 + 1) (fun v4 => k18 x1 x2 v4 x4 0 S2))))
noncomputable def X12_opAt_18 (k2 : Int32 → Int32 → Int32 → Sx → Rs Int32) : Nat → Int32 → Int32 → Int32 → Int32 → Int32 → Sx → Rs Int32
  | 0 => fun _ _ _ _ _ _ => none
  | n + 1 => X12_opAt_18b k2 (X12_opAt_18 k2 n)
noncomputable def X12_opAt_2b (k2 : Int32 → Int32 → Int32 → Sx → Rs Int32) (x1 : Int32) (x2 : Int32) (x3 : Int32) (S : Sx) : Rs Int32 :=
  bd (J3_length 5 S) (fun v1 S1 => if v1 ≤ x3 then rt ((-1)) S1 else vl x3 (fun v2 => X12_opAt_18 k2 FU x1 x2 x3 v2 1 S1))
noncomputable def X12_opAt_2 : Nat → Int32 → Int32 → Int32 → Sx → Rs Int32
  | 0 => fun _ _ _ _ => none
  | n + 1 => X12_opAt_2b  (X12_opAt_2 n)
noncomputable def X12_opAt (a1 : Int32) (a2 : Int32) (S : Sx) : Rs Int32 :=
  X12_opAt_2 FU a1 a2 0 S
noncomputable def X12_align (a1 : Int64) (S : Sx) : Rs Unit :=
  if a1 = 0 then none else pt (pL S 167 38 (((((gL S 167 38) + a1) - 1) / a1) * a1)) (fun S1 => rt () S1)
noncomputable def X12_put_3b (k3 : Int32 → Int32 → Int64 → Int32 → Sx → Rs Unit) (x1 : Int32) (x2 : Int32) (x3 : Int64) (x5 : Int32) (S : Sx) : Rs Unit :=
  if x2 ≤ x5 then rt () S else dO S 1 (gR S 167 37) (fun c1 => sI S c1 (gN S c1) (x1 + x5) (((x3 >>> ((8 * ((x2 - 1) - x5)).toInt64 &&& 63)).toInt32) &&& 255) (fun S1 => sI S1 182 1024 ((x1 + x5) / 64) (nz 1) (fun S2 => vl (x5 + 1) (fun v2 => k3 x1 x2 x3 v2 S2))))
noncomputable def X12_put_3 : Nat → Int32 → Int32 → Int64 → Int32 → Sx → Rs Unit
  | 0 => fun _ _ _ _ _ => none
  | n + 1 => X12_put_3b  (X12_put_3 n)
noncomputable def X12_put (a1 : Int32) (a2 : Int32) (a3 : Int64) (S : Sx) : Rs Unit :=
  X12_put_3 FU a1 a2 a3 0 S
noncomputable def X12_lay_2_19 (x1 : Int32) (x2 : Int64) (y0 : Int32) (S : Sx) : Rs Unit :=
  bd (X12_must y0 5 (gI S 167 50) S) (fun _ S1 => bd (X12_put ((gL S1 167 38).toInt32) x1 x2 S1) (fun _ S2 => pt (pL S2 167 38 ((gL S2 167 38) + x1.toInt64)) (fun S3 => rt () S3)))
noncomputable def X12_lay_2 (a1 : Int32) (a2 : Int64) (S : Sx) : Rs Unit :=
  if 65536 < ((gL S 167 38) + a1.toInt64) then X12_lay_2_19 a1 a2 0 S else X12_lay_2_19 a1 a2 1 S
noncomputable def X12_digits_50 (k3 : Int64 → Int32 → Int64 → Sx → Rs Int64) (x1 : Int64) (x3 : Int32) (x4 : Int64) (x6 : Int32) (y0 : Int32) (S : Sx) : Rs Int64 :=
  bd (X12_must y0 1 x3 S) (fun _ S1 => vl ((10 * x4) + x6.toInt64) (fun v1 => pt (pI S1 167 49 ((gI S1 167 49) + 1)) (fun S2 => k3 x1 x3 v1 S2)))
noncomputable def X12_digits_3b (k3 : Int64 → Int32 → Int64 → Sx → Rs Int64) (x1 : Int64) (x3 : Int32) (x4 : Int64) (S : Sx) : Rs Int64 :=
  bd (X12_byteAt (gI S 167 49) S) (fun v1 S1 => bd (X12_isDigit v1 S1) (fun v2 S2 => if v2 = 0 then rt x4 S2 else bd (X12_byteAt (gI S2 167 49) S2) (fun v3 S3 => vl (v3 - 48) (fun v4 => if ((x1 - v4.toInt64) / 10) < x4 then X12_digits_50 k3 x1 x3 x4 v4 0 S3 else X12_digits_50 k3 x1 x3 x4 v4 1 S3))))
noncomputable def X12_digits_3 : Nat → Int64 → Int32 → Int64 → Sx → Rs Int64
  | 0 => fun _ _ _ _ => none
  | n + 1 => X12_digits_3b  (X12_digits_3 n)
noncomputable def X12_digits (a1 : Int64) (a2 : Int32) (S : Sx) : Rs Int64 :=
  X12_digits_3 FU a1 a2 0 S
noncomputable def X12_hex_36 (x0 : Int32) (S : Sx) : Rs Int32 :=
  if x0 < 65 then rt ((-1)) S else if 70 < x0 then rt ((-1)) S else rt ((x0 - 65) + 10) S
noncomputable def X12_hex (a1 : Int32) (S : Sx) : Rs Int32 :=
  bd (X12_isDigit a1 S) (fun v1 S1 => if v1 = 0 then if a1 < 97 then X12_hex_36 a1 S1 else if 102 < a1 then X12_hex_36 a1 S1 else rt ((a1 - 97) + 10) S1 else rt (a1 - 48) S1)
noncomputable def X12_term_87 (x3 : Int32) (S : Sx) : Rs Int64 :=
  lL S 187 300 x3 (fun v1 => rt v1 S)
noncomputable def X12_term_65 (x1 : Int32) (x3 : Int32) (y0 : Int32) (S : Sx) : Rs Int64 :=
  bd (X12_must y0 2 x1 S) (fun _ S1 => lI S1 186 300 x3 (fun v1 => if (v1 &&& 1) = 1 then pt (pI S1 167 51 ((-1))) (fun S2 => X12_term_87 x3 S2) else X12_term_87 x3 S1))
noncomputable def X12_term_210 (k184 : Int32 → Int64 → Int32 → Sx → Rs Int64) (x1 : Int32) (x3 : Int64) (x5 : Int32) (y0 : Int32) (S : Sx) : Rs Int64 :=
  bd (X12_must y0 1 x1 S) (fun _ S1 => bd (X12_byteAt (gI S1 167 49) S1) (fun v1 S2 => bd (X12_hex v1 S2) (fun v2 S3 => vl ((x3 <<< (((4 : Int32)).toInt64 &&& 63)) ||| v2.toInt64) (fun v3 => pt (pI S3 167 49 ((gI S3 167 49) + 1)) (fun S4 => vl (x5 + 1) (fun v4 => k184 x1 v3 v4 S4))))))
noncomputable def X12_term_184b (k184 : Int32 → Int64 → Int32 → Sx → Rs Int64) (x1 : Int32) (x3 : Int64) (x5 : Int32) (S : Sx) : Rs Int64 :=
  bd (X12_byteAt (gI S 167 49) S) (fun v1 S1 => bd (X12_hex v1 S1) (fun v2 S2 => if v2 < 0 then rt x3 S2 else if 16 ≤ x5 then X12_term_210 k184 x1 x3 x5 0 S2 else X12_term_210 k184 x1 x3 x5 1 S2))
noncomputable def X12_term_184 : Nat → Int32 → Int64 → Int32 → Sx → Rs Int64
  | 0 => fun _ _ _ _ => none
  | n + 1 => X12_term_184b  (X12_term_184 n)
noncomputable def X12_term_173 (x1 : Int32) (x3 : Int64) (y0 : Int32) (S : Sx) : Rs Int64 :=
  bd (X12_must y0 1 (gI S 167 49) S) (fun _ S1 => X12_term_184 FU x1 x3 0 S1)
noncomputable def X12_term_312 (x3 : Int64) (y0 : Int32) (S : Sx) : Rs Int64 :=
  bd (X12_must y0 1 (gI S 167 49) S) (fun _ S1 => pt (pI S1 167 49 ((gI S1 167 49) + 1)) (fun S2 => rt x3 S2))
noncomputable def X12_term_266 (y0 : Int32) (S : Sx) : Rs Int64 :=
  bd (X12_must y0 1 (gI S 167 49) S) (fun _ S1 => bd (X12_byteAt (gI S1 167 49) S1) (fun v1 S2 => vl v1.toInt64 (fun v2 => pt (pI S2 167 49 ((gI S2 167 49) + 1)) (fun S3 => bd (X12_byteAt (gI S3 167 49) S3) (fun v3 S4 => if v3 = 39 then X12_term_312 v2 1 S4 else X12_term_312 v2 0 S4)))))
noncomputable def X12_term_117 (x1 : Int32) (x2 : Int32) (y0 : Int32) (S : Sx) : Rs Int64 :=
  bd (X12_must y0 1 (gI S 167 49) S) (fun _ S1 => pt (pI S1 167 49 ((gI S1 167 49) + 1)) (fun S2 => if x2 = 64 then rt (gL S2 167 38) S2 else if x2 = 35 then bd (X12_byteAt (gI S2 167 49) S2) (fun v1 S3 => bd (X12_hex v1 S3) (fun v2 S4 => if v2 < 0 then X12_term_173 x1 0 0 S4 else X12_term_173 x1 0 1 S4)) else bd (X12_byteAt (gI S2 167 49) S2) (fun v1 S3 => if v1 < 0 then X12_term_266 0 S3 else X12_term_266 1 S3)))
noncomputable def X12_term (S : Sx) : Rs Int64 :=
  vl (gI S 167 49) (fun v1 => bd (X12_byteAt (gI S 167 49) S) (fun v2 S1 => vl v2 (fun v3 => bd (X12_isDigit v3 S1) (fun v4 S2 => if v4 = 0 then bd (X12_isLetter v3 S2) (fun v5 S3 => if v5 = 0 then if v3 = 64 then X12_term_117 v1 v3 1 S3 else if v3 = 35 then X12_term_117 v1 v3 1 S3 else if v3 = 39 then X12_term_117 v1 v3 1 S3 else X12_term_117 v1 v3 0 S3 else bd (X12_word S3) (fun v6 S4 => bd (X12_known v1 v6 S4) (fun v7 S5 => vl v7 (fun v8 => if v8 < 0 then X12_term_65 v1 v8 0 S5 else lI S5 186 300 v8 (fun v9 => if v9 < 0 then X12_term_65 v1 v8 0 S5 else X12_term_65 v1 v8 1 S5))))) else bd (X12_digits 9223372036854775807 v1 S2) (fun v5 S3 => rt v5 S3)))))
noncomputable def X12_sum_88 (k5 : Sx → Rs Unit) (y0 : Int64) (S : Sx) : Rs Unit :=
  pt (pL S 167 52 y0) (fun S1 => k5 S1)
noncomputable def X12_sum_49 (k5 : Sx → Rs Unit) (y0 : Int32) (S : Sx) : Rs Unit :=
  vl y0 (fun v1 => pt (pI S 167 49 ((gI S 167 49) + 1)) (fun S1 => bd (X12_term S1) (fun v2 S2 => vl v2 (fun v3 => if v1 = 0 then X12_sum_88 k5 ((gL S2 167 52) + v3) S2 else X12_sum_88 k5 ((gL S2 167 52) - v3) S2))))
noncomputable def X12_sum_31 (k5 : Sx → Rs Unit) (S : Sx) : Rs Unit :=
  bd (X12_byteAt (gI S 167 49) S) (fun v1 S1 => if v1 = 45 then X12_sum_49 k5 1 S1 else X12_sum_49 k5 0 S1)
noncomputable def X12_sum_5b (k5 : Sx → Rs Unit) (S : Sx) : Rs Unit :=
  bd (X12_byteAt (gI S 167 49) S) (fun v1 S1 => if v1 = 43 then X12_sum_31 k5 S1 else bd (X12_byteAt (gI S1 167 49) S1) (fun v2 S2 => if v2 = 45 then X12_sum_31 k5 S2 else rt () S2))
noncomputable def X12_sum_5 : Nat → Sx → Rs Unit
  | 0 => fun _ => none
  | n + 1 => X12_sum_5b  (X12_sum_5 n)
noncomputable def X12_sum (a1 : Int64) (S : Sx) : Rs Unit :=
  pt (pL S 167 52 a1) (fun S1 => X12_sum_5 FU S1)
noncomputable def X12_name_167 (y0 : Int64) (S : Sx) : Rs Unit :=
  pt (pL S 167 52 y0) (fun S1 => pt (pI S1 167 51 2) (fun S2 => rt () S2))
noncomputable def X12_name_139 (x2 : Int32) (x3 : Int32) (y0 : Int32) (S : Sx) : Rs Unit :=
  bd (X12_must y0 1 (gI S 167 49) S) (fun _ S1 => if x3 < 0 then bd (X12_label (gI S1 167 53) x2 S1) (fun v1 S2 => X12_name_167 v1.toInt64 S2) else X12_name_167 x3.toInt64 S1)
noncomputable def X12_name_102 (x2 : Int32) (x3 : Int32) (y0 : Int32) (S : Sx) : Rs Unit :=
  bd (X12_must y0 2 (gI S 167 53) S) (fun _ S1 => bd (X12_isPause (gI S1 167 49) S1) (fun v1 S2 => if v1 = 0 then bd (X12_byteAt (gI S2 167 49) S2) (fun v2 S3 => if v2 = 44 then X12_name_139 x2 x3 1 S3 else X12_name_139 x2 x3 0 S3) else X12_name_139 x2 x3 1 S2))
noncomputable def X12_name_67 (x1 : Int32) (x2 : Int32) (x3 : Int32) (S : Sx) : Rs Unit :=
  if x1 = 0 then X12_name_102 x2 x3 0 S else bd (X12_byteAt (gI S 167 49) S) (fun v1 S1 => if v1 = 43 then X12_name_102 x2 x3 0 S1 else bd (X12_byteAt (gI S1 167 49) S1) (fun v2 S2 => if v2 = 45 then X12_name_102 x2 x3 0 S2 else X12_name_102 x2 x3 1 S2))
noncomputable def X12_name (a1 : Int32) (S : Sx) : Rs Unit :=
  bd (X12_word S) (fun v1 S1 => vl v1 (fun v2 => bd (X12_known (gI S1 167 53) v2 S1) (fun v3 S2 => vl v3 (fun v4 => if v4 < 0 then X12_name_67 a1 v2 v4 S2 else lI S2 186 300 v4 (fun v5 => if v5 < 0 then X12_name_67 a1 v2 v4 S2 else lL S2 187 300 v4 (fun v6 => pt (pL S2 167 52 v6) (fun S3 => lI S3 186 300 v4 (fun v7 => if (v7 &&& 1) = 1 then pt (pI S3 167 51 1) (fun S4 => rt () S4) else bd (X12_sum (gL S3 167 52) S3) (fun _ S4 => rt () S4)))))))))
noncomputable def X12_operand_152 (y0 : Int32) (S : Sx) : Rs Unit :=
  bd (X12_must y0 3 (gI S 167 53) S) (fun _ S1 => rt () S1)
noncomputable def X12_operand_132 (y0 : Int32) (S : Sx) : Rs Unit :=
  bd (X12_must y0 1 (gI S 167 49) S) (fun _ S1 => if (gI S1 167 51) < 0 then X12_operand_152 0 S1 else X12_operand_152 1 S1)
noncomputable def X12_operand_103 (S : Sx) : Rs Unit :=
  bd (X12_isPause (gI S 167 49) S) (fun v1 S1 => if v1 = 0 then bd (X12_byteAt (gI S1 167 49) S1) (fun v2 S2 => if v2 = 44 then X12_operand_132 1 S2 else X12_operand_132 0 S2) else X12_operand_132 1 S1)
noncomputable def X12_operand (a1 : Int32) (S : Sx) : Rs Unit :=
  pt (pI S 167 53 (gI S 167 49)) (fun S1 => pt (pI S1 167 51 0) (fun S2 => bd (X12_byteAt (gI S2 167 49) S2) (fun v1 S3 => vl v1 (fun v2 => if v2 = 36 then pt (pI S3 167 49 ((gI S3 167 49) + 1)) (fun S4 => bd (X12_byteAt (gI S4 167 49) S4) (fun v3 S5 => bd (X12_isDigit v3 S5) (fun v4 S6 => bd (X12_must v4 1 (gI S6 167 49) S6) (fun _ S7 => bd (X12_digits 31 (gI S7 167 53) S7) (fun v5 S8 => pt (pL S8 167 52 v5) (fun S9 => pt (pI S9 167 51 1) (fun S10 => X12_operand_103 S10))))))) else bd (X12_isLetter v2 S3) (fun v3 S4 => if v3 = 0 then bd (X12_term S4) (fun v4 S5 => bd (X12_sum v4 S5) (fun _ S6 => X12_operand_103 S6)) else bd (X12_name a1 S4) (fun _ S5 => X12_operand_103 S5))))))
noncomputable def X12_isIn (a1 : Int64) (a2 : Int64) (a3 : Int64) (S : Sx) : Rs Int32 :=
  if a1 < a2 then rt 0 S else if a3 < a1 then rt 0 S else rt 1 S
noncomputable def X12_field_48 (y0 : Int32) (S : Sx) : Rs Int32 :=
  bd (X12_must y0 4 (gI S 167 53) S) (fun _ S1 => rt ((gL S1 167 52).toInt32) S1)
noncomputable def X12_field_18 (x1 : Int32) (x2 : Int64) (y0 : Int32) (S : Sx) : Rs Int32 :=
  bd (X12_must y0 3 (gI S 167 53) S) (fun _ S1 => if x1 = 1 then X12_field_48 1 S1 else bd (X12_isIn (gL S1 167 52) 0 x2 S1) (fun v1 S2 => if v1 = 0 then X12_field_48 0 S2 else X12_field_48 1 S2))
noncomputable def X12_field (a1 : Int32) (a2 : Int64) (S : Sx) : Rs Int32 :=
  bd (X12_operand 0 S) (fun _ S1 => if (gI S1 167 51) = a1 then X12_field_18 a1 a2 1 S1 else X12_field_18 a1 a2 0 S1)
noncomputable def X12_more_18 (y0 : Int32) (S : Sx) : Rs Int32 :=
  vl y0 (fun v1 => if v1 = 0 then rb v1 S else pt (pI S 167 49 ((gI S 167 49) + 1)) (fun S1 => rb v1 S1))
noncomputable def X12_more (S : Sx) : Rs Int32 :=
  bd (X12_byteAt (gI S 167 49) S) (fun v1 S1 => if v1 = 44 then X12_more_18 1 S1 else X12_more_18 0 S1)
noncomputable def X12_need (S : Sx) : Rs Unit :=
  bd (X12_more S) (fun v1 S1 => bd (X12_must v1 3 (gI S1 167 49) S1) (fun _ S2 => rt () S2))
noncomputable def X12_noMore_12 (y0 : Int32) (S : Sx) : Rs Unit :=
  bd (X12_must y0 3 (gI S 167 49) S) (fun _ S1 => rt () S1)
noncomputable def X12_noMore (S : Sx) : Rs Unit :=
  bd (X12_more S) (fun v1 S1 => if v1 = 0 then X12_noMore_12 1 S1 else X12_noMore_12 0 S1)
noncomputable def X12_trapFields (S : Sx) : Rs Int32 :=
  bd (X12_field 0 255 S) (fun v1 S1 => vl v1 (fun v2 => bd (X12_more S1) (fun v3 S2 => if v3 = 0 then rt v2 S2 else bd (X12_field 0 255 S2) (fun v4 S3 => vl ((v2 <<< ((8 : Int32) &&& 31)) ||| v4) (fun v5 => bd (X12_need S3) (fun _ S4 => bd (X12_field 0 255 S4) (fun v6 S5 => vl ((v5 <<< ((8 : Int32) &&& 31)) ||| v6) (fun v7 => bd (X12_noMore S5) (fun _ S6 => rt v7 S6)))))))))
noncomputable def X12_popFields (S : Sx) : Rs Int32 :=
  bd (X12_byteAt (gI S 167 49) S) (fun v1 S1 => if 0 ≤ v1 then bd (X12_field 0 255 S1) (fun v2 S2 => vl (v2 <<< ((16 : Int32) &&& 31)) (fun v3 => bd (X12_more S2) (fun v4 S3 => if v4 = 0 then rt v3 S3 else bd (X12_field 0 65535 S3) (fun v5 S4 => vl (v3 ||| v5) (fun v6 => bd (X12_noMore S4) (fun _ S5 => rt v6 S5)))))) else rt 0 S1)
noncomputable def X12_twice_9b (k9 : Option Nat → Nat → Int32 → Sx → Rs (Option Nat)) (x0 : Option Nat) (x1 : Nat) (x2 : Int32) (S : Sx) : Rs (Option Nat) :=
  dO S 1 x0 (fun c1 => if (Int32.ofNat ((gN S c1))) ≤ x2 then rt (some x1) S else dO S 1 x0 (fun c3 => lI S c3 (gN S c3) x2 (fun v2 => kd S 1 x1 (sI S x1 (gN S x1) x2 v2 (fun S1 => vl (x2 + 1) (fun v5 => k9 x0 x1 v5 S1))))))
noncomputable def X12_twice_9 : Nat → Option Nat → Nat → Int32 → Sx → Rs (Option Nat)
  | 0 => fun _ _ _ _ => none
  | n + 1 => X12_twice_9b  (X12_twice_9 n)
noncomputable def X12_twice (a1 : Option Nat) (S : Sx) : Rs (Option Nat) :=
  dO S 1 a1 (fun c1 => alI S (2 * (Int32.ofNat ((gN S c1)))) (fun c2 S1 => X12_twice_9 FU a1 c2 0 S1))
noncomputable def X12_use_56 (x1 : Int32) (x2 : Int32) (x3 : Int32) (x4 : Int32) (S : Sx) : Rs Unit :=
  dO S 1 (gR S 167 44) (fun c1 => sI S c1 (gN S c1) (gI S 167 48) x1 (fun S1 => dO S1 1 (gR S1 167 45) (fun c2 => sI S1 c2 (gN S1 c2) (gI S1 167 48) x2 (fun S2 => dO S2 1 (gR S2 167 46) (fun c3 => sI S2 c3 (gN S2 c3) (gI S2 167 48) x3 (fun S3 => dO S3 1 (gR S3 167 47) (fun c4 => sI S3 c4 (gN S3 c4) (gI S3 167 48) x4 (fun S4 => pt (pI S4 167 48 ((gI S4 167 48) + 1)) (fun S5 => rt () S5)))))))))
noncomputable def X12_use (a1 : Int32) (a2 : Int32) (a3 : Int32) (a4 : Int32) (S : Sx) : Rs Unit :=
  dO S 1 (gR S 167 44) (fun c1 => if (gI S 167 48) = (Int32.ofNat ((gN S c1))) then bd (X12_twice (gR S 167 44) S) (fun v2 S1 => pt (pR S1 167 44 v2) (fun S2 => bd (X12_twice (gR S2 167 45) S2) (fun v3 S3 => pt (pR S3 167 45 v3) (fun S4 => bd (X12_twice (gR S4 167 46) S4) (fun v4 S5 => pt (pR S5 167 46 v4) (fun S6 => bd (X12_twice (gR S6 167 47) S6) (fun v5 S7 => pt (pR S7 167 47 v5) (fun S8 => X12_use_56 a1 a2 a3 a4 S8)))))))) else X12_use_56 a1 a2 a3 a4 S)
noncomputable def X12_way_110 (x2 : Int64) (y0 : Int32) (S : Sx) : Rs Int32 :=
  bd (X12_must y0 4 (gI S 167 53) S) (fun _ S1 => bd (X12_noMore S1) (fun _ S2 => rt ((x2 >>> (((2 : Int32)).toInt64 &&& 63)).toInt32) S2))
noncomputable def X12_way_18 (x1 : Int32) (y0 : Int32) (S : Sx) : Rs Int32 :=
  bd (X12_must y0 3 (gI S 167 53) S) (fun _ S1 => if (gI S1 167 51) = 2 then bd (X12_use ((gL S1 167 52).toInt32) (gI S1 167 53) ((gL S1 167 38).toInt32) x1 S1) (fun _ S2 => bd (X12_noMore S2) (fun _ S3 => rt 0 S3)) else vl ((gL S1 167 52) - (gL S1 167 38)) (fun v1 => vl (((1 : Int64)) <<< ((x1 - 1).toInt64 &&& 63)) (fun v2 => if (v1 &&& 3) = 0 then if (v1 >>> (((2 : Int32)).toInt64 &&& 63)) < (-v2) then X12_way_110 v1 0 S1 else if v2 ≤ (v1 >>> (((2 : Int32)).toInt64 &&& 63)) then X12_way_110 v1 0 S1 else X12_way_110 v1 1 S1 else X12_way_110 v1 0 S1)))
noncomputable def X12_way (a1 : Int32) (S : Sx) : Rs Int32 :=
  bd (X12_operand 1 S) (fun _ S1 => if (gI S1 167 51) = 1 then X12_way_18 a1 0 S1 else X12_way_18 a1 1 S1)
noncomputable def X12_registerField (S : Sx) : Rs Int32 :=
  bd (X12_field 1 31 S) (fun v1 S1 => rt v1 S1)
noncomputable def X12_last_32 (y0 : Int32) (S : Sx) : Rs Int32 :=
  bd (X12_must y0 4 (gI S 167 53) S) (fun _ S1 => bd (X12_noMore S1) (fun _ S2 => if (gI S2 167 51) = 1 then rt (((gL S2 167 52).toInt32) ||| 0) S2 else rt (((gL S2 167 52).toInt32) ||| 65536) S2))
noncomputable def X12_last (S : Sx) : Rs Int32 :=
  bd (X12_operand 0 S) (fun _ S1 => if (gI S1 167 51) = 1 then X12_last_32 1 S1 else bd (X12_isIn (gL S1 167 52) 0 255 S1) (fun v1 S2 => if v1 = 0 then X12_last_32 0 S2 else X12_last_32 1 S2))
noncomputable def X12_negFields (S : Sx) : Rs Int32 :=
  bd (X12_operand 0 S) (fun _ S1 => if (gI S1 167 51) = 1 then bd (X12_noMore S1) (fun _ S2 => rt ((gL S2 167 52).toInt32) S2) else bd (X12_isIn (gL S1 167 52) 0 255 S1) (fun v1 S2 => bd (X12_must v1 4 (gI S2 167 53) S2) (fun _ S3 => vl (((gL S3 167 52).toInt32) <<< ((8 : Int32) &&& 31)) (fun v2 => bd (X12_need S3) (fun _ S4 => bd (X12_last S4) (fun v3 S5 => rt (v2 ||| v3) S5))))))
noncomputable def X12_threeFields (S : Sx) : Rs Int32 :=
  bd (X12_registerField S) (fun v1 S1 => vl (v1 <<< ((8 : Int32) &&& 31)) (fun v2 => bd (X12_more S1) (fun v3 S2 => if v3 = 0 then rt (v2 ||| 65536) S2 else bd (X12_last S2) (fun v4 S3 => rt (v2 ||| v4) S3))))
noncomputable def X12_instruction_252 (y0 : Int32) (y1 : Int64) (y2 : Int32) (S : Sx) : Rs Unit :=
  bd (X12_lay_2 y2 (y1 ||| y0.toInt64) S) (fun _ S1 => rt () S1)
noncomputable def X12_instruction_234 (x3 : Int32) (y0 : Int64) (y1 : Int32) (S : Sx) : Rs Unit :=
  X12_instruction_252 (x3 &&& 16777215) y0 y1 S
noncomputable def X12_instruction_210 (x1 : Int32) (x2 : Int32) (x3 : Int32) (x4 : Int32) (S : Sx) : Rs Unit :=
  if x1 = 0 then X12_instruction_234 x3 (x4.toInt64 <<< (((24 : Int32)).toInt64 &&& 63)) 4 S else if x1 = 66 then X12_instruction_234 x3 (x4.toInt64 <<< (((24 : Int32)).toInt64 &&& 63)) 4 S else if x1 = 68 then X12_instruction_234 x3 (x4.toInt64 <<< (((24 : Int32)).toInt64 &&& 63)) 4 S else X12_instruction_252 ((x2 <<< ((16 : Int32) &&& 31)) ||| (x3 &&& 65535)) (x4.toInt64 <<< (((24 : Int32)).toInt64 &&& 63)) 4 S
noncomputable def X12_instruction_29 (x1 : Int32) (x2 : Int32) (x3 : Int32) (x4 : Int32) (y0 : Int32) (S : Sx) : Rs Unit :=
  bd (X12_must y0 3 (gI S 167 49) S) (fun _ S1 => X12_instruction_210 x1 x2 x3 x4 S1)
noncomputable def X12_instruction_167 (x1 : Int32) (x2 : Int32) (x4 : Int32) (y0 : Int64) (y1 : Int32) (S : Sx) : Rs Unit :=
  bd (X12_field y1 y0 S) (fun v1 S1 => vl v1 (fun v2 => bd (X12_noMore S1) (fun _ S2 => X12_instruction_210 x1 x2 v2 x4 S2)))
noncomputable def X12_instruction_195 (x1 : Int32) (x2 : Int32) (y0 : Int32) (S : Sx) : Rs Unit :=
  vl y0 (fun v1 => vl (x1 + (v1 >>> ((16 : Int32) &&& 31))) (fun v2 => vl (v1 &&& 65535) (fun v3 => X12_instruction_210 x1 x2 v3 v2 S)))
noncomputable def X12_instruction_144 (x1 : Int32) (x2 : Int32) (x4 : Int32) (S : Sx) : Rs Unit :=
  if x1 < 70 then if x1 = 32 then bd (X12_negFields S) (fun v1 S1 => X12_instruction_195 x1 x2 v1 S1) else bd (X12_threeFields S) (fun v1 S1 => X12_instruction_195 x1 x2 v1 S1) else if x1 = 78 then X12_instruction_167 x1 x2 x4 255 0 S else X12_instruction_167 x1 x2 x4 65535 0 S
noncomputable def X12_instruction (a1 : Int32) (S : Sx) : Rs Unit :=
  vl a1 (fun v1 => if a1 = 80 then bd (X12_byteAt (gI S 167 49) S) (fun v2 S1 => if 0 ≤ v2 then X12_instruction_29 a1 0 0 v1 0 S1 else X12_instruction_29 a1 0 0 v1 1 S1) else if a1 = 0 then bd (X12_trapFields S) (fun v2 S1 => vl v2 (fun v3 => X12_instruction_210 a1 0 v3 v1 S1)) else if a1 = 68 then bd (X12_popFields S) (fun v2 S1 => vl v2 (fun v3 => X12_instruction_210 a1 0 v3 v1 S1)) else if a1 = 66 then bd (X12_way 24 S) (fun v2 S1 => vl v2 (fun v3 => X12_instruction_210 a1 0 v3 v1 S1)) else if a1 = 79 then bd (X12_field 0 255 S) (fun v2 S1 => vl v2 (fun v3 => bd (X12_need S1) (fun _ S2 => bd (X12_registerField S2) (fun v4 S3 => vl v4 (fun v5 => bd (X12_noMore S3) (fun _ S4 => X12_instruction_210 a1 v3 v5 v1 S4)))))) else bd (X12_registerField S) (fun v2 S1 => vl v2 (fun v3 => bd (X12_need S1) (fun _ S2 => if a1 < 60 then X12_instruction_144 a1 v3 v1 S2 else if 69 < a1 then X12_instruction_144 a1 v3 v1 S2 else bd (X12_way 16 S2) (fun v4 S3 => vl v4 (fun v5 => X12_instruction_210 a1 v3 v5 v1 S3))))))
noncomputable def X12_letters_199b (k199 : Int32 → Int32 → Sx → Rs Unit) (x2 : Int32) (x3 : Int32) (S : Sx) : Rs Unit :=
  if x2 ≤ x3 then rt () S else lI S 168 20000 x3 (fun v1 => bd (X12_lay_2 1 v1.toInt64 S) (fun _ S1 => vl (x3 + 1) (fun v2 => k199 x2 v2 S1)))
noncomputable def X12_letters_199 : Nat → Int32 → Int32 → Sx → Rs Unit
  | 0 => fun _ _ _ => none
  | n + 1 => X12_letters_199b  (X12_letters_199 n)
noncomputable def X12_letters_189 (x1 : Int32) (x2 : Int32) (y0 : Int32) (S : Sx) : Rs Unit :=
  bd (X12_must y0 5 (gI S 167 50) S) (fun _ S1 => vl x1 (fun v1 => X12_letters_199 FU x2 v1 S1))
noncomputable def X12_letters_159 (x1 : Int32) (x2 : Int32) (y0 : Int32) (S : Sx) : Rs Unit :=
  bd (X12_must y0 1 (gI S 167 49) S) (fun _ S1 => if 65536 < (((gL S1 167 38) + x2.toInt64) - x1.toInt64) then X12_letters_189 x1 x2 0 S1 else X12_letters_189 x1 x2 1 S1)
noncomputable def X12_letters_107 (x1 : Int32) (y0 : Int32) (S : Sx) : Rs Unit :=
  bd (X12_must y0 1 (gI S 167 49) S) (fun _ S1 => vl (gI S1 167 49) (fun v1 => pt (pI S1 167 49 ((gI S1 167 49) + 1)) (fun S2 => bd (X12_isPause (gI S2 167 49) S2) (fun v2 S3 => if v2 = 0 then bd (X12_byteAt (gI S3 167 49) S3) (fun v3 S4 => if v3 = 44 then X12_letters_159 x1 v1 1 S4 else X12_letters_159 x1 v1 0 S4) else X12_letters_159 x1 v1 1 S3))))
noncomputable def X12_letters_91 (x1 : Int32) (S : Sx) : Rs Unit :=
  bd (X12_byteAt (gI S 167 49) S) (fun v1 S1 => if v1 < 0 then X12_letters_107 x1 0 S1 else X12_letters_107 x1 1 S1)
noncomputable def X12_letters_54b (k54 : Int32 → Sx → Rs Unit) (x1 : Int32) (S : Sx) : Rs Unit :=
  bd (X12_byteAt (gI S 167 49) S) (fun v1 S1 => if v1 < 0 then X12_letters_91 x1 S1 else bd (X12_byteAt (gI S1 167 49) S1) (fun v2 S2 => if v2 = 34 then X12_letters_91 x1 S2 else pt (pI S2 167 49 ((gI S2 167 49) + 1)) (fun S3 => k54 x1 S3)))
noncomputable def X12_letters_54 : Nat → Int32 → Sx → Rs Unit
  | 0 => fun _ _ => none
  | n + 1 => X12_letters_54b  (X12_letters_54 n)
noncomputable def X12_letters_46 (x1 : Int32) (y0 : Int32) (S : Sx) : Rs Unit :=
  bd (X12_must y0 1 (gI S 167 49) S) (fun _ S1 => X12_letters_54 FU x1 S1)
noncomputable def X12_letters (S : Sx) : Rs Unit :=
  vl ((gI S 167 49) + 1) (fun v1 => pt (pI S 167 49 ((gI S 167 49) + 1)) (fun S1 => bd (X12_byteAt (gI S1 167 49) S1) (fun v2 S2 => if v2 < 0 then X12_letters_46 v1 0 S2 else bd (X12_byteAt (gI S2 167 49) S2) (fun v3 S3 => if v3 = 34 then X12_letters_46 v1 0 S3 else X12_letters_46 v1 1 S3))))
noncomputable def X12_data_134 (k23 : Int32 → Int32 → Sx → Rs Unit) (x1 : Int32) (x2 : Int32) (S : Sx) : Rs Unit :=
  bd (X12_more S) (fun v1 S1 => if v1 = 0 then rt () S1 else k23 x1 x2 S1)
noncomputable def X12_data_131 (k23 : Int32 → Int32 → Sx → Rs Unit) (x1 : Int32) (x2 : Int32) (y0 : Int64) (y1 : Int32) (S : Sx) : Rs Unit :=
  bd (X12_lay_2 y1 y0 S) (fun _ S1 => X12_data_134 k23 x1 x2 S1)
noncomputable def X12_data_113 (k23 : Int32 → Int32 → Sx → Rs Unit) (x1 : Int32) (x2 : Int32) (S : Sx) : Rs Unit :=
  if (gI S 167 51) = 2 then X12_data_131 k23 x1 x2 0 x2 S else X12_data_131 k23 x1 x2 (gL S 167 52) x2 S
noncomputable def X12_data_77 (k23 : Int32 → Int32 → Sx → Rs Unit) (x1 : Int32) (x2 : Int32) (y0 : Int32) (S : Sx) : Rs Unit :=
  bd (X12_must y0 3 (gI S 167 53) S) (fun _ S1 => if (gI S1 167 51) = 2 then bd (X12_use ((gL S1 167 52).toInt32) (gI S1 167 53) ((gL S1 167 38).toInt32) 64 S1) (fun _ S2 => X12_data_113 k23 x1 x2 S2) else X12_data_113 k23 x1 x2 S1)
noncomputable def X12_data_61 (k23 : Int32 → Int32 → Sx → Rs Unit) (x1 : Int32) (x2 : Int32) (y0 : Int32) (S : Sx) : Rs Unit :=
  bd (X12_operand y0 S) (fun _ S1 => if (gI S1 167 51) = 1 then X12_data_77 k23 x1 x2 0 S1 else X12_data_77 k23 x1 x2 1 S1)
noncomputable def X12_data_49 (k23 : Int32 → Int32 → Sx → Rs Unit) (x1 : Int32) (x2 : Int32) (S : Sx) : Rs Unit :=
  if x1 = 104 then X12_data_61 k23 x1 x2 1 S else X12_data_61 k23 x1 x2 0 S
noncomputable def X12_data_23b (k23 : Int32 → Int32 → Sx → Rs Unit) (x1 : Int32) (x2 : Int32) (S : Sx) : Rs Unit :=
  if x1 = 102 then bd (X12_byteAt (gI S 167 49) S) (fun v1 S1 => if v1 = 34 then bd (X12_letters S1) (fun _ S2 => X12_data_134 k23 x1 x2 S2) else X12_data_49 k23 x1 x2 S1) else X12_data_49 k23 x1 x2 S
noncomputable def X12_data_23 : Nat → Int32 → Int32 → Sx → Rs Unit
  | 0 => fun _ _ _ => none
  | n + 1 => X12_data_23b  (X12_data_23 n)
noncomputable def X12_data (a1 : Int32) (S : Sx) : Rs Unit :=
  if a1 = 102 then X12_data_23 FU a1 1 S else if a1 = 103 then X12_data_23 FU a1 4 S else X12_data_23 FU a1 8 S
noncomputable def X12_goesTo (a1 : Int32) (a2 : Int32) (a3 : Int64) (S : Sx) : Rs Int32 :=
  vl (a3 - a1.toInt64) (fun v1 => vl (((1 : Int64)) <<< ((a2 - 1).toInt64 &&& 63)) (fun v2 => if (v1 &&& 3) = 0 then if (v1 >>> (((2 : Int32)).toInt64 &&& 63)) < (-v2) then rt 0 S else if (v1 >>> (((2 : Int32)).toInt64 &&& 63)) < v2 then bd (X12_put ((a1 + 4) - (a2 / 8)) (a2 / 8) (v1 >>> (((2 : Int32)).toInt64 &&& 63)) S) (fun _ S1 => rt 1 S1) else rt 0 S else rt 0 S))
noncomputable def X12_tell_52 (k17 : Int32 → Int32 → Int64 → Int32 → Sx → Rs Unit) (x1 : Int32) (x2 : Int32) (x3 : Int64) (x5 : Int32) (y0 : Int32) (S : Sx) : Rs Unit :=
  dO S 1 (gR S 167 45) (fun c2 => lI S c2 (gN S c2) x5 (fun v1 => bd (X12_must y0 3 v1 S) (fun _ S1 => dO S1 1 (gR S1 167 47) (fun c4 => lI S1 c4 (gN S1 c4) x5 (fun v3 => if v3 = 64 then dO S1 1 (gR S1 167 46) (fun c6 => lI S1 c6 (gN S1 c6) x5 (fun v5 => bd (X12_put v5 8 x3 S1) (fun _ S2 => vl (x5 + 1) (fun v7 => k17 x1 x2 x3 v7 S2)))) else dO S1 1 (gR S1 167 46) (fun c6 => lI S1 c6 (gN S1 c6) x5 (fun v5 => dO S1 1 (gR S1 167 47) (fun c8 => lI S1 c8 (gN S1 c8) x5 (fun v7 => bd (X12_goesTo v5 v7 x3 S1) (fun v9 S2 => dO S2 1 (gR S2 167 45) (fun c11 => lI S2 c11 (gN S2 c11) x5 (fun v10 => bd (X12_must v9 4 v10 S2) (fun _ S3 => vl (x5 + 1) (fun v12 => k17 x1 x2 x3 v12 S3))))))))))))))
noncomputable def X12_tell_17b (k17 : Int32 → Int32 → Int64 → Int32 → Sx → Rs Unit) (x1 : Int32) (x2 : Int32) (x3 : Int64) (x5 : Int32) (S : Sx) : Rs Unit :=
  if (gI S 167 48) ≤ x5 then rt () S else dO S 1 (gR S 167 44) (fun c2 => lI S c2 (gN S c2) x5 (fun v1 => if v1 = x1 then if (x2 &&& 1) = 1 then X12_tell_52 k17 x1 x2 x3 x5 0 S else X12_tell_52 k17 x1 x2 x3 x5 1 S else vl (x5 + 1) (fun v3 => k17 x1 x2 x3 v3 S)))
noncomputable def X12_tell_17 : Nat → Int32 → Int32 → Int64 → Int32 → Sx → Rs Unit
  | 0 => fun _ _ _ _ _ => none
  | n + 1 => X12_tell_17b  (X12_tell_17 n)
noncomputable def X12_tell (a1 : Int32) (a2 : Int32) (a3 : Int64) (S : Sx) : Rs Unit :=
  sI S 186 300 a1 a2 (fun S1 => sL S1 187 300 a1 a3 (fun S2 => X12_tell_17 FU a1 a2 a3 0 S2))
noncomputable def X12_line_382 (x1 : Int32) (x3 : Int64) (x5 : Int32) (S : Sx) : Rs Unit :=
  if x1 < 0 then rt () S else bd (X12_tell x1 x5 x3 S) (fun _ S1 => rt () S1)
noncomputable def X12_line_358 (x1 : Int32) (x6 : Int32) (S : Sx) : Rs Unit :=
  vl (gL S 167 52) (fun v1 => if x6 = 100 then vl (2 + (gI S 167 51)) (fun v2 => X12_line_382 x1 v1 v2 S) else X12_line_382 x1 v1 0 S)
noncomputable def X12_line_312 (x1 : Int32) (x6 : Int32) (y0 : Int32) (S : Sx) : Rs Unit :=
  bd (X12_must y0 3 (gI S 167 53) S) (fun _ S1 => bd (X12_noMore S1) (fun _ S2 => if x6 = 101 then bd (X12_isIn (gL S2 167 52) 0 65536 S2) (fun v1 S3 => bd (X12_must v1 5 (gI S3 167 50) S3) (fun _ S4 => pt (pL S4 167 38 (gL S4 167 52)) (fun S5 => X12_line_358 x1 x6 S5))) else X12_line_358 x1 x6 S2))
noncomputable def X12_line_248 (x1 : Int32) (x5 : Int32) (x6 : Int32) (y0 : Int64) (S : Sx) : Rs Unit :=
  bd (X12_align y0 S) (fun _ S1 => vl (gL S1 167 38) (fun v1 => if 100 ≤ x6 then if x6 < 102 then bd (X12_operand 0 S1) (fun _ S2 => if x6 = 100 then X12_line_312 x1 x6 1 S2 else if (gI S2 167 51) = 0 then X12_line_312 x1 x6 1 S2 else X12_line_312 x1 x6 0 S2) else bd (X12_data x6 S1) (fun _ S2 => X12_line_382 x1 v1 x5 S2) else bd (X12_instruction x6 S1) (fun _ S2 => X12_line_382 x1 v1 x5 S2)))
noncomputable def X12_line_201 (x1 : Int32) (x5 : Int32) (x6 : Int32) (y0 : Int32) (S : Sx) : Rs Unit :=
  bd (X12_must y0 1 (gI S 167 50) S) (fun _ S1 => bd (X12_passBlanks S1) (fun _ S2 => if x6 = 104 then X12_line_248 x1 x5 x6 8 S2 else if x6 = 103 then X12_line_248 x1 x5 x6 4 S2 else if 100 ≤ x6 then X12_line_248 x1 x5 x6 1 S2 else X12_line_248 x1 x5 x6 4 S2))
noncomputable def X12_line_137b (k137 : Int32 → Int32 → Sx → Rs Unit) (x1 : Int32) (x5 : Int32) (S : Sx) : Rs Unit :=
  bd (X12_isPause (gI S 167 49) S) (fun v1 S1 => if v1 = 0 then pt (pI S1 167 49 ((gI S1 167 49) + 1)) (fun S2 => k137 x1 x5 S2) else bd (X12_opAt (gI S1 167 50) ((gI S1 167 49) - (gI S1 167 50)) S1) (fun v2 S2 => vl v2 (fun v3 => if v3 < 0 then X12_line_201 x1 x5 v3 0 S2 else if v3 = 100 then if x1 < 0 then X12_line_201 x1 x5 v3 0 S2 else X12_line_201 x1 x5 v3 1 S2 else X12_line_201 x1 x5 v3 1 S2)))
noncomputable def X12_line_137 : Nat → Int32 → Int32 → Sx → Rs Unit
  | 0 => fun _ _ _ => none
  | n + 1 => X12_line_137b  (X12_line_137 n)
noncomputable def X12_line_106 (x1 : Int32) (S : Sx) : Rs Unit :=
  bd (X12_passBlanks S) (fun _ S1 => vl (gL S1 167 38) (fun v1 => bd (X12_byteAt (gI S1 167 49) S1) (fun v2 S2 => if v2 < 0 then X12_line_382 x1 v1 0 S2 else pt (pI S2 167 50 (gI S2 167 49)) (fun S3 => X12_line_137 FU x1 0 S3))))
noncomputable def X12_line_90 (x1 : Int32) (S : Sx) : Rs Unit :=
  bd (X12_isPause (gI S 167 49) S) (fun v1 S1 => bd (X12_must v1 1 (gI S1 167 49) S1) (fun _ S2 => X12_line_106 x1 S2))
noncomputable def X12_line_73 (x1 : Int32) (x3 : Int32) (x4 : Int32) (y0 : Int32) (S : Sx) : Rs Unit :=
  bd (X12_must y0 2 x3 S) (fun _ S1 => if 0 ≤ x1 then X12_line_90 x1 S1 else bd (X12_label x3 x4 S1) (fun v1 S2 => vl v1 (fun v2 => X12_line_90 v2 S2)))
noncomputable def X12_line_29 (x1 : Int32) (x2 : Int32) (S : Sx) : Rs Unit :=
  bd (X12_isLetter x2 S) (fun v1 S1 => if v1 = 0 then X12_line_106 x1 S1 else vl (gI S1 167 49) (fun v2 => bd (X12_word S1) (fun v3 S2 => vl v3 (fun v4 => bd (X12_known v2 v4 S2) (fun v5 S3 => vl v5 (fun v6 => if v6 < 0 then X12_line_73 v6 v2 v4 1 S3 else lI S3 186 300 v6 (fun v7 => if 0 ≤ v7 then X12_line_73 v6 v2 v4 0 S3 else X12_line_73 v6 v2 v4 1 S3)))))))
noncomputable def X12_line (S : Sx) : Rs Unit :=
  bd (X12_byteAt (gI S 167 49) S) (fun v1 S1 => vl v1 (fun v2 => if v2 < 0 then X12_line_29 ((-1)) v2 S1 else if v2 = 32 then X12_line_29 ((-1)) v2 S1 else bd (X12_isLetter v2 S1) (fun v3 S2 => if v3 = 0 then rt () S2 else X12_line_29 ((-1)) v2 S2)))
noncomputable def X12_main_2b (k2 : Int32 → Sx → Rs Int64) (x1 : Int32) (S : Sx) : Rs Int64 :=
  if (gI S 167 43) ≤ x1 then rt 0 S else lI S 184 300 x1 (fun v1 => vl v1 (fun v2 => lI S 185 300 x1 (fun v3 => if v3 = 4 then lI S 168 20000 v2 (fun v4 => if v4 = 77 then lI S 168 20000 (v2 + 1) (fun v5 => if v5 = 97 then lI S 168 20000 (v2 + 2) (fun v6 => if v6 = 105 then lI S 168 20000 (v2 + 3) (fun v7 => if v7 = 110 then lI S 186 300 x1 (fun v8 => if v8 = 0 then lL S 187 300 x1 (fun v9 => rt v9 S) else vl (x1 + 1) (fun v9 => k2 v9 S)) else vl (x1 + 1) (fun v8 => k2 v8 S)) else vl (x1 + 1) (fun v7 => k2 v7 S)) else vl (x1 + 1) (fun v6 => k2 v6 S)) else vl (x1 + 1) (fun v5 => k2 v5 S)) else vl (x1 + 1) (fun v4 => k2 v4 S))))
noncomputable def X12_main_2 : Nat → Int32 → Sx → Rs Int64
  | 0 => fun _ _ => none
  | n + 1 => X12_main_2b  (X12_main_2 n)
noncomputable def X12_main (S : Sx) : Rs Int64 :=
  X12_main_2 FU 0 S
noncomputable def X12_settle_6b (k6 : Int32 → Sx → Rs Unit) (x1 : Int32) (S : Sx) : Rs Unit :=
  if 1024 ≤ x1 then rt () S else lI S 182 1024 x1 (fun v1 => sI S 176 1024 x1 (nz v1) (fun S1 => vl (x1 + 1) (fun v2 => k6 v2 S1)))
noncomputable def X12_settle_6 : Nat → Int32 → Sx → Rs Unit
  | 0 => fun _ _ => none
  | n + 1 => X12_settle_6b  (X12_settle_6 n)
noncomputable def X12_settle (S : Sx) : Rs Unit :=
  bd (X12_freePages S) (fun _ S1 => X12_settle_6 FU 0 S1)
noncomputable def X12_start_32b (k32 : Int64 → Int32 → Sx → Rs Unit) (x1 : Int64) (x3 : Int32) (S : Sx) : Rs Unit :=
  if 5 ≤ x3 then pt (pI S 167 11 0) (fun S1 => pt (pL S1 167 12 x1) (fun S2 => pt (pI S2 167 13 0) (fun S3 => pt (pI S3 167 14 0) (fun S4 => pt (pI S4 167 16 0) (fun S5 => rt () S5))))) else sL S 172 5 x3 0 (fun S1 => vl (x3 + 1) (fun v1 => k32 x1 v1 S1))
noncomputable def X12_start_32 : Nat → Int64 → Int32 → Sx → Rs Unit
  | 0 => fun _ _ _ => none
  | n + 1 => X12_start_32b  (X12_start_32 n)
noncomputable def X12_start_11b (k11 : Int64 → Int32 → Sx → Rs Unit) (x1 : Int64) (x3 : Int32) (S : Sx) : Rs Unit :=
  if 32 ≤ x3 then X12_start_32 FU x1 0 S else sL S 171 32 x3 0 (fun S1 => vl (x3 + 1) (fun v1 => k11 x1 v1 S1))
noncomputable def X12_start_11 : Nat → Int64 → Int32 → Sx → Rs Unit
  | 0 => fun _ _ _ => none
  | n + 1 => X12_start_11b  (X12_start_11 n)
noncomputable def X12_start (a1 : Int64) (S : Sx) : Rs Unit :=
  bd (X12_settle S) (fun _ S1 => pt (pI S1 167 7 1) (fun S2 => X12_start_11 FU a1 0 S2))
noncomputable def X12_assemble_179 (S : Sx) : Rs Int32 :=
  pt (pI S 167 1 0) (fun S1 => if (gI S1 167 7) = 0 then rt ((-1)) S1 else rt 0 S1)
noncomputable def X12_assemble_162 (y0 : Nat) (S : Sx) : Rs Int32 :=
  kd S (13 + 6) y0 (pt (pI S 167 5 (gI S y0 6)) (fun S1 => kd S1 (13 + 6) y0 (pt (pI S1 167 6 (gI S1 y0 7)) (fun S2 => X12_assemble_179 S2))))
noncomputable def X12_assemble_43b (k28 : Sx → Rs Int32) (k43 : Sx → Rs Int32) (S : Sx) : Rs Int32 :=
  ct (X12_byteAt (gI S 167 49) S) (fun v1 S1 => if v1 < 0 then pt (pI S1 167 49 ((gI S1 167 49) + 1)) (fun S2 => k28 S2) else pt (pI S1 167 49 ((gI S1 167 49) + 1)) (fun S2 => k43 S2)) (fun c2 S1 => kd S1 (13 + 6) c2 (X12_assemble_162 c2 S1))
noncomputable def X12_assemble_43 (k28 : Sx → Rs Int32) : Nat → Sx → Rs Int32
  | 0 => fun _ => none
  | n + 1 => X12_assemble_43b k28 (X12_assemble_43 k28 n)
noncomputable def X12_assemble_109 (k82 : Int32 → Sx → Rs Int32) (x1 : Int32) (y0 : Int32) (S : Sx) : Rs Int32 :=
  dO S 1 (gR S 167 45) (fun c2 => lI S c2 (gN S c2) x1 (fun v1 => ct (X12_must y0 2 v1 S) (fun _ S1 => vl (x1 + 1) (fun v4 => k82 v4 S1)) (fun c3 S1 => kd S1 (13 + 6) c3 (X12_assemble_162 c3 S1))))
noncomputable def X12_assemble_127b (k127 : Int32 → Sx → Rs Int32) (x1 : Int32) (S : Sx) : Rs Int32 :=
  if 65536 ≤ x1 then ct (X12_main S) (fun v1 S1 => ct (X12_start v1 S1) (fun _ S2 => X12_assemble_179 S2) (fun c3 S2 => kd S2 (13 + 6) c3 (X12_assemble_162 c3 S2))) (fun c2 S1 => kd S1 (13 + 6) c2 (X12_assemble_162 c2 S1)) else lI S 183 65536 x1 (fun v1 => sI S 169 65536 x1 v1 (fun S1 => vl (x1 + 1) (fun v2 => k127 v2 S1)))
noncomputable def X12_assemble_127 : Nat → Int32 → Sx → Rs Int32
  | 0 => fun _ _ => none
  | n + 1 => X12_assemble_127b  (X12_assemble_127 n)
noncomputable def X12_assemble_82b (k82 : Int32 → Sx → Rs Int32) (x1 : Int32) (S : Sx) : Rs Int32 :=
  if (gI S 167 48) ≤ x1 then X12_assemble_127 FU 0 S else dO S 1 (gR S 167 44) (fun c2 => lI S c2 (gN S c2) x1 (fun v1 => lI S 186 300 v1 (fun v3 => if v3 < 0 then X12_assemble_109 k82 x1 0 S else X12_assemble_109 k82 x1 1 S)))
noncomputable def X12_assemble_82 : Nat → Int32 → Sx → Rs Int32
  | 0 => fun _ _ => none
  | n + 1 => X12_assemble_82b  (X12_assemble_82 n)
noncomputable def X12_assemble_28b (k28 : Sx → Rs Int32) (S : Sx) : Rs Int32 :=
  if (gI S 167 1) ≤ (gI S 167 49) then X12_assemble_82 FU 0 S else ct (X12_line S) (fun _ S1 => X12_assemble_43 k28 FU S1) (fun c1 S1 => kd S1 (13 + 6) c1 (X12_assemble_162 c1 S1))
noncomputable def X12_assemble_28 : Nat → Sx → Rs Int32
  | 0 => fun _ => none
  | n + 1 => X12_assemble_28b  (X12_assemble_28 n)
noncomputable def X12_assemble (S : Sx) : Rs Int32 :=
  bd (X12_begin (some 183) S) (fun _ S1 => pt (pI S1 167 43 0) (fun S2 => pt (pI S2 167 48 0) (fun S3 => pt (pI S3 167 7 0) (fun S4 => pt (pI S4 167 49 0) (fun S5 => X12_assemble_28 FU S5)))))
noncomputable def X0_load (S : Sx) : Rs Int32 :=
  bd (X0_take 0 S) (fun v1 S1 => rt v1 S1)
noncomputable def X12_eight_5b (k5 : Int32 → Int64 → Int32 → Sx → Rs Int64) (x1 : Int32) (x2 : Int64) (x4 : Int32) (S : Sx) : Rs Int64 :=
  if 8 ≤ x4 then rt x2 S else lI S 168 20000 (x1 + x4) (fun v1 => vl ((x2 <<< (((8 : Int32)).toInt64 &&& 63)) ||| v1.toInt64) (fun v2 => vl (x4 + 1) (fun v3 => k5 x1 v2 v3 S)))
noncomputable def X12_eight_5 : Nat → Int32 → Int64 → Int32 → Sx → Rs Int64
  | 0 => fun _ _ _ _ => none
  | n + 1 => X12_eight_5b  (X12_eight_5 n)
noncomputable def X12_eight (a1 : Int32) (S : Sx) : Rs Int64 :=
  X12_eight_5 FU a1 0 0 S
noncomputable def X12_records_129b (k2 : Int32 → Sx → Rs Int64) (k129 : Int32 → Int32 → Int32 → Sx → Rs Int64) (x1 : Int32) (x3 : Int32) (x4 : Int32) (S : Sx) : Rs Int64 :=
  if x3 ≤ x4 then pt (pL S 167 38 ((gL S 167 38) + x3.toInt64)) (fun S1 => vl (x1 + (2 + x3)) (fun v1 => k2 v1 S1)) else lI S 168 20000 ((x1 + 2) + x4) (fun v1 => bd (X12_put (((gL S 167 38).toInt32) + x4) 1 v1.toInt64 S) (fun _ S1 => vl (x4 + 1) (fun v2 => k129 x1 x3 v2 S1)))
noncomputable def X12_records_129 (k2 : Int32 → Sx → Rs Int64) : Nat → Int32 → Int32 → Int32 → Sx → Rs Int64
  | 0 => fun _ _ _ _ => none
  | n + 1 => X12_records_129b k2 (X12_records_129 k2 n)
noncomputable def X12_records_120 (k2 : Int32 → Sx → Rs Int64) (x1 : Int32) (x3 : Int32) (y0 : Int32) (S : Sx) : Rs Int64 :=
  bd (X12_must y0 13 x1 S) (fun _ S1 => X12_records_129 k2 FU x1 x3 0 S1)
noncomputable def X12_records_95 (k2 : Int32 → Sx → Rs Int64) (x1 : Int32) (x3 : Int32) (y0 : Int32) (S : Sx) : Rs Int64 :=
  bd (X12_must y0 11 x1 S) (fun _ S1 => if 65536 < ((gL S1 167 38) + x3.toInt64) then X12_records_120 k2 x1 x3 0 S1 else X12_records_120 k2 x1 x3 1 S1)
noncomputable def X12_records_72 (k2 : Int32 → Sx → Rs Int64) (x1 : Int32) (x3 : Int32) (y0 : Int32) (S : Sx) : Rs Int64 :=
  bd (X12_must y0 12 x1 S) (fun _ S1 => if (gI S1 167 1) < ((x1 + 2) + x3) then X12_records_95 k2 x1 x3 0 S1 else X12_records_95 k2 x1 x3 1 S1)
noncomputable def X12_records_48 (k2 : Int32 → Sx → Rs Int64) (x1 : Int32) (y0 : Int32) (S : Sx) : Rs Int64 :=
  bd (X12_must y0 11 x1 S) (fun _ S1 => lI S1 168 20000 (x1 + 1) (fun v1 => vl v1 (fun v2 => if v2 ≤ 0 then X12_records_72 k2 x1 v2 0 S1 else X12_records_72 k2 x1 v2 1 S1)))
noncomputable def X12_records_401 (x1 : Int32) (x3 : Int64) (y0 : Int32) (S : Sx) : Rs Int64 :=
  bd (X12_must y0 12 x1 S) (fun _ S1 => rt x3 S1)
noncomputable def X12_records_376 (k2 : Int32 → Sx → Rs Int64) (x1 : Int32) (x2 : Int32) (x3 : Int64) (S : Sx) : Rs Int64 :=
  vl (x1 + 9) (fun v1 => if x2 = 6 then if v1 = (gI S 167 1) then X12_records_401 v1 x3 1 S else X12_records_401 v1 x3 0 S else k2 v1 S)
noncomputable def X12_records_363 (k2 : Int32 → Sx → Rs Int64) (x1 : Int32) (x2 : Int32) (x3 : Int64) (y0 : Int32) (y1 : Int32) (S : Sx) : Rs Int64 :=
  bd (X12_goesTo y1 y0 (gL S 167 38) S) (fun v1 S1 => bd (X12_must v1 14 x1 S1) (fun _ S2 => X12_records_376 k2 x1 x2 x3 S2))
noncomputable def X12_records_303 (k2 : Int32 → Sx → Rs Int64) (x1 : Int32) (x2 : Int32) (x3 : Int64) (y0 : Int32) (S : Sx) : Rs Int64 :=
  bd (X12_must y0 13 x1 S) (fun _ S1 => if x2 = 1 then pt (pL S1 167 38 x3) (fun S2 => X12_records_376 k2 x1 x2 x3 S2) else if x2 = 3 then bd (X12_put x3.toInt32 8 (gL S1 167 38) S1) (fun _ S2 => X12_records_376 k2 x1 x2 x3 S2) else if 6 ≤ x2 then X12_records_376 k2 x1 x2 x3 S1 else if x2 = 4 then X12_records_363 k2 x1 x2 x3 16 x3.toInt32 S1 else X12_records_363 k2 x1 x2 x3 24 x3.toInt32 S1)
noncomputable def X12_records_292 (k2 : Int32 → Sx → Rs Int64) (x1 : Int32) (x2 : Int32) (x3 : Int64) (y0 : Int64) (y1 : Int64) (S : Sx) : Rs Int64 :=
  if y0 = 0 then none else if (y1 - y1 / y0 * y0) = 0 then X12_records_303 k2 x1 x2 x3 1 S else X12_records_303 k2 x1 x2 x3 0 S
noncomputable def X12_records_260 (k2 : Int32 → Sx → Rs Int64) (x1 : Int32) (x2 : Int32) (x3 : Int64) (y0 : Int64) (y1 : Int64) (y2 : Int64) (S : Sx) : Rs Int64 :=
  bd (X12_isIn y2 y1 y0 S) (fun v1 S1 => if v1 = 0 then X12_records_303 k2 x1 x2 x3 0 S1 else if x2 = 1 then X12_records_303 k2 x1 x2 x3 1 S1 else if x2 = 6 then X12_records_303 k2 x1 x2 x3 1 S1 else if x2 = 3 then X12_records_292 k2 x1 x2 x3 8 x3 S1 else X12_records_292 k2 x1 x2 x3 4 x3 S1)
noncomputable def X12_records_224 (k2 : Int32 → Sx → Rs Int64) (x1 : Int32) (x2 : Int32) (y0 : Int32) (S : Sx) : Rs Int64 :=
  bd (X12_must y0 11 x1 S) (fun _ S1 => bd (X12_eight (x1 + 1) S1) (fun v1 S2 => vl v1 (fun v2 => if x2 = 1 then X12_records_260 k2 x1 x2 v2 65536 0 v2 S2 else if x2 = 6 then X12_records_260 k2 x1 x2 v2 65536 0 v2 S2 else X12_records_260 k2 x1 x2 v2 65535 0 v2 S2)))
noncomputable def X12_records_202 (k2 : Int32 → Sx → Rs Int64) (x1 : Int32) (x2 : Int32) (y0 : Int32) (S : Sx) : Rs Int64 :=
  bd (X12_must y0 12 x1 S) (fun _ S1 => if (gI S1 167 1) < (x1 + 9) then X12_records_224 k2 x1 x2 0 S1 else X12_records_224 k2 x1 x2 1 S1)
noncomputable def X12_records_15 (k2 : Int32 → Sx → Rs Int64) (x1 : Int32) (y0 : Int32) (S : Sx) : Rs Int64 :=
  bd (X12_must y0 11 x1 S) (fun _ S1 => lI S1 168 20000 x1 (fun v1 => vl v1 (fun v2 => if v2 = 2 then if (gI S1 167 1) ≤ (x1 + 1) then X12_records_48 k2 x1 0 S1 else X12_records_48 k2 x1 1 S1 else if v2 < 1 then X12_records_202 k2 x1 v2 0 S1 else if 6 < v2 then X12_records_202 k2 x1 v2 0 S1 else X12_records_202 k2 x1 v2 1 S1)))
noncomputable def X12_records_2b (k2 : Int32 → Sx → Rs Int64) (x1 : Int32) (S : Sx) : Rs Int64 :=
  if (gI S 167 1) ≤ x1 then X12_records_15 k2 x1 0 S else X12_records_15 k2 x1 1 S
noncomputable def X12_records_2 : Nat → Int32 → Sx → Rs Int64
  | 0 => fun _ _ => none
  | n + 1 => X12_records_2b  (X12_records_2 n)
noncomputable def X12_records (S : Sx) : Rs Int64 :=
  X12_records_2 FU 0 S
noncomputable def X12_load_45 (S : Sx) : Rs Int32 :=
  pt (pI S 167 1 0) (fun S1 => if (gI S1 167 7) = 0 then rt ((-1)) S1 else rt 0 S1)
noncomputable def X12_load_24 (y0 : Nat) (S : Sx) : Rs Int32 :=
  kd S (13 + 6) y0 (pt (pI S 167 5 (gI S y0 6)) (fun S1 => kd S1 (13 + 6) y0 (pt (pI S1 167 6 (gI S1 y0 7)) (fun S2 => bd (X12_settle S2) (fun _ S3 => X12_load_45 S3)))))
noncomputable def X12_load (S : Sx) : Rs Int32 :=
  bd (X12_begin (some 169) S) (fun _ S1 => pt (pI S1 167 7 0) (fun S2 => ct (X12_records S2) (fun v1 S3 => ct (X12_start v1 S3) (fun _ S4 => X12_load_45 S4) (fun c3 S4 => kd S4 (13 + 6) c3 (X12_load_24 c3 S4))) (fun c2 S3 => kd S3 (13 + 6) c2 (X12_load_24 c2 S3))))
noncomputable def X0_fault (a1 : Int32) (S : Sx) : Rs Int32 :=
  if a1 = 0 then rt (gI S 0 7) S else if a1 = 1 then rt (gI S 0 8) S else rt 0 S
noncomputable def X12_fault (a1 : Int32) (S : Sx) : Rs Int32 :=
  if a1 = 0 then rt (gI S 167 5) S else if a1 = 1 then rt (gI S 167 6) S else rt 0 S
noncomputable def X5_left (S : Sx) : Rs Int32 :=
  rt ((gI S 146 1) - (gI S 138 11)) S
noncomputable def X0_input_25b (k25 : Int32 → Sx → Rs Int32) (x1 : Int32) (S : Sx) : Rs Int32 :=
  if (gI S 165 1) ≤ x1 then pt (pI S 165 1 0) (fun S1 => bd (X5_left S1) (fun v1 S2 => rt v1 S2)) else bd (X8_at 165 x1 S) (fun v1 S1 => bd (X8_add 146 v1 S1) (fun v2 S2 => vl (x1 + 1) (fun v3 => k25 v3 S2)))
noncomputable def X0_input_25 : Nat → Int32 → Sx → Rs Int32
  | 0 => fun _ _ => none
  | n + 1 => X0_input_25b  (X0_input_25 n)
noncomputable def X0_input (S : Sx) : Rs Int32 :=
  bd (X5_left S) (fun v1 S1 => if (v1 + (gI S1 165 1)) ≤ 4000 then X0_input_25 FU 0 S1 else rt ((-1)) S1)
noncomputable def X12_input_19b (k19 : Int32 → Sx → Rs Int32) (x1 : Int32) (S : Sx) : Rs Int32 :=
  if (gI S 167 1) ≤ x1 then pt (pI S 167 4 ((gI S 167 4) + (gI S 167 1))) (fun S1 => pt (pI S1 167 1 0) (fun S2 => rt (gI S2 167 4) S2)) else lI S 168 20000 x1 (fun v1 => sI S 170 4000 ((gI S 167 4) + x1) v1 (fun S1 => vl (x1 + 1) (fun v2 => k19 v2 S1)))
noncomputable def X12_input_19 : Nat → Int32 → Sx → Rs Int32
  | 0 => fun _ _ => none
  | n + 1 => X12_input_19b  (X12_input_19 n)
noncomputable def X12_input (S : Sx) : Rs Int32 :=
  if ((gI S 167 4) + (gI S 167 1)) ≤ 4000 then X12_input_19 FU 0 S else rt ((-1)) S
noncomputable def X5_want (a1 : Int32) (a2 : Int32) (S : Sx) : Rs Unit :=
  if a1 = 0 then bd (X1_of a2 0 S) (fun v1 S1 => dO S1 7 v1 (fun c2 => th c2 S1)) else rt () S
noncomputable def X2_get_15b (k15 : Int32 → Int32 → Option Nat → Int64 → Int32 → Sx → Rs Int64) (x1 : Int32) (x2 : Int32) (x3 : Option Nat) (x4 : Int64) (x6 : Int32) (S : Sx) : Rs Int64 :=
  if x2 ≤ x6 then rt x4 S else dO S (4 + 6) x3 (fun c1 => dO S 3 (gR S c1 0) (fun c3 => lI S c3 (gN S c3) ((x1 - x1 / 64 * 64) + x6) (fun v2 => vl ((x4 <<< (((8 : Int32)).toInt64 &&& 63)) ||| (v2.toInt64 &&& 255)) (fun v4 => vl (x6 + 1) (fun v5 => k15 x1 x2 x3 v4 v5 S)))))
noncomputable def X2_get_15 : Nat → Int32 → Int32 → Option Nat → Int64 → Int32 → Sx → Rs Int64
  | 0 => fun _ _ _ _ _ _ => none
  | n + 1 => X2_get_15b  (X2_get_15 n)
noncomputable def X2_get (a1 : Int32) (a2 : Int32) (S : Sx) : Rs Int64 :=
  bd (X2_touch (a1 / 64) S) (fun v1 S1 => vl v1 (fun v2 => X2_get_15 FU a1 a2 v2 0 0 S1))
noncomputable def X5_isThree (a1 : Int32) (S : Sx) : Rs Int32 :=
  if a1 < 2 then rt 0 S else if 53 < a1 then rt 0 S else if a1 = 34 then rt 0 S else if a1 = 35 then rt 0 S else rt 1 S
noncomputable def X5_isOp (a1 : Int32) (S : Sx) : Rs Int32 :=
  if a1 = 0 then rt 1 S else bd (X5_isThree a1 S) (fun v1 S1 => if v1 = 0 then if a1 < 60 then rt 0 S1 else if 80 < a1 then rt 0 S1 else rt 1 S1 else rt 1 S1)
noncomputable def X5_hasX_19 (x0 : Int32) (S : Sx) : Rs Int32 :=
  if x0 < 69 then rt 0 S else if 78 < x0 then rt 0 S else rt 1 S
noncomputable def X5_hasX (a1 : Int32) (S : Sx) : Rs Int32 :=
  bd (X5_isThree a1 S) (fun v1 S1 => if v1 = 0 then if a1 < 60 then X5_hasX_19 a1 S1 else if a1 ≤ 65 then rt 1 S1 else X5_hasX_19 a1 S1 else rt 1 S1)
noncomputable def X5_isStore (a1 : Int32) (S : Sx) : Rs Int32 :=
  if a1 < 44 then rt 0 S else if 49 < a1 then rt 0 S else rt 1 S
noncomputable def X5_writesX_14 (x0 : Int32) (S : Sx) : Rs Int32 :=
  if x0 < 69 then rt 0 S else if 78 < x0 then rt 0 S else rt 1 S
noncomputable def X5_writesX (a1 : Int32) (S : Sx) : Rs Int32 :=
  bd (X5_isThree a1 S) (fun v1 S1 => if v1 = 0 then X5_writesX_14 a1 S1 else bd (X5_isStore a1 S1) (fun v2 S2 => if v2 = 0 then rt 1 S2 else X5_writesX_14 a1 S2))
noncomputable def X6_isTooMany (a1 : Int32) (S : Sx) : Rs Int32 :=
  if ((gI S 139 3) + a1) ≤ 600 then rt 0 S else rt 1 S
noncomputable def X5_hasY (a1 : Int32) (S : Sx) : Rs Int32 :=
  bd (X5_isThree a1 S) (fun v1 S1 => if v1 = 0 then rt 0 S1 else if a1 = 32 then rt 0 S1 else if a1 = 33 then rt 0 S1 else rt 1 S1)
noncomputable def X5_hasZ_13 (x0 : Int32) (S : Sx) : Rs Int32 :=
  if x0 = 79 then rt 1 S else rt 0 S
noncomputable def X5_hasZ (a1 : Int32) (S : Sx) : Rs Int32 :=
  bd (X5_isThree a1 S) (fun v1 S1 => if v1 = 0 then X5_hasZ_13 a1 S1 else if (a1 - a1 / 2 * 2) = 0 then rt 1 S1 else X5_hasZ_13 a1 S1)
noncomputable def X5_look_250 (y0 : Int32) (S : Sx) : Rs Unit :=
  bd (X5_want y0 8 S) (fun _ S1 => rt () S1)
noncomputable def X5_look_228 (x1 : Int32) (S : Sx) : Rs Unit :=
  if x1 = 68 then if (gI S 139 3) ≤ 0 then X5_look_250 0 S else X5_look_250 1 S else X5_look_250 1 S
noncomputable def X5_look_224 (x1 : Int32) (y0 : Int32) (S : Sx) : Rs Unit :=
  bd (X5_want y0 5 S) (fun _ S1 => X5_look_228 x1 S1)
noncomputable def X5_look_192 (x1 : Int32) (y0 : Int32) (S : Sx) : Rs Unit :=
  vl y0 (fun v1 => if v1 ≤ (gI S 139 5) then X5_look_224 x1 1 S else bd (X6_isTooMany v1 S) (fun v2 S1 => if v2 = 0 then X5_look_224 x1 1 S1 else X5_look_224 x1 0 S1))
noncomputable def X5_look_161 (x1 : Int32) (x2 : Int32) (y0 : Int32) (S : Sx) : Rs Unit :=
  bd (X5_want y0 5 S) (fun _ S1 => if x1 = 67 then if x2 < 16 then X5_look_192 x1 (x2 + 1) S1 else X5_look_192 x1 ((gI S1 139 5) + 1) S1 else X5_look_228 x1 S1)
noncomputable def X5_look_135 (x1 : Int32) (x2 : Int32) (y0 : Int32) (S : Sx) : Rs Unit :=
  vl y0 (fun v1 => if v1 = 0 then X5_look_161 x1 x2 1 S else bd (X6_isTooMany (x2 + 1) S) (fun v2 S1 => if v2 = 0 then X5_look_161 x1 x2 1 S1 else X5_look_161 x1 x2 0 S1))
noncomputable def X5_look_102 (x1 : Int32) (x2 : Int32) (y0 : Int32) (S : Sx) : Rs Unit :=
  bd (X5_want y0 3 S) (fun _ S1 => bd (X5_writesX x1 S1) (fun v1 S2 => if v1 = 0 then X5_look_135 x1 x2 0 S2 else if 16 ≤ x2 then X5_look_135 x1 x2 0 S2 else if x2 < (gI S2 139 5) then X5_look_135 x1 x2 0 S2 else X5_look_135 x1 x2 1 S2))
noncomputable def X5_look_81 (x1 : Int32) (x2 : Int32) (y0 : Int32) (S : Sx) : Rs Unit :=
  bd (X5_want y0 3 S) (fun _ S1 => if x1 = 79 then if 4 < x2 then X5_look_102 x1 x2 0 S1 else X5_look_102 x1 x2 1 S1 else X5_look_102 x1 x2 1 S1)
noncomputable def X5_look_59 (x1 : Int32) (x2 : Int32) (x4 : Int32) (y0 : Int32) (S : Sx) : Rs Unit :=
  bd (X5_want y0 3 S) (fun _ S1 => if x1 = 78 then if 4 < x4 then X5_look_81 x1 x2 0 S1 else X5_look_81 x1 x2 1 S1 else X5_look_81 x1 x2 1 S1)
noncomputable def X5_look_40 (x1 : Int32) (x2 : Int32) (x4 : Int32) (x5 : Int32) (S : Sx) : Rs Unit :=
  bd (X5_hasZ x1 S) (fun v1 S1 => if v1 = 0 then X5_look_59 x1 x2 x4 1 S1 else if x5 < x4 then X5_look_59 x1 x2 x4 0 S1 else X5_look_59 x1 x2 x4 1 S1)
noncomputable def X5_look_27 (x1 : Int32) (x2 : Int32) (x3 : Int32) (x4 : Int32) (x5 : Int32) (S : Sx) : Rs Unit :=
  bd (X5_hasY x1 S) (fun v1 S1 => if v1 = 0 then X5_look_40 x1 x2 x4 x5 S1 else if x5 < x3 then X5_look_59 x1 x2 x4 0 S1 else X5_look_40 x1 x2 x4 x5 S1)
noncomputable def X5_look (a1 : Int32) (a2 : Int32) (a3 : Int32) (a4 : Int32) (S : Sx) : Rs Unit :=
  bd (X5_isOp a1 S) (fun v1 S1 => bd (X5_want v1 3 S1) (fun _ S2 => bd (X5_hasX a1 S2) (fun v2 S3 => if v2 = 0 then X5_look_27 a1 a2 a3 a4 31 S3 else if 31 < a2 then X5_look_59 a1 a2 a4 0 S3 else X5_look_27 a1 a2 a3 a4 31 S3)))
noncomputable def X6_get (a1 : Int32) (S : Sx) : Rs Int64 :=
  if a1 < 16 then if (gI S 139 5) ≤ a1 then rt 0 S else lL S 140 40 (((gI S 139 3) + a1) - ((gI S 139 3) + a1) / 40 * 40) (fun v1 => rt v1 S) else lL S 142 32 a1 (fun v1 => rt v1 S)
noncomputable def X5_right (a1 : Int32) (a2 : Int32) (S : Sx) : Rs Int64 :=
  if (a1 - a1 / 2 * 2) = 0 then bd (X6_get a2 S) (fun v1 S1 => rt v1 S1) else rt a2.toInt64 S
noncomputable def X5_bytesOf (a1 : Int32) (S : Sx) : Rs Int32 :=
  if (a1 &&& ((-2))) = 40 then rt 4 S else if (a1 &&& ((-2))) = 42 then rt 8 S else if (a1 &&& ((-2))) = 46 then rt 4 S else if (a1 &&& ((-2))) = 48 then rt 8 S else rt 1 S
noncomputable def X6_push_50 (x1 : Int64) (S : Sx) : Rs Unit :=
  sL S 140 40 (((gI S 139 3) + (gI S 139 5)) - ((gI S 139 3) + (gI S 139 5)) / 40 * 40) x1 (fun S1 => pt (pI S1 139 5 ((gI S1 139 5) + 1)) (fun S2 => rt () S2))
noncomputable def X6_push (a1 : Int64) (S : Sx) : Rs Unit :=
  if (((gI S 139 3) + (gI S 139 5)) - (gI S 139 4)) = 40 then lL S 140 40 ((gI S 139 4) - (gI S 139 4) / 40 * 40) (fun v1 => sL S 141 632 (gI S 139 4) v1 (fun S1 => pt (pI S1 139 4 ((gI S1 139 4) + 1)) (fun S2 => X6_push_50 a1 S2))) else X6_push_50 a1 S
noncomputable def X6_extend_0b (k0 : Int32 → Sx → Rs Unit) (x1 : Int32) (S : Sx) : Rs Unit :=
  if x1 ≤ (gI S 139 5) then rt () S else bd (X6_push 0 S) (fun _ S1 => k0 x1 S1)
noncomputable def X6_extend_0 : Nat → Int32 → Sx → Rs Unit
  | 0 => fun _ _ => none
  | n + 1 => X6_extend_0b  (X6_extend_0 n)
noncomputable def X6_extend (a1 : Int32) (S : Sx) : Rs Unit :=
  X6_extend_0 FU a1 S
noncomputable def X6_set (a1 : Int32) (a2 : Int64) (S : Sx) : Rs Unit :=
  if a1 < 16 then bd (X6_extend (a1 + 1) S) (fun _ S1 => sL S1 140 40 (((gI S1 139 3) + a1) - ((gI S1 139 3) + a1) / 40 * 40) a2 (fun S2 => rt () S2)) else sL S 142 32 a1 a2 (fun S1 => rt () S1)
noncomputable def X5_access_105 (y0 : Int64) (y1 : Int32) (S : Sx) : Rs Unit :=
  bd (X6_set y1 y0 S) (fun _ S1 => rt () S1)
noncomputable def X5_access (a1 : Int32) (a2 : Int32) (a3 : Int64) (S : Sx) : Rs Unit :=
  bd (X0_isAddress a3 S) (fun v1 S1 => bd (X5_want v1 4 S1) (fun _ S2 => bd (X5_bytesOf a1 S2) (fun v2 S3 => vl v2 (fun v3 => vl (a3.toInt32 &&& (-v3)) (fun v4 => bd (X5_isStore a1 S3) (fun v5 S4 => if v5 = 0 then bd (X2_get v4 v3 S4) (fun v6 S5 => vl v6 (fun v7 => vl (a1 &&& ((-2))) (fun v8 => if v8 = 36 then X5_access_105 v7.toInt32.toInt8.toInt32.toInt64 a2 S5 else if v8 = 40 then X5_access_105 v7.toInt32.toInt64 a2 S5 else X5_access_105 v7 a2 S5))) else bd (X6_get a2 S4) (fun v6 S5 => bd (X2_set v4 v3 v6 S5) (fun _ S6 => rt () S6))))))))
noncomputable def X5_moved_19 (x0 : Int32) (x1 : Int64) (x3 : Int64) (y0 : Int32) (S : Sx) : Rs Int64 :=
  vl y0 (fun v1 => if x0 = 26 then if v1 = 0 then rt (x1 <<< (x3.toInt32.toInt64 &&& 63)) S else rt 0 S else if x0 = 30 then if v1 = 0 then rt ((x1.toUInt64 >>> (x3.toInt32.toInt64.toUInt64 &&& Int64.toUInt64 63)).toInt64) S else rt 0 S else if v1 = 0 then rt (x1 >>> (x3.toInt32.toInt64 &&& 63)) S else rt (x1 >>> (((63 : Int32)).toInt64 &&& 63)) S)
noncomputable def X5_moved (a1 : Int32) (a2 : Int64) (a3 : Int64) (S : Sx) : Rs Int64 :=
  if a3 < 0 then X5_moved_19 a1 a2 a3 1 S else if a3 ≤ 63 then X5_moved_19 a1 a2 a3 0 S else X5_moved_19 a1 a2 a3 1 S
noncomputable def X7_isBelow (a1 : Int64) (a2 : Int64) (S : Sx) : Rs Int32 :=
  if (a2 + ((-9223372036854775808))) ≤ (a1 + ((-9223372036854775808))) then rt 0 S else rt 1 S
noncomputable def X7_divide_63 (k9 : Int64 → Int64 → Int64 → Int32 → Sx → Rs Unit) (x5 : Int64) (x7 : Int64) (x9 : Int64) (x11 : Int32) (S : Sx) : Rs Unit :=
  vl (x7 - x5) (fun v1 => vl (x9 ||| 1) (fun v2 => vl (x11 + 1) (fun v3 => k9 x5 v1 v2 v3 S)))
noncomputable def X7_divide_28 (k9 : Int64 → Int64 → Int64 → Int32 → Sx → Rs Unit) (x5 : Int64) (x7 : Int64) (x9 : Int64) (x11 : Int32) (y0 : Int32) (S : Sx) : Rs Unit :=
  vl y0 (fun v1 => vl ((x7 <<< (((1 : Int32)).toInt64 &&& 63)) ||| ((x9.toUInt64 >>> (((63 : Int32)).toInt64.toUInt64 &&& Int64.toUInt64 63)).toInt64)) (fun v2 => vl (x9 <<< (((1 : Int32)).toInt64 &&& 63)) (fun v3 => if v1 = 0 then bd (X7_isBelow v2 x5 S) (fun v4 S1 => if v4 = 0 then X7_divide_63 k9 x5 v2 v3 x11 S1 else vl (x11 + 1) (fun v5 => k9 x5 v2 v3 v5 S1)) else X7_divide_63 k9 x5 v2 v3 x11 S)))
noncomputable def X7_divide_9b (k9 : Int64 → Int64 → Int64 → Int32 → Sx → Rs Unit) (x5 : Int64) (x7 : Int64) (x9 : Int64) (x11 : Int32) (S : Sx) : Rs Unit :=
  if 64 ≤ x11 then pt (pL S 143 0 x7) (fun S1 => pt (pL S1 143 1 x9) (fun S2 => rt () S2)) else if 0 ≤ x7 then X7_divide_28 k9 x5 x7 x9 x11 0 S else X7_divide_28 k9 x5 x7 x9 x11 1 S
noncomputable def X7_divide_9 : Nat → Int64 → Int64 → Int64 → Int32 → Sx → Rs Unit
  | 0 => fun _ _ _ _ _ => none
  | n + 1 => X7_divide_9b  (X7_divide_9 n)
noncomputable def X7_divide (a1 : Int64) (a2 : Int64) (a3 : Int64) (S : Sx) : Rs Unit :=
  vl a1 (fun v1 => vl a2 (fun v2 => X7_divide_9 FU a3 v1 v2 0 S))
noncomputable def X5_divided (a1 : Int64) (a2 : Int64) (S : Sx) : Rs Int64 :=
  lL S 144 4 0 (fun v1 => bd (X7_isBelow v1 a2 S) (fun v2 S1 => if v2 = 0 then sL S1 144 4 2 a1 (fun S2 => lL S2 144 4 0 (fun v3 => rt v3 S2)) else lL S1 144 4 0 (fun v3 => bd (X7_divide v3 a1 a2 S1) (fun _ S2 => sL S2 144 4 2 (gL S2 143 0) (fun S3 => rt (gL S3 143 1) S3)))))
noncomputable def X7_multiply (a1 : Int64) (a2 : Int64) (S : Sx) : Rs Unit :=
  vl (a1 &&& 4294967295) (fun v1 => vl ((a1.toUInt64 >>> (((32 : Int32)).toInt64.toUInt64 &&& Int64.toUInt64 63)).toInt64) (fun v2 => vl (a2 &&& 4294967295) (fun v3 => vl ((a2.toUInt64 >>> (((32 : Int32)).toInt64.toUInt64 &&& Int64.toUInt64 63)).toInt64) (fun v4 => vl (v1 * v3) (fun v5 => vl ((v2 * v3) + ((v5.toUInt64 >>> (((32 : Int32)).toInt64.toUInt64 &&& Int64.toUInt64 63)).toInt64)) (fun v6 => vl ((v1 * v4) + (v6 &&& 4294967295)) (fun v7 => pt (pL S 143 1 ((v7 <<< (((32 : Int32)).toInt64 &&& 63)) ||| (v5 &&& 4294967295))) (fun S1 => pt (pL S1 143 0 (((v2 * v4) + ((v6.toUInt64 >>> (((32 : Int32)).toInt64.toUInt64 &&& Int64.toUInt64 63)).toInt64)) + ((v7.toUInt64 >>> (((32 : Int32)).toInt64.toUInt64 &&& Int64.toUInt64 63)).toInt64))) (fun S2 => rt () S2)))))))))
noncomputable def X5_compare (a1 : Int32) (a2 : Int32) (S : Sx) : Rs Int32 :=
  if a1 = 0 then if a2 = 0 then rt 1 S else rt 0 S else rt ((-1)) S
noncomputable def J7_floorDiv (a1 : Int64) (a2 : Int64) (S : Sx) : Rs Int64 :=
  if a2 = 0 then none else vl (a1 / a2) (fun v1 => if 0 ≤ (a1 ^^^ a2) then rt v1 S else if (v1 * a2) = a1 then rt v1 S else rt (v1 - 1) S)
noncomputable def J7_floorMod (a1 : Int64) (a2 : Int64) (S : Sx) : Rs Int64 :=
  if a2 = 0 then none else vl (a1 - a1 / a2 * a2) (fun v1 => if 0 ≤ (a1 ^^^ a2) then rt v1 S else if v1 = 0 then rt v1 S else rt (v1 + a2) S)
noncomputable def X5_reckon_243 (x2 : Int64) (x4 : Int64) (y0 : Int64) (y1 : Int32) (S : Sx) : Rs Int64 :=
  sL S 144 4 y1 y0 (fun S1 => if x4 = 0 then rt 0 S1 else bd (J7_floorDiv x2 x4 S1) (fun v1 S2 => rt v1 S2))
noncomputable def X5_reckon_262 (x2 : Int64) (x4 : Int64) (S : Sx) : Rs Int64 :=
  rt (x2 + x4) S
noncomputable def X5_reckon_267 (x2 : Int64) (x4 : Int64) (S : Sx) : Rs Int64 :=
  rt (x2 - x4) S
noncomputable def X5_reckon_296 (y0 : Int32) (y1 : Int32) (S : Sx) : Rs Int64 :=
  bd (X5_compare y1 y0 S) (fun v1 S1 => rt v1.toInt64 S1)
noncomputable def X5_reckon_284 (x2 : Int64) (x4 : Int64) (y0 : Int32) (S : Sx) : Rs Int64 :=
  if x2 = x4 then X5_reckon_296 1 y0 S else X5_reckon_296 0 y0 S
noncomputable def X5_reckon_319 (y0 : Int32) (y1 : Int32) (S : Sx) : Rs Int64 :=
  bd (X5_compare y1 y0 S) (fun v1 S1 => rt v1.toInt64 S1)
noncomputable def X5_reckon (a1 : Int32) (a2 : Int64) (a3 : Int64) (S : Sx) : Rs Int64 :=
  if (a1 &&& ((-2))) = 2 then rt (a2 * a3) S else if (a1 &&& ((-2))) = 4 then if a3 = 0 then X5_reckon_243 a2 a3 a2 2 S else bd (J7_floorMod a2 a3 S) (fun v1 S1 => X5_reckon_243 a2 a3 v1 2 S1) else if (a1 &&& ((-2))) = 6 then X5_reckon_262 a2 a3 S else if (a1 &&& ((-2))) = 8 then X5_reckon_267 a2 a3 S else if (a1 &&& ((-2))) = 10 then if a3 ≤ a2 then X5_reckon_284 a2 a3 0 S else X5_reckon_284 a2 a3 1 S else if (a1 &&& ((-2))) = 12 then bd (X7_isBelow a2 a3 S) (fun v1 S1 => if a2 = a3 then X5_reckon_319 1 v1 S1 else X5_reckon_319 0 v1 S1) else if (a1 &&& ((-2))) = 14 then bd (X7_multiply a2 a3 S) (fun _ S2 => sL S2 144 4 1 (gL S2 143 0) (fun S3 => rt (gL S3 143 1) S3)) else if (a1 &&& ((-2))) = 16 then bd (X5_divided a2 a3 S) (fun v2 S4 => rt v2 S4) else if (a1 &&& ((-2))) = 18 then rt (a2 &&& a3) S else if (a1 &&& ((-2))) = 20 then rt (a2 ||| a3) S else if (a1 &&& ((-2))) = 22 then rt (a2 ^^^ a3) S else if (a1 &&& ((-2))) = 24 then rt (a2 &&& (a3 ^^^ ((-1)))) S else if (a1 &&& ((-2))) = 32 then X5_reckon_267 a2 a3 S else if (a1 &&& ((-2))) = 50 then X5_reckon_262 a2 a3 S else bd (X5_moved (a1 &&& ((-2))) a2 a3 S) (fun v3 S5 => rt v3 S5)
noncomputable def X5_putString_82 (k12 : Int64 → Int32 → Sx → Rs Unit) (x1 : Int64) (x3 : Int32) (S : Sx) : Rs Unit :=
  vl (x1 + 1) (fun v1 => k12 v1 x3 S)
noncomputable def X5_putString_57 (k12 : Int64 → Int32 → Sx → Rs Unit) (x1 : Int64) (x3 : Int32) (y0 : Int32) (S : Sx) : Rs Unit :=
  bd (X5_want y0 7 S) (fun _ S1 => sI S1 145 1000 (gI S1 138 9) x3 (fun S2 => pt (pI S2 138 9 ((gI S2 138 9) + 1)) (fun S3 => X5_putString_82 k12 x1 x3 S3)))
noncomputable def X5_putString_12b (k12 : Int64 → Int32 → Sx → Rs Unit) (x1 : Int64) (x3 : Int32) (S : Sx) : Rs Unit :=
  if x3 = 0 then rt () S else bd (X0_isAddress x1 S) (fun v1 S1 => bd (X5_want v1 4 S1) (fun _ S2 => bd (X2_get x1.toInt32 1 S2) (fun v2 S3 => vl v2.toInt32 (fun v3 => if v3 = 0 then X5_putString_82 k12 x1 v3 S3 else if 1000 ≤ (gI S3 138 9) then X5_putString_57 k12 x1 v3 0 S3 else X5_putString_57 k12 x1 v3 1 S3))))
noncomputable def X5_putString_12 : Nat → Int64 → Int32 → Sx → Rs Unit
  | 0 => fun _ _ _ => none
  | n + 1 => X5_putString_12b  (X5_putString_12 n)
noncomputable def X5_putString (S : Sx) : Rs Unit :=
  bd (X6_get 31 S) (fun v1 S1 => vl v1 (fun v2 => X5_putString_12 FU v2 1 S1))
noncomputable def X5_takeLine_33 (S : Sx) : Rs Unit :=
  bd (X6_set 31 ((-1)) S) (fun _ S1 => rt () S1)
noncomputable def X5_takeLine_147 (x1 : Int64) (x5 : Int64) (S : Sx) : Rs Unit :=
  bd (X0_isAddress (x1 + x5) S) (fun v1 S1 => bd (X5_want v1 4 S1) (fun _ S2 => bd (X2_set ((x1 + x5).toInt32) 1 0 S2) (fun _ S3 => bd (X6_set 31 x5 S3) (fun _ S4 => rt () S4))))
noncomputable def X5_takeLine_52b (k52 : Int64 → Int64 → Int64 → Int32 → Sx → Rs Unit) (x1 : Int64) (x3 : Int64) (x5 : Int64) (x7 : Int32) (S : Sx) : Rs Unit :=
  if x7 = 0 then X5_takeLine_147 x1 x5 S else if (x3 - 1) ≤ x5 then X5_takeLine_147 x1 x5 S else bd (X5_left S) (fun v1 S1 => if v1 ≤ 0 then X5_takeLine_147 x1 x5 S1 else bd (X0_isAddress (x1 + x5) S1) (fun v2 S2 => bd (X5_want v2 4 S2) (fun _ S3 => bd (X8_at 146 (gI S3 138 11) S3) (fun v3 S4 => vl v3 (fun v4 => pt (pI S4 138 11 ((gI S4 138 11) + 1)) (fun S5 => bd (X2_set ((x1 + x5).toInt32) 1 v4.toInt64 S5) (fun _ S6 => vl (x5 + 1) (fun v5 => if v4 = 10 then k52 x1 x3 v5 0 S6 else k52 x1 x3 v5 1 S6))))))))
noncomputable def X5_takeLine_52 : Nat → Int64 → Int64 → Int64 → Int32 → Sx → Rs Unit
  | 0 => fun _ _ _ _ _ => none
  | n + 1 => X5_takeLine_52b  (X5_takeLine_52 n)
noncomputable def X5_takeLine (S : Sx) : Rs Unit :=
  bd (X6_get 31 S) (fun v1 S1 => vl v1 (fun v2 => bd (X6_get 30 S1) (fun v3 S2 => vl v3 (fun v4 => bd (X5_left S2) (fun v5 S3 => if v5 = 0 then X5_takeLine_33 S3 else if 1 ≤ v4 then X5_takeLine_52 FU v2 v4 0 1 S3 else X5_takeLine_33 S3)))))
noncomputable def X5_trap_11 (x1 : Int32) (y0 : Int32) (S : Sx) : Rs Unit :=
  bd (X5_want y0 6 S) (fun _ S1 => if x1 = 0 then pt (pI S1 138 7 1) (fun S2 => rt () S2) else if x1 = 1 then bd (X5_putString S1) (fun _ S2 => rt () S2) else bd (X5_takeLine S1) (fun _ S2 => rt () S2))
noncomputable def X5_trap (a1 : Int32) (S : Sx) : Rs Unit :=
  if 2 < a1 then X5_trap_11 a1 0 S else X5_trap_11 a1 1 S
noncomputable def X5_isTaken (a1 : Int32) (a2 : Int64) (S : Sx) : Rs Int32 :=
  if (a1 - 60) = 0 then if 0 ≤ a2 then rt 0 S else rt 1 S else if (a1 - 60) = 1 then if a2 = 0 then rt 1 S else rt 0 S else if (a1 - 60) = 2 then if a2 ≤ 0 then rt 0 S else rt 1 S else if (a1 - 60) = 3 then if a2 < 0 then rt 0 S else rt 1 S else if (a1 - 60) = 4 then if a2 = 0 then rt 0 S else rt 1 S else if 0 < a2 then rt 0 S else rt 1 S
noncomputable def X6_down_14 (y0 : Int32) (S : Sx) : Rs Unit :=
  vl y0 (fun v1 => bd (X6_extend (v1 + 1) S) (fun _ S1 => sL S1 140 40 (((gI S1 139 3) + v1) - ((gI S1 139 3) + v1) / 40 * 40) v1.toInt64 (fun S2 => pt (pI S2 139 3 ((gI S2 139 3) + (v1 + 1))) (fun S3 => pt (pI S3 139 5 ((gI S3 139 5) - (v1 + 1))) (fun S4 => rt () S4)))))
noncomputable def X6_down (a1 : Int32) (S : Sx) : Rs Unit :=
  if a1 < 16 then X6_down_14 a1 S else X6_down_14 (gI S 139 5) S
noncomputable def X6_fillTo_0b (k0 : Int32 → Sx → Rs Unit) (x1 : Int32) (S : Sx) : Rs Unit :=
  if (gI S 139 4) ≤ x1 then rt () S else pt (pI S 139 4 ((gI S 139 4) - 1)) (fun S1 => lL S1 141 632 (gI S1 139 4) (fun v1 => sL S1 140 40 ((gI S1 139 4) - (gI S1 139 4) / 40 * 40) v1 (fun S2 => k0 x1 S2)))
noncomputable def X6_fillTo_0 : Nat → Int32 → Sx → Rs Unit
  | 0 => fun _ _ => none
  | n + 1 => X6_fillTo_0b  (X6_fillTo_0 n)
noncomputable def X6_fillTo (a1 : Int32) (S : Sx) : Rs Unit :=
  X6_fillTo_0 FU a1 S
noncomputable def X6_up_150 (y0 : Int32) (S : Sx) : Rs Unit :=
  pt (pI S 139 5 y0) (fun S1 => rt () S1)
noncomputable def X6_up_119 (x2 : Int32) (x4 : Int32) (S : Sx) : Rs Unit :=
  pt (pI S 139 3 ((gI S 139 3) - (x2 + 1))) (fun S1 => if 16 ≤ (x2 + x4) then X6_up_150 16 S1 else X6_up_150 (x2 + x4) S1)
noncomputable def X6_up_118 (x2 : Int32) (x4 : Int32) (y0 : Int64) (y1 : Int32) (S : Sx) : Rs Unit :=
  sL S 140 40 y1 y0 (fun S1 => X6_up_119 x2 x4 S1)
noncomputable def X6_up_74 (x1 : Int32) (x2 : Int32) (x3 : Int32) (y0 : Int32) (S : Sx) : Rs Unit :=
  vl y0 (fun v1 => if v1 ≤ 0 then X6_up_119 x2 v1 S else if x3 = 0 then lL S 140 40 ((((gI S 139 3) + x1) - 1) - (((gI S 139 3) + x1) - 1) / 40 * 40) (fun v2 => X6_up_118 x2 v1 v2 (((gI S 139 3) - 1) - ((gI S 139 3) - 1) / 40 * 40) S) else X6_up_118 x2 v1 0 (((gI S 139 3) - 1) - ((gI S 139 3) - 1) / 40 * 40) S)
noncomputable def X6_up_51 (x1 : Int32) (x2 : Int32) (y0 : Int32) (S : Sx) : Rs Unit :=
  vl y0 (fun v1 => if x1 = 0 then X6_up_74 x1 x2 v1 0 S else if v1 = 0 then X6_up_74 x1 x2 v1 x1 S else X6_up_74 x1 x2 v1 ((gI S 139 5) + 1) S)
noncomputable def X6_up (a1 : Int32) (S : Sx) : Rs Unit :=
  bd (X6_fillTo ((gI S 139 3) - 1) S) (fun _ S1 => lL S1 140 40 (((gI S1 139 3) - 1) - ((gI S1 139 3) - 1) / 40 * 40) (fun v1 => vl v1.toInt32 (fun v2 => bd (X6_fillTo (((gI S1 139 3) - 1) - v2) S1) (fun _ S2 => if a1 ≤ (gI S2 139 5) then X6_up_51 a1 v2 0 S2 else X6_up_51 a1 v2 1 S2))))
noncomputable def X5_special (a1 : Int32) (S : Sx) : Rs Int64 :=
  if a1 = 4 then rt ((gI S 139 5).toInt64) S else lL S 144 4 a1 (fun v1 => rt v1 S)
noncomputable def X6_cut_17 (y0 : Int32) (S : Sx) : Rs Unit :=
  pt (pI S 139 5 y0) (fun S1 => rt () S1)
noncomputable def X6_cut (a1 : Int32) (S : Sx) : Rs Unit :=
  if (gI S 139 5) ≤ a1 then X6_cut_17 (gI S 139 5) S else X6_cut_17 a1 S
noncomputable def X5_put (a1 : Int32) (a2 : Int64) (S : Sx) : Rs Unit :=
  if 4 ≤ a1 then if a2 < 0 then rt () S else if ((gI S 139 5).toInt64) ≤ a2 then rt () S else bd (X6_cut a2.toInt32 S) (fun _ S1 => rt () S1) else sL S 144 4 a1 a2 (fun S1 => rt () S1)
noncomputable def X5_orderElse_264 (x4 : Int64) (S : Sx) : Rs Int64 :=
  rt (x4 + 4) S
noncomputable def X5_orderElse (a1 : Int32) (a2 : Int32) (a3 : Int32) (a4 : Int64) (S : Sx) : Rs Int64 :=
  vl (a4 + (4 * a3.toInt16.toInt32.toInt64)) (fun v1 => vl (a3 &&& 65535) (fun v2 => if 65 < a1 then if a1 = 66 then rt (a4 + (4 * (((a3 <<< ((8 : Int32) &&& 31)) >>> ((8 : Int32) &&& 31)).toInt64))) S else if a1 = 67 then bd (X6_down a2 S) (fun _ S1 => sL S1 144 4 3 (a4 + 4) (fun S2 => rt v1 S2)) else if a1 = 68 then bd (X6_up a2 S) (fun _ S1 => lL S1 144 4 3 (fun v3 => rt (v3 + (4 * v2.toInt64)) S1)) else if a1 = 69 then bd (X6_set a2 v1 S) (fun _ S1 => X5_orderElse_264 a4 S1) else if 74 ≤ a1 then if 77 < a1 then if a1 = 78 then bd (X5_special (a3 &&& 255) S) (fun v3 S1 => bd (X6_set a2 v3 S1) (fun _ S2 => X5_orderElse_264 a4 S2)) else if a1 = 79 then bd (X6_get (a3 &&& 255) S) (fun v3 S1 => bd (X5_put a2 v3 S1) (fun _ S2 => X5_orderElse_264 a4 S2)) else X5_orderElse_264 a4 S else bd (X6_get a2 S) (fun v3 S1 => bd (X6_set a2 (v3 + (v2.toInt64 <<< ((16 * (a1 - 74)).toInt64 &&& 63))) S1) (fun _ S2 => X5_orderElse_264 a4 S2)) else bd (X6_set a2 (v2.toInt64 <<< ((16 * (a1 - 70)).toInt64 &&& 63)) S) (fun _ S1 => X5_orderElse_264 a4 S1) else bd (X6_get a2 S) (fun v3 S1 => bd (X5_isTaken a1 v3 S1) (fun v4 S2 => if v4 = 0 then rt (a4 + 4) S2 else rt v1 S2))))
noncomputable def X5_step_256 (x8 : Int64) (S : Sx) : Rs Unit :=
  pt (pL S 138 5 x8) (fun S1 => pt (pI S1 138 6 ((gI S1 138 6) + 1)) (fun S2 => rt () S2))
noncomputable def X5_step_224 (x8 : Int64) (y0 : Int64) (y1 : Int32) (S : Sx) : Rs Unit :=
  bd (X6_set y1 y0 S) (fun _ S1 => X5_step_256 x8 S1)
noncomputable def X5_step_213 (x4 : Int32) (x7 : Int32) (x8 : Int64) (y0 : Int64) (y1 : Int32) (y3 : Int32) (S : Sx) : Rs Unit :=
  bd (X5_right x4 x7 S) (fun v1 S1 => bd (X5_reckon y1 y0 v1 S1) (fun v2 S2 => X5_step_224 x8 v2 y3 S2))
noncomputable def X5_step_160 (x1 : Int64) (x4 : Int32) (x5 : Int32) (x6 : Int32) (x7 : Int32) (x8 : Int64) (S : Sx) : Rs Unit :=
  if x4 < 52 then if x4 = 32 then X5_step_213 x4 x7 x8 x6.toInt64 x4 x5 S else if x4 = 33 then X5_step_213 x4 x7 x8 x6.toInt64 x4 x5 S else bd (X6_get x6 S) (fun v1 S1 => X5_step_213 x4 x7 x8 v1 x4 x5 S1) else X5_step_224 x8 (x1 + 4) x5 S
noncomputable def X5_step_125 (x1 : Int64) (x3 : Int32) (x4 : Int32) (x5 : Int32) (x6 : Int32) (x7 : Int32) (x8 : Int64) (S : Sx) : Rs Unit :=
  bd (X5_isThree x4 S) (fun v1 S1 => if v1 = 0 then if x4 = 0 then bd (X5_trap x7 S1) (fun _ S2 => X5_step_256 x8 S2) else bd (X5_orderElse x4 x5 x3 x1 S1) (fun v2 S2 => vl v2 (fun v3 => X5_step_256 v3 S2)) else if x4 < 52 then X5_step_160 x1 x4 x5 x6 x7 x8 S1 else bd (X6_get x6 S1) (fun v2 S2 => bd (X5_right x4 x7 S2) (fun v3 S3 => vl (v2 + v3) (fun v4 => X5_step_160 x1 x4 x5 x6 x7 v4 S3))))
noncomputable def X5_step (S : Sx) : Rs Unit :=
  vl ((gL S 138 5) &&& ((-4))) (fun v1 => bd (X0_isAddress v1 S) (fun v2 S1 => bd (X5_want v2 4 S1) (fun _ S2 => bd (X2_get v1.toInt32 4 S2) (fun v3 S3 => vl v3.toInt32 (fun v4 => vl ((v4.toUInt32 >>> (((24 : Int32)).toUInt32 &&& Int32.toUInt32 31)).toInt32) (fun v5 => vl ((v4 >>> ((16 : Int32) &&& 31)) &&& 255) (fun v6 => vl ((v4 >>> ((8 : Int32) &&& 31)) &&& 255) (fun v7 => vl (v4 &&& 255) (fun v8 => bd (X5_look v5 v6 v7 v8 S3) (fun _ S4 => vl (v1 + 4) (fun v9 => if v5 < 36 then X5_step_125 v1 v4 v5 v6 v7 v8 v9 S4 else if 50 ≤ v5 then X5_step_125 v1 v4 v5 v6 v7 v8 v9 S4 else bd (X6_get v7 S4) (fun v10 S5 => bd (X5_right v5 v8 S5) (fun v11 S6 => bd (X5_access v5 v6 (v10 + v11) S6) (fun _ S7 => X5_step_256 v9 S7))))))))))))))
noncomputable def X5_run_27 (y0 : Nat) (S : Sx) : Rs Int32 :=
  kd S (1 + 6) y0 (pt (pI S 138 7 (gI S y0 6)) (fun S1 => rt (gI S1 138 7) S1))
noncomputable def X5_run_2b (k2 : Int32 → Int32 → Sx → Rs Int32) (x1 : Int32) (x2 : Int32) (S : Sx) : Rs Int32 :=
  if x1 ≤ x2 then rt (gI S 138 7) S else if (gI S 138 7) = 0 then ct (X5_step S) (fun _ S1 => vl (x2 + 1) (fun v2 => k2 x1 v2 S1)) (fun c1 S1 => kd S1 (1 + 6) c1 (X5_run_27 c1 S1)) else rt (gI S 138 7) S
noncomputable def X5_run_2 : Nat → Int32 → Int32 → Sx → Rs Int32
  | 0 => fun _ _ _ => none
  | n + 1 => X5_run_2b  (X5_run_2 n)
noncomputable def X5_run (a1 : Int32) (S : Sx) : Rs Int32 :=
  X5_run_2 FU a1 0 S
noncomputable def X0_run (a1 : Int32) (S : Sx) : Rs Int32 :=
  if (gI S 0 6) = 0 then rt ((-1)) S else if a1 < 0 then rt ((-1)) S else if 20000 < a1 then rt ((-1)) S else bd (X5_run a1 S) (fun v1 S1 => rt v1 S1)
noncomputable def X14_init (c0 : Nat) (a1 : Int32) (S : Sx) : Rs Unit :=
  xi S 14 c0 (fun S1 => kd S1 (14 + 6) c0 (pt (pI S1 c0 6 a1) (fun S2 => rt () S2)))
noncomputable def X12_address_14 (S : Sx) : Rs Int32 :=
  al S (14 + 50 + 6) 0 7 (fun c1 S1 => bd (X14_init c1 4 S1) (fun _ S2 => th c1 S2))
noncomputable def X12_address (a1 : Int64) (a2 : Int32) (S : Sx) : Rs Int32 :=
  if a1 < 0 then X12_address_14 S else if a1 < 65536 then if a2 = 0 then none else rt ((a1.toInt32 / a2) * a2) S else X12_address_14 S
noncomputable def X12_forget_12b (k12 : Int32 → Sx → Rs Unit) (x2 : Int32) (S : Sx) : Rs Unit :=
  if (gI S 167 25) ≤ x2 then rt () S else lI S 180 4 (x2 + 1) (fun v1 => sI S 180 4 x2 v1 (fun S1 => vl (x2 + 1) (fun v2 => k12 v2 S1)))
noncomputable def X12_forget_12 : Nat → Int32 → Sx → Rs Unit
  | 0 => fun _ _ => none
  | n + 1 => X12_forget_12b  (X12_forget_12 n)
noncomputable def X12_forget (a1 : Int32) (S : Sx) : Rs Unit :=
  pt (pI S 167 25 ((gI S 167 25) - 1)) (fun S1 => vl a1 (fun v1 => X12_forget_12 FU v1 S1))
noncomputable def X12_leave_99b (k99 : Int32 → Int32 → Int32 → Sx → Rs Int32) (x1 : Int32) (x2 : Int32) (x3 : Int32) (S : Sx) : Rs Int32 :=
  if x3 < 0 then if (gI S 167 17) = 0 then none else pt (pI S 167 23 (((gI S 167 23) + 1) - ((gI S 167 23) + 1) / (gI S 167 17) * (gI S 167 17))) (fun S1 => rt x1 S1) else lI S 180 4 x3 (fun v1 => if v1 = x2 then bd (X12_forget x3 S) (fun _ S1 => vl (x3 + (-1)) (fun v2 => k99 x1 x2 v2 S1)) else vl (x3 + (-1)) (fun v2 => k99 x1 x2 v2 S))
noncomputable def X12_leave_99 : Nat → Int32 → Int32 → Int32 → Sx → Rs Int32
  | 0 => fun _ _ _ _ => none
  | n + 1 => X12_leave_99b  (X12_leave_99 n)
noncomputable def X12_leave_71 (x1 : Int32) (x2 : Int32) (S : Sx) : Rs Int32 :=
  sI S 176 1024 x2 (nz 1) (fun S1 => sI S1 175 1024 x2 ((-1)) (fun S2 => sI S2 177 64 x1 ((-1)) (fun S3 => vl ((gI S3 167 25) - 1) (fun v1 => X12_leave_99 FU x1 x2 v1 S3))))
noncomputable def X12_leave_0b (k0 : Sx → Rs Int32) (S : Sx) : Rs Int32 :=
  lI S 178 64 (gI S 167 23) (fun v1 => if v1 = 0 then vl (gI S 167 23) (fun v2 => lI S 177 64 v2 (fun v3 => vl v3 (fun v4 => lI S 179 64 v2 (fun v5 => if v5 = 0 then X12_leave_71 v2 v4 S else pt (pI S 167 28 ((gI S 167 28) + 1)) (fun S1 => X12_leave_71 v2 v4 S1))))) else sI S 178 64 (gI S 167 23) (nz 0) (fun S1 => if (gI S1 167 17) = 0 then none else pt (pI S1 167 23 (((gI S1 167 23) + 1) - ((gI S1 167 23) + 1) / (gI S1 167 17) * (gI S1 167 17))) (fun S2 => k0 S2)))
noncomputable def X12_leave_0 : Nat → Sx → Rs Int32
  | 0 => fun _ => none
  | n + 1 => X12_leave_0b  (X12_leave_0 n)
noncomputable def X12_leave (S : Sx) : Rs Int32 :=
  X12_leave_0 FU S
noncomputable def X12_bring_88 (x1 : Int32) (S : Sx) : Rs Unit :=
  sI S 176 1024 x1 (nz 0) (fun S1 => rt () S1)
noncomputable def X12_bring_48 (x1 : Int32) (x2 : Int32) (S : Sx) : Rs Unit :=
  sI S 177 64 x2 x1 (fun S1 => sI S1 175 1024 x1 x2 (fun S2 => sI S2 179 64 x2 (nz 0) (fun S3 => lI S3 176 1024 x1 (fun v1 => if v1 = 0 then X12_bring_88 x1 S3 else pt (pI S3 167 27 ((gI S3 167 27) + 1)) (fun S4 => X12_bring_88 x1 S4)))))
noncomputable def X12_bring_35 (x1 : Int32) (x2 : Int32) (S : Sx) : Rs Unit :=
  if x2 = (gI S 167 17) then bd (X12_leave S) (fun v1 S1 => vl v1 (fun v2 => X12_bring_48 x1 v2 S1)) else X12_bring_48 x1 x2 S
noncomputable def X12_bring_12b (k12 : Int32 → Int32 → Sx → Rs Unit) (x1 : Int32) (x2 : Int32) (S : Sx) : Rs Unit :=
  if (gI S 167 17) ≤ x2 then X12_bring_35 x1 x2 S else lI S 177 64 x2 (fun v1 => if v1 < 0 then X12_bring_35 x1 x2 S else vl (x2 + 1) (fun v2 => k12 x1 v2 S))
noncomputable def X12_bring_12 : Nat → Int32 → Int32 → Sx → Rs Unit
  | 0 => fun _ _ _ => none
  | n + 1 => X12_bring_12b  (X12_bring_12 n)
noncomputable def X12_bring (a1 : Int32) (S : Sx) : Rs Unit :=
  pt (pI S 167 26 ((gI S 167 26) + 1)) (fun S1 => X12_bring_12 FU a1 0 S1)
noncomputable def X12_touch_109 (x3 : Int32) (S : Sx) : Rs Unit :=
  sI S 180 4 (gI S 167 25) x3 (fun S1 => pt (pI S1 167 25 ((gI S1 167 25) + 1)) (fun S2 => rt () S2))
noncomputable def X12_touch_76 (x3 : Int32) (x5 : Int32) (S : Sx) : Rs Unit :=
  if (gI S 167 25) ≤ x5 then pt (pI S 167 29 ((gI S 167 29) + 1)) (fun S1 => if (gI S1 167 25) = 4 then bd (X12_forget 0 S1) (fun _ S2 => X12_touch_109 x3 S2) else X12_touch_109 x3 S1) else rt () S
noncomputable def X12_touch_50b (k50 : Int32 → Int32 → Sx → Rs Unit) (x3 : Int32) (x5 : Int32) (S : Sx) : Rs Unit :=
  if (gI S 167 25) ≤ x5 then X12_touch_76 x3 x5 S else lI S 180 4 x5 (fun v1 => if v1 = x3 then X12_touch_76 x3 x5 S else vl (x5 + 1) (fun v2 => k50 x3 v2 S))
noncomputable def X12_touch_50 : Nat → Int32 → Int32 → Sx → Rs Unit
  | 0 => fun _ _ _ => none
  | n + 1 => X12_touch_50b  (X12_touch_50 n)
noncomputable def X12_touch_19 (x2 : Int32) (x3 : Int32) (S : Sx) : Rs Unit :=
  lI S 175 1024 x3 (fun v1 => vl v1 (fun v2 => sI S 178 64 v2 (nz 1) (fun S1 => if x2 = 0 then X12_touch_50 FU x3 0 S1 else sI S1 179 64 v2 (nz 1) (fun S2 => X12_touch_50 FU x3 0 S2))))
noncomputable def X12_touch (a1 : Int32) (a2 : Int32) (S : Sx) : Rs Unit :=
  vl (a1 / 64) (fun v1 => lI S 175 1024 v1 (fun v2 => if 0 ≤ v2 then X12_touch_19 a2 v1 S else bd (X12_bring v1 S) (fun _ S1 => X12_touch_19 a2 v1 S1)))
noncomputable def X12_isOp_27 (x0 : Int32) (S : Sx) : Rs Int32 :=
  if x0 < 60 then rt 0 S else if 80 < x0 then rt 0 S else rt 1 S
noncomputable def X12_isOp_15 (x0 : Int32) (S : Sx) : Rs Int32 :=
  if x0 < 36 then X12_isOp_27 x0 S else if x0 ≤ 53 then rt 1 S else X12_isOp_27 x0 S
noncomputable def X12_isOp (a1 : Int32) (S : Sx) : Rs Int32 :=
  if a1 = 0 then rt 1 S else if a1 < 2 then X12_isOp_15 a1 S else if a1 ≤ 33 then rt 1 S else X12_isOp_15 a1 S
noncomputable def X12_fields_63 (x0 : Int32) (y0 : Int32) (S : Sx) : Rs Int32 :=
  vl y0 (fun v1 => if (x0 - x0 / 2 * 2) = 0 then rt (v1 + 4) S else rt v1 S)
noncomputable def X12_fields (a1 : Int32) (S : Sx) : Rs Int32 :=
  if a1 = 0 then rt 0 S else if a1 = 66 then rt 0 S else if a1 = 67 then rt 0 S else if a1 = 68 then rt 0 S else if a1 = 80 then rt 0 S else if a1 = 79 then rt 4 S else if a1 < 60 then if a1 < 32 then X12_fields_63 a1 3 S else if 33 < a1 then X12_fields_63 a1 3 S else X12_fields_63 a1 1 S else rt 1 S
noncomputable def X12_rL (S : Sx) : Rs Int32 :=
  lL S 172 5 4 (fun v1 => rt v1.toInt32 S)
noncomputable def X12_mayWrite (a1 : Int32) (S : Sx) : Rs Unit :=
  if 16 ≤ a1 then rt () S else bd (X12_rL S) (fun v1 S1 => if a1 < v1 then rt () S1 else if (((gI S1 167 11) + a1) + 1) ≤ 600 then rt () S1 else al S1 (14 + 50 + 6) 0 7 (fun c2 S2 => bd (X14_init c2 5 S2) (fun _ S3 => th c2 S3)))
noncomputable def X12_number_5b (k5 : Int32 → Int32 → Int64 → Int32 → Sx → Rs Int64) (x1 : Int32) (x2 : Int32) (x3 : Int64) (x5 : Int32) (S : Sx) : Rs Int64 :=
  if x2 ≤ x5 then rt x3 S else lI S 169 65536 (x1 + x5) (fun v1 => vl ((x3 <<< (((8 : Int32)).toInt64 &&& 63)) ||| v1.toInt64) (fun v2 => vl (x5 + 1) (fun v3 => k5 x1 x2 v2 v3 S)))
noncomputable def X12_number_5 : Nat → Int32 → Int32 → Int64 → Int32 → Sx → Rs Int64
  | 0 => fun _ _ _ _ _ => none
  | n + 1 => X12_number_5b  (X12_number_5 n)
noncomputable def X12_number (a1 : Int32) (a2 : Int32) (S : Sx) : Rs Int64 :=
  X12_number_5 FU a1 a2 0 0 S
noncomputable def X12_fetch (a1 : Int64) (a2 : Int32) (S : Sx) : Rs Int64 :=
  bd (X12_address a1 a2 S) (fun v1 S1 => vl v1 (fun v2 => bd (X12_touch v2 0 S1) (fun _ S2 => bd (X12_number v2 a2 S2) (fun v3 S3 => rt v3 S3))))
noncomputable def X12_lay_3b (k3 : Int32 → Int32 → Int64 → Int32 → Sx → Rs Unit) (x1 : Int32) (x2 : Int32) (x3 : Int64) (x5 : Int32) (S : Sx) : Rs Unit :=
  if x2 ≤ x5 then rt () S else sI S 169 65536 (x1 + x5) (((x3 >>> ((8 * ((x2 - 1) - x5)).toInt64 &&& 63)).toInt32) &&& 255) (fun S1 => vl (x5 + 1) (fun v1 => k3 x1 x2 x3 v1 S1))
noncomputable def X12_lay_3 : Nat → Int32 → Int32 → Int64 → Int32 → Sx → Rs Unit
  | 0 => fun _ _ _ _ _ => none
  | n + 1 => X12_lay_3b  (X12_lay_3 n)
noncomputable def X12_lay (a1 : Int32) (a2 : Int32) (a3 : Int64) (S : Sx) : Rs Unit :=
  X12_lay_3 FU a1 a2 a3 0 S
noncomputable def X12_store (a1 : Int64) (a2 : Int32) (a3 : Int64) (S : Sx) : Rs Unit :=
  bd (X12_address a1 a2 S) (fun v1 S1 => vl v1 (fun v2 => bd (X12_touch v2 1 S1) (fun _ S2 => bd (X12_lay v2 a2 a3 S2) (fun _ S3 => rt () S3))))
noncomputable def X12_trap_128 (S : Sx) : Rs Unit :=
  sL S 171 32 31 ((-1)) (fun S1 => rt () S1)
noncomputable def X12_trap_204b (k144 : Int64 → Int32 → Int32 → Sx → Rs Unit) (k204 : Int64 → Int32 → Int32 → Int32 → Sx → Rs Unit) (x1 : Int64) (x3 : Int32) (x5 : Int32) (x6 : Int32) (S : Sx) : Rs Unit :=
  if (gI S 167 4) ≤ x6 then vl (x3 + 1) (fun v1 => if x5 = 10 then k144 x1 v1 0 S else k144 x1 v1 1 S) else lI S 170 4000 (x6 + 1) (fun v1 => sI S 170 4000 x6 v1 (fun S1 => vl (x6 + 1) (fun v2 => k204 x1 x3 x5 v2 S1)))
noncomputable def X12_trap_204 (k144 : Int64 → Int32 → Int32 → Sx → Rs Unit) : Nat → Int64 → Int32 → Int32 → Int32 → Sx → Rs Unit
  | 0 => fun _ _ _ _ _ => none
  | n + 1 => X12_trap_204b k144 (X12_trap_204 k144 n)
noncomputable def X12_trap_255 (x1 : Int64) (x3 : Int32) (S : Sx) : Rs Unit :=
  bd (X12_store (x1 + x3.toInt64) 1 0 S) (fun _ S1 => sL S1 171 32 31 x3.toInt64 (fun S2 => rt () S2))
noncomputable def X12_trap_144b (k144 : Int64 → Int32 → Int32 → Sx → Rs Unit) (x1 : Int64) (x3 : Int32) (x4 : Int32) (S : Sx) : Rs Unit :=
  if x4 = 0 then X12_trap_255 x1 x3 S else if (gI S 167 4) ≤ 0 then X12_trap_255 x1 x3 S else lL S 171 32 30 (fun v1 => if (v1 - 1) ≤ x3.toInt64 then X12_trap_255 x1 x3 S else lI S 170 4000 0 (fun v2 => vl v2 (fun v3 => bd (X12_store (x1 + x3.toInt64) 1 v3.toInt64 S) (fun _ S1 => pt (pI S1 167 4 ((gI S1 167 4) - 1)) (fun S2 => X12_trap_204 k144 FU x1 x3 v3 0 S2)))))
noncomputable def X12_trap_144 : Nat → Int64 → Int32 → Int32 → Sx → Rs Unit
  | 0 => fun _ _ _ _ => none
  | n + 1 => X12_trap_144b  (X12_trap_144 n)
noncomputable def X12_trap_100 (x1 : Int64) (S : Sx) : Rs Unit :=
  if (gI S 167 32) = 2 then if (gI S 167 4) = 0 then X12_trap_128 S else lL S 171 32 30 (fun v1 => if 1 ≤ v1 then X12_trap_144 FU x1 0 1 S else X12_trap_128 S) else rt () S
noncomputable def X12_trap_36b (k36 : Int64 → Int64 → Sx → Rs Unit) (x1 : Int64) (x3 : Int64) (S : Sx) : Rs Unit :=
  bd (X12_fetch x3 1 S) (fun v1 S1 => if v1 = 0 then X12_trap_100 x1 S1 else if (gI S1 167 16) = 1000 then al S1 (14 + 50 + 6) 0 7 (fun c2 S2 => bd (X14_init c2 7 S2) (fun _ S3 => th c2 S3)) else lI S1 169 65536 x3.toInt32 (fun v2 => sI S1 174 1000 (gI S1 167 16) v2 (fun S2 => pt (pI S2 167 16 ((gI S2 167 16) + 1)) (fun S3 => vl (x3 + 1) (fun v3 => k36 x1 v3 S3)))))
noncomputable def X12_trap_36 : Nat → Int64 → Int64 → Sx → Rs Unit
  | 0 => fun _ _ _ => none
  | n + 1 => X12_trap_36b  (X12_trap_36 n)
noncomputable def X12_trap (S : Sx) : Rs Unit :=
  if (gI S 167 32) ≤ 2 then lL S 171 32 31 (fun v1 => vl v1 (fun v2 => if (gI S 167 32) = 1 then vl v2 (fun v3 => X12_trap_36 FU v2 v3 S) else X12_trap_100 v2 S)) else al S (14 + 50 + 6) 0 7 (fun c1 S1 => bd (X14_init c1 6 S1) (fun _ S2 => th c1 S2))
noncomputable def X12_get_18 (x1 : Int32) (S : Sx) : Rs Int64 :=
  lL S 171 32 x1 (fun v1 => rt v1 S)
noncomputable def X12_get (a1 : Int32) (S : Sx) : Rs Int64 :=
  if 16 ≤ a1 then X12_get_18 a1 S else bd (X12_rL S) (fun v1 S1 => if a1 < v1 then X12_get_18 a1 S1 else rt 0 S1)
noncomputable def X12_isLess (a1 : Int64) (a2 : Int64) (S : Sx) : Rs Int32 :=
  if (a2 + ((-9223372036854775808))) ≤ (a1 + ((-9223372036854775808))) then rt 0 S else rt 1 S
noncomputable def X12_quotient_66 (k10 : Int64 → Int64 → Int64 → Int64 → Int32 → Sx → Rs Int64) (x3 : Int64) (x5 : Int64) (x7 : Int64) (x9 : Int64) (x11 : Int32) (S : Sx) : Rs Int64 :=
  vl (x7 - x5) (fun v1 => vl (x9 ||| 1) (fun v2 => vl (x11 + (-1)) (fun v3 => k10 x3 x5 v1 v2 v3 S)))
noncomputable def X12_quotient_27 (k10 : Int64 → Int64 → Int64 → Int64 → Int32 → Sx → Rs Int64) (x3 : Int64) (x5 : Int64) (x7 : Int64) (x9 : Int64) (x11 : Int32) (y0 : Int32) (S : Sx) : Rs Int64 :=
  vl y0 (fun v1 => vl ((x7 <<< (((1 : Int32)).toInt64 &&& 63)) ||| ((x3 >>> (x11.toInt64 &&& 63)) &&& 1)) (fun v2 => vl (x9 <<< (((1 : Int32)).toInt64 &&& 63)) (fun v3 => if v1 = 0 then bd (X12_isLess v2 x5 S) (fun v4 S1 => if v4 = 0 then X12_quotient_66 k10 x3 x5 v2 v3 x11 S1 else vl (x11 + (-1)) (fun v5 => k10 x3 x5 v2 v3 v5 S1)) else X12_quotient_66 k10 x3 x5 v2 v3 x11 S)))
noncomputable def X12_quotient_10b (k10 : Int64 → Int64 → Int64 → Int64 → Int32 → Sx → Rs Int64) (x3 : Int64) (x5 : Int64) (x7 : Int64) (x9 : Int64) (x11 : Int32) (S : Sx) : Rs Int64 :=
  if x11 < 0 then sL S 172 5 2 x7 (fun S1 => rt x9 S1) else if 0 ≤ x7 then X12_quotient_27 k10 x3 x5 x7 x9 x11 0 S else X12_quotient_27 k10 x3 x5 x7 x9 x11 1 S
noncomputable def X12_quotient_10 : Nat → Int64 → Int64 → Int64 → Int64 → Int32 → Sx → Rs Int64
  | 0 => fun _ _ _ _ _ _ => none
  | n + 1 => X12_quotient_10b  (X12_quotient_10 n)
noncomputable def X12_quotient (a1 : Int64) (a2 : Int64) (a3 : Int64) (S : Sx) : Rs Int64 :=
  vl a1 (fun v1 => X12_quotient_10 FU a2 a3 v1 0 63 S)
noncomputable def X12_upper_10b (k10 : Int64 → Int64 → Int64 → Int64 → Int32 → Sx → Rs Int64) (x0 : Int64) (x2 : Int64) (x4 : Int64) (x6 : Int64) (x8 : Int32) (S : Sx) : Rs Int64 :=
  if x8 < 0 then rt x4 S else vl ((x4 <<< (((1 : Int32)).toInt64 &&& 63)) ||| ((x6.toUInt64 >>> (((63 : Int32)).toInt64.toUInt64 &&& Int64.toUInt64 63)).toInt64)) (fun v1 => vl (x6 <<< (((1 : Int32)).toInt64 &&& 63)) (fun v2 => if ((x2 >>> (x8.toInt64 &&& 63)) &&& 1) = 0 then vl (x8 + (-1)) (fun v3 => k10 x0 x2 v1 v2 v3 S) else vl (v2 + x0) (fun v3 => bd (X12_isLess v3 x0 S) (fun v4 S1 => if v4 = 0 then vl (v1 + 0) (fun v5 => vl (x8 + (-1)) (fun v6 => k10 x0 x2 v5 v3 v6 S1)) else vl (v1 + 1) (fun v5 => vl (x8 + (-1)) (fun v6 => k10 x0 x2 v5 v3 v6 S1))))))
noncomputable def X12_upper_10 : Nat → Int64 → Int64 → Int64 → Int64 → Int32 → Sx → Rs Int64
  | 0 => fun _ _ _ _ _ _ => none
  | n + 1 => X12_upper_10b  (X12_upper_10 n)
noncomputable def X12_upper (a1 : Int64) (a2 : Int64) (S : Sx) : Rs Int64 :=
  X12_upper_10 FU a1 a2 0 0 63 S
noncomputable def X12_reckoned_159 (x2 : Int64) (x4 : Int64) (y0 : Int64) (y1 : Int32) (S : Sx) : Rs Int64 :=
  sL S 172 5 y1 y0 (fun S1 => if x4 = 0 then rt 0 S1 else bd (J7_floorDiv x2 x4 S1) (fun v1 S2 => rt v1 S2))
noncomputable def X12_reckoned (a1 : Int32) (a2 : Int64) (a3 : Int64) (S : Sx) : Rs Int64 :=
  if a1 = 2 then rt (a2 * a3) S else if a1 = 4 then if a3 = 0 then X12_reckoned_159 a2 a3 a2 2 S else bd (J7_floorMod a2 a3 S) (fun v1 S1 => X12_reckoned_159 a2 a3 v1 2 S1) else if a1 = 6 then rt (a2 + a3) S else if a1 = 8 then rt (a2 - a3) S else if a1 = 10 then if a3 ≤ a2 then if a2 = a3 then rt 0 S else rt 1 S else rt ((-1)) S else if a1 = 12 then bd (X12_isLess a2 a3 S) (fun v1 S1 => if v1 = 0 then if a2 = a3 then rt 0 S1 else rt 1 S1 else rt ((-1)) S1) else if a1 = 14 then bd (X12_upper a2 a3 S) (fun v2 S2 => sL S2 172 5 1 v2 (fun S3 => rt (a2 * a3) S3)) else if a1 = 16 then lL S 172 5 0 (fun v3 => bd (X12_isLess v3 a3 S) (fun v4 S4 => if v4 = 0 then sL S4 172 5 2 a2 (fun S5 => lL S5 172 5 0 (fun v5 => rt v5 S5)) else lL S4 172 5 0 (fun v5 => bd (X12_quotient v5 a2 a3 S4) (fun v6 S5 => rt v6 S5)))) else if a1 = 18 then rt (a2 &&& a3) S else if a1 = 20 then rt (a2 ||| a3) S else if a1 = 22 then rt (a2 ^^^ a3) S else if a1 = 24 then rt (a2 &&& (a3 ^^^ ((-1)))) S else if a1 = 26 then bd (X12_isLess a3 64 S) (fun v7 S6 => if v7 = 0 then rt 0 S6 else rt (a2 <<< (a3.toInt32.toInt64 &&& 63)) S6) else if a1 = 28 then bd (X12_isLess a3 64 S) (fun v8 S7 => if v8 = 0 then rt (a2 >>> (((63 : Int32)).toInt64 &&& 63)) S7 else rt (a2 >>> (a3.toInt32.toInt64 &&& 63)) S7) else if a1 = 30 then bd (X12_isLess a3 64 S) (fun v9 S8 => if v9 = 0 then rt 0 S8 else rt ((a2.toUInt64 >>> (a3.toInt32.toInt64.toUInt64 &&& Int64.toUInt64 63)).toInt64) S8) else rt (a2 - a3) S
noncomputable def X12_set_50 (x1 : Int32) (x2 : Int64) (S : Sx) : Rs Unit :=
  sL S 171 32 x1 x2 (fun S1 => rt () S1)
noncomputable def X12_set_20b (k20 : Int32 → Int64 → Int32 → Sx → Rs Unit) (x1 : Int32) (x2 : Int64) (x4 : Int32) (S : Sx) : Rs Unit :=
  if x1 ≤ x4 then sL S 172 5 4 (x1.toInt64 + 1) (fun S1 => X12_set_50 x1 x2 S1) else sL S 171 32 x4 0 (fun S1 => vl (x4 + 1) (fun v1 => k20 x1 x2 v1 S1))
noncomputable def X12_set_20 : Nat → Int32 → Int64 → Int32 → Sx → Rs Unit
  | 0 => fun _ _ _ _ => none
  | n + 1 => X12_set_20b  (X12_set_20 n)
noncomputable def X12_set (a1 : Int32) (a2 : Int64) (S : Sx) : Rs Unit :=
  if 16 ≤ a1 then X12_set_50 a1 a2 S else bd (X12_rL S) (fun v1 S1 => if a1 < v1 then X12_set_50 a1 a2 S1 else bd (X12_rL S1) (fun v2 S2 => vl v2 (fun v3 => X12_set_20 FU a1 a2 v3 S2)))
noncomputable def X12_moved (a1 : Int32) (a2 : Int64) (a3 : Int64) (S : Sx) : Rs Int64 :=
  if a1 = 36 then bd (X12_fetch a2 1 S) (fun v1 S1 => bd (X12_set (gI S 167 30) v1.toInt32.toInt8.toInt32.toInt64 S1) (fun _ S2 => rt a3 S2)) else if a1 = 38 then bd (X12_fetch a2 1 S) (fun v2 S3 => bd (X12_set (gI S 167 30) v2 S3) (fun _ S4 => rt a3 S4)) else if a1 = 40 then bd (X12_fetch a2 4 S) (fun v3 S5 => bd (X12_set (gI S 167 30) v3.toInt32.toInt64 S5) (fun _ S6 => rt a3 S6)) else if a1 = 42 then bd (X12_fetch a2 8 S) (fun v4 S7 => bd (X12_set (gI S 167 30) v4 S7) (fun _ S8 => rt a3 S8)) else if a1 = 44 then bd (X12_get (gI S 167 30) S) (fun v5 S9 => bd (X12_store a2 1 v5 S9) (fun _ S10 => rt a3 S10)) else if a1 = 46 then bd (X12_get (gI S 167 30) S) (fun v6 S11 => bd (X12_store a2 4 v6 S11) (fun _ S12 => rt a3 S12)) else if a1 = 48 then bd (X12_get (gI S 167 30) S) (fun v7 S13 => bd (X12_store a2 8 v7 S13) (fun _ S14 => rt a3 S14)) else if a1 = 50 then bd (X12_set (gI S 167 30) a2 S) (fun _ S15 => rt a3 S15) else bd (X12_set (gI S 167 30) a3 S) (fun _ S16 => rt a2 S16)
noncomputable def X12_giveBack_187 (k137 : Int32 → Int32 → Int32 → Int32 → Int32 → Sx → Rs Unit) (x1 : Int32) (x2 : Int32) (x3 : Int32) (x4 : Int32) (x5 : Int32) (y0 : Int64) (S : Sx) : Rs Unit :=
  vl y0 (fun v1 => sL S 171 32 (x3 + x5) v1 (fun S1 => vl (x5 + 1) (fun v2 => k137 x1 x2 x3 x4 v2 S1)))
noncomputable def X12_giveBack_206 (x3 : Int32) (x4 : Int32) (S : Sx) : Rs Unit :=
  bd (J7_min (x3 + x4) 16 S) (fun v1 S1 => sL S1 172 5 4 v1.toInt64 (fun S2 => rt () S2))
noncomputable def X12_giveBack_137b (k137 : Int32 → Int32 → Int32 → Int32 → Int32 → Sx → Rs Unit) (x1 : Int32) (x2 : Int32) (x3 : Int32) (x4 : Int32) (x5 : Int32) (S : Sx) : Rs Unit :=
  if x4 ≤ x5 then X12_giveBack_206 x3 x4 S else if 16 ≤ (x3 + x5) then X12_giveBack_206 x3 x4 S else if x5 ≤ 0 then if x2 < x1 then X12_giveBack_187 k137 x1 x2 x3 x4 x5 0 S else lL S 181 16 (x1 - 1) (fun v1 => X12_giveBack_187 k137 x1 x2 x3 x4 x5 v1 S) else lL S 181 16 (x5 - 1) (fun v1 => X12_giveBack_187 k137 x1 x2 x3 x4 x5 v1 S)
noncomputable def X12_giveBack_137 : Nat → Int32 → Int32 → Int32 → Int32 → Int32 → Sx → Rs Unit
  | 0 => fun _ _ _ _ _ _ => none
  | n + 1 => X12_giveBack_137b  (X12_giveBack_137 n)
noncomputable def X12_giveBack_81b (k81 : Int32 → Int32 → Int32 → Int32 → Sx → Rs Unit) (x1 : Int32) (x2 : Int32) (x3 : Int32) (x4 : Int32) (S : Sx) : Rs Unit :=
  if x3 ≤ x4 then if x1 = 0 then X12_giveBack_137 FU x1 x2 x3 0 0 S else if x2 < x1 then vl (x2 + 1) (fun v1 => X12_giveBack_137 FU x1 x2 x3 v1 0 S) else vl x1 (fun v1 => X12_giveBack_137 FU x1 x2 x3 v1 0 S) else lL S 173 601 ((gI S 167 11) + x4) (fun v1 => sL S 171 32 x4 v1 (fun S1 => vl (x4 + 1) (fun v2 => k81 x1 x2 x3 v2 S1)))
noncomputable def X12_giveBack_81 : Nat → Int32 → Int32 → Int32 → Int32 → Sx → Rs Unit
  | 0 => fun _ _ _ _ _ => none
  | n + 1 => X12_giveBack_81b  (X12_giveBack_81 n)
noncomputable def X12_giveBack_24b (k24 : Int32 → Int32 → Int32 → Sx → Rs Unit) (x1 : Int32) (x2 : Int32) (x3 : Int32) (S : Sx) : Rs Unit :=
  if x2 ≤ x3 then pt (pI S 167 11 ((gI S 167 11) - 1)) (fun S1 => lL S1 173 601 (gI S1 167 11) (fun v1 => vl v1.toInt32 (fun v2 => pt (pI S1 167 11 ((gI S1 167 11) - v2)) (fun S2 => X12_giveBack_81 FU x1 x2 v2 0 S2)))) else lL S 171 32 x3 (fun v1 => sL S 181 16 x3 v1 (fun S1 => vl (x3 + 1) (fun v2 => k24 x1 x2 v2 S1)))
noncomputable def X12_giveBack_24 : Nat → Int32 → Int32 → Int32 → Sx → Rs Unit
  | 0 => fun _ _ _ _ => none
  | n + 1 => X12_giveBack_24b  (X12_giveBack_24 n)
noncomputable def X12_giveBack (a1 : Int32) (S : Sx) : Rs Unit :=
  if (gI S 167 11) = 0 then al S (14 + 50 + 6) 0 7 (fun c1 S1 => bd (X14_init c1 8 S1) (fun _ S2 => th c1 S2)) else bd (X12_rL S) (fun v1 S1 => vl v1 (fun v2 => X12_giveBack_24 FU a1 v2 0 S1))
noncomputable def J7_max (a1 : Int32) (a2 : Int32) (S : Sx) : Rs Int32 :=
  if a1 < a2 then rt a2 S else rt a1 S
noncomputable def X12_push (a1 : Int64) (S : Sx) : Rs Unit :=
  sL S 173 601 (gI S 167 11) a1 (fun S1 => pt (pI S1 167 11 ((gI S1 167 11) + 1)) (fun S2 => rt () S2))
noncomputable def X12_call_122b (k122 : Int32 → Int32 → Int32 → Sx → Rs Unit) (x2 : Int32) (x4 : Int32) (x5 : Int32) (S : Sx) : Rs Unit :=
  if x4 ≤ x5 then sL S 172 5 4 x4.toInt64 (fun S1 => rt () S1) else lL S 171 32 ((x2 + 1) + x5) (fun v1 => sL S 171 32 x5 v1 (fun S1 => vl (x5 + 1) (fun v2 => k122 x2 x4 v2 S1)))
noncomputable def X12_call_122 : Nat → Int32 → Int32 → Int32 → Sx → Rs Unit
  | 0 => fun _ _ _ _ => none
  | n + 1 => X12_call_122b  (X12_call_122 n)
noncomputable def X12_call_79b (k79 : Int32 → Int32 → Int32 → Sx → Rs Unit) (x2 : Int32) (x3 : Int32) (x4 : Int32) (S : Sx) : Rs Unit :=
  if x2 ≤ x4 then bd (X12_push x2.toInt64 S) (fun _ S1 => bd (J7_max ((x3 - x2) - 1) 0 S1) (fun v1 S2 => vl v1 (fun v2 => X12_call_122 FU x2 v2 0 S2))) else lL S 171 32 x4 (fun v1 => bd (X12_push v1 S) (fun _ S1 => vl (x4 + 1) (fun v2 => k79 x2 x3 v2 S1)))
noncomputable def X12_call_79 : Nat → Int32 → Int32 → Int32 → Sx → Rs Unit
  | 0 => fun _ _ _ _ => none
  | n + 1 => X12_call_79b  (X12_call_79 n)
noncomputable def X12_call_71 (x2 : Int32) (S : Sx) : Rs Unit :=
  bd (X12_rL S) (fun v1 S1 => vl v1 (fun v2 => X12_call_79 FU x2 v2 0 S1))
noncomputable def X12_call_14 (x1 : Int32) (y0 : Int32) (S : Sx) : Rs Unit :=
  vl y0 (fun v1 => bd (X12_rL S) (fun v2 S1 => bd (J7_max (v1 + 1) v2 S1) (fun v3 S2 => if ((gI S 167 11) + v3) ≤ 600 then if 16 ≤ v1 then X12_call_71 v1 S2 else bd (X12_rL S2) (fun v4 S3 => if v1 < v4 then X12_call_71 v1 S3 else if 16 ≤ x1 then X12_call_71 v1 S3 else bd (X12_set v1 0 S3) (fun _ S4 => X12_call_71 v1 S4)) else al S2 (14 + 50 + 6) 0 7 (fun c4 S3 => bd (X14_init c4 5 S3) (fun _ S4 => th c4 S4)))))
noncomputable def X12_call (a1 : Int32) (S : Sx) : Rs Unit :=
  if a1 < 16 then X12_call_14 a1 a1 S else bd (X12_rL S) (fun v1 S1 => X12_call_14 a1 v1 S1)
noncomputable def X12_other_335 (x1 : Int32) (x2 : Int64) (x4 : Int64) (S : Sx) : Rs Int64 :=
  bd (X12_set (gI S 167 30) (x4 <<< ((16 * (x1 - 70)).toInt64 &&& 63)) S) (fun _ S1 => rt x2 S1)
noncomputable def X12_other_356 (x1 : Int32) (x2 : Int64) (x4 : Int64) (x8 : Int64) (S : Sx) : Rs Int64 :=
  bd (X12_set (gI S 167 30) (x8 + (x4 <<< ((16 * (x1 - 74)).toInt64 &&& 63))) S) (fun _ S1 => rt x2 S1)
noncomputable def X12_other_61 (x1 : Int32) (x2 : Int64) (x4 : Int64) (x6 : Int64) (y0 : Int64) (S : Sx) : Rs Int64 :=
  vl y0 (fun v1 => if x1 = 60 then if 0 ≤ v1 then rt x2 S else rt x6 S else if x1 = 61 then if v1 = 0 then rt x6 S else rt x2 S else if x1 = 62 then if v1 ≤ 0 then rt x2 S else rt x6 S else if x1 = 63 then if v1 < 0 then rt x2 S else rt x6 S else if x1 = 64 then if v1 = 0 then rt x2 S else rt x6 S else if x1 = 65 then if 0 < v1 then rt x2 S else rt x6 S else if x1 = 66 then rt (((gI S 167 33).toInt64) + (4 * (((((((gI S 167 30) <<< ((16 : Int32) &&& 31)) ||| ((gI S 167 31) <<< ((8 : Int32) &&& 31))) ||| (gI S 167 32)) <<< ((8 : Int32) &&& 31)) >>> ((8 : Int32) &&& 31)).toInt64))) S else if x1 = 67 then bd (X12_call (gI S 167 30) S) (fun _ S1 => sL S1 172 5 3 x2 (fun S2 => rt x6 S2)) else if x1 = 68 then bd (X12_giveBack (gI S 167 30) S) (fun _ S3 => lL S3 172 5 3 (fun v2 => rt (v2 + (4 * x4)) S3)) else if x1 = 69 then bd (X12_set (gI S 167 30) x6 S) (fun _ S4 => rt x2 S4) else if x1 = 70 then X12_other_335 x1 x2 x4 S else if x1 = 71 then X12_other_335 x1 x2 x4 S else if x1 = 72 then X12_other_335 x1 x2 x4 S else if x1 = 73 then X12_other_335 x1 x2 x4 S else if x1 = 74 then X12_other_356 x1 x2 x4 v1 S else if x1 = 75 then X12_other_356 x1 x2 x4 v1 S else if x1 = 76 then X12_other_356 x1 x2 x4 v1 S else if x1 = 77 then X12_other_356 x1 x2 x4 v1 S else if x1 = 78 then lL S 172 5 (gI S 167 32) (fun v3 => bd (X12_set (gI S 167 30) v3 S) (fun _ S5 => rt x2 S5)) else if x1 = 79 then if 4 ≤ (gI S 167 30) then bd (X12_get (gI S 167 32) S) (fun v4 S6 => lL S6 172 5 4 (fun v5 => bd (X12_isLess v4 v5 S6) (fun v6 S7 => if v6 = 0 then rt x2 S7 else bd (X12_get (gI S7 167 32) S7) (fun v7 S8 => sL S8 172 5 4 v7 (fun S9 => rt x2 S9))))) else bd (X12_get (gI S 167 32) S) (fun v4 S6 => sL S6 172 5 (gI S 167 30) v4 (fun S7 => rt x2 S7)) else rt x2 S)
noncomputable def X12_other (a1 : Int32) (a2 : Int64) (S : Sx) : Rs Int64 :=
  vl ((256 * ((gI S 167 31).toInt64)) + ((gI S 167 32).toInt64)) (fun v1 => vl (((gI S 167 33).toInt64) + (4 * v1.toInt32.toInt16.toInt32.toInt64)) (fun v2 => if a1 = 67 then X12_other_61 a1 a2 v1 v2 0 S else if a1 = 68 then X12_other_61 a1 a2 v1 v2 0 S else bd (X12_get ((gI S 167 30) &&& 31) S) (fun v3 S1 => X12_other_61 a1 a2 v1 v2 v3 S1)))
noncomputable def X12_step_142 (S : Sx) : Rs Unit :=
  al S (14 + 50 + 6) 0 7 (fun c1 S1 => bd (X14_init c1 3 S1) (fun _ S2 => th c1 S2))
noncomputable def X12_step_179 (S : Sx) : Rs Unit :=
  al S (14 + 50 + 6) 0 7 (fun c1 S1 => bd (X14_init c1 3 S1) (fun _ S2 => th c1 S2))
noncomputable def X12_step_395 (x1 : Int32) (x4 : Int64) (S : Sx) : Rs Unit :=
  pt (pL S 167 12 x4) (fun S1 => if x1 = 0 then if (gI S1 167 32) = 0 then pt (pI S1 167 14 ((gI S1 167 14) + 1)) (fun S2 => al S2 (14 + 50 + 6) 0 7 (fun c1 S3 => bd (X14_init c1 1 S3) (fun _ S4 => th c1 S4))) else rt () S1 else rt () S1)
noncomputable def X12_step_324 (x1 : Int32) (x4 : Int64) (y0 : Int64) (y1 : Int64) (y2 : Int32) (y4 : Int32) (S : Sx) : Rs Unit :=
  bd (X12_reckoned y2 y1 y0 S) (fun v1 S1 => bd (X12_set y4 v1 S1) (fun _ S2 => X12_step_395 x1 x4 S2))
noncomputable def X12_step_302 (x1 : Int32) (x4 : Int64) (y0 : Int64) (y1 : Int32) (y3 : Int32) (S : Sx) : Rs Unit :=
  if (x1 - x1 / 2 * 2) = 0 then bd (X12_get (gI S 167 32) S) (fun v1 S1 => X12_step_324 x1 x4 v1 y0 y1 y3 S1) else X12_step_324 x1 x4 ((gI S 167 32).toInt64) y0 y1 y3 S
noncomputable def X12_step_375 (x1 : Int32) (x4 : Int64) (y0 : Int64) (y1 : Int64) (y2 : Int32) (S : Sx) : Rs Unit :=
  bd (X12_moved y2 (y1 + y0) x4 S) (fun v1 S1 => vl v1 (fun v2 => X12_step_395 x1 v2 S1))
noncomputable def X12_step_241 (x1 : Int32) (S : Sx) : Rs Unit :=
  vl (((gI S 167 33).toInt64) + 4) (fun v1 => if x1 = 0 then bd (X12_trap S) (fun _ S1 => X12_step_395 x1 v1 S1) else if 36 ≤ x1 then if 60 ≤ x1 then bd (X12_other x1 v1 S) (fun v2 S1 => vl v2 (fun v3 => X12_step_395 x1 v3 S1)) else bd (X12_get (gI S 167 31) S) (fun v2 S1 => if (x1 - x1 / 2 * 2) = 0 then bd (X12_get (gI S1 167 32) S1) (fun v3 S2 => X12_step_375 x1 v1 v3 v2 ((x1 / 2) * 2) S2) else X12_step_375 x1 v1 ((gI S1 167 32).toInt64) v2 ((x1 / 2) * 2) S1) else if 32 ≤ x1 then X12_step_302 x1 v1 ((gI S 167 31).toInt64) ((x1 / 2) * 2) (gI S 167 30) S else bd (X12_get (gI S 167 31) S) (fun v2 S1 => X12_step_302 x1 v1 v2 ((x1 / 2) * 2) (gI S 167 30) S1))
noncomputable def X12_step_228 (x1 : Int32) (y0 : Int32) (S : Sx) : Rs Unit :=
  vl y0 (fun v1 => if v1 = 0 then X12_step_241 x1 S else bd (X12_mayWrite (gI S 167 30) S) (fun _ S1 => X12_step_241 x1 S1))
noncomputable def X12_step_211 (x1 : Int32) (S : Sx) : Rs Unit :=
  if x1 < 69 then X12_step_228 x1 0 S else if 78 < x1 then X12_step_228 x1 0 S else X12_step_228 x1 1 S
noncomputable def X12_step_199 (x1 : Int32) (S : Sx) : Rs Unit :=
  if x1 < 50 then X12_step_211 x1 S else if x1 ≤ 53 then X12_step_228 x1 1 S else X12_step_211 x1 S
noncomputable def X12_step_188 (x1 : Int32) (S : Sx) : Rs Unit :=
  if x1 < 2 then X12_step_199 x1 S else if x1 ≤ 43 then X12_step_228 x1 1 S else X12_step_199 x1 S
noncomputable def X12_step_165 (x1 : Int32) (S : Sx) : Rs Unit :=
  if x1 = 79 then if (gI S 167 30) ≤ 4 then X12_step_188 x1 S else X12_step_179 S else X12_step_188 x1 S
noncomputable def X12_step_151 (x1 : Int32) (S : Sx) : Rs Unit :=
  if x1 = 78 then if 4 < (gI S 167 32) then X12_step_179 S else X12_step_165 x1 S else X12_step_165 x1 S
noncomputable def X12_step_127 (x1 : Int32) (x2 : Int32) (S : Sx) : Rs Unit :=
  if (x2 &&& 4) = 0 then X12_step_151 x1 S else if (gI S 167 32) ≤ 31 then X12_step_151 x1 S else X12_step_142 S
noncomputable def X12_step_112 (x1 : Int32) (x2 : Int32) (S : Sx) : Rs Unit :=
  if (x2 &&& 2) = 0 then X12_step_127 x1 x2 S else if 31 < (gI S 167 31) then X12_step_142 S else X12_step_127 x1 x2 S
noncomputable def X12_step (S : Sx) : Rs Unit :=
  bd (X12_address (gL S 167 12) 4 S) (fun v1 S1 => pt (pI S1 167 33 v1) (fun S2 => bd (X12_touch (gI S2 167 33) 0 S2) (fun _ S3 => lI S3 169 65536 (gI S3 167 33) (fun v2 => vl v2 (fun v3 => lI S3 169 65536 ((gI S3 167 33) + 1) (fun v4 => pt (pI S3 167 30 v4) (fun S4 => lI S4 169 65536 ((gI S4 167 33) + 2) (fun v5 => pt (pI S4 167 31 v5) (fun S5 => lI S5 169 65536 ((gI S5 167 33) + 3) (fun v6 => pt (pI S5 167 32 v6) (fun S6 => bd (X12_isOp v3 S6) (fun v7 S7 => if v7 = 0 then al S7 (14 + 50 + 6) 0 7 (fun c8 S8 => bd (X14_init c8 3 S8) (fun _ S9 => th c8 S9)) else bd (X12_fields v3 S7) (fun v8 S8 => vl v8 (fun v9 => if (v9 &&& 1) = 0 then X12_step_112 v3 v9 S8 else if 31 < (gI S8 167 30) then X12_step_142 S8 else X12_step_112 v3 v9 S8))))))))))))))
noncomputable def X12_run_51 (k22 : Int32 → Int32 → Sx → Rs Int32) (x1 : Int32) (x2 : Int32) (y0 : Nat) (S : Sx) : Rs Int32 :=
  kd S (14 + 6) y0 (pt (pI S 167 13 (gI S y0 6)) (fun S1 => vl (x2 + 1) (fun v1 => k22 x1 v1 S1)))
noncomputable def X12_run_22b (k22 : Int32 → Int32 → Sx → Rs Int32) (x1 : Int32) (x2 : Int32) (S : Sx) : Rs Int32 :=
  if x1 ≤ x2 then rt (gI S 167 13) S else if (gI S 167 13) = 0 then ct (X12_step S) (fun _ S1 => pt (pI S1 167 14 ((gI S1 167 14) + 1)) (fun S2 => vl (x2 + 1) (fun v2 => k22 x1 v2 S2))) (fun c1 S1 => kd S1 (14 + 6) c1 (X12_run_51 k22 x1 x2 c1 S1)) else rt (gI S 167 13) S
noncomputable def X12_run_22 : Nat → Int32 → Int32 → Sx → Rs Int32
  | 0 => fun _ _ _ => none
  | n + 1 => X12_run_22b  (X12_run_22 n)
noncomputable def X12_run (a1 : Int32) (S : Sx) : Rs Int32 :=
  if (gI S 167 7) = 0 then rt ((-1)) S else if a1 < 0 then rt ((-1)) S else if a1 ≤ 20000 then X12_run_22 FU a1 0 S else rt ((-1)) S
noncomputable def X0_steps (S : Sx) : Rs Int32 :=
  rt (gI S 138 6) S
noncomputable def X12_steps (S : Sx) : Rs Int32 :=
  rt (gI S 167 14) S
noncomputable def X0_register (a1 : Int32) (S : Sx) : Rs Int64 :=
  if a1 < 0 then rt 0 S else if a1 ≤ 38 then if 32 ≤ a1 then if 37 ≤ a1 then if a1 = 37 then rt (gL S 138 5) S else rt ((gI S 139 3).toInt64) S else bd (X5_special (a1 - 32) S) (fun v1 S1 => rt v1 S1) else bd (X6_get a1 S) (fun v1 S1 => rt v1 S1) else rt 0 S
noncomputable def X12_register (a1 : Int32) (S : Sx) : Rs Int64 :=
  if a1 < 0 then rt 0 S else if a1 ≤ 38 then if 32 ≤ a1 then if 37 ≤ a1 then if a1 = 37 then rt (gL S 167 12) S else rt ((gI S 167 11).toInt64) S else lL S 172 5 (a1 - 32) (fun v1 => rt v1 S) else bd (X12_get a1 S) (fun v1 S1 => rt v1 S1) else rt 0 S
noncomputable def X2_peek (a1 : Int32) (S : Sx) : Rs Int32 :=
  lR S 6 1024 (a1 / 64) (fun v1 => vl v1 (fun v2 => if v2 = none then lI S 4 65536 a1 (fun v3 => rt (v3 &&& 255) S) else dO S (4 + 6) v2 (fun c3 => dO S 3 (gR S c3 0) (fun c5 => lI S c5 (gN S c5) (a1 - a1 / 64 * 64) (fun v4 => rt (v4 &&& 255) S)))))
noncomputable def X0_octa_15b (k15 : Int32 → Int64 → Int32 → Sx → Rs Int64) (x1 : Int32) (x2 : Int64) (x4 : Int32) (S : Sx) : Rs Int64 :=
  if 8 ≤ x4 then rt x2 S else bd (X2_peek ((x1 &&& ((-8))) + x4) S) (fun v1 S1 => vl ((x2 <<< (((8 : Int32)).toInt64 &&& 63)) ||| v1.toInt64) (fun v2 => vl (x4 + 1) (fun v3 => k15 x1 v2 v3 S1)))
noncomputable def X0_octa_15 : Nat → Int32 → Int64 → Int32 → Sx → Rs Int64
  | 0 => fun _ _ _ _ => none
  | n + 1 => X0_octa_15b  (X0_octa_15 n)
noncomputable def X0_octa (a1 : Int32) (S : Sx) : Rs Int64 :=
  bd (X0_isAddress a1.toInt64 S) (fun v1 S1 => if v1 = 0 then rt 0 S1 else X0_octa_15 FU a1 0 0 S1)
noncomputable def X12_octa (a1 : Int32) (S : Sx) : Rs Int64 :=
  if a1 < 0 then rt 0 S else if a1 < 65536 then bd (X12_number ((a1 / 8) * 8) 8 S) (fun v1 S1 => rt v1 S1) else rt 0 S
noncomputable def X0_outs (S : Sx) : Rs Int32 :=
  rt (gI S 138 9) S
noncomputable def X12_outs (S : Sx) : Rs Int32 :=
  rt (gI S 167 16) S
noncomputable def X0_out (a1 : Int32) (S : Sx) : Rs Int32 :=
  if a1 < 0 then rt ((-1)) S else if a1 < (gI S 138 9) then lI S 145 1000 a1 (fun v1 => rt v1 S) else rt ((-1)) S
noncomputable def X12_out (a1 : Int32) (S : Sx) : Rs Int32 :=
  if a1 < 0 then rt ((-1)) S else if a1 < (gI S 167 16) then lI S 174 1000 a1 (fun v1 => rt v1 S) else rt ((-1)) S
noncomputable def X0_told (a1 : Int32) (S : Sx) : Rs Int32 :=
  if a1 = 0 then rt (gI S 2 7) S else if a1 = 1 then rt (gI S 2 8) S else if a1 = 2 then rt (gI S 2 9) S else if a1 = 3 then rt (gI S 2 10) S else if a1 = 4 then rt (gI S 2 2) S else if a1 = 5 then rt (gI S 138 7) S else if a1 = 6 then if (gI S 0 6) = 0 then rt 0 S else rt 1 S else if a1 = 7 then bd (X5_left S) (fun v1 S1 => rt v1 S1) else rt 0 S
noncomputable def X12_told (a1 : Int32) (S : Sx) : Rs Int32 :=
  if a1 = 0 then rt (gI S 167 26) S else if a1 = 1 then rt (gI S 167 27) S else if a1 = 2 then rt (gI S 167 28) S else if a1 = 3 then rt (gI S 167 29) S else if a1 = 4 then rt (gI S 167 23) S else if a1 = 5 then rt (gI S 167 13) S else if a1 = 6 then if (gI S 167 7) = 0 then rt 0 S else rt 1 S else if a1 = 7 then rt (gI S 167 4) S else rt 0 S
noncomputable def X0_page (a1 : Int32) (S : Sx) : Rs Int32 :=
  if a1 < 0 then rt ((-1)) S else if a1 < (gI S 2 1) then lR S 3 64 a1 (fun v1 => dO S (4 + 6) v1 (fun c2 => rt (gI S c2 1) S)) else rt ((-1)) S
noncomputable def X12_page (a1 : Int32) (S : Sx) : Rs Int32 :=
  if a1 < 0 then rt ((-1)) S else if a1 < (gI S 167 17) then lI S 177 64 a1 (fun v1 => rt v1 S) else rt ((-1)) S
noncomputable def X0_digest_144b (k144 : Int64 → Int32 → Sx → Rs Int64) (x1 : Int64) (x3 : Int32) (S : Sx) : Rs Int64 :=
  if 65536 ≤ x3 then rt x1 S else bd (X0_octa x3 S) (fun v1 S1 => vl ((x1 * 31) + v1) (fun v2 => vl (x3 + 8) (fun v3 => k144 v2 v3 S1)))
noncomputable def X0_digest_144 : Nat → Int64 → Int32 → Sx → Rs Int64
  | 0 => fun _ _ _ => none
  | n + 1 => X0_digest_144b  (X0_digest_144 n)
noncomputable def X0_digest_112b (k112 : Int64 → Int32 → Sx → Rs Int64) (x1 : Int64) (x3 : Int32) (S : Sx) : Rs Int64 :=
  if (gI S 2 1) ≤ x3 then X0_digest_144 FU x1 0 S else bd (X0_page x3 S) (fun v1 S1 => vl ((x1 * 31) + v1.toInt64) (fun v2 => vl (x3 + 1) (fun v3 => k112 v2 v3 S1)))
noncomputable def X0_digest_112 : Nat → Int64 → Int32 → Sx → Rs Int64
  | 0 => fun _ _ _ => none
  | n + 1 => X0_digest_112b  (X0_digest_112 n)
noncomputable def X0_digest_83b (k83 : Int64 → Int32 → Sx → Rs Int64) (x1 : Int64) (x3 : Int32) (S : Sx) : Rs Int64 :=
  bd (X0_outs S) (fun v1 S1 => if v1 ≤ x3 then X0_digest_112 FU x1 0 S1 else bd (X0_out x3 S1) (fun v2 S2 => vl ((x1 * 31) + v2.toInt64) (fun v3 => vl (x3 + 1) (fun v4 => k83 v3 v4 S2))))
noncomputable def X0_digest_83 : Nat → Int64 → Int32 → Sx → Rs Int64
  | 0 => fun _ _ _ => none
  | n + 1 => X0_digest_83b  (X0_digest_83 n)
noncomputable def X0_digest_44b (k44 : Int64 → Int32 → Sx → Rs Int64) (x1 : Int64) (x3 : Int32) (S : Sx) : Rs Int64 :=
  if 7 < x3 then bd (X0_outs S) (fun v1 S1 => vl ((x1 * 31) + v1.toInt64) (fun v2 => X0_digest_83 FU v2 0 S1)) else bd (X0_told x3 S) (fun v1 S1 => vl ((x1 * 31) + v1.toInt64) (fun v2 => vl (x3 + 1) (fun v3 => k44 v2 v3 S1)))
noncomputable def X0_digest_44 : Nat → Int64 → Int32 → Sx → Rs Int64
  | 0 => fun _ _ _ => none
  | n + 1 => X0_digest_44b  (X0_digest_44 n)
noncomputable def X0_digest_6b (k6 : Int64 → Int32 → Sx → Rs Int64) (x1 : Int64) (x3 : Int32) (S : Sx) : Rs Int64 :=
  if 38 < x3 then bd (X0_steps S) (fun v1 S1 => vl ((x1 * 31) + v1.toInt64) (fun v2 => X0_digest_44 FU v2 0 S1)) else bd (X0_register x3 S) (fun v1 S1 => vl ((x1 * 31) + v1) (fun v2 => vl (x3 + 1) (fun v3 => k6 v2 v3 S1)))
noncomputable def X0_digest_6 : Nat → Int64 → Int32 → Sx → Rs Int64
  | 0 => fun _ _ _ => none
  | n + 1 => X0_digest_6b  (X0_digest_6 n)
noncomputable def X0_digest (S : Sx) : Rs Int64 :=
  X0_digest_6 FU 7 0 S
noncomputable def X12_digest_142b (k142 : Int64 → Int32 → Sx → Rs Int64) (x1 : Int64) (x3 : Int32) (S : Sx) : Rs Int64 :=
  if 65536 ≤ x3 then rt x1 S else bd (X12_octa x3 S) (fun v1 S1 => vl ((x1 * 31) + v1) (fun v2 => vl (x3 + 8) (fun v3 => k142 v2 v3 S1)))
noncomputable def X12_digest_142 : Nat → Int64 → Int32 → Sx → Rs Int64
  | 0 => fun _ _ _ => none
  | n + 1 => X12_digest_142b  (X12_digest_142 n)
noncomputable def X12_digest_113b (k113 : Int64 → Int32 → Sx → Rs Int64) (x1 : Int64) (x3 : Int32) (S : Sx) : Rs Int64 :=
  if (gI S 167 17) ≤ x3 then X12_digest_142 FU x1 0 S else bd (X12_page x3 S) (fun v1 S1 => vl ((x1 * 31) + v1.toInt64) (fun v2 => vl (x3 + 1) (fun v3 => k113 v2 v3 S1)))
noncomputable def X12_digest_113 : Nat → Int64 → Int32 → Sx → Rs Int64
  | 0 => fun _ _ _ => none
  | n + 1 => X12_digest_113b  (X12_digest_113 n)
noncomputable def X12_digest_83b (k83 : Int64 → Int32 → Sx → Rs Int64) (x1 : Int64) (x3 : Int32) (S : Sx) : Rs Int64 :=
  if (gI S 167 16) ≤ x3 then X12_digest_113 FU x1 0 S else lI S 174 1000 x3 (fun v1 => vl ((x1 * 31) + v1.toInt64) (fun v2 => vl (x3 + 1) (fun v3 => k83 v2 v3 S)))
noncomputable def X12_digest_83 : Nat → Int64 → Int32 → Sx → Rs Int64
  | 0 => fun _ _ _ => none
  | n + 1 => X12_digest_83b  (X12_digest_83 n)
noncomputable def X12_digest_44b (k44 : Int64 → Int32 → Sx → Rs Int64) (x1 : Int64) (x3 : Int32) (S : Sx) : Rs Int64 :=
  if 8 ≤ x3 then vl ((x1 * 31) + ((gI S 167 16).toInt64)) (fun v1 => X12_digest_83 FU v1 0 S) else bd (X12_told x3 S) (fun v1 S1 => vl ((x1 * 31) + v1.toInt64) (fun v2 => vl (x3 + 1) (fun v3 => k44 v2 v3 S1)))
noncomputable def X12_digest_44 : Nat → Int64 → Int32 → Sx → Rs Int64
  | 0 => fun _ _ _ => none
  | n + 1 => X12_digest_44b  (X12_digest_44 n)
noncomputable def X12_digest_6b (k6 : Int64 → Int32 → Sx → Rs Int64) (x1 : Int64) (x3 : Int32) (S : Sx) : Rs Int64 :=
  if 39 ≤ x3 then vl ((x1 * 31) + ((gI S 167 14).toInt64)) (fun v1 => X12_digest_44 FU v1 0 S) else bd (X12_register x3 S) (fun v1 S1 => vl ((x1 * 31) + v1) (fun v2 => vl (x3 + 1) (fun v3 => k6 v2 v3 S1)))
noncomputable def X12_digest_6 : Nat → Int64 → Int32 → Sx → Rs Int64
  | 0 => fun _ _ _ => none
  | n + 1 => X12_digest_6b  (X12_digest_6 n)
noncomputable def X12_digest (S : Sx) : Rs Int64 :=
  X12_digest_6 FU 7 0 S
end
section
set_option maxRecDepth 100000
/-! ===== running the pure functions ===== -/
theorem bd_rt {α β : Type} (v : α) (S : Sx) (f : α → Sx → Rs β) : bd (rt v S) f = f v S := rfl
theorem bd_th {α β : Type} (x : Nat) (S : Sx) (f : α → Sx → Rs β) : bd (th x S : Rs α) f = th x S := rfl
theorem ct_rt {α β : Type} (v : α) (S : Sx) (f : α → Sx → Rs β) (h : Nat → Sx → Rs β) : ct (rt v S) f h = f v S := rfl
theorem ct_th {α β : Type} (x : Nat) (S : Sx) (f : α → Sx → Rs β) (h : Nat → Sx → Rs β) : ct (th x S : Rs α) f h = h x S := rfl
theorem pt_e {β : Type} (S : Sx) (f : Sx → Rs β) : pt S f = f S := rfl
theorem vl_e {α β : Type} (v : α) (f : α → Rs β) : vl v f = f v := rfl
/-- what comes of it: Q where it returns, E where it throws -/
def Out {α : Type} (r : Rs α) (Q : α → Sx → Prop) (E : Nat → Sx → Prop) : Prop := match r with
  | none => False
  | some (.inl v, S) => Q v S
  | some (.inr x, S) => E x S
theorem out_rt {α : Type} {v : α} {S : Sx} {Q : α → Sx → Prop} {E : Nat → Sx → Prop} : Out (rt v S) Q E ↔ Q v S := Iff.rfl
theorem out_th {α : Type} {x : Nat} {S : Sx} {Q : α → Sx → Prop} {E : Nat → Sx → Prop} : Out (th x S) Q E ↔ E x S := Iff.rfl
theorem out_bd {α β : Type} {r : Rs α} {f : α → Sx → Rs β} {Q : β → Sx → Prop} {E : Nat → Sx → Prop} : Out (bd r f) Q E ↔ Out r (fun v S => Out (f v S) Q E) E := by
  cases r with
  | none => exact Iff.rfl
  | some q =>
    obtain ⟨q, S⟩ := q
    cases q <;> exact Iff.rfl
theorem out_ct {α β : Type} {r : Rs α} {f : α → Sx → Rs β} {h : Nat → Sx → Rs β} {Q : β → Sx → Prop} {E : Nat → Sx → Prop} : Out (ct r f h) Q E ↔ Out r (fun v S => Out (f v S) Q E) (fun x S => Out (h x S) Q E) := by
  cases r with
  | none => exact Iff.rfl
  | some q =>
    obtain ⟨q, S⟩ := q
    cases q <;> exact Iff.rfl
theorem Out.mono {α : Type} {r : Rs α} {Q Q' : α → Sx → Prop} {E E' : Nat → Sx → Prop} (h : Out r Q E) (hq : ∀ v S, Q v S → Q' v S) (he : ∀ x S, E x S → E' x S) : Out r Q' E' := by
  cases r with
  | none => exact h
  | some q =>
    obtain ⟨q, S⟩ := q
    cases q with
    | inl v => exact hq v S h
    | inr x => exact he x S h
theorem Out.bind {α β : Type} {r : Rs α} {f : α → Sx → Rs β} {Q : α → Sx → Prop} {E E' : Nat → Sx → Prop} {Q' : β → Sx → Prop} (h : Out r Q E) (hq : ∀ v S, Q v S → Out (f v S) Q' E') (he : ∀ x S, E x S → E' x S) : Out (bd r f) Q' E' := out_bd.mpr (h.mono hq he)
theorem Out.eq {α : Type} {r r' : Rs α} {Q : α → Sx → Prop} {E : Nat → Sx → Prop} (e : r = r') (h : Out r' Q E) : Out r Q E := e ▸ h
theorem Out.ret {α : Type} {r : Rs α} {Q : α → Sx → Prop} (h : Out r Q (fun _ _ => False)) : ∃ v S, r = rt v S ∧ Q v S := by
  cases r with
  | none => exact absurd h id
  | some q =>
    obtain ⟨q, S⟩ := q
    cases q with
    | inl v => exact ⟨v, S, rfl, h⟩
    | inr x => exact absurd h id
/-! ===== numbers ===== -/
theorem inb_nI {k N : Nat} (h : k < N) (hN : N < 2 ^ 31) : inb (nI k) N = true := decide_eq_true (nI_in h hN)
theorem ix_nI {k : Nat} (h : k < 2 ^ 31) : ix (nI k) = k := nI_clamp h
theorem lI_n {β : Type} {S : Sx} {a N k : Nat} {f : Int32 → Rs β} (h : k < N) (hN : N < 2 ^ 31) : lI S a N (nI k) f = f (gI S a k) := by
  unfold lI
  rw [if_pos (inb_nI h hN), ix_nI (by omega)]
theorem lL_n {β : Type} {S : Sx} {a N k : Nat} {f : Int64 → Rs β} (h : k < N) (hN : N < 2 ^ 31) : lL S a N (nI k) f = f (gL S a k) := by
  unfold lL
  rw [if_pos (inb_nI h hN), ix_nI (by omega)]
theorem lR_n {β : Type} {S : Sx} {a N k : Nat} {f : Option Nat → Rs β} (h : k < N) (hN : N < 2 ^ 31) : lR S a N (nI k) f = f (gR S a k) := by
  unfold lR
  rw [if_pos (inb_nI h hN), ix_nI (by omega)]
theorem sI_n {β : Type} {S : Sx} {a N k : Nat} {v : Int32} {f : Sx → Rs β} (h : k < N) (hN : N < 2 ^ 31) : sI S a N (nI k) v f = f (pI S a k v) := by
  unfold sI
  rw [if_pos (inb_nI h hN), ix_nI (by omega)]
theorem sL_n {β : Type} {S : Sx} {a N k : Nat} {v : Int64} {f : Sx → Rs β} (h : k < N) (hN : N < 2 ^ 31) : sL S a N (nI k) v f = f (pL S a k v) := by
  unfold sL
  rw [if_pos (inb_nI h hN), ix_nI (by omega)]
theorem sR_n {β : Type} {S : Sx} {a N k : Nat} {v : Option Nat} {f : Sx → Rs β} (h : k < N) (hN : N < 2 ^ 31) : sR S a N (nI k) v f = f (pR S a k v) := by
  unfold sR
  rw [if_pos (inb_nI h hN), ix_nI (by omega)]
theorem dO_s {β : Type} {S : Sx} {K a : Nat} {f : Nat → Rs β} (h : gK S a = K) : dO S K (some a) f = f a := if_pos h
theorem dOn_s {β : Type} {S : Sx} {K a : Nat} {f : Rs β} (h : gK S a = K) : dOn S K (some a) f = f := if_pos h
theorem dOn_0 {β : Type} {S : Sx} {K : Nat} {f : Rs β} : dOn S K none f = f := rfl
theorem kd_e {β : Type} {S : Sx} {K c : Nat} {r : Rs β} (h : gK S c = K) : kd S K c r = r := if_pos h
theorem tk_e {β : Type} {t : Nat} {r : Rs β} (h : t < 6) : tk t r = r := if_pos h
theorem al_e {β : Type} {S : Sx} {K N u : Nat} {f : Nat → Sx → Rs β} (h1 : gn S + 1 ≤ CAPC) (h2 : gu S + u ≤ CAPS) : al S K N u f = f (gn S) (nw S K N u) := if_pos ⟨h1, h2⟩
theorem alI_e {β : Type} {S : Sx} {m : Nat} {f : Nat → Sx → Rs β} (hm : m ≤ 134217728) (h1 : gn S + 1 ≤ CAPC) (h2 : gu S + m ≤ CAPS) : alI S (nI m) f = f (gn S) (nw S 1 m m) := by
  unfold alI
  rw [ix_nI (by omega), if_pos ⟨nI_pos (by omega), hm⟩]
  exact al_e h1 h2
theorem cpy_e {β : Type} {S : Sx} {K a b i j n : Nat} {f : Sx → Rs β} (ha : gK S a = K) (hb : gK S b = K) (hi : i < 2 ^ 31) (hj : j < 2 ^ 31) (hn : n < 2 ^ 31) (h1 : i + n ≤ gN S a) (h2 : j + n ≤ gN S b) (hab : a ≠ b) : cpy S K (some a) (nI i) (some b) (nI j) (nI n) f = f (cpI S a i b j n) := by
  unfold cpy
  rw [dO_s ha, dO_s hb, ix_nI hi, ix_nI hj, ix_nI hn, if_pos ⟨nI_pos hi, nI_pos hj, nI_pos hn, h1, h2, hab⟩]
theorem rb_0 (S : Sx) : rb 0 S = rt 0 S := rfl
theorem rb_1 (S : Sx) : rb 1 S = rt 1 S := rfl
theorem nz_0 : nz 0 = 0 := by decide
theorem nz_1 : nz 1 = 1 := by decide
/-- a truth value as an int -/
def b1 (b : Bool) : Int32 := if b then 1 else 0
theorem b1_t : b1 true = 1 := rfl
theorem b1_f : b1 false = 0 := rfl
theorem b1_0 {b : Bool} : b1 b = 0 ↔ b = false := by cases b <;> decide
theorem nz_b (b : Bool) : nz (b1 b) = b1 b := by cases b <;> decide
theorem rb_b (b : Bool) (S : Sx) : rb (b1 b) S = rt (b1 b) S := by cases b <;> rfl
/-- small integers as ints -/
def iI (x : Int) : Int32 := Int32.ofInt x
theorem iI_toInt {x : Int} (h1 : -2147483648 ≤ x) (h2 : x < 2147483648) : (iI x).toInt = x := by
  unfold iI
  rw [Int32.toInt_ofInt]
  simp [Int.bmod]
  omega
theorem iI_nI (n : Nat) : iI (n : Int) = nI n := by
  unfold iI nI
  exact Int32.ofInt_eq_ofNat
theorem i_lt {x y : Int32} : x < y ↔ x.toInt < y.toInt := Int32.lt_iff_toInt_lt
theorem i_le {x y : Int32} : x ≤ y ↔ x.toInt ≤ y.toInt := Int32.le_iff_toInt_le
theorem i_eq {x y : Int32} : x = y ↔ x.toInt = y.toInt := Int32.toInt_inj.symm
theorem l_lt {x y : Int64} : x < y ↔ x.toInt < y.toInt := Int64.lt_iff_toInt_lt
theorem l_le {x y : Int64} : x ≤ y ↔ x.toInt ≤ y.toInt := Int64.le_iff_toInt_le
theorem l_eq {x y : Int64} : x = y ↔ x.toInt = y.toInt := Int64.toInt_inj.symm
/-! ===== states that are the same ===== -/
theorem Sx_ext {S S' : Sx} (h1 : gn S = gn S') (h2 : gu S = gu S') (h3 : ∀ a, gK S a = gK S' a) (h4 : ∀ a, gN S a = gN S' a) (h5 : ∀ a b, gI S a b = gI S' a b) (h6 : ∀ a b, gL S a b = gL S' a b) (h7 : ∀ a b, gR S a b = gR S' a b) : S = S' := by
  obtain ⟨a1, a2, a3, a4, a5, a6, a7⟩ := S
  obtain ⟨c1, c2, c3, c4, c5, c6, c7⟩ := S'
  have e3 : a3 = c3 := funext h3
  have e4 : a4 = c4 := funext h4
  have e5 : a5 = c5 := funext fun a => funext fun b => h5 a b
  have e6 : a6 = c6 := funext fun a => funext fun b => h6 a b
  have e7 : a7 = c7 := funext fun a => funext fun b => h7 a b
  have e1 : a1 = c1 := h1
  have e2 : a2 = c2 := h2
  subst e1 e2 e3 e4 e5 e6 e7
  rfl
theorem pI_same {S : Sx} {c k : Nat} {v : Int32} (h : gI S c k = v) : pI S c k v = S := by
  refine Sx_ext rfl rfl (fun _ => rfl) (fun _ => rfl) (fun a b => ?_) (fun _ _ => rfl) (fun _ _ => rfl)
  rw [gI_pI]
  split
  · rename_i q; rw [q.1, q.2]; exact h.symm
  · rfl
theorem pI_pI (S : Sx) (c k : Nat) (v w : Int32) : pI (pI S c k v) c k w = pI S c k w := by
  refine Sx_ext rfl rfl (fun _ => rfl) (fun _ => rfl) (fun a b => ?_) (fun _ _ => rfl) (fun _ _ => rfl)
  rw [gI_pI, gI_pI, gI_pI]
  split <;> rfl
theorem pL_pL (S : Sx) (c k : Nat) (v w : Int64) : pL (pL S c k v) c k w = pL S c k w := by
  refine Sx_ext rfl rfl (fun _ => rfl) (fun _ => rfl) (fun _ _ => rfl) (fun a b => ?_) (fun _ _ => rfl)
  rw [gL_pL, gL_pL, gL_pL]
  split <;> rfl
theorem pL_same {S : Sx} {c k : Nat} {v : Int64} (h : gL S c k = v) : pL S c k v = S := by
  refine Sx_ext rfl rfl (fun _ => rfl) (fun _ => rfl) (fun _ _ => rfl) (fun a b => ?_) (fun _ _ => rfl)
  rw [gL_pL]
  split
  · rename_i q; rw [q.1, q.2]; exact h.symm
  · rfl
theorem pR_same {S : Sx} {c k : Nat} {v : Option Nat} (h : gR S c k = v) : pR S c k v = S := by
  refine Sx_ext rfl rfl (fun _ => rfl) (fun _ => rfl) (fun _ _ => rfl) (fun _ _ => rfl) (fun a b => ?_)
  rw [gR_pR]
  split
  · rename_i q; rw [q.1, q.2]; exact h.symm
  · rfl
theorem aI_pI (S : Sx) (c k : Nat) (f : Nat → Int32) (v : Int32) : pI (aI S c f) c k v = aI S c (fun j => if j = k then v else f j) := by
  refine Sx_ext rfl rfl (fun _ => rfl) (fun _ => rfl) (fun a b => ?_) (fun _ _ => rfl) (fun _ _ => rfl)
  rw [gI_pI, gI_aI, gI_aI]
  by_cases h : a = c <;> by_cases h2 : b = k <;> simp [h, h2]
theorem aL_pL (S : Sx) (c k : Nat) (f : Nat → Int64) (v : Int64) : pL (aL S c f) c k v = aL S c (fun j => if j = k then v else f j) := by
  refine Sx_ext rfl rfl (fun _ => rfl) (fun _ => rfl) (fun _ _ => rfl) (fun a b => ?_) (fun _ _ => rfl)
  rw [gL_pL, gL_aL, gL_aL]
  by_cases h : a = c <;> by_cases h2 : b = k <;> simp [h, h2]
theorem aI_self (S : Sx) (c : Nat) : aI S c (gI S c) = S := by
  refine Sx_ext rfl rfl (fun _ => rfl) (fun _ => rfl) (fun a b => ?_) (fun _ _ => rfl) (fun _ _ => rfl)
  rw [gI_aI]
  split
  · rename_i q; rw [q]
  · rfl
theorem aL_self (S : Sx) (c : Nat) : aL S c (gL S c) = S := by
  refine Sx_ext rfl rfl (fun _ => rfl) (fun _ => rfl) (fun _ _ => rfl) (fun a b => ?_) (fun _ _ => rfl)
  rw [gL_aL]
  split
  · rename_i q; rw [q]
  · rfl
theorem aI_aI (S : Sx) (c : Nat) (f g : Nat → Int32) : aI (aI S c f) c g = aI S c g := by
  refine Sx_ext rfl rfl (fun _ => rfl) (fun _ => rfl) (fun a b => ?_) (fun _ _ => rfl) (fun _ _ => rfl)
  rw [gI_aI, gI_aI, gI_aI]
  split <;> rfl
theorem aL_aL (S : Sx) (c : Nat) (f g : Nat → Int64) : aL (aL S c f) c g = aL S c g := by
  refine Sx_ext rfl rfl (fun _ => rfl) (fun _ => rfl) (fun _ _ => rfl) (fun a b => ?_) (fun _ _ => rfl)
  rw [gL_aL, gL_aL, gL_aL]
  split <;> rfl
end
section
set_option maxRecDepth 100000
/-! ===== what stays ===== -/
/-- nothing but the places P has changed; no new cells -/
def Sm (P : Nat → Nat → Prop) (S S' : Sx) : Prop := gn S' = gn S ∧ gu S' = gu S ∧ (∀ c, gK S' c = gK S c) ∧ (∀ c, gN S' c = gN S c) ∧ ∀ c k, ¬ P c k → gI S' c k = gI S c k ∧ gL S' c k = gL S c k ∧ gR S' c k = gR S c k
theorem Sm.rfl' {P : Nat → Nat → Prop} (S : Sx) : Sm P S S := ⟨rfl, rfl, fun _ => rfl, fun _ => rfl, fun _ _ _ => ⟨rfl, rfl, rfl⟩⟩
theorem Sm.trans {P : Nat → Nat → Prop} {S S' S'' : Sx} (h : Sm P S S') (h' : Sm P S' S'') : Sm P S S'' := by
  obtain ⟨a1, a2, a3, a4, a5⟩ := h
  obtain ⟨b1, b2, b3, b4, b5⟩ := h'
  refine ⟨b1.trans a1, b2.trans a2, fun c => (b3 c).trans (a3 c), fun c => (b4 c).trans (a4 c), fun c k hp => ?_⟩
  obtain ⟨x1, x2, x3⟩ := a5 c k hp
  obtain ⟨y1, y2, y3⟩ := b5 c k hp
  exact ⟨y1.trans x1, y2.trans x2, y3.trans x3⟩
theorem Sm.mono {P P' : Nat → Nat → Prop} {S S' : Sx} (h : Sm P S S') (hp : ∀ c k, P c k → P' c k) : Sm P' S S' := ⟨h.1, h.2.1, h.2.2.1, h.2.2.2.1, fun c k q => h.2.2.2.2 c k fun x => q (hp c k x)⟩
theorem Sm.pI {P : Nat → Nat → Prop} {S : Sx} {c k : Nat} {v : Int32} (hp : P c k) : Sm P S (pI S c k v) := ⟨rfl, rfl, fun _ => rfl, fun _ => rfl, fun a b q => ⟨by rw [gI_pI, if_neg (fun e => q (by rw [e.1, e.2]; exact hp))], rfl, rfl⟩⟩
theorem Sm.pL {P : Nat → Nat → Prop} {S : Sx} {c k : Nat} {v : Int64} (hp : P c k) : Sm P S (pL S c k v) := ⟨rfl, rfl, fun _ => rfl, fun _ => rfl, fun a b q => ⟨rfl, by rw [gL_pL, if_neg (fun e => q (by rw [e.1, e.2]; exact hp))], rfl⟩⟩
theorem Sm.pR {P : Nat → Nat → Prop} {S : Sx} {c k : Nat} {v : Option Nat} (hp : P c k) : Sm P S (pR S c k v) := ⟨rfl, rfl, fun _ => rfl, fun _ => rfl, fun a b q => ⟨rfl, rfl, by rw [gR_pR, if_neg (fun e => q (by rw [e.1, e.2]; exact hp))]⟩⟩
theorem Sm.aI {P : Nat → Nat → Prop} {S : Sx} {c : Nat} {f : Nat → Int32} (hp : ∀ k, ¬ P c k → f k = gI S c k) : Sm P S (aI S c f) := by
  refine ⟨rfl, rfl, fun _ => rfl, fun _ => rfl, fun a b q => ⟨?_, rfl, rfl⟩⟩
  rw [gI_aI]
  split
  · rename_i e; subst e; exact hp b q
  · rfl
theorem Sm.aL {P : Nat → Nat → Prop} {S : Sx} {c : Nat} {f : Nat → Int64} (hp : ∀ k, ¬ P c k → f k = gL S c k) : Sm P S (aL S c f) := by
  refine ⟨rfl, rfl, fun _ => rfl, fun _ => rfl, fun a b q => ⟨rfl, ?_, rfl⟩⟩
  rw [gL_aL]
  split
  · rename_i e; subst e; exact hp b q
  · rfl
theorem Sm.cpI {P : Nat → Nat → Prop} {S : Sx} {a i b j n : Nat} (hp : ∀ k, j ≤ k → k < j + n → P b k) : Sm P S (cpI S a i b j n) := by
  refine ⟨rfl, rfl, fun _ => rfl, fun _ => rfl, fun x y q => ⟨?_, rfl, rfl⟩⟩
  rw [gI_cpI, if_neg]
  rintro ⟨rfl, h1, h2⟩
  exact q (hp y h1 h2)
theorem Sm.K {P : Nat → Nat → Prop} {S S' : Sx} (h : Sm P S S') (c : Nat) : gK S' c = gK S c := h.2.2.1 c
theorem Sm.N {P : Nat → Nat → Prop} {S S' : Sx} (h : Sm P S S') (c : Nat) : gN S' c = gN S c := h.2.2.2.1 c
theorem Sm.I {P : Nat → Nat → Prop} {S S' : Sx} (h : Sm P S S') {c k : Nat} (q : ¬ P c k) : gI S' c k = gI S c k := (h.2.2.2.2 c k q).1
theorem Sm.L {P : Nat → Nat → Prop} {S S' : Sx} (h : Sm P S S') {c k : Nat} (q : ¬ P c k) : gL S' c k = gL S c k := (h.2.2.2.2 c k q).2.1
theorem Sm.R {P : Nat → Nat → Prop} {S S' : Sx} (h : Sm P S S') {c k : Nat} (q : ¬ P c k) : gR S' c k = gR S c k := (h.2.2.2.2 c k q).2.2
/-! ===== pages: the book of who would be where ===== -/
abbrev Pb : Type := Nat × (Nat → Option Nat) × (Nat → Bool) × (Nat → Bool) × (Nat → Bool) × Nat × List Nat × Int32 × Int32 × Int32 × Int32
def fr (b : Pb) : Nat := b.1
/-- the page in a frame; touched; written; on the disk; the hand; the known pages; faults, reads, writes, misses -/
def pin (b : Pb) : Nat → Option Nat := b.2.1
def tch (b : Pb) : Nat → Bool := b.2.2.1
def wrt (b : Pb) : Nat → Bool := b.2.2.2.1
def ot (b : Pb) : Nat → Bool := b.2.2.2.2.1
def hd (b : Pb) : Nat := b.2.2.2.2.2.1
def kn (b : Pb) : List Nat := b.2.2.2.2.2.2.1
def fa (b : Pb) : Int32 := b.2.2.2.2.2.2.2.1
def re (b : Pb) : Int32 := b.2.2.2.2.2.2.2.2.1
def wr (b : Pb) : Int32 := b.2.2.2.2.2.2.2.2.2.1
def mi (b : Pb) : Int32 := b.2.2.2.2.2.2.2.2.2.2
def up {α : Type} (f : Nat → α) (k : Nat) (v : α) : Nat → α := fun j => if j = k then v else f j
theorem up_s {α : Type} (f : Nat → α) (k : Nat) (v : α) : up f k v k = v := if_pos rfl
theorem up_n {α : Type} (f : Nat → α) {k j : Nat} (v : α) (h : j ≠ k) : up f k v j = f j := if_neg h
def mkPb (r : Nat) (p : Nat → Option Nat) (t w o : Nat → Bool) (h : Nat) (k : List Nat) (a b c d : Int32) : Pb := (r, p, t, w, o, h, k, a, b, c, d)
/-- the hand goes on over what was touched -/
def bAdv : Nat → Pb → Pb
  | 0, b => b
  | n + 1, b => if tch b (hd b) then bAdv n (mkPb (fr b) (pin b) (up (tch b) (hd b) false) (wrt b) (ot b) ((hd b + 1) % fr b) (kn b) (fa b) (re b) (wr b) (mi b)) else b
/-- the frame under the hand becomes free -/
def bOut (b : Pb) : Pb :=
  mkPb (fr b) (up (pin b) (hd b) none) (tch b) (wrt b) (up (ot b) ((pin b (hd b)).getD 0) true) ((hd b + 1) % fr b) ((kn b).filter (fun p => p ≠ (pin b (hd b)).getD 0)) (fa b) (re b) (wr b + b1 (wrt b (hd b))) (mi b)
/-- a page comes into a frame -/
def bIn (b : Pb) (f p : Nat) : Pb := mkPb (fr b) (up (pin b) f (some p)) (tch b) (up (wrt b) f false) (up (ot b) p false) (hd b) (kn b) (fa b) (re b + b1 (ot b p)) (wr b) (mi b)
/-- one fault more -/
def bFa (b : Pb) : Pb := mkPb (fr b) (pin b) (tch b) (wrt b) (ot b) (hd b) (kn b) (fa b + 1) (re b) (wr b) (mi b)
/-- a free frame, if there is one -/
def bFree (b : Pb) (f : Nat) : Prop := f < fr b ∧ pin b f = none ∧ ∀ i, i < f → pin b i ≠ none
/-- the frame f, in which the page p is, is touched -/
def bHit (b : Pb) (f p : Nat) (w : Bool) : Pb :=
  mkPb (fr b) (pin b) (up (tch b) f true) (if w then up (wrt b) f true else wrt b) (ot b) (hd b) (if p ∈ kn b then kn b else (if (kn b).length = 4 then (kn b).tail else kn b) ++ [p]) (fa b) (re b) (wr b) (if p ∈ kn b then mi b else mi b + 1)
/-- b' is b after page p was touched; f is its frame -/
def bTouch (b : Pb) (p : Nat) (w : Bool) (f : Nat) (b' : Pb) : Prop :=
  (pin b f = some p ∧ f < fr b ∧ b' = bHit b f p w) ∨ ((∀ i, pin b i ≠ some p) ∧ bFree b f ∧ b' = bHit (bIn (bFa b) f p) f p w) ∨
  ((∀ i, pin b i ≠ some p) ∧ (∀ i, i < fr b → pin b i ≠ none) ∧ f = hd (bAdv 65 (bFa b)) ∧ b' = bHit (bIn (bOut (bAdv 65 (bFa b))) f p) f p w)
/-- what holds of every book -/
def bOK (b : Pb) : Prop := 2 ≤ fr b ∧ fr b ≤ 64 ∧ hd b < fr b ∧ (∀ f p, pin b f = some p → f < fr b ∧ p < 1024) ∧ (∀ f g p, pin b f = some p → pin b g = some p → f = g) ∧ (kn b).Nodup ∧ (kn b).length ≤ 4 ∧ ∀ p ∈ kn b, ∃ f, pin b f = some p
theorem bTouch_ex (b : Pb) (p : Nat) (w : Bool) (h : bOK b) : ∃ f b', bTouch b p w f b' := by
  by_cases h1 : ∃ f, pin b f = some p
  · obtain ⟨f, hf⟩ := h1
    exact ⟨f, _, Or.inl ⟨hf, (h.2.2.2.1 f p hf).1, rfl⟩⟩
  · have h1' : ∀ i, pin b i ≠ some p := fun i e => h1 ⟨i, e⟩
    by_cases h2 : ∃ i, i < fr b ∧ pin b i = none
    · obtain ⟨f, ⟨hf1, hf2⟩, hmin⟩ := pk_least (fun i => i < fr b ∧ pin b i = none) h2
      exact ⟨f, _, Or.inr (Or.inl ⟨h1', ⟨hf1, hf2, fun i hi e => hmin i hi ⟨by omega, e⟩⟩, rfl⟩)⟩
    · exact ⟨_, _, Or.inr (Or.inr ⟨h1', fun i hi e => h2 ⟨i, hi, e⟩, rfl, rfl⟩)⟩
end
section
set_option maxRecDepth 100000
/-! ===== lists in rows ===== -/
theorem getD_erase (l : List Nat) (k i : Nat) : (l.eraseIdx k).getD i 0 = if i < k then l.getD i 0 else l.getD (i + 1) 0 := by
  rw [List.getD_eq_getElem?_getD, List.getElem?_eraseIdx]
  split <;> rw [List.getD_eq_getElem?_getD]
theorem mod_succ {h r : Nat} (hr : 0 < r) (hr2 : r < 2 ^ 30) (hh : h < r) : nI h + 1 - (nI h + 1) / nI r * nI r = nI ((h + 1) % r) := by
  rw [nI_1]
  exact pk_rem (by omega) hr (by omega)
/-! ===== the hand ===== -/
def cnt (t : Nat → Bool) : Nat → Nat
  | 0 => 0
  | n + 1 => cnt t n + (if t n then 1 else 0)
theorem cnt_le (t : Nat → Bool) (n : Nat) : cnt t n ≤ n := by
  induction n with
  | zero => exact Nat.le_refl 0
  | succ n ih =>
    unfold cnt
    split <;> omega
theorem cnt_n {t : Nat → Bool} {f : Nat} : ∀ {n : Nat}, n ≤ f → cnt (up t f false) n = cnt t n := by
  intro n
  induction n with
  | zero => intro _; rfl
  | succ n ih =>
    intro h
    unfold cnt
    rw [ih (by omega), up_n _ _ (by omega)]
theorem cnt_up {t : Nat → Bool} {f : Nat} (ht : t f = true) : ∀ {n : Nat}, f < n → cnt (up t f false) n + 1 = cnt t n := by
  intro n
  induction n with
  | zero => intro h; omega
  | succ n ih =>
    intro h
    unfold cnt
    by_cases hf : f = n
    · subst hf
      rw [cnt_n (Nat.le_refl _), up_s, ht]
      simp
    · rw [up_n _ _ (fun e => hf e.symm)]
      have := ih (by omega)
      omega
theorem bAdv_fr (n : Nat) : ∀ b, fr (bAdv n b) = fr b ∧ pin (bAdv n b) = pin b ∧ wrt (bAdv n b) = wrt b ∧ ot (bAdv n b) = ot b ∧ kn (bAdv n b) = kn b ∧ fa (bAdv n b) = fa b ∧ re (bAdv n b) = re b ∧ wr (bAdv n b) = wr b ∧ mi (bAdv n b) = mi b := by
  induction n with
  | zero => intro b; exact ⟨rfl, rfl, rfl, rfl, rfl, rfl, rfl, rfl, rfl⟩
  | succ n ih =>
    intro b
    unfold bAdv
    split
    · exact ih _
    · exact ⟨rfl, rfl, rfl, rfl, rfl, rfl, rfl, rfl, rfl⟩
theorem bAdv_hd (n : Nat) : ∀ b, hd b < fr b → hd (bAdv n b) < fr b := by
  induction n with
  | zero => intro b h; exact h
  | succ n ih =>
    intro b h
    unfold bAdv
    split
    · exact ih (mkPb (fr b) (pin b) (up (tch b) (hd b) false) (wrt b) (ot b) ((hd b + 1) % fr b) (kn b) (fa b) (re b) (wr b) (mi b)) (Nat.mod_lt _ (by show 0 < fr b; omega))
    · exact h
theorem bAdv_stab : ∀ (m : Nat) (b : Pb), cnt (tch b) (fr b) ≤ m → hd b < fr b → ∀ k, m < k → bAdv k b = bAdv (m + 1) b := by
  intro m
  induction m with
  | zero =>
    intro b hc hh k hk
    have ht : tch b (hd b) = false := by
      cases ht : tch b (hd b) with
      | false => rfl
      | true => have := cnt_up ht hh; omega
    obtain ⟨k, rfl⟩ : ∃ j, k = j + 1 := ⟨k - 1, by omega⟩
    unfold bAdv
    rw [ht]
    simp
  | succ m ih =>
    intro b hc hh k hk
    obtain ⟨k, rfl⟩ : ∃ j, k = j + 1 := ⟨k - 1, by omega⟩
    rw [bAdv, show m + 1 + 1 = (m + 1) + 1 from rfl, bAdv]
    cases ht : tch b (hd b) with
    | false => simp
    | true =>
      simp only [if_true]
      refine ih _ ?_ (Nat.mod_lt _ (by show 0 < fr b; omega)) k (by omega)
      have := cnt_up ht hh
      show cnt (up (tch b) (hd b) false) (fr b) ≤ m
      omega
/-! ===== M's pages ===== -/
def pg : Option Nat → Int32
  | none => -1
  | some p => nI p
theorem pg_s (p : Nat) : pg (some p) = nI p := rfl
def KM (S : Sx) (l : List Nat) : Prop := gI S 167 25 = nI l.length ∧ l.length ≤ 4 ∧ ∀ i, i < l.length → gI S 180 i = nI (l.getD i 0)
def MP (S : Sx) (b : Pb) : Prop :=
  gI S 167 17 = nI (fr b) ∧ gI S 167 23 = nI (hd b) ∧ KM S (kn b) ∧ gI S 167 26 = fa b ∧ gI S 167 27 = re b ∧ gI S 167 28 = wr b ∧ gI S 167 29 = mi b ∧
  (∀ f, f < 64 → gI S 177 f = pg (pin b f) ∧ gI S 178 f = b1 (tch b f) ∧ gI S 179 f = b1 (wrt b f)) ∧
  ∀ p, p < 1024 → (∀ f, pin b f = some p → gI S 175 p = nI f) ∧ ((∀ f, pin b f ≠ some p) → gI S 175 p = -1 ∧ gI S 176 p = b1 (ot b p))
/-- the places of M's pages -/
def mPl (c k : Nat) : Prop := (c = 167 ∧ 23 ≤ k ∧ k ≤ 29) ∨ (175 ≤ c ∧ c ≤ 180)
theorem m_forget_loop {m : Nat} (hm : m < 4) : ∀ (d i n : Nat) (S : Sx), i + d = m → d < n → gI S 167 25 = nI m → ∃ S', X12_forget_12 n (nI i) S = rt () S' ∧ (∀ j, i ≤ j → j < m → gI S' 180 j = gI S 180 (j + 1)) ∧ (∀ j, j < i ∨ m ≤ j → gI S' 180 j = gI S 180 j) ∧ Sm (fun c _ => c = 180) S S' := by
  intro d
  induction d with
  | zero =>
    intro i n S hi hn hk
    obtain ⟨n, rfl⟩ : ∃ j, n = j + 1 := ⟨n - 1, by omega⟩
    refine ⟨S, ?_, fun j h1 h2 => by omega, fun j _ => rfl, Sm.rfl' S⟩
    show X12_forget_12b (X12_forget_12 n) (nI i) S = _
    unfold X12_forget_12b
    rw [hk, if_pos (nI_le (by omega) (by omega))]
  | succ d ih =>
    intro i n S hi hn hk
    obtain ⟨n, rfl⟩ : ∃ j, n = j + 1 := ⟨n - 1, by omega⟩
    obtain ⟨S', e, h1, h2, h3⟩ := ih (i + 1) n (pI S 180 i (gI S 180 (i + 1))) (by omega) (by omega) (by simp [gI_pI, hk])
    refine ⟨S', ?_, fun j h4 h5 => ?_, fun j h4 => ?_, (Sm.pI (P := fun c _ => c = 180) rfl).trans h3⟩
    · show X12_forget_12b (X12_forget_12 n) (nI i) S = _
      unfold X12_forget_12b
      rw [hk, if_neg (nI_ge (by omega) (by omega)), nI_1, lI_n (by omega) (by omega), sI_n (by omega) (by omega), vl_e]
      exact e
    · by_cases hj : j = i
      · subst hj
        rw [h2 j (by omega), gI_pI, if_pos ⟨rfl, rfl⟩]
      · rw [h1 j (by omega) h5, gI_pI, if_neg (by omega)]
    · rw [h2 j (by omega), gI_pI, if_neg (by omega)]
theorem m_forget {S : Sx} {l : List Nat} {k : Nat} (h : KM S l) (hk : k < l.length) : ∃ S', X12_forget (nI k) S = rt () S' ∧ KM S' (l.eraseIdx k) ∧ Sm (fun c j => c = 180 ∨ (c = 167 ∧ j = 25)) S S' := by
  obtain ⟨h1, h2, h3⟩ := h
  have hl : l.length - 1 + 1 = l.length := by omega
  have e1 : nI l.length - 1 = nI (l.length - 1) := by rw [← hl]; exact nI_pred _
  obtain ⟨S', e, a1, a2, a3⟩ := m_forget_loop (m := l.length - 1) (by omega) (l.length - 1 - k) k FU (pI S 167 25 (nI (l.length - 1))) (by omega) (by have := FU_ge; omega) (by simp [gI_pI])
  refine ⟨S', ?_, ⟨?_, ?_, fun i hi => ?_⟩, (Sm.pI (Or.inr ⟨rfl, rfl⟩)).trans (a3.mono fun c j q => Or.inl q)⟩
  · unfold X12_forget
    rw [pt_e, vl_e, h1, e1]
    exact e
  · rw [a3.I (by decide), gI_pI, if_pos ⟨rfl, rfl⟩, List.length_eraseIdx, if_pos hk]
  · rw [List.length_eraseIdx, if_pos hk]; omega
  · rw [List.length_eraseIdx, if_pos hk] at hi
    rw [getD_erase]
    split
    · rw [a2 i (Or.inl (by assumption)), gI_pI, if_neg (by omega)]
      exact h3 i (by omega)
    · rw [a1 i (by omega) hi, gI_pI, if_neg (by omega)]
      exact h3 (i + 1) (by omega)
theorem nI_m1 (d : Nat) : nI (d + 1) - 1 + (-1) = nI d - 1 := by
  rw [nI_pred, Int32.sub_eq_add_neg]
theorem m_drop_loop {x1 : Int32} {p r h : Nat} (hr : 0 < r) (hr2 : r ≤ 64) (hh : h < r) : ∀ (d n : Nat) (S : Sx) (l : List Nat), d ≤ l.length → d < n → KM S l → (∀ q ∈ l, q < 1024) → p < 1024 → gI S 167 17 = nI r → gI S 167 23 = nI h →
    ∃ S', X12_leave_99 n x1 (nI p) (nI d - 1) S = rt x1 S' ∧ KM S' ((l.take d).filter (fun q => q ≠ p) ++ l.drop d) ∧ gI S' 167 23 = nI ((h + 1) % r) ∧ Sm (fun c j => c = 180 ∨ (c = 167 ∧ (j = 25 ∨ j = 23))) S S' := by
  intro d
  induction d with
  | zero =>
    intro n S l hd hn hK hq hp e1 e2
    obtain ⟨n, rfl⟩ : ∃ j, n = j + 1 := ⟨n - 1, by omega⟩
    refine ⟨pI S 167 23 (nI ((h + 1) % r)), ?_, ?_, by simp [gI_pI], Sm.pI (Or.inr ⟨rfl, Or.inr rfl⟩)⟩
    · show X12_leave_99b (X12_leave_99 n) x1 (nI p) (nI 0 - 1) S = _
      unfold X12_leave_99b
      rw [if_pos (by decide), e1, e2, if_neg (nI_ne0 hr (by omega)), mod_succ hr (by omega) hh, pt_e]
    · simp only [List.take_zero, List.filter_nil, List.nil_append, List.drop_zero]
      obtain ⟨k1, k2, k3⟩ := hK
      exact ⟨by simp [gI_pI, k1], k2, fun i hi => by simp [gI_pI, k3 i hi]⟩
  | succ d ih =>
    intro n S l hd hn hK hq hp e1 e2
    obtain ⟨n, rfl⟩ : ∃ j, n = j + 1 := ⟨n - 1, by omega⟩
    have hdl : d < l.length := by omega
    have hv : gI S 180 d = nI (l.getD d 0) := hK.2.2 d hdl
    have hget : l.getD d 0 = l[d] := by rw [List.getD_eq_getElem?_getD, List.getElem?_eq_getElem hdl]; rfl
    have hlt : l[d] < 1024 := hq _ (List.getElem_mem hdl)
    have htk : l.take (d + 1) = l.take d ++ [l[d]] := (List.take_append_getElem hdl).symm
    have hstep : X12_leave_99 (n + 1) x1 (nI p) (nI (d + 1) - 1) S = if nI l[d] = nI p then bd (X12_forget (nI d) S) (fun _ S1 => X12_leave_99 n x1 (nI p) (nI d - 1) S1) else X12_leave_99 n x1 (nI p) (nI d - 1) S := by
      show X12_leave_99b (X12_leave_99 n) x1 (nI p) (nI (d + 1) - 1) S = _
      unfold X12_leave_99b
      rw [nI_m1, nI_pred, if_neg (nI_pos (by have := hK.2.1; omega)), lI_n (by have := hK.2.1; omega) (by omega), hv, hget]
      rfl
    by_cases hpe : l[d] = p
    · obtain ⟨S1, f1, f2, f3⟩ := m_forget hK hdl
      have hed : l.eraseIdx d = l.take d ++ l.drop (d + 1) := List.eraseIdx_eq_take_drop_succ l d
      have hlen : (l.take d).length = d := by rw [List.length_take]; omega
      obtain ⟨S', g1, g2, g3, g4⟩ := ih n S1 (l.eraseIdx d) (by rw [List.length_eraseIdx, if_pos hdl]; omega) (by omega) f2 (fun q h => hq q (List.mem_of_mem_eraseIdx h)) hp (by rw [f3.I (by decide)]; exact e1) (by rw [f3.I (by decide)]; exact e2)
      refine ⟨S', ?_, ?_, g3, (f3.mono fun c j q => by rcases q with q | ⟨q, q'⟩; exact Or.inl q; exact Or.inr ⟨q, Or.inl q'⟩).trans g4⟩
      · rw [hstep, if_pos (by rw [hpe]), f1, bd_rt]
        exact g1
      · rw [hed] at g2
        rw [htk, List.filter_append]
        have e3 : List.filter (fun q => decide (q ≠ p)) [l[d]] = [] := by simp [hpe]
        rw [e3, List.append_nil]
        rwa [List.take_left' hlen, List.drop_left' hlen] at g2
    · obtain ⟨S', g1, g2, g3, g4⟩ := ih n S l (by omega) (by omega) hK hq hp e1 e2
      refine ⟨S', ?_, ?_, g3, g4⟩
      · rw [hstep, if_neg (fun e => hpe ((nI_eq (by omega) (by omega)).mp e))]
        exact g1
      · rw [htk, List.filter_append]
        have e3 : List.filter (fun q => decide (q ≠ p)) [l[d]] = [l[d]] := by simp [hpe]
        rw [e3, List.append_assoc, List.singleton_append, ← List.drop_eq_getElem_cons hdl]
        exact g2
theorem MP_known {S : Sx} {b : Pb} (h : MP S b) : KM S (kn b) := h.2.2.1
theorem MP_back {P : Nat → Nat → Prop} {S S' : Sx} {b : Pb} (h : MP S b) (hs : Sm P S S') (hp : ∀ c k, P c k → ¬ ((c = 167 ∧ 17 ≤ k ∧ k ≤ 29) ∨ (175 ≤ c ∧ c ≤ 180))) : MP S' b := by
  have hI : ∀ c k, ((c = 167 ∧ 17 ≤ k ∧ k ≤ 29) ∨ (175 ≤ c ∧ c ≤ 180)) → gI S' c k = gI S c k := fun c k q => hs.I fun x => hp c k x q
  obtain ⟨h1, h2, ⟨k1, k2, k3⟩, h4, h5, h6, h7, h8, h9⟩ := h
  refine ⟨by rw [hI _ _ (by omega)]; exact h1, by rw [hI _ _ (by omega)]; exact h2, ⟨by rw [hI _ _ (by omega)]; exact k1, k2, fun i hi => by rw [hI _ _ (by omega)]; exact k3 i hi⟩, by rw [hI _ _ (by omega)]; exact h4, by rw [hI _ _ (by omega)]; exact h5, by rw [hI _ _ (by omega)]; exact h6, by rw [hI _ _ (by omega)]; exact h7, fun f hf => ?_, fun p hp2 => ?_⟩
  · rw [hI _ _ (by omega), hI _ _ (by omega), hI _ _ (by omega)]
    exact h8 f hf
  · rw [hI _ _ (by omega), hI _ _ (by omega)]
    exact h9 p hp2
/-- the hand's loop -/
theorem m_hand_loop : ∀ (m : Nat) (b : Pb) (S : Sx) (n : Nat), MP S b → hd b < fr b → fr b ≤ 64 → cnt (tch b) (fr b) ≤ m → m < n → ∃ S1 k, X12_leave_0 n S = X12_leave_0b k S1 ∧ MP S1 (bAdv (m + 1) b) ∧ tch (bAdv (m + 1) b) (hd (bAdv (m + 1) b)) = false ∧ Sm mPl S S1 := by
  intro m
  induction m with
  | zero =>
    intro b S n hM hh hf hc hn
    obtain ⟨n, rfl⟩ : ∃ j, n = j + 1 := ⟨n - 1, by omega⟩
    have ht : tch b (hd b) = false := by
      cases ht : tch b (hd b) with
      | false => rfl
      | true => have := cnt_up ht hh; omega
    have e : bAdv (0 + 1) b = b := by
      unfold bAdv
      rw [ht]
      simp
    rw [e]
    exact ⟨S, X12_leave_0 n, rfl, hM, ht, Sm.rfl' S⟩
  | succ m ih =>
    intro b S n hM hh hf hc hn
    obtain ⟨n, rfl⟩ : ∃ j, n = j + 1 := ⟨n - 1, by omega⟩
    cases ht : tch b (hd b) with
    | false =>
      have e : bAdv (m + 1 + 1) b = b := by
        rw [bAdv, ht]
        simp
      rw [e]
      exact ⟨S, X12_leave_0 n, rfl, hM, ht, Sm.rfl' S⟩
    | true =>
      obtain ⟨h1, h2, hK, h4, h5, h6, h7, h8, h9⟩ := id hM
      have hb : bAdv (m + 1 + 1) b = bAdv (m + 1) (mkPb (fr b) (pin b) (up (tch b) (hd b) false) (wrt b) (ot b) ((hd b + 1) % fr b) (kn b) (fa b) (re b) (wr b) (mi b)) := by
        rw [bAdv, ht]
        simp
      have hM2 : MP (pI (pI S 178 (hd b) 0) 167 23 (nI ((hd b + 1) % fr b))) (mkPb (fr b) (pin b) (up (tch b) (hd b) false) (wrt b) (ot b) ((hd b + 1) % fr b) (kn b) (fa b) (re b) (wr b) (mi b)) := by
        refine ⟨by simp [gI_pI]; exact h1, by simp [gI_pI]; rfl, ⟨by simp [gI_pI]; exact hK.1, hK.2.1, fun i hi => by simp [gI_pI]; exact hK.2.2 i hi⟩, by simp [gI_pI]; exact h4, by simp [gI_pI]; exact h5, by simp [gI_pI]; exact h6, by simp [gI_pI]; exact h7, fun f hf => ?_, fun p hp => ?_⟩
        · simp [gI_pI]
          refine ⟨(h8 f hf).1, ?_, (h8 f hf).2.2⟩
          show _ = b1 (up (tch b) (hd b) false f)
          by_cases hfe : f = hd b
          · rw [if_pos hfe, hfe, up_s]; rfl
          · rw [if_neg hfe, up_n _ _ hfe]; exact (h8 f hf).2.1
        · simp [gI_pI]
          exact h9 p hp
      obtain ⟨S1, k, e1, e2, e3, e4⟩ := ih _ _ n hM2 (Nat.mod_lt _ (by show 0 < fr b; omega)) hf (by have := cnt_up ht hh; show cnt (up (tch b) (hd b) false) (fr b) ≤ m; omega) (by omega)
      rw [hb]
      refine ⟨S1, k, ?_, e2, e3, Sm.trans (Sm.trans (Sm.pI (Or.inr (by omega))) (Sm.pI (Or.inl (by omega)))) e4⟩
      show X12_leave_0b (X12_leave_0 n) S = _
      unfold X12_leave_0b
      rw [h2, lI_n (by omega) (by omega), (h8 _ (by omega)).2.1, ht, if_neg (by decide), sI_n (by omega) (by omega), nz_0]
      have g1 : gI (pI S 178 (hd b) 0) 167 17 = nI (fr b) := by simp [gI_pI]; exact h1
      have g2 : gI (pI S 178 (hd b) 0) 167 23 = nI (hd b) := by simp [gI_pI]; exact h2
      rw [g1, g2, if_neg (nI_ne0 (by omega) (by omega)), mod_succ (by omega) (by omega) hh, pt_e]
      exact e1
theorem i_add0 (x : Int32) : x + b1 false = x := by show x + 0 = x; exact Int32.add_zero x
theorem m_leave {S : Sx} {b : Pb} (hM : MP S b) (hO : bOK b) (hfull : ∀ i, i < fr b → pin b i ≠ none) : ∃ S', X12_leave S = rt (nI (hd (bAdv 65 b))) S' ∧ MP S' (bOut (bAdv 65 b)) ∧ Sm mPl S S' := by
  obtain ⟨o1, o2, o3, o4, o5, o6, o7, o8⟩ := hO
  obtain ⟨S1, k, e1, hM1, ht, hs1⟩ := m_hand_loop 64 b S FU hM o3 o2 (Nat.le_trans (cnt_le _ _) o2) (by have := FU_ge; omega)
  obtain ⟨a1, a2, a3, a4, a5, a6, a7, a8, a9⟩ := bAdv_fr 65 b
  have hh := bAdv_hd 65 b o3
  generalize hb' : bAdv 65 b = b' at *
  obtain ⟨p, hp⟩ : ∃ p, pin b' (hd b') = some p := by
    cases hq : pin b' (hd b') with
    | none => rw [a2] at hq; exact absurd hq (hfull _ hh)
    | some p => exact ⟨p, rfl⟩
  have hp2 : p < 1024 := (o4 (hd b') p (by rw [← a2]; exact hp)).2
  obtain ⟨h1, h2, hK, h4, h5, h6, h7, h8, h9⟩ := id hM1
  have hf64 : hd b' < 64 := by omega
  have f8 := h8 _ hf64
  rw [hp] at f8
  generalize hSw : pI S1 167 28 (wr b' + b1 (wrt b' (hd b'))) = Sw
  have hstep : X12_leave S = X12_leave_71 (nI (hd b')) (nI p) Sw := by
    unfold X12_leave
    rw [e1]
    unfold X12_leave_0b
    rw [h2, lI_n hf64 (by omega), f8.2.1, ht, if_pos b1_f, vl_e, lI_n hf64 (by omega), f8.1, vl_e, lI_n hf64 (by omega), f8.2.2]
    show (if b1 (wrt b' (hd b')) = 0 then X12_leave_71 (nI (hd b')) (nI p) S1 else pt (pI S1 167 28 (gI S1 167 28 + 1)) fun S1 => X12_leave_71 (nI (hd b')) (nI p) S1) = _
    cases hw : wrt b' (hd b') with
    | false =>
      rw [if_pos b1_f, ← hSw, hw, i_add0, pI_same h6]
    | true =>
      rw [if_neg (by decide), pt_e, ← hSw, hw, h6]
      rfl
  generalize hS3 : pI (pI (pI Sw 176 p 1) 175 p (-1)) 177 (hd b') (-1) = S3
  have g3 : ∀ c j, gI S3 c j = if c = 177 ∧ j = hd b' then -1 else if c = 175 ∧ j = p then -1 else if c = 176 ∧ j = p then 1 else if c = 167 ∧ j = 28 then wr b' + b1 (wrt b' (hd b')) else gI S1 c j := by
    intro c j
    rw [← hS3, ← hSw]
    simp only [gI_pI]
  have hK3 : KM S3 (kn b') := ⟨by rw [g3]; simp; exact hK.1, hK.2.1, fun i hi => by rw [g3]; simp; exact hK.2.2 i hi⟩
  obtain ⟨S', l1, l2, l3, l4⟩ := m_drop_loop (x1 := nI (hd b')) (p := p) (r := fr b') (h := hd b') (by omega) (by omega) (by omega) (kn b').length FU S3 (kn b') (Nat.le_refl _) (by have := FU_ge; have := hK.2.1; omega) hK3 (fun q hq => by rw [a5] at hq; obtain ⟨f, hf⟩ := o8 q hq; exact (o4 f q hf).2) hp2 (by rw [g3]; simp; exact h1) (by rw [g3]; simp; exact h2)
  rw [List.take_length, List.drop_length, List.append_nil] at l2
  have gI' : ∀ c j, ¬ (c = 180 ∨ (c = 167 ∧ (j = 25 ∨ j = 23))) → gI S' c j = gI S3 c j := fun c j q => l4.I q
  refine ⟨S', ?_, ⟨?_, l3, ?_, ?_, ?_, ?_, ?_, fun f hf => ?_, fun q hq => ?_⟩, hs1.trans ?_⟩
  · rw [hstep]
    unfold X12_leave_71
    rw [sI_n hp2 (by omega), sI_n hp2 (by omega), sI_n hf64 (by omega), nz_1, vl_e, hS3, hK3.1]
    exact l1
  · rw [gI' _ _ (by omega), g3]; simp; exact h1
  · have e : (pin b' (hd b')).getD 0 = p := by rw [hp]; rfl
    show KM S' ((kn b').filter (fun q => q ≠ (pin b' (hd b')).getD 0))
    rw [e]; exact l2
  · rw [gI' _ _ (by omega), g3]; simp; exact h4
  · rw [gI' _ _ (by omega), g3]; simp; exact h5
  · rw [gI' _ _ (by omega), g3]; simp; rfl
  · rw [gI' _ _ (by omega), g3]; simp; exact h7
  · rw [gI' _ _ (by omega), gI' _ _ (by omega), gI' _ _ (by omega), g3, g3, g3]
    simp
    refine ⟨?_, (h8 f hf).2.1, (h8 f hf).2.2⟩
    show _ = pg (up (pin b') (hd b') none f)
    by_cases hfe : f = hd b'
    · rw [if_pos hfe, hfe, up_s]; rfl
    · rw [if_neg hfe, up_n _ _ hfe]; exact (h8 f hf).1
  · rw [gI' _ _ (by omega), gI' _ _ (by omega), g3, g3]
    simp
    have e : (pin b' (hd b')).getD 0 = p := by rw [hp]; rfl
    refine ⟨fun g hg => ?_, fun hg => ?_⟩
    · have hg : up (pin b') (hd b') none g = some q := hg
      by_cases hge : g = hd b'
      · rw [hge, up_s] at hg; cases hg
      · rw [up_n _ _ hge] at hg
        have hqp : q ≠ p := fun e => hge (o5 g (hd b') p (by rw [← a2, ← e]; exact hg) (by rw [← a2]; exact hp))
        rw [if_neg hqp]
        exact (h9 q hq).1 g hg
    · have hg : ∀ g, up (pin b') (hd b') none g ≠ some q := hg
      show _ ∧ _ = b1 (up (ot b') ((pin b' (hd b')).getD 0) true q)
      rw [e]
      by_cases hqp : q = p
      · rw [if_pos hqp, hqp, up_s]; exact ⟨fun h => absurd rfl h, rfl⟩
      · rw [if_neg hqp, up_n _ _ hqp]
        have := (h9 q hq).2 fun g hg2 => by
          by_cases hge : g = hd b'
          · rw [hge, hp] at hg2; exact hqp (Option.some.inj hg2).symm
          · exact hg g (by rw [up_n _ _ hge]; exact hg2)
        exact ⟨fun _ => this.1, this.2⟩
  · refine Sm.trans (S' := S3) ?_ (l4.mono fun c j q => ?_)
    · rw [← hS3, ← hSw]
      exact (((Sm.pI (Or.inl (by omega))).trans (Sm.pI (Or.inr (by omega)))).trans (Sm.pI (Or.inr (by omega)))).trans (Sm.pI (Or.inr (by omega)))
    · unfold mPl
      omega
/-- a page comes into the frame f, which is free -/
theorem m_bring_48 {S : Sx} {b : Pb} {f p : Nat} (hM : MP S b) (hf : f < 64) (hp : p < 1024) (hn : pin b f = none) (hnp : ∀ i, pin b i ≠ some p) : ∃ S', X12_bring_48 (nI p) (nI f) S = rt () S' ∧ MP S' (bIn b f p) ∧ Sm mPl S S' := by
  obtain ⟨h1, h2, hK, h4, h5, h6, h7, h8, h9⟩ := id hM
  have hot := ((h9 p hp).2 hnp).2
  generalize hS' : pI (pI (pI (pI (pI S 177 f (nI p)) 175 p (nI f)) 179 f 0) 167 27 (re b + b1 (ot b p))) 176 p 0 = S'
  have g3 : ∀ c j, gI S' c j = if c = 176 ∧ j = p then 0 else if c = 167 ∧ j = 27 then re b + b1 (ot b p) else if c = 179 ∧ j = f then 0 else if c = 175 ∧ j = p then nI f else if c = 177 ∧ j = f then nI p else gI S c j := by
    intro c j
    rw [← hS']
    simp only [gI_pI]
  refine ⟨S', ?_, ⟨?_, ?_, ⟨?_, hK.2.1, fun i hi => ?_⟩, ?_, ?_, ?_, ?_, fun g hg => ?_, fun q hq => ?_⟩, ?_⟩
  · unfold X12_bring_48
    rw [sI_n hf (by omega), sI_n hp (by omega), sI_n hf (by omega), lI_n hp (by omega), nz_0]
    have e : gI (pI (pI (pI S 177 f (nI p)) 175 p (nI f)) 179 f 0) 176 p = b1 (ot b p) := by simp [gI_pI, hot]
    have e5 : gI (pI (pI (pI S 177 f (nI p)) 175 p (nI f)) 179 f 0) 167 27 = re b := by simp [gI_pI, h5]
    rw [e]
    cases ho : ot b p with
    | false =>
      rw [if_pos b1_f]
      unfold X12_bring_88
      rw [sI_n hp (by omega), nz_0, ← hS', ho, i_add0, pI_same e5]
    | true =>
      rw [if_neg (by decide), pt_e, e5]
      unfold X12_bring_88
      rw [sI_n hp (by omega), nz_0, ← hS', ho]
      rfl
  · simp [g3]; exact h1
  · simp [g3]; exact h2
  · simp [g3]; exact hK.1
  · simp [g3]; exact hK.2.2 i hi
  · simp [g3]; exact h4
  · simp [g3]; rfl
  · simp [g3]; exact h6
  · simp [g3]; exact h7
  · simp [g3]
    show _ = pg (up (pin b) f (some p) g) ∧ _ ∧ _ = b1 (up (wrt b) f false g)
    by_cases hge : g = f
    · rw [if_pos hge, if_pos hge, hge, up_s, up_s]; exact ⟨rfl, (h8 f hf).2.1, rfl⟩
    · rw [if_neg hge, if_neg hge, up_n _ _ hge, up_n _ _ hge]; exact h8 g hg
  · simp [g3]
    refine ⟨fun g hg => ?_, fun hg => ?_⟩
    · have hg : up (pin b) f (some p) g = some q := hg
      by_cases hge : g = f
      · rw [hge, up_s] at hg
        cases hg
        rw [if_pos rfl, hge]
      · rw [up_n _ _ hge] at hg
        have hqp : q ≠ p := fun e => hnp g (by rw [← e]; exact hg)
        rw [if_neg hqp]
        exact (h9 q hq).1 g hg
    · have hg : ∀ g, up (pin b) f (some p) g ≠ some q := hg
      have hqp : q ≠ p := fun e => hg f (by rw [up_s, e])
      show _ ∧ _ = b1 (up (ot b) p false q)
      rw [if_neg hqp, if_neg hqp, up_n _ _ hqp]
      refine (h9 q hq).2 fun g hg2 => ?_
      by_cases hge : g = f
      · rw [hge, hn] at hg2; cases hg2
      · exact hg g (by rw [up_n _ _ hge]; exact hg2)
  · rw [← hS']
    exact ((((Sm.pI (Or.inr (by omega))).trans (Sm.pI (Or.inr (by omega)))).trans (Sm.pI (Or.inr (by omega)))).trans (Sm.pI (Or.inl (by omega)))).trans (Sm.pI (Or.inr (by omega)))
theorem bFa_OK {b : Pb} (h : bOK b) : bOK (bFa b) := h
theorem MP_fa {S : Sx} {b : Pb} (h : MP S b) : MP (pI S 167 26 (fa b + 1)) (bFa b) := by
  obtain ⟨h1, h2, hK, h4, h5, h6, h7, h8, h9⟩ := h
  refine ⟨by simp [gI_pI]; exact h1, by simp [gI_pI]; exact h2, ⟨by simp [gI_pI]; exact hK.1, hK.2.1, fun i hi => by simp [gI_pI]; exact hK.2.2 i hi⟩, by simp [gI_pI]; rfl, by simp [gI_pI]; exact h5, by simp [gI_pI]; exact h6, by simp [gI_pI]; exact h7, fun f hf => by simp [gI_pI]; exact h8 f hf, fun p hp => by simp [gI_pI]; exact h9 p hp⟩
/-- the search for a free frame -/
theorem m_find_loop {b : Pb} {S : Sx} {x1 : Int32} (hM : MP S b) (hf : fr b ≤ 64) (ho : ∀ f p, pin b f = some p → p < 1024) {e : Nat} (he : e ≤ fr b) (hfull : ∀ i, i < e → pin b i ≠ none) (hst : e = fr b ∨ pin b e = none) : ∀ (d i n : Nat), i + d = e → d < n → X12_bring_12 n x1 (nI i) S = X12_bring_35 x1 (nI e) S := by
  intro d
  induction d with
  | zero =>
    intro i n hi hn
    obtain ⟨n, rfl⟩ : ∃ j, n = j + 1 := ⟨n - 1, by omega⟩
    obtain rfl : i = e := by omega
    show X12_bring_12b (X12_bring_12 n) x1 (nI i) S = _
    unfold X12_bring_12b
    rw [hM.1]
    rcases hst with h | h
    · rw [if_pos (nI_le (by omega) (by omega))]
    · by_cases hie : i = fr b
      · rw [if_pos (nI_le (by omega) (by omega))]
      · rw [if_neg (nI_ge (by omega) (by omega)), lI_n (by omega) (by omega), (hM.2.2.2.2.2.2.2.1 i (by omega)).1, h, if_pos (by decide)]
  | succ d ih =>
    intro i n hi hn
    obtain ⟨n, rfl⟩ : ∃ j, n = j + 1 := ⟨n - 1, by omega⟩
    show X12_bring_12b (X12_bring_12 n) x1 (nI i) S = _
    unfold X12_bring_12b
    rw [hM.1, if_neg (nI_ge (by omega) (by omega)), lI_n (by omega) (by omega), (hM.2.2.2.2.2.2.2.1 i (by omega)).1]
    cases hp : pin b i with
    | none => exact absurd hp (hfull i (by omega))
    | some p =>
      have := ho i p hp
      rw [pg_s, if_neg (nI_pos (n := p) (by omega)), vl_e, nI_1]
      exact ih (i + 1) n (by omega) (by omega)
theorem bAdv_OK {b : Pb} (n : Nat) (h : bOK b) : bOK (bAdv n b) := by
  obtain ⟨a1, a2, a3, a4, a5, -⟩ := bAdv_fr n b
  have hh := bAdv_hd n b h.2.2.1
  unfold bOK at h ⊢
  rw [a1, a2, a5]
  exact ⟨h.1, h.2.1, hh, h.2.2.2⟩
theorem bOut_OK {b : Pb} (h : bOK b) {p : Nat} (hp : pin b (hd b) = some p) : bOK (bOut b) := by
  obtain ⟨o1, o2, o3, o4, o5, o6, o7, o8⟩ := h
  have e : (pin b (hd b)).getD 0 = p := by rw [hp]; rfl
  have hpin : ∀ f q, pin (bOut b) f = some q → f ≠ hd b ∧ pin b f = some q := by
    intro f q hq
    have hq : up (pin b) (hd b) none f = some q := hq
    by_cases hf : f = hd b
    · rw [hf, up_s] at hq; cases hq
    · rw [up_n _ _ hf] at hq; exact ⟨hf, hq⟩
  have hkn : kn (bOut b) = (kn b).filter (fun q => q ≠ p) := by show (kn b).filter _ = _; rw [e]
  refine ⟨o1, o2, Nat.mod_lt _ (by show 0 < fr b; omega), fun f q hq => o4 f q (hpin f q hq).2, fun f g q h1 h2 => o5 f g q (hpin f q h1).2 (hpin g q h2).2, ?_, ?_, fun q hq => ?_⟩
  · rw [hkn]; exact o6.filter _
  · rw [hkn]; exact Nat.le_trans (List.length_filter_le _ _) o7
  · rw [hkn, List.mem_filter] at hq
    obtain ⟨f, hf⟩ := o8 q hq.1
    refine ⟨f, ?_⟩
    show up (pin b) (hd b) none f = some q
    rw [up_n]
    · exact hf
    · rintro rfl
      rw [hp] at hf
      cases hf
      simp at hq
theorem bIn_OK {b : Pb} (h : bOK b) {f p : Nat} (hf : f < fr b) (hp : p < 1024) (hn : pin b f = none) (hnp : ∀ i, pin b i ≠ some p) : bOK (bIn b f p) := by
  obtain ⟨o1, o2, o3, o4, o5, o6, o7, o8⟩ := h
  have hpin : ∀ g q, pin (bIn b f p) g = some q → (g = f ∧ q = p) ∨ (g ≠ f ∧ pin b g = some q) := by
    intro g q hq
    have hq : up (pin b) f (some p) g = some q := hq
    by_cases hg : g = f
    · rw [hg, up_s] at hq; cases hq; exact Or.inl ⟨hg, rfl⟩
    · rw [up_n _ _ hg] at hq; exact Or.inr ⟨hg, hq⟩
  refine ⟨o1, o2, o3, fun g q hq => ?_, fun g g' q h1 h2 => ?_, o6, o7, fun q hq => ?_⟩
  · rcases hpin g q hq with ⟨rfl, rfl⟩ | ⟨-, h⟩
    · exact ⟨hf, hp⟩
    · exact o4 g q h
  · rcases hpin g q h1 with ⟨rfl, rfl⟩ | ⟨-, h⟩ <;> rcases hpin g' _ h2 with ⟨rfl, e⟩ | ⟨-, h'⟩
    · rfl
    · exact absurd h' (hnp _)
    · rw [e] at h; exact absurd h (hnp _)
    · exact o5 g g' q h h'
  · obtain ⟨g, hg⟩ := o8 q hq
    refine ⟨g, ?_⟩
    show up (pin b) f (some p) g = some q
    rw [up_n]
    · exact hg
    · rintro rfl
      rw [hn] at hg
      cases hg
theorem m_bring_free {S : Sx} {b : Pb} {f p : Nat} (hM : MP S b) (hO : bOK b) (hp : p < 1024) (hnp : ∀ i, pin b i ≠ some p) (hf : bFree b f) : ∃ S', X12_bring (nI p) S = rt () S' ∧ MP S' (bIn (bFa b) f p) ∧ Sm mPl S S' := by
  obtain ⟨f1, f2, f3⟩ := hf
  have hM1 := MP_fa hM
  obtain ⟨S', e1, e2, e3⟩ := m_bring_48 (f := f) (p := p) hM1 (by have := hO.2.1; omega) hp f2 hnp
  refine ⟨S', ?_, e2, (Sm.pI (Or.inl (by omega))).trans e3⟩
  unfold X12_bring
  rw [pt_e, hM.2.2.2.1, ← nI_0, m_find_loop (e := f) hM1 hO.2.1 (fun f p h => (hO.2.2.2.1 f p h).2) (Nat.le_of_lt f1) f3 (Or.inr f2) f 0 FU (by omega) (by have := FU_ge; have := hO.2.1; omega)]
  unfold X12_bring_35
  rw [hM1.1, if_neg (fun e => by have := (nI_eq (by have := hO.2.1; omega) (by have := hO.2.1; show fr b < _; omega)).mp e; have f1' : f < fr b := f1; have : f = fr b := this; omega)]
  exact e1
theorem m_bring_full {S : Sx} {b : Pb} {p : Nat} (hM : MP S b) (hO : bOK b) (hp : p < 1024) (hnp : ∀ i, pin b i ≠ some p) (hfull : ∀ i, i < fr b → pin b i ≠ none) : ∃ S', X12_bring (nI p) S = rt () S' ∧ MP S' (bIn (bOut (bAdv 65 (bFa b))) (hd (bAdv 65 (bFa b))) p) ∧ Sm mPl S S' := by
  have hM1 := MP_fa hM
  obtain ⟨S1, l1, l2, l3⟩ := m_leave hM1 (bFa_OK hO) hfull
  obtain ⟨a1, a2, -⟩ := bAdv_fr 65 (bFa b)
  have hh : hd (bAdv 65 (bFa b)) < fr b := bAdv_hd 65 (bFa b) hO.2.2.1
  generalize hb' : bAdv 65 (bFa b) = b' at *
  obtain ⟨S', e1, e2, e3⟩ := m_bring_48 (f := hd b') (p := p) l2 (by have := hO.2.1; omega) hp (up_s _ _ _) (fun i e => by
    have e : up (pin b') (hd b') none i = some p := e
    by_cases hi : i = hd b'
    · rw [hi, up_s] at e; cases e
    · rw [up_n _ _ hi, a2] at e; exact hnp i e)
  refine ⟨S', ?_, e2, ((Sm.pI (Or.inl (by omega))).trans l3).trans e3⟩
  unfold X12_bring
  rw [pt_e, hM.2.2.2.1, ← nI_0, m_find_loop (e := fr b) hM1 hO.2.1 (fun f p h => (hO.2.2.2.1 f p h).2) (Nat.le_refl _) hfull (Or.inl rfl) (fr b) 0 FU (by omega) (by have := FU_ge; have := hO.2.1; omega)]
  unfold X12_bring_35
  rw [hM1.1, if_pos (show nI (fr b) = nI (fr (bFa b)) from rfl), l1, bd_rt, vl_e]
  exact e1
theorem m_known_loop {S : Sx} {l : List Nat} {p : Nat} (hK : KM S l) (hl : ∀ q ∈ l, q < 1024) (hp : p < 1024) {e : Nat} (he : e ≤ l.length) (hne : ∀ i, i < e → l.getD i 0 ≠ p) (hst : e = l.length ∨ l.getD e 0 = p) : ∀ (d i n : Nat), i + d = e → d < n → X12_touch_50 n (nI p) (nI i) S = X12_touch_76 (nI p) (nI e) S := by
  obtain ⟨k1, k2, k3⟩ := hK
  have hlt : ∀ i, i < l.length → l.getD i 0 < 1024 := fun i hi => by
    rw [List.getD_eq_getElem?_getD, List.getElem?_eq_getElem hi]
    exact hl _ (List.getElem_mem hi)
  intro d
  induction d with
  | zero =>
    intro i n hi hn
    obtain ⟨n, rfl⟩ : ∃ j, n = j + 1 := ⟨n - 1, by omega⟩
    obtain rfl : i = e := by omega
    show X12_touch_50b (X12_touch_50 n) (nI p) (nI i) S = _
    unfold X12_touch_50b
    rw [k1]
    by_cases hie : i = l.length
    · rw [if_pos (nI_le (by omega) (by omega))]
    · rw [if_neg (nI_ge (by omega) (by omega)), lI_n (by omega) (by omega), k3 i (by omega), hst.resolve_left hie, if_pos rfl]
  | succ d ih =>
    intro i n hi hn
    obtain ⟨n, rfl⟩ : ∃ j, n = j + 1 := ⟨n - 1, by omega⟩
    show X12_touch_50b (X12_touch_50 n) (nI p) (nI i) S = _
    unfold X12_touch_50b
    rw [k1, if_neg (nI_ge (by omega) (by omega)), lI_n (by omega) (by omega), k3 i (by omega), if_neg (fun e => hne i (by omega) ((nI_eq (by have := hlt i (by omega); omega) (by omega)).mp e)), vl_e, nI_1]
    exact ih (i + 1) n (by omega) (by omega)
theorem idx_of {l : List Nat} {p : Nat} (h : p ∈ l) : ∃ e, e < l.length ∧ l.getD e 0 = p ∧ ∀ i, i < e → l.getD i 0 ≠ p := by
  obtain ⟨i, hi, e⟩ := List.getElem_of_mem h
  obtain ⟨k, ⟨h1, h2⟩, h3⟩ := pk_least (fun i => i < l.length ∧ l.getD i 0 = p) ⟨i, hi, by rw [List.getD_eq_getElem?_getD, List.getElem?_eq_getElem hi]; exact e⟩
  exact ⟨k, h1, h2, fun j hj e => h3 j hj ⟨by omega, e⟩⟩
theorem not_of {l : List Nat} {p : Nat} (h : ¬ p ∈ l) : ∀ i, i < l.length → l.getD i 0 ≠ p := fun i hi e => h (by
  rw [List.getD_eq_getElem?_getD, List.getElem?_eq_getElem hi] at e
  have e : l[i] = p := e
  rw [← e]
  exact List.getElem_mem hi)
theorem getD_app (l : List Nat) (x i : Nat) : (l ++ [x]).getD i 0 = if i < l.length then l.getD i 0 else if i = l.length then x else 0 := by
  rw [List.getD_eq_getElem?_getD]
  split
  · rename_i h
    rw [List.getElem?_append_left h, List.getD_eq_getElem?_getD]
  · rename_i h
    rw [List.getElem?_append_right (by omega)]
    split
    · rename_i h2
      subst h2
      simp
    · rw [List.getElem?_eq_none (by simp; omega)]
      rfl
theorem m_known_add {S : Sx} {l : List Nat} {p : Nat} (hK : KM S l) (hl : l.length < 4) : ∃ S', X12_touch_109 (nI p) S = rt () S' ∧ KM S' (l ++ [p]) ∧ Sm (fun c j => c = 180 ∨ (c = 167 ∧ j = 25)) S S' := by
  obtain ⟨k1, k2, k3⟩ := hK
  refine ⟨pI (pI S 180 l.length (nI p)) 167 25 (nI (l.length + 1)), ?_, ⟨?_, ?_, fun i hi => ?_⟩, (Sm.pI (Or.inl rfl)).trans (Sm.pI (Or.inr ⟨rfl, rfl⟩))⟩
  · unfold X12_touch_109
    rw [k1, sI_n (by omega) (by omega), pt_e]
    have e : gI (pI S 180 l.length (nI p)) 167 25 = nI l.length := by simp [gI_pI, k1]
    rw [e, nI_1]
  · simp [gI_pI]
  · rw [List.length_append]; show l.length + 1 ≤ 4; omega
  · rw [getD_app]
    rw [List.length_append] at hi
    have hi : i < l.length + 1 := hi
    simp [gI_pI]
    by_cases h : i = l.length
    · rw [if_pos h, if_neg (by omega), if_pos h]
    · rw [if_neg h, if_pos (by omega)]
      exact k3 i (by omega)
theorem bHit_OK {b : Pb} (h : bOK b) {f p : Nat} {w : Bool} (hp : pin b f = some p) : bOK (bHit b f p w) := by
  obtain ⟨o1, o2, o3, o4, o5, o6, o7, o8⟩ := h
  refine ⟨o1, o2, o3, o4, o5, ?_⟩
  show (if p ∈ kn b then kn b else (if (kn b).length = 4 then (kn b).tail else kn b) ++ [p]).Nodup ∧ (if p ∈ kn b then kn b else (if (kn b).length = 4 then (kn b).tail else kn b) ++ [p]).length ≤ 4 ∧ ∀ q ∈ (if p ∈ kn b then kn b else (if (kn b).length = 4 then (kn b).tail else kn b) ++ [p]), ∃ f, pin b f = some q
  by_cases hk : p ∈ kn b
  · rw [if_pos hk]; exact ⟨o6, o7, o8⟩
  · rw [if_neg hk]
    have key : ∀ l : List Nat, l.Nodup → l.length < 4 → (∀ q ∈ l, q ∈ kn b) → (l ++ [p]).Nodup ∧ (l ++ [p]).length ≤ 4 ∧ ∀ q ∈ l ++ [p], ∃ f, pin b f = some q := by
      intro l h1 h2 h3
      refine ⟨?_, by rw [List.length_append]; show l.length + 1 ≤ 4; omega, fun q hq => ?_⟩
      · rw [List.nodup_append]
        refine ⟨h1, by simp, fun a ha c hc => ?_⟩
        rw [List.mem_singleton] at hc
        rintro rfl
        rw [hc] at ha
        exact hk (h3 _ ha)
      · rw [List.mem_append, List.mem_singleton] at hq
        rcases hq with hq | rfl
        · exact o8 q (h3 q hq)
        · exact ⟨f, hp⟩
    by_cases h4 : (kn b).length = 4
    · rw [if_pos h4]
      refine key _ (o6.tail) (by rw [List.length_tail]; omega) (fun q hq => List.mem_of_mem_tail hq)
    · rw [if_neg h4]
      exact key _ o6 (by omega) (fun q hq => hq)
theorem m_touch_19 {S : Sx} {b : Pb} {f p : Nat} {w : Bool} (hM : MP S b) (hO : bOK b) (hp : pin b f = some p) : ∃ S', X12_touch_19 (b1 w) (nI p) S = rt () S' ∧ MP S' (bHit b f p w) ∧ Sm mPl S S' := by
  obtain ⟨o1, o2, o3, o4, o5, o6, o7, o8⟩ := id hO
  obtain ⟨h1, h2, hK, h4, h5, h6, h7, h8, h9⟩ := id hM
  obtain ⟨hf, hp2⟩ := o4 f p hp
  have hf64 : f < 64 := by omega
  generalize hS2 : (if w then pI (pI S 178 f 1) 179 f 1 else pI S 178 f 1) = S2
  have g2 : ∀ c j, gI S2 c j = if c = 178 ∧ j = f then 1 else if w = true ∧ c = 179 ∧ j = f then 1 else gI S c j := by
    intro c j
    rw [← hS2]
    cases w
    · simp [gI_pI]
    · simp only [if_true, gI_pI, true_and]
      by_cases hc : c = 178 ∧ j = f
      · rw [if_pos hc, if_neg (by omega), if_pos hc]
      · rw [if_neg hc, if_neg hc]
  have hsm2 : Sm mPl S S2 := by
    rw [← hS2]
    cases w
    · exact Sm.pI (Or.inr (by omega))
    · exact (Sm.pI (Or.inr (by omega))).trans (Sm.pI (Or.inr (by omega)))
  have hstep : X12_touch_19 (b1 w) (nI p) S = X12_touch_50 FU (nI p) (nI 0) S2 := by
    unfold X12_touch_19
    rw [lI_n hp2 (by omega), (h9 p hp2).1 f hp, vl_e, sI_n hf64 (by omega), nz_1, ← hS2]
    cases w
    · rw [if_pos b1_f]; rfl
    · rw [if_neg (by decide), sI_n hf64 (by omega)]; rfl
  have hK2 : KM S2 (kn b) := ⟨by rw [g2]; simp; exact hK.1, hK.2.1, fun i hi => by rw [g2]; simp; exact hK.2.2 i hi⟩
  have hl : ∀ q ∈ kn b, q < 1024 := fun q hq => by obtain ⟨g, hg⟩ := o8 q hq; exact (o4 g q hg).2
  have fin : ∀ (S' : Sx) (l : List Nat) (m : Int32), KM S' l → gI S' 167 29 = m → (∀ c j, ¬ (c = 180 ∨ (c = 167 ∧ (j = 25 ∨ j = 29))) → gI S' c j = gI S2 c j) → l = (kn (bHit b f p w)) → m = mi (bHit b f p w) → MP S' (bHit b f p w) := by
    intro S' l m k1 k2 k3 e1 e2
    subst e1 e2
    refine ⟨?_, ?_, k1, ?_, ?_, ?_, k2, fun g hg => ?_, fun q hq => ?_⟩
    · rw [k3 _ _ (by omega), g2]; simp; exact h1
    · rw [k3 _ _ (by omega), g2]; simp; exact h2
    · rw [k3 _ _ (by omega), g2]; simp; exact h4
    · rw [k3 _ _ (by omega), g2]; simp; exact h5
    · rw [k3 _ _ (by omega), g2]; simp; exact h6
    · rw [k3 _ _ (by omega), k3 _ _ (by omega), k3 _ _ (by omega), g2, g2, g2]
      simp
      refine ⟨(h8 g hg).1, ?_, ?_⟩
      · show _ = b1 (up (tch b) f true g)
        by_cases hge : g = f
        · rw [if_pos hge, hge, up_s]; rfl
        · rw [if_neg hge, up_n _ _ hge]; exact (h8 g hg).2.1
      · show _ = b1 ((if w then up (wrt b) f true else wrt b) g)
        cases w
        · simp; exact (h8 g hg).2.2
        · simp
          by_cases hge : g = f
          · rw [if_pos hge, hge, up_s]; rfl
          · rw [if_neg hge, up_n _ _ hge]; exact (h8 g hg).2.2
    · rw [k3 _ _ (by omega), k3 _ _ (by omega), g2, g2]
      simp
      exact h9 q hq
  rw [hstep]
  by_cases hk : p ∈ kn b
  · obtain ⟨e, e1, e2, e3⟩ := idx_of hk
    rw [m_known_loop hK2 hl hp2 (Nat.le_of_lt e1) e3 (Or.inr e2) e 0 FU (by omega) (by have := FU_ge; omega)]
    unfold X12_touch_76
    rw [hK2.1, if_neg (nI_ge e1 (by omega))]
    refine ⟨S2, rfl, fin S2 (kn b) (mi b) hK2 (by rw [g2]; simp; exact h7) (fun _ _ _ => rfl) ?_ ?_, hsm2⟩
    · show kn b = if p ∈ kn b then _ else _
      rw [if_pos hk]
    · show mi b = if p ∈ kn b then _ else _
      rw [if_pos hk]
  · rw [m_known_loop hK2 hl hp2 (Nat.le_refl _) (not_of hk) (Or.inl rfl) (kn b).length 0 FU (by omega) (by have := FU_ge; omega)]
    unfold X12_touch_76
    have hmi : gI S2 167 29 = mi b := by rw [g2]; simp; exact h7
    rw [hK2.1, if_pos (nI_le (Nat.le_refl _) (by omega)), pt_e, hmi]
    have hK3 : KM (pI S2 167 29 (mi b + 1)) (kn b) := ⟨by simp [gI_pI, hK2.1], hK2.2.1, fun i hi => by simp [gI_pI, hK2.2.2 i hi]⟩
    have hkn : kn (bHit b f p w) = (if (kn b).length = 4 then (kn b).tail else kn b) ++ [p] := by
      show (if p ∈ kn b then _ else _) = _
      rw [if_neg hk]
    have hmi2 : mi (bHit b f p w) = mi b + 1 := by
      show (if p ∈ kn b then _ else _) = _
      rw [if_neg hk]
    rw [hK3.1]
    by_cases h4 : (kn b).length = 4
    · rw [if_pos (by rw [h4]; rfl)]
      obtain ⟨S4, a1, a2, a3⟩ := m_forget (k := 0) hK3 (by omega)
      have ht : (kn b).eraseIdx 0 = (kn b).tail := List.eraseIdx_zero
      rw [ht] at a2
      obtain ⟨S5, c1, c2, c3⟩ := m_known_add (p := p) a2 (by rw [List.length_tail]; omega)
      rw [nI_0] at a1
      rw [a1, bd_rt, c1]
      refine ⟨S5, rfl, fin S5 _ (mi b + 1) c2 (by rw [c3.I (by decide), a3.I (by decide)]; simp [gI_pI]) (fun c j q => by rw [c3.I (by omega), a3.I (by omega), gI_pI, if_neg (by omega)]) (by rw [hkn, if_pos h4]) hmi2.symm, ?_⟩
      refine ((hsm2.trans (Sm.pI (Or.inl (by omega)))).trans (a3.mono fun c j q => ?_)).trans (c3.mono fun c j q => ?_) <;> (unfold mPl; omega)
    · rw [if_neg (fun e => h4 ((nI_eq (by omega) (by omega)).mp (e.trans (rfl : (4 : Int32) = nI 4))))]
      obtain ⟨S5, c1, c2, c3⟩ := m_known_add (p := p) hK3 (by omega)
      rw [c1]
      refine ⟨S5, rfl, fin S5 _ (mi b + 1) c2 (by rw [c3.I (by decide)]; simp [gI_pI]) (fun c j q => by rw [c3.I (by omega), gI_pI, if_neg (by omega)]) (by rw [hkn, if_neg h4]) hmi2.symm, ?_⟩
      refine (hsm2.trans (Sm.pI (Or.inl (by omega)))).trans (c3.mono fun c j q => ?_)
      unfold mPl; omega
/-- M's touch -/
theorem m_touch {S : Sx} {b b' : Pb} {a f : Nat} {w : Bool} (hM : MP S b) (hO : bOK b) (ha : a < 65536) (hT : bTouch b (a / 64) w f b') : ∃ S', X12_touch (nI a) (b1 w) S = rt () S' ∧ MP S' b' ∧ Sm mPl S S' := by
  have hp : a / 64 < 1024 := by omega
  have e64 : nI a / (64 : Int32) = nI (a / 64) := pk_div (by omega) (by decide) (by decide)
  obtain ⟨h1, h2, hK, h4, h5, h6, h7, h8, h9⟩ := id hM
  unfold X12_touch
  rw [vl_e, e64, lI_n hp (by omega)]
  rcases hT with ⟨t1, t2, rfl⟩ | ⟨t1, t2, rfl⟩ | ⟨t1, t2, rfl, rfl⟩
  · rw [(h9 _ hp).1 f t1, if_pos (nI_pos' (by have := hO.2.1; omega))]
    exact m_touch_19 hM hO t1
  · rw [((h9 _ hp).2 t1).1, if_neg (by decide)]
    obtain ⟨S1, a1, a2, a3⟩ := m_bring_free hM hO hp t1 t2
    rw [a1, bd_rt]
    obtain ⟨S2, c1, c2, c3⟩ := m_touch_19 (f := f) (p := a / 64) (w := w) a2 (bIn_OK (bFa_OK hO) t2.1 hp t2.2.1 t1) (up_s _ _ _)
    exact ⟨S2, c1, c2, a3.trans c3⟩
  · rw [((h9 _ hp).2 t1).1, if_neg (by decide)]
    obtain ⟨S1, a1, a2, a3⟩ := m_bring_full hM hO hp t1 t2
    rw [a1, bd_rt]
    have hA := bAdv_OK 65 (bFa_OK hO)
    obtain ⟨q1, q2, -⟩ := bAdv_fr 65 (bFa b)
    obtain ⟨q, hq⟩ : ∃ q, pin (bAdv 65 (bFa b)) (hd (bAdv 65 (bFa b))) = some q := by
      cases hc : pin (bAdv 65 (bFa b)) (hd (bAdv 65 (bFa b))) with
      | none => rw [q2] at hc; exact absurd hc (t2 _ (bAdv_hd 65 (bFa b) hO.2.2.1))
      | some q => exact ⟨q, rfl⟩
    obtain ⟨S2, c1, c2, c3⟩ := m_touch_19 (f := hd (bAdv 65 (bFa b))) (p := a / 64) (w := w) a2 (bIn_OK (bOut_OK hA hq) hA.2.2.1 hp (up_s _ _ _) (fun i e => by
      have e : up (pin (bAdv 65 (bFa b))) (hd (bAdv 65 (bFa b))) none i = some (a / 64) := e
      by_cases hi : i = hd (bAdv 65 (bFa b))
      · rw [hi, up_s] at e; cases e
      · rw [up_n _ _ hi, q2] at e; exact t1 i e)) (up_s _ _ _)
    exact ⟨S2, c1, c2, a3.trans c3⟩
theorem bTouch_OK {b b' : Pb} {p f : Nat} {w : Bool} (hO : bOK b) (hp : p < 1024) (hT : bTouch b p w f b') : bOK b' ∧ pin b' f = some p ∧ f < fr b' ∧ fr b' = fr b := by
  rcases hT with ⟨t1, t2, rfl⟩ | ⟨t1, t2, rfl⟩ | ⟨t1, t2, rfl, rfl⟩
  · exact ⟨bHit_OK hO t1, t1, t2, rfl⟩
  · exact ⟨bHit_OK (bIn_OK (bFa_OK hO) t2.1 hp t2.2.1 t1) (up_s _ _ _), up_s _ _ _, t2.1, rfl⟩
  · have hA := bAdv_OK 65 (bFa_OK hO)
    obtain ⟨q1, q2, -⟩ := bAdv_fr 65 (bFa b)
    obtain ⟨q, hq⟩ : ∃ q, pin (bAdv 65 (bFa b)) (hd (bAdv 65 (bFa b))) = some q := by
      cases hc : pin (bAdv 65 (bFa b)) (hd (bAdv 65 (bFa b))) with
      | none => rw [q2] at hc; exact absurd hc (t2 _ (bAdv_hd 65 (bFa b) hO.2.2.1))
      | some q => exact ⟨q, rfl⟩
    have hI := bIn_OK (bOut_OK hA hq) hA.2.2.1 hp (up_s _ _ _) (fun i e => by
      have e : up (pin (bAdv 65 (bFa b))) (hd (bAdv 65 (bFa b))) none i = some p := e
      by_cases hi : i = hd (bAdv 65 (bFa b))
      · rw [hi, up_s] at e; cases e
      · rw [up_n _ _ hi, q2] at e; exact t1 i e)
    exact ⟨bHit_OK hI (up_s _ _ _), up_s _ _ _, hA.2.2.1, q1⟩
end
section
set_option maxRecDepth 100000
/-! ===== X's cache ===== -/
theorem getD_eraseP {α : Type} (l : List α) (k i : Nat) (x : α) : (l.eraseIdx k).getD i x = if i < k then l.getD i x else l.getD (i + 1) x := by
  rw [List.getD_eq_getElem?_getD, List.getElem?_eraseIdx]
  split <;> rw [List.getD_eq_getElem?_getD]
theorem getD_in {α : Type} {l : List α} {i : Nat} (h : i < l.length) (x : α) : l.getD i x = l[i] := by
  rw [List.getD_eq_getElem?_getD, List.getElem?_eq_getElem h]
  rfl
theorem getD_mem {α : Type} {l : List α} {i : Nat} (h : i < l.length) (x : α) : l.getD i x ∈ l := by
  rw [getD_in h]
  exact List.getElem_mem h
theorem getD_appP {α : Type} (l : List α) (x d : α) (i : Nat) : (l ++ [x]).getD i d = if i < l.length then l.getD i d else if i = l.length then x else d := by
  rw [List.getD_eq_getElem?_getD]
  split
  · rename_i h
    rw [List.getElem?_append_left h, List.getD_eq_getElem?_getD]
  · rename_i h
    rw [List.getElem?_append_right (by omega)]
    split
    · rename_i h2
      subst h2
      simp
    · rw [List.getElem?_eq_none (by simp; omega)]
      rfl
/-- the frames' cells -/
def XF (S : Sx) : Prop := gK S 4 = 3 ∧ gN S 4 = 65536 ∧ ∀ f, f < 64 → gR S 3 f = some (10 + 2 * f) ∧ gK S (10 + 2 * f) = 10 ∧ gR S (10 + 2 * f) 0 = some (11 + 2 * f) ∧ gK S (11 + 2 * f) = 3 ∧ gN S (11 + 2 * f) = 64
theorem XF.sm {P : Nat → Nat → Prop} {S S' : Sx} (h : XF S) (hs : Sm P S S') (hp : ∀ f, f < 64 → ¬ P 3 f ∧ ¬ P (10 + 2 * f) 0) : XF S' := by
  obtain ⟨h1, h2, h3⟩ := h
  refine ⟨by rw [hs.K]; exact h1, by rw [hs.N]; exact h2, fun f hf => ?_⟩
  rw [hs.R (hp f hf).1, hs.R (hp f hf).2, hs.K, hs.K, hs.N]
  exact h3 f hf
def KX (S : Sx) (l : List (Nat × Nat)) : Prop := gI S 7 2 = nI l.length ∧ l.length ≤ 4 ∧ (∀ q ∈ l, q.1 < 1024 ∧ q.2 < 64) ∧ ∀ i, i < l.length → gI S 8 i = nI (l.getD i (0, 0)).1 ∧ gR S 9 i = some (10 + 2 * (l.getD i (0, 0)).2)
def kPl (c k : Nat) : Prop := c = 8 ∨ c = 9 ∨ (c = 7 ∧ k = 2)
theorem x_cut_loop {m : Nat} (hm : m < 4) : ∀ (d i n : Nat) (S : Sx), i + d = m → d < n → gI S 7 2 = nI m → (∀ j, i < j → j ≤ m → ∃ a, gR S 9 j = some a ∧ gK S a = 10) → ∃ S', X3_cut_12 n (nI i) S = rt () S' ∧ (∀ j, i ≤ j → j < m → gI S' 8 j = gI S 8 (j + 1) ∧ gR S' 9 j = gR S 9 (j + 1)) ∧ (∀ j, j < i ∨ m ≤ j → gI S' 8 j = gI S 8 j ∧ gR S' 9 j = gR S 9 j) ∧ Sm (fun c _ => c = 8 ∨ c = 9) S S' := by
  intro d
  induction d with
  | zero =>
    intro i n S hi hn hk _
    obtain ⟨n, rfl⟩ : ∃ j, n = j + 1 := ⟨n - 1, by omega⟩
    refine ⟨S, ?_, fun j h1 h2 => by omega, fun j _ => ⟨rfl, rfl⟩, Sm.rfl' S⟩
    show X3_cut_12b (X3_cut_12 n) (nI i) S = _
    unfold X3_cut_12b
    rw [hk, if_pos (nI_le (by omega) (by omega))]
  | succ d ih =>
    intro i n S hi hn hk hr
    obtain ⟨n, rfl⟩ : ∃ j, n = j + 1 := ⟨n - 1, by omega⟩
    obtain ⟨a, ha, ha2⟩ := hr (i + 1) (by omega) (by omega)
    obtain ⟨S', e, h1, h2, h3⟩ := ih (i + 1) n (pR (pI S 8 i (gI S 8 (i + 1))) 9 i (some a)) (by omega) (by omega) (by simp [gI_pI, gI_pR, hk]) (fun j h1 h2 => by
      obtain ⟨c, hc, hc2⟩ := hr j (by omega) h2
      exact ⟨c, by rw [gR_pR, if_neg (by omega)]; exact hc, hc2⟩)
    have hsm : Sm (fun c _ => c = 8 ∨ c = 9) S (pR (pI S 8 i (gI S 8 (i + 1))) 9 i (some a)) := (Sm.pI (P := fun c _ => c = 8 ∨ c = 9) (Or.inl rfl)).trans (Sm.pR (P := fun c _ => c = 8 ∨ c = 9) (Or.inr rfl))
    refine ⟨S', ?_, fun j h4 h5 => ?_, fun j h4 => ?_, hsm.trans h3⟩
    · show X3_cut_12b (X3_cut_12 n) (nI i) S = _
      unfold X3_cut_12b
      rw [hk, if_neg (nI_ge (by omega) (by omega)), nI_1, lI_n (by omega) (by omega), sI_n (by omega) (by omega), lR_n (by omega) (by omega)]
      rw [show gR (pI S 8 i (gI S 8 (i + 1))) 9 (i + 1) = some a from ha, dOn_s (S := pI S 8 i (gI S 8 (i + 1))) ha2, sR_n (by omega) (by omega), vl_e]
      exact e
    · by_cases hj : j = i
      · subst hj
        obtain ⟨q1, q2⟩ := h2 j (by omega)
        rw [q1, q2, gI_pR, gI_pI, if_pos ⟨rfl, rfl⟩, gR_pR, if_pos ⟨rfl, rfl⟩]
        exact ⟨rfl, ha.symm⟩
      · obtain ⟨q1, q2⟩ := h1 j (by omega) h5
        rw [q1, q2, gI_pR, gI_pI, if_neg (by omega), gR_pR, if_neg (by omega)]
        exact ⟨rfl, rfl⟩
    · obtain ⟨q1, q2⟩ := h2 j (by omega)
      rw [q1, q2, gI_pR, gI_pI, if_neg (by omega), gR_pR, if_neg (by omega)]
      exact ⟨rfl, rfl⟩
theorem x_cut {S : Sx} {l : List (Nat × Nat)} {k : Nat} (h : KX S l) (hF : XF S) (hk : k < l.length) : ∃ S', X3_cut (nI k) S = rt () S' ∧ KX S' (l.eraseIdx k) ∧ Sm kPl S S' := by
  obtain ⟨h1, h2, h2a, h3⟩ := h
  have hl : l.length - 1 + 1 = l.length := by omega
  have e1 : nI l.length - 1 = nI (l.length - 1) := by rw [← hl]; exact nI_pred _
  obtain ⟨S', e, a1, a2, a3⟩ := x_cut_loop (m := l.length - 1) (by omega) (l.length - 1 - k) k FU (pI S 7 2 (nI (l.length - 1))) (by omega) (by have := FU_ge; omega) (by simp [gI_pI]) (fun j q1 q2 => ⟨_, (h3 j (by omega)).2, (hF.2.2 _ (h2a _ (getD_mem (by omega) _)).2).2.1⟩)
  refine ⟨S', ?_, ⟨?_, ?_, fun q hq => h2a q (List.mem_of_mem_eraseIdx hq), fun i hi => ?_⟩, (Sm.pI (P := kPl) (Or.inr (Or.inr ⟨rfl, rfl⟩))).trans (a3.mono fun c j q => by unfold kPl; omega)⟩
  · unfold X3_cut
    rw [pt_e, vl_e, h1, e1]
    exact e
  · rw [a3.I (by decide), gI_pI, if_pos ⟨rfl, rfl⟩, List.length_eraseIdx, if_pos hk]
  · rw [List.length_eraseIdx, if_pos hk]; omega
  · rw [List.length_eraseIdx, if_pos hk] at hi
    rw [getD_eraseP]
    split
    · obtain ⟨q1, q2⟩ := a2 i (Or.inl (by assumption))
      rw [q1, q2, gI_pI, if_neg (by omega)]
      exact h3 i (by omega)
    · obtain ⟨q1, q2⟩ := a1 i (by omega) hi
      rw [q1, q2, gI_pI, if_neg (by omega)]
      exact h3 (i + 1) (by omega)
theorem x_find_loop {S : Sx} {l : List (Nat × Nat)} {p : Nat} (hK : KX S l) (hp : p < 1024) {e : Nat} (he : e ≤ l.length) (hne : ∀ i, i < e → (l.getD i (0, 0)).1 ≠ p) (hst : e = l.length ∨ (l.getD e (0, 0)).1 = p) : ∀ (d i n : Nat), i + d = e → d < n → X3_find_2 n (nI p) (nI i) S = rt (if e = l.length then none else some (10 + 2 * (l.getD e (0, 0)).2)) S := by
  obtain ⟨k1, k2, k2a, k3⟩ := hK
  have hlt : ∀ i, i < l.length → (l.getD i (0, 0)).1 < 1024 := fun i hi => (k2a _ (getD_mem hi _)).1
  intro d
  induction d with
  | zero =>
    intro i n hi hn
    obtain ⟨n, rfl⟩ : ∃ j, n = j + 1 := ⟨n - 1, by omega⟩
    obtain rfl : i = e := by omega
    show X3_find_2b (X3_find_2 n) (nI p) (nI i) S = _
    unfold X3_find_2b
    rw [k1]
    by_cases hie : i = l.length
    · rw [if_pos (nI_le (by omega) (by omega)), if_pos hie]
    · obtain ⟨q1, q2⟩ := k3 i (by omega)
      rw [if_neg (nI_ge (by omega) (by omega)), lI_n (by omega) (by omega), q1, hst.resolve_left hie, if_pos rfl, lR_n (by omega) (by omega), q2, if_neg hie]
  | succ d ih =>
    intro i n hi hn
    obtain ⟨n, rfl⟩ : ∃ j, n = j + 1 := ⟨n - 1, by omega⟩
    show X3_find_2b (X3_find_2 n) (nI p) (nI i) S = _
    unfold X3_find_2b
    rw [k1, if_neg (nI_ge (by omega) (by omega)), lI_n (by omega) (by omega), (k3 i (by omega)).1, if_neg (fun e => hne i (by omega) ((nI_eq (by have := hlt i (by omega); omega) (by omega)).mp e)), vl_e, nI_1]
    exact ih (i + 1) n (by omega) (by omega)
theorem x_drop_loop {p : Nat} (hp : p < 1024) : ∀ (d n : Nat) (S : Sx) (l : List (Nat × Nat)), d ≤ l.length → d < n → KX S l → XF S → ∃ S', X3_drop_7 n (nI p) (nI d - 1) S = rt () S' ∧ KX S' ((l.take d).filter (fun q => q.1 ≠ p) ++ l.drop d) ∧ Sm kPl S S' := by
  intro d
  induction d with
  | zero =>
    intro n S l hd hn hK hF
    obtain ⟨n, rfl⟩ : ∃ j, n = j + 1 := ⟨n - 1, by omega⟩
    refine ⟨S, ?_, ?_, Sm.rfl' S⟩
    · show X3_drop_7b (X3_drop_7 n) (nI p) (nI 0 - 1) S = _
      unfold X3_drop_7b
      rw [if_pos (by decide)]
    · simp only [List.take_zero, List.filter_nil, List.nil_append, List.drop_zero]
      exact hK
  | succ d ih =>
    intro n S l hd hn hK hF
    obtain ⟨n, rfl⟩ : ∃ j, n = j + 1 := ⟨n - 1, by omega⟩
    have hdl : d < l.length := by omega
    have hv : gI S 8 d = nI (l.getD d (0, 0)).1 := (hK.2.2.2 d hdl).1
    rw [getD_in hdl] at hv
    have hlt : l[d].1 < 1024 := (hK.2.2.1 _ (List.getElem_mem hdl)).1
    have htk : l.take (d + 1) = l.take d ++ [l[d]] := (List.take_append_getElem hdl).symm
    have hstep : X3_drop_7 (n + 1) (nI p) (nI (d + 1) - 1) S = if nI l[d].1 = nI p then bd (X3_cut (nI d) S) (fun _ S1 => X3_drop_7 n (nI p) (nI d - 1) S1) else X3_drop_7 n (nI p) (nI d - 1) S := by
      show X3_drop_7b (X3_drop_7 n) (nI p) (nI (d + 1) - 1) S = _
      unfold X3_drop_7b
      rw [nI_m1, nI_pred, if_neg (nI_pos (by have := hK.2.1; omega)), lI_n (by have := hK.2.1; omega) (by omega), hv]
      rfl
    by_cases hpe : l[d].1 = p
    · obtain ⟨S1, f1, f2, f3⟩ := x_cut hK hF hdl
      have hF1 : XF S1 := hF.sm f3 (fun f hf => ⟨by unfold kPl; omega, by unfold kPl; omega⟩)
      have hed : l.eraseIdx d = l.take d ++ l.drop (d + 1) := List.eraseIdx_eq_take_drop_succ l d
      have hlen : (l.take d).length = d := by rw [List.length_take]; omega
      obtain ⟨S', g1, g2, g4⟩ := ih n S1 (l.eraseIdx d) (by rw [List.length_eraseIdx, if_pos hdl]; omega) (by omega) f2 hF1
      refine ⟨S', ?_, ?_, f3.trans g4⟩
      · rw [hstep, if_pos (by rw [hpe]), f1, bd_rt]
        exact g1
      · rw [hed] at g2
        rw [htk, List.filter_append]
        have e3 : List.filter (fun q => decide (q.1 ≠ p)) [l[d]] = [] := by simp [hpe]
        rw [e3, List.append_nil]
        rwa [List.take_left' hlen, List.drop_left' hlen] at g2
    · obtain ⟨S', g1, g2, g4⟩ := ih n S l (by omega) (by omega) hK hF
      refine ⟨S', ?_, ?_, g4⟩
      · rw [hstep, if_neg (fun e => hpe ((nI_eq (by omega) (by omega)).mp e))]
        exact g1
      · rw [htk, List.filter_append]
        have e3 : List.filter (fun q => decide (q.1 ≠ p)) [l[d]] = [l[d]] := by simp [hpe]
        rw [e3, List.append_assoc, List.singleton_append, ← List.drop_eq_getElem_cons hdl]
        exact g2
theorem x_drop {S : Sx} {l : List (Nat × Nat)} {p : Nat} (hp : p < 1024) (hK : KX S l) (hF : XF S) : ∃ S', X3_drop (nI p) S = rt () S' ∧ KX S' (l.filter (fun q => q.1 ≠ p)) ∧ Sm kPl S S' := by
  obtain ⟨S', e1, e2, e3⟩ := x_drop_loop hp l.length FU S l (Nat.le_refl _) (by have := FU_ge; have := hK.2.1; omega) hK hF
  rw [List.take_length, List.drop_length, List.append_nil] at e2
  refine ⟨S', ?_, e2, e3⟩
  unfold X3_drop
  rw [vl_e, hK.1]
  exact e1
theorem x_add_13 {S : Sx} {l : List (Nat × Nat)} {p f : Nat} (hK : KX S l) (hF : XF S) (hl : l.length < 4) (hp : p < 1024) (hf : f < 64) : ∃ S', X3_add_13 (nI p) (some (10 + 2 * f)) S = rt () S' ∧ KX S' (l ++ [(p, f)]) ∧ Sm kPl S S' := by
  obtain ⟨k1, k2, k2a, k3⟩ := hK
  refine ⟨pI (pR (pI S 8 l.length (nI p)) 9 l.length (some (10 + 2 * f))) 7 2 (nI (l.length + 1)), ?_, ⟨?_, ?_, fun q hq => ?_, fun i hi => ?_⟩, ((Sm.pI (P := kPl) (Or.inl rfl)).trans (Sm.pR (P := kPl) (Or.inr (Or.inl rfl)))).trans (Sm.pI (P := kPl) (Or.inr (Or.inr ⟨rfl, rfl⟩)))⟩
  · unfold X3_add_13
    have e0 : gI (pI S 8 l.length (nI p)) 7 2 = nI l.length := by simp [gI_pI, k1]
    have e : gI (pR (pI S 8 l.length (nI p)) 9 l.length (some (10 + 2 * f))) 7 2 = nI l.length := by simp [gI_pR, gI_pI, k1]
    rw [k1, sI_n (by omega) (by omega), dOn_s (S := pI S 8 l.length (nI p)) (hF.2.2 f hf).2.1, e0, sR_n (by omega) (by omega), pt_e, e, nI_1]
  · simp [gI_pI]
  · rw [List.length_append]; show l.length + 1 ≤ 4; omega
  · rw [List.mem_append, List.mem_singleton] at hq
    rcases hq with hq | rfl
    · exact k2a q hq
    · exact ⟨hp, hf⟩
  · rw [getD_appP]
    rw [List.length_append] at hi
    have hi : i < l.length + 1 := hi
    by_cases h : i = l.length
    · subst h
      simp [gI_pI, gI_pR, gR_pI, gR_pR]
    · have hlt : i < l.length := by omega
      have := k3 i hlt
      simp [gI_pI, gI_pR, gR_pI, gR_pR, h, hlt] at this ⊢
      exact this
theorem x_add {S : Sx} {l : List (Nat × Nat)} {p f : Nat} (hK : KX S l) (hF : XF S) (hp : p < 1024) (hf : f < 64) : ∃ S', X3_add (nI p) (some (10 + 2 * f)) S = rt () S' ∧ KX S' ((if l.length = 4 then l.tail else l) ++ [(p, f)]) ∧ Sm kPl S S' := by
  unfold X3_add
  rw [hK.1]
  by_cases h4 : l.length = 4
  · rw [if_pos (by rw [h4]; rfl), if_pos h4]
    obtain ⟨S1, a1, a2, a3⟩ := x_cut (k := 0) hK hF (by omega)
    have hF1 : XF S1 := hF.sm a3 (fun f hf => ⟨by unfold kPl; omega, by unfold kPl; omega⟩)
    rw [List.eraseIdx_zero] at a2
    obtain ⟨S2, c1, c2, c3⟩ := x_add_13 a2 hF1 (by rw [List.length_tail]; omega) hp hf
    rw [nI_0] at a1
    rw [a1, bd_rt, c1]
    exact ⟨S2, rfl, c2, a3.trans c3⟩
  · rw [if_neg (fun e => h4 ((nI_eq (by have := hK.2.1; omega) (by omega)).mp (e.trans (rfl : (4 : Int32) = nI 4)))), if_neg h4]
    exact x_add_13 hK hF (by have := hK.2.1; omega) hp hf
/-! ===== X's pages ===== -/
def by8 (v : Nat) : Int32 := (nI v).toInt8.toInt32
def XB (S : Sx) (b : Pb) : Prop :=
  gI S 2 1 = nI (fr b) ∧ gI S 2 2 = nI (hd b) ∧ gI S 2 7 = fa b ∧ gI S 2 8 = re b ∧ gI S 2 9 = wr b ∧ gI S 2 10 = mi b ∧
  (∀ f, f < 64 → gI S (10 + 2 * f) 1 = pg (pin b f) ∧ (pin b f ≠ none → gI S (10 + 2 * f) 2 = b1 (tch b f) ∧ gI S (10 + 2 * f) 3 = b1 (wrt b f))) ∧
  ∀ p, p < 1024 → (∀ f, pin b f = some p → gR S 6 p = some (10 + 2 * f)) ∧ ((∀ f, pin b f ≠ some p) → gR S 6 p = none ∧ gI S 5 p = b1 (ot b p))
def XC (S : Sx) (b : Pb) : Prop := ∃ l, KX S l ∧ l.map (fun q => q.1) = kn b ∧ ∀ q ∈ l, pin b q.2 = some q.1
def XM (S : Sx) (b : Pb) (mem : Nat → Nat) : Prop := ∀ p, p < 1024 → (∀ f, pin b f = some p → ∀ k, k < 64 → gI S (11 + 2 * f) k = by8 (mem (64 * p + k))) ∧ ((∀ f, pin b f ≠ some p) → ∀ k, k < 64 → gI S 4 (64 * p + k) = by8 (mem (64 * p + k)))
def XP (S : Sx) (b : Pb) (mem : Nat → Nat) : Prop := XF S ∧ XB S b ∧ XC S b ∧ XM S b mem
/-- the places of X's pages -/
def xPl (c _ : Nat) : Prop := 2 ≤ c ∧ c ≤ 137
theorem XB.sm {P : Nat → Nat → Prop} {S S' : Sx} {b : Pb} (h : XB S b) (hs : Sm P S S') (hp : ∀ c k, P c k → ¬ (c = 2 ∨ c = 5 ∨ c = 6 ∨ (10 ≤ c ∧ c ≤ 136 ∧ c % 2 = 0))) : XB S' b := by
  have hI : ∀ c k, (c = 2 ∨ c = 5 ∨ c = 6 ∨ (10 ≤ c ∧ c ≤ 136 ∧ c % 2 = 0)) → gI S' c k = gI S c k ∧ gR S' c k = gR S c k := fun c k q => ⟨hs.I fun x => hp c k x q, hs.R fun x => hp c k x q⟩
  obtain ⟨h1, h2, h3, h4, h5, h6, h7, h8⟩ := h
  refine ⟨by rw [(hI _ _ (by omega)).1]; exact h1, by rw [(hI _ _ (by omega)).1]; exact h2, by rw [(hI _ _ (by omega)).1]; exact h3, by rw [(hI _ _ (by omega)).1]; exact h4, by rw [(hI _ _ (by omega)).1]; exact h5, by rw [(hI _ _ (by omega)).1]; exact h6, fun f hf => ?_, fun p hp => ?_⟩
  · rw [(hI _ _ (by omega)).1, (hI _ _ (by omega)).1, (hI _ _ (by omega)).1]
    exact h7 f hf
  · rw [(hI _ _ (by omega)).2, (hI _ _ (by omega)).1]
    exact h8 p hp
theorem XM.sm {P : Nat → Nat → Prop} {S S' : Sx} {b : Pb} {mem : Nat → Nat} (h : XM S b mem) (hb : ∀ f p, pin b f = some p → f < 64) (hs : Sm P S S') (hp : ∀ c k, P c k → ¬ (c = 4 ∨ (11 ≤ c ∧ c ≤ 137 ∧ c % 2 = 1))) : XM S' b mem := by
  intro p hp2
  obtain ⟨h1, h2⟩ := h p hp2
  refine ⟨fun f hf k hk => ?_, fun hf k hk => ?_⟩
  · have := hb f p hf
    rw [hs.I fun x => hp _ _ x (by omega)]
    exact h1 f hf k hk
  · rw [hs.I fun x => hp _ _ x (by omega)]
    exact h2 hf k hk
theorem KX.sm {P : Nat → Nat → Prop} {S S' : Sx} {l : List (Nat × Nat)} (h : KX S l) (hs : Sm P S S') (hp : ∀ c k, P c k → ¬ (7 ≤ c ∧ c ≤ 9)) : KX S' l := by
  obtain ⟨h1, h2, h3, h4⟩ := h
  refine ⟨by rw [hs.I fun x => hp _ _ x (by omega)]; exact h1, h2, h3, fun i hi => ?_⟩
  rw [hs.I fun x => hp _ _ x (by omega), hs.R fun x => hp _ _ x (by omega)]
  exact h4 i hi
theorem XC.sm {P : Nat → Nat → Prop} {S S' : Sx} {b : Pb} (h : XC S b) (hs : Sm P S S') (hp : ∀ c k, P c k → ¬ (7 ≤ c ∧ c ≤ 9)) : XC S' b := by
  obtain ⟨l, h1, h2⟩ := h
  exact ⟨l, h1.sm hs hp, h2⟩
theorem XP.sm {P : Nat → Nat → Prop} {S S' : Sx} {b : Pb} {mem : Nat → Nat} (h : XP S b mem) (hO : bOK b) (hs : Sm P S S') (hp : ∀ c k, P c k → ¬ (2 ≤ c ∧ c ≤ 137)) : XP S' b mem := by
  obtain ⟨h1, h2, h3, h4⟩ := h
  refine ⟨h1.sm hs (fun f hf => ⟨fun x => hp _ _ x (by omega), fun x => hp _ _ x (by omega)⟩), h2.sm hs (fun c k x q => hp c k x (by omega)), h3.sm hs (fun c k x q => hp c k x (by omega)), h4.sm (fun f p hf => by have := (hO.2.2.2.1 f p hf).1; have := hO.2.1; omega) hs (fun c k x q => hp c k x (by omega))⟩
/-- what a frame has goes to the disk -/
theorem x_keep {S : Sx} {b : Pb} {f p : Nat} (hF : XF S) (hf : f < 64) (hp : p < 1024) (hpg : gI S (10 + 2 * f) 1 = nI p) : X2_keep (some (10 + 2 * f)) S = rt () (pI (cpI S (11 + 2 * f) 0 4 (64 * p) 64) 5 p 1) := by
  obtain ⟨c1, c2, c3⟩ := hF
  obtain ⟨q1, q2, q3, q4, q5⟩ := c3 f hf
  unfold X2_keep
  rw [dO_s q2, dO_s q2, q3, hpg]
  have e64 : (64 : Int32) * nI p = nI (64 * p) := pk_mul 64 p
  rw [e64]
  show cpy S 3 (some (11 + 2 * f)) (nI 0) (some 4) (nI (64 * p)) (nI 64) _ = _
  rw [cpy_e q4 c1 (by omega) (by omega) (by omega) (by omega) (by omega) (by omega)]
  rw [dO_s (S := cpI S (11 + 2 * f) 0 4 (64 * p) 64) q2]
  have e1 : gI (cpI S (11 + 2 * f) 0 4 (64 * p) 64) (10 + 2 * f) 1 = nI p := by rw [gI_cpI, if_neg (by omega)]; exact hpg
  rw [e1, sI_n hp (by omega), nz_1]
end
section
set_option maxRecDepth 100000
/-! ===== X's pages, the frame f in change: nothing is known of it (0), all but whether it is touched (1) ===== -/
def XBr (t : Nat) (S : Sx) (b : Pb) (f : Nat) : Prop :=
  gI S 2 1 = nI (fr b) ∧ gI S 2 2 = nI (hd b) ∧ gI S 2 7 = fa b ∧ gI S 2 8 = re b ∧ gI S 2 9 = wr b ∧ gI S 2 10 = mi b ∧
  (∀ g, g < 64 → g ≠ f → gI S (10 + 2 * g) 1 = pg (pin b g) ∧ (pin b g ≠ none → gI S (10 + 2 * g) 2 = b1 (tch b g) ∧ gI S (10 + 2 * g) 3 = b1 (wrt b g))) ∧
  (t = 1 → gI S (10 + 2 * f) 1 = pg (pin b f) ∧ gI S (10 + 2 * f) 3 = b1 (wrt b f)) ∧
  ∀ p, p < 1024 → (∀ f, pin b f = some p → gR S 6 p = some (10 + 2 * f)) ∧ ((∀ f, pin b f ≠ some p) → gR S 6 p = none ∧ gI S 5 p = b1 (ot b p))
def XPr (t : Nat) (S : Sx) (b : Pb) (mem : Nat → Nat) (f : Nat) : Prop := XF S ∧ XBr t S b f ∧ XC S b ∧ XM S b mem
theorem XP.r0 {S : Sx} {b : Pb} {mem : Nat → Nat} (h : XP S b mem) (f : Nat) : XPr 0 S b mem f := by
  obtain ⟨h1, ⟨a1, a2, a3, a4, a5, a6, a7, a8⟩, h3, h4⟩ := h
  exact ⟨h1, ⟨a1, a2, a3, a4, a5, a6, fun g hg _ => a7 g hg, (fun h => by cases h), a8⟩, h3, h4⟩
theorem XP.r1 {S : Sx} {b : Pb} {mem : Nat → Nat} (h : XP S b mem) {f : Nat} (hf : f < 64) (hp : pin b f ≠ none) : XPr 1 S b mem f := by
  obtain ⟨h1, ⟨a1, a2, a3, a4, a5, a6, a7, a8⟩, h3, h4⟩ := h
  exact ⟨h1, ⟨a1, a2, a3, a4, a5, a6, fun g hg _ => a7 g hg, fun _ => ⟨(a7 f hf).1, ((a7 f hf).2 hp).2⟩, a8⟩, h3, h4⟩
def bMi (b : Pb) : Pb := mkPb (fr b) (pin b) (tch b) (wrt b) (ot b) (hd b) (kn b) (fa b) (re b) (wr b) (mi b + 1)
def bAdd (b : Pb) (f p : Nat) : Pb := mkPb (fr b) (pin b) (up (tch b) f true) (wrt b) (ot b) (hd b) ((if (kn b).length = 4 then (kn b).tail else kn b) ++ [p]) (fa b) (re b) (wr b) (mi b)
theorem bHit_new {b : Pb} {f p : Nat} (hk : ¬ p ∈ kn b) : bHit b f p false = bAdd (bMi b) f p := by
  unfold bHit
  rw [if_neg hk, if_neg hk]
  rfl
theorem bMi_adv (n : Nat) : ∀ b, bMi (bAdv n b) = bAdv n (bMi b) := by
  induction n with
  | zero => intro b; rfl
  | succ n ih =>
    intro b
    rw [bAdv, bAdv]
    show bMi (if tch b (hd b) = true then _ else _) = if tch b (hd b) = true then _ else _
    split
    · exact ih _
    · rfl
theorem bMi_OK {b : Pb} (h : bOK b) : bOK (bMi b) := h
theorem XP_mi {S : Sx} {b : Pb} {mem : Nat → Nat} (h : XP S b mem) (hO : bOK b) : XP (pI S 2 10 (mi b + 1)) (bMi b) mem := by
  obtain ⟨h1, ⟨a1, a2, a3, a4, a5, a6, a7, a8⟩, h3, h4⟩ := h
  have hs : Sm (fun c k => c = 2 ∧ k = 10) S (pI S 2 10 (mi b + 1)) := Sm.pI ⟨rfl, rfl⟩
  refine ⟨h1.sm hs (fun f hf => ⟨by omega, by omega⟩), ⟨by simp [gI_pI]; exact a1, by simp [gI_pI]; exact a2, by simp [gI_pI]; exact a3, by simp [gI_pI]; exact a4, by simp [gI_pI]; exact a5, by simp [gI_pI]; rfl, fun f hf => ?_, fun p hp => ?_⟩, ?_, ?_⟩
  · rw [gI_pI, if_neg (by omega), gI_pI, if_neg (by omega), gI_pI, if_neg (by omega)]
    exact a7 f hf
  · rw [gR_pI, gI_pI, if_neg (by omega)]
    exact a8 p hp
  · obtain ⟨l, l1, l2⟩ := h3
    exact ⟨l, l1.sm hs (fun c k x => by omega), l2⟩
  · exact XM.sm (b := b) h4 (fun f p hf => by have := (hO.2.2.2.1 f p hf).1; have := hO.2.1; omega) hs (fun c k x => by omega)
theorem XP_fa {S : Sx} {b : Pb} {mem : Nat → Nat} (h : XP S b mem) (hO : bOK b) : XP (pI S 2 7 (fa b + 1)) (bFa b) mem := by
  obtain ⟨h1, ⟨a1, a2, a3, a4, a5, a6, a7, a8⟩, h3, h4⟩ := h
  have hs : Sm (fun c k => c = 2 ∧ k = 7) S (pI S 2 7 (fa b + 1)) := Sm.pI ⟨rfl, rfl⟩
  refine ⟨h1.sm hs (fun f hf => ⟨by omega, by omega⟩), ⟨by simp [gI_pI]; exact a1, by simp [gI_pI]; exact a2, by simp [gI_pI]; rfl, by simp [gI_pI]; exact a4, by simp [gI_pI]; exact a5, by simp [gI_pI]; exact a6, fun f hf => ?_, fun p hp => ?_⟩, ?_, ?_⟩
  · rw [gI_pI, if_neg (by omega), gI_pI, if_neg (by omega), gI_pI, if_neg (by omega)]
    exact a7 f hf
  · rw [gR_pI, gI_pI, if_neg (by omega)]
    exact a8 p hp
  · obtain ⟨l, l1, l2⟩ := h3
    exact ⟨l, l1.sm hs (fun c k x => by omega), l2⟩
  · exact XM.sm (b := b) h4 (fun f p hf => by have := (hO.2.2.2.1 f p hf).1; have := hO.2.1; omega) hs (fun c k x => by omega)
/-- the search for a free frame -/
theorem x_free_loop {S : Sx} {b : Pb} {mem : Nat → Nat} (h : XP S b mem) (hO : bOK b) {e : Nat} (he : e ≤ fr b) (hfull : ∀ i, i < e → pin b i ≠ none) (hst : e = fr b ∨ pin b e = none) : ∀ (d i n : Nat), i + d = e → d < n → X2_room_2 n (nI i) S = if e = fr b then X2_room_35 FU S else rt (some (10 + 2 * e)) S := by
  obtain ⟨hF, hB, -, -⟩ := h
  have h64 := hO.2.1
  intro d
  induction d with
  | zero =>
    intro i n hi hn
    obtain ⟨n, rfl⟩ : ∃ j, n = j + 1 := ⟨n - 1, by omega⟩
    obtain rfl : i = e := by omega
    show X2_room_2b (X2_room_2 n) (nI i) S = _
    unfold X2_room_2b
    rw [hB.1]
    by_cases hie : i = fr b
    · rw [if_pos (nI_le (by omega) (by omega)), if_pos hie]
    · obtain ⟨q1, q2, -⟩ := hF.2.2 i (by omega)
      rw [if_neg (nI_ge (by omega) (by omega)), lR_n (by omega) (by omega), q1, dO_s q2, (hB.2.2.2.2.2.2.1 i (by omega)).1, hst.resolve_left hie, if_neg (by decide), lR_n (by omega) (by omega), q1, if_neg hie]
  | succ d ih =>
    intro i n hi hn
    obtain ⟨n, rfl⟩ : ∃ j, n = j + 1 := ⟨n - 1, by omega⟩
    show X2_room_2b (X2_room_2 n) (nI i) S = _
    unfold X2_room_2b
    obtain ⟨q1, q2, -⟩ := hF.2.2 i (by omega)
    rw [hB.1, if_neg (nI_ge (by omega) (by omega)), lR_n (by omega) (by omega), q1, dO_s q2, (hB.2.2.2.2.2.2.1 i (by omega)).1]
    cases hp : pin b i with
    | none => exact absurd hp (hfull i (by omega))
    | some p =>
      have := (hO.2.2.2.1 i p hp).2
      rw [pg_s, if_pos (nI_pos' (n := p) (by omega)), vl_e, nI_1]
      exact ih (i + 1) n (by omega) (by omega)
theorem x_hand_loop {mem : Nat → Nat} : ∀ (m : Nat) (b : Pb) (S : Sx) (n : Nat), XP S b mem → bOK b → (∀ i, i < fr b → pin b i ≠ none) → cnt (tch b) (fr b) ≤ m → m < n → ∃ S1 k, X2_room_35 n S = X2_room_35b k S1 ∧ XP S1 (bAdv (m + 1) b) mem ∧ tch (bAdv (m + 1) b) (hd (bAdv (m + 1) b)) = false ∧ Sm xPl S S1 := by
  intro m
  induction m with
  | zero =>
    intro b S n hM hO hfull hc hn
    have hh := hO.2.2.1
    obtain ⟨n, rfl⟩ : ∃ j, n = j + 1 := ⟨n - 1, by omega⟩
    have ht : tch b (hd b) = false := by
      cases ht : tch b (hd b) with
      | false => rfl
      | true => have := cnt_up ht hh; omega
    have e : bAdv (0 + 1) b = b := by
      unfold bAdv
      rw [ht]
      simp
    rw [e]
    exact ⟨S, X2_room_35 n, rfl, hM, ht, Sm.rfl' S⟩
  | succ m ih =>
    intro b S n hM hO hfull hc hn
    have hh := hO.2.2.1
    have hf := hO.2.1
    obtain ⟨n, rfl⟩ : ∃ j, n = j + 1 := ⟨n - 1, by omega⟩
    cases ht : tch b (hd b) with
    | false =>
      have e : bAdv (m + 1 + 1) b = b := by
        rw [bAdv, ht]
        simp
      rw [e]
      exact ⟨S, X2_room_35 n, rfl, hM, ht, Sm.rfl' S⟩
    | true =>
      obtain ⟨h1, ⟨a1, a2, a3, a4, a5, a6, a7, a8⟩, h3, h4⟩ := id hM
      have hb : bAdv (m + 1 + 1) b = bAdv (m + 1) (mkPb (fr b) (pin b) (up (tch b) (hd b) false) (wrt b) (ot b) ((hd b + 1) % fr b) (kn b) (fa b) (re b) (wr b) (mi b)) := by
        rw [bAdv, ht]
        simp
      have hs : Sm (fun c k => (c = 2 ∧ k = 2) ∨ (c = 10 + 2 * hd b ∧ k = 2)) S (pI (pI S (10 + 2 * hd b) 2 0) 2 2 (nI ((hd b + 1) % fr b))) := Sm.trans (Sm.pI (Or.inr ⟨rfl, rfl⟩)) (Sm.pI (Or.inl ⟨rfl, rfl⟩))
      have hM2 : XP (pI (pI S (10 + 2 * hd b) 2 0) 2 2 (nI ((hd b + 1) % fr b))) (mkPb (fr b) (pin b) (up (tch b) (hd b) false) (wrt b) (ot b) ((hd b + 1) % fr b) (kn b) (fa b) (re b) (wr b) (mi b)) mem := by
        refine ⟨h1.sm hs (fun f hf => ⟨by omega, by omega⟩), ⟨?_, ?_, ?_, ?_, ?_, ?_, fun f hf => ?_, fun p hp => ?_⟩, ?_, XM.sm (b := b) h4 (fun f p hf => by have := (hO.2.2.2.1 f p hf).1; omega) hs (fun c k x => by omega)⟩
        · rw [hs.I (by omega)]; exact a1
        · rw [gI_pI, if_pos ⟨rfl, rfl⟩]; rfl
        · rw [hs.I (by omega)]; exact a3
        · rw [hs.I (by omega)]; exact a4
        · rw [hs.I (by omega)]; exact a5
        · rw [hs.I (by omega)]; exact a6
        · rw [hs.I (c := 10 + 2 * f) (k := 1) (by omega), hs.I (c := 10 + 2 * f) (k := 3) (by omega)]
          refine ⟨(a7 f hf).1, fun hp => ⟨?_, ((a7 f hf).2 hp).2⟩⟩
          show _ = b1 (up (tch b) (hd b) false f)
          by_cases hfe : f = hd b
          · rw [hfe, gI_pI, if_neg (by omega), gI_pI, if_pos ⟨rfl, rfl⟩, up_s]; rfl
          · rw [hs.I (by omega), up_n _ _ hfe]; exact ((a7 f hf).2 hp).1
        · rw [hs.R (by omega), hs.I (by omega)]
          exact a8 p hp
        · obtain ⟨l, l1, l2⟩ := h3
          exact ⟨l, l1.sm hs (fun c k x => by omega), l2⟩
      obtain ⟨S1, k, e1, e2, e3, e4⟩ := ih _ _ n hM2 ⟨hO.1, hO.2.1, Nat.mod_lt _ (by show 0 < fr b; omega), hO.2.2.2⟩ hfull (by have := cnt_up ht hh; show cnt (up (tch b) (hd b) false) (fr b) ≤ m; omega) (by omega)
      rw [hb]
      refine ⟨S1, k, ?_, e2, e3, (hs.mono (fun c k x => by unfold xPl; omega)).trans e4⟩
      show X2_room_35b (X2_room_35 n) S = _
      unfold X2_room_35b
      obtain ⟨q1, q2, -⟩ := h1.2.2 (hd b) (by omega)
      rw [a2, lR_n (by omega) (by omega), q1, dO_s q2, ((a7 (hd b) (by omega)).2 (hfull _ hh)).1, ht, if_neg (by decide), lR_n (by omega) (by omega), q1, dO_s q2, pt_e]
      have g1 : gI (pI S (10 + 2 * hd b) 2 0) 2 1 = nI (fr b) := by rw [gI_pI, if_neg (by omega)]; exact a1
      have g2 : gI (pI S (10 + 2 * hd b) 2 0) 2 2 = nI (hd b) := by rw [gI_pI, if_neg (by omega)]; exact a2
      rw [g1, g2, if_neg (nI_ne0 (by omega) (by omega)), mod_succ (by omega) (by omega) hh, pt_e]
      exact e1
theorem x_room_full {S : Sx} {b : Pb} {mem : Nat → Nat} (hM : XP S b mem) (hO : bOK b) (hfull : ∀ i, i < fr b → pin b i ≠ none) : ∃ S', X2_room S = rt (some (10 + 2 * hd (bAdv 65 b))) S' ∧ XPr 0 S' (bOut (bAdv 65 b)) mem (hd (bAdv 65 b)) ∧ Sm xPl S S' := by
  obtain ⟨o1, o2, o3, o4, o5, o6, o7, o8⟩ := id hO
  obtain ⟨S1, k, e1, hM1, ht, hs1⟩ := x_hand_loop 64 b S FU hM hO hfull (Nat.le_trans (cnt_le _ _) o2) (by have := FU_ge; omega)
  obtain ⟨a1, a2, a3, a4, a5, -⟩ := bAdv_fr 65 b
  have hh := bAdv_hd 65 b o3
  have hstart : X2_room S = X2_room_35 FU S := by
    unfold X2_room
    rw [← nI_0, x_free_loop hM hO (Nat.le_refl _) hfull (Or.inl rfl) (fr b) 0 FU (by omega) (by have := FU_ge; omega), if_pos rfl]
  generalize hb' : bAdv 65 b = b' at *
  obtain ⟨p, hp⟩ : ∃ p, pin b' (hd b') = some p := by
    cases hq : pin b' (hd b') with
    | none => rw [a2] at hq; exact absurd hq (hfull _ hh)
    | some p => exact ⟨p, rfl⟩
  have hp2 : p < 1024 := (o4 (hd b') p (by rw [← a2]; exact hp)).2
  have ep : (pin b' (hd b')).getD 0 = p := by rw [hp]; rfl
  obtain ⟨hF1, ⟨h1, h2, h3, h4, h5, h6, h7, h8⟩, ⟨l, hK, hlk, hlp⟩, hMm⟩ := id hM1
  have hf64 : hd b' < 64 := by omega
  obtain ⟨q1, q2, q3, q4, q5⟩ := hF1.2.2 (hd b') hf64
  have f7 := h7 _ hf64
  rw [hp, pg_s] at f7
  have f7b := f7.2 (fun h => by cases h)
  generalize hf : hd b' = f at *
  generalize hSw : pI (pI S1 2 2 (nI ((f + 1) % fr b'))) 2 9 (wr b' + b1 (wrt b' f)) = Sw
  have gw : ∀ c j, gI Sw c j = if c = 2 ∧ j = 9 then wr b' + b1 (wrt b' f) else if c = 2 ∧ j = 2 then nI ((f + 1) % fr b') else gI S1 c j := by
    intro c j
    rw [← hSw]
    simp only [gI_pI]
  have gwR : ∀ c j, gR Sw c j = gR S1 c j := by intro c j; rw [← hSw]; rfl
  have hsw : Sm (fun c k => c = 2 ∧ (k = 2 ∨ k = 9)) S1 Sw := by
    rw [← hSw]
    exact Sm.trans (Sm.pI ⟨rfl, Or.inl rfl⟩) (Sm.pI ⟨rfl, Or.inr rfl⟩)
  have hFw : XF Sw := hF1.sm hsw (fun f hf => ⟨by omega, by omega⟩)
  have hstep : X2_room S = X2_room_123 (some (10 + 2 * f)) Sw := by
    rw [hstart, e1]
    unfold X2_room_35b
    rw [h2, lR_n hf64 (by omega), q1, dO_s q2, f7b.1, ht, if_pos b1_f, lR_n hf64 (by omega), q1, vl_e, h1, if_neg (nI_ne0 (by omega) (by omega)), mod_succ (by omega) (by omega) (by omega), pt_e, dO_s (S := pI S1 2 2 (nI ((f + 1) % fr b'))) q2]
    have g1 : gI (pI S1 2 2 (nI ((f + 1) % fr b'))) (10 + 2 * f) 3 = b1 (wrt b' f) := by rw [gI_pI, if_neg (by omega)]; exact f7b.2
    have g2 : gI (pI S1 2 2 (nI ((f + 1) % fr b'))) 2 9 = wr b' := by rw [gI_pI, if_neg (by omega)]; exact h5
    rw [g1]
    cases hw : wrt b' f with
    | false => rw [if_pos b1_f, ← hSw, hw, i_add0, pI_same g2]
    | true =>
      rw [if_neg (by decide), pt_e, g2, ← hSw, hw]
      rfl
  have hpgw : gI Sw (10 + 2 * f) 1 = nI p := by rw [gw, if_neg (by omega), if_neg (by omega)]; exact f7.1
  have hkeep := x_keep (b := b') hFw hf64 hp2 hpgw
  generalize hS3 : pI (cpI Sw (11 + 2 * f) 0 4 (64 * p) 64) 5 p 1 = S3 at hkeep
  have g3 : ∀ c j, gI S3 c j = if c = 5 ∧ j = p then 1 else if c = 4 ∧ 64 * p ≤ j ∧ j < 64 * p + 64 then gI Sw (11 + 2 * f) (0 + (j - 64 * p)) else gI Sw c j := by
    intro c j
    rw [← hS3]
    simp only [gI_pI, gI_cpI]
  have hs3 : Sm (fun c k => c = 4 ∨ c = 5) Sw S3 := by
    rw [← hS3]
    exact Sm.trans (Sm.cpI (fun k _ _ => Or.inl rfl)) (Sm.pI (Or.inr rfl))
  have hF3 : XF S3 := hFw.sm hs3 (fun f hf => ⟨by omega, by omega⟩)
  have hK3 : KX S3 l := (hK.sm hsw (fun c k x => by omega)).sm hs3 (fun c k x => by omega)
  obtain ⟨S4, d1, d2, d3⟩ := x_drop hp2 hK3 hF3
  have hF4 : XF S4 := hF3.sm d3 (fun f hf => ⟨by unfold kPl; omega, by unfold kPl; omega⟩)
  have hpg3 : gI S3 (10 + 2 * f) 1 = nI p := by rw [hs3.I (by omega)]; exact hpgw
  have hpg4 : gI S4 (10 + 2 * f) 1 = nI p := by rw [d3.I (by unfold kPl; omega)]; exact hpg3
  have hs5 : Sm (fun c k => c = 6 ∧ k = p) S4 (pR S4 6 p none) := Sm.pR ⟨rfl, rfl⟩
  have hall : ∀ c j, ¬ (c = 2 ∨ c = 4 ∨ c = 5 ∨ (c = 6 ∧ j = p) ∨ kPl c j) → gI (pR S4 6 p none) c j = gI S1 c j ∧ gR (pR S4 6 p none) c j = gR S1 c j := by
    intro c j q
    have qk : ¬ kPl c j := fun x => q (Or.inr (Or.inr (Or.inr (Or.inr x))))
    rw [hs5.I (by omega), hs5.R (by omega), d3.I qk, d3.R qk, hs3.I (by omega), hs3.R (by omega), hsw.I (by omega), hsw.R (by omega)]
    exact ⟨rfl, rfl⟩
  have h2f : ∀ j, gI (pR S4 6 p none) 2 j = gI Sw 2 j := fun j => by
    rw [hs5.I (by omega), d3.I (by unfold kPl; omega), hs3.I (by omega)]
  refine ⟨pR S4 6 p none, ?_, ⟨hF4.sm hs5 (fun f hf => ⟨by omega, by omega⟩), ⟨?_, ?_, ?_, ?_, ?_, ?_, fun g hg hgf => ?_, (fun h => by cases h), fun q hq => ?_⟩, ?_, fun q hq => ⟨fun g hg k hk => ?_, fun hg k hk => ?_⟩⟩, ?_⟩
  · rw [hstep]
    unfold X2_room_123
    rw [hkeep, bd_rt, dO_s (hF3.2.2 f hf64).2.1, hpg3, d1, bd_rt, dO_s (hF4.2.2 f hf64).2.1, dOn_0, hpg4, sR_n hp2 (by omega)]
  · rw [h2f, gw]; simp; exact h1
  · rw [h2f, gw]; simp; show _ = nI ((hd b' + 1) % fr b'); rw [hf]
  · rw [h2f, gw]; simp; exact h3
  · rw [h2f, gw]; simp; exact h4
  · rw [h2f, gw]; simp; show _ = wr b' + b1 (wrt b' (hd b')); rw [hf]
  · rw [h2f, gw]; simp; exact h6
  · rw [(hall _ _ (by unfold kPl; omega)).1, (hall _ _ (by unfold kPl; omega)).1, (hall _ _ (by unfold kPl; omega)).1]
    show _ = pg (up (pin b') (hd b') none g) ∧ (up (pin b') (hd b') none g ≠ none → _)
    rw [hf, up_n _ _ hgf]
    exact h7 g hg
  · have hres : ∀ g, up (pin b') (hd b') none g = some q ↔ (g ≠ f ∧ pin b' g = some q) := by
      intro g
      rw [hf]
      by_cases hgf : g = f
      · rw [hgf, up_s]; simp
      · rw [up_n _ _ hgf]; simp [hgf]
    refine ⟨fun g hg => ?_, fun hg => ?_⟩
    · obtain ⟨hgf, hg⟩ := (hres g).mp hg
      have hqp : q ≠ p := fun e => hgf (o5 g f p (by rw [← a2, ← e]; exact hg) (by rw [← a2]; exact hp))
      rw [(hall _ _ (by unfold kPl; omega)).2]
      exact (h8 q hq).1 g hg
    · have hg : ∀ g, ¬ (g ≠ f ∧ pin b' g = some q) := fun g x => hg g ((hres g).mpr x)
      show _ ∧ _ = b1 (up (ot b') ((pin b' (hd b')).getD 0) true q)
      rw [show (pin b' (hd b')).getD 0 = p by rw [hf]; exact ep]
      have g5 : gI (pR S4 6 p none) 5 q = gI S3 5 q := by rw [hs5.I (by omega), d3.I (by unfold kPl; omega)]
      by_cases hqp : q = p
      · rw [hqp, gR_pR, if_pos ⟨rfl, rfl⟩, up_s]
        rw [hqp] at g5
        rw [g5, g3, if_pos ⟨rfl, rfl⟩]
        exact ⟨rfl, rfl⟩
      · rw [(hall 6 q (by unfold kPl; omega)).2, up_n _ _ hqp, g5, g3, if_neg (by omega), if_neg (by omega), gw, if_neg (by omega), if_neg (by omega)]
        refine (h8 q hq).2 fun g hg2 => ?_
        by_cases hgf : g = f
        · rw [hgf, hp] at hg2; exact hqp (Option.some.inj hg2).symm
        · exact hg g ⟨hgf, hg2⟩
  · refine ⟨l.filter (fun q => q.1 ≠ p), d2.sm hs5 (fun c k x => by omega), ?_, fun q hq => ?_⟩
    · show _ = (kn b').filter (fun q => q ≠ (pin b' (hd b')).getD 0)
      rw [show (pin b' (hd b')).getD 0 = p by rw [hf]; exact ep, ← hlk, List.filter_map]
      rfl
    · rw [List.mem_filter] at hq
      have h9 := hlp q hq.1
      show up (pin b') (hd b') none q.2 = some q.1
      rw [hf, up_n]
      · exact h9
      · intro e
        rw [e, hp] at h9
        have := Option.some.inj h9
        simp [this] at hq
  · have hg : up (pin b') (hd b') none g = some q := hg
    rw [hf] at hg
    by_cases hgf : g = f
    · rw [hgf, up_s] at hg; cases hg
    · rw [up_n _ _ hgf] at hg
      have : g < 64 := by have := (o4 g q (by rw [← a2]; exact hg)).1; omega
      rw [(hall _ _ (by unfold kPl; omega)).1]
      exact (hMm q hq).1 g hg k hk
  · have hg : ∀ g, up (pin b') (hd b') none g ≠ some q := hg
    rw [hf] at hg
    have g4 : ∀ j, gI (pR S4 6 p none) 4 j = gI S3 4 j := fun j => by rw [hs5.I (by omega), d3.I (by unfold kPl; omega)]
    rw [g4, g3, if_neg (by omega)]
    by_cases hqp : q = p
    · rw [hqp, if_pos (by omega), hsw.I (by omega), show 0 + (64 * p + k - 64 * p) = k by omega]
      exact (hMm p hp2).1 f hp k hk
    · rw [if_neg (by omega), hsw.I (by omega)]
      refine (hMm q hq).2 (fun g hg2 => ?_) k hk
      by_cases hgf : g = f
      · rw [hgf, hp] at hg2; exact hqp (Option.some.inj hg2).symm
      · exact hg g (by rw [up_n _ _ hgf]; exact hg2)
  · refine (((hs1.trans (hsw.mono fun c k x => ?_)).trans (hs3.mono fun c k x => ?_)).trans (d3.mono fun c k x => ?_)).trans (hs5.mono fun c k x => ?_)
    all_goals (first | (unfold kPl at x) | skip)
    all_goals (unfold xPl; omega)
/-- the page p comes into the frame f, which is free -/
theorem x_bring_34 {S : Sx} {b : Pb} {mem : Nat → Nat} {f p : Nat} (hM : XPr 0 S b mem f) (hO : bOK b) (hf : f < fr b) (hp : p < 1024) (hn : pin b f = none) (hnp : ∀ i, pin b i ≠ some p) : ∃ S', (lI S 5 1024 (nI p) (fun v3 => if v3 = 0 then X2_bring_34 (nI p) (some (10 + 2 * f)) S else pt (pI S 2 8 (gI S 2 8 + 1)) (fun S3 => X2_bring_34 (nI p) (some (10 + 2 * f)) S3))) = rt (some (10 + 2 * f)) S' ∧ XPr 1 S' (bIn b f p) mem f ∧ Sm xPl S S' := by
  obtain ⟨o1, o2, o3, o4, o5, o6, o7, o8⟩ := id hO
  have hf64 : f < 64 := by omega
  obtain ⟨hF, ⟨h1, h2, h3, h4, h5, h6, h7, -, h8⟩, ⟨l, hK, hlk, hlp⟩, hMm⟩ := hM
  obtain ⟨q1, q2, q3, q4, q5⟩ := hF.2.2 f hf64
  have hot := ((h8 p hp).2 hnp).2
  generalize hSw : pI S 2 8 (re b + b1 (ot b p)) = Sw
  have hsw : Sm (fun c k => c = 2 ∧ k = 8) S Sw := by rw [← hSw]; exact Sm.pI ⟨rfl, rfl⟩
  have hFw : XF Sw := hF.sm hsw (fun f hf => ⟨by omega, by omega⟩)
  generalize hS' : pR (pI (pI (cpI Sw 4 (64 * p) (11 + 2 * f) 0 64) (10 + 2 * f) 1 (nI p)) (10 + 2 * f) 3 0) 6 p (some (10 + 2 * f)) = S'
  have hs : Sm (fun c k => c = 11 + 2 * f ∨ (c = 10 + 2 * f ∧ (k = 1 ∨ k = 3)) ∨ (c = 6 ∧ k = p)) Sw S' := by
    rw [← hS']
    exact ((Sm.trans (Sm.cpI (fun k _ _ => Or.inl rfl)) (Sm.pI (Or.inr (Or.inl ⟨rfl, Or.inl rfl⟩)))).trans (Sm.pI (Or.inr (Or.inl ⟨rfl, Or.inr rfl⟩)))).trans (Sm.pR (Or.inr (Or.inr ⟨rfl, rfl⟩)))
  have hall : ∀ c j, ¬ ((c = 2 ∧ j = 8) ∨ c = 11 + 2 * f ∨ (c = 10 + 2 * f ∧ (j = 1 ∨ j = 3)) ∨ (c = 6 ∧ j = p)) → gI S' c j = gI S c j ∧ gR S' c j = gR S c j := by
    intro c j q
    rw [hs.I (by omega), hs.R (by omega), hsw.I (by omega), hsw.R (by omega)]
    exact ⟨rfl, rfl⟩
  have hrun : X2_bring_34 (nI p) (some (10 + 2 * f)) Sw = rt (some (10 + 2 * f)) S' := by
    unfold X2_bring_34
    have e64 : (64 : Int32) * nI p = nI (64 * p) := pk_mul 64 p
    rw [dO_s (hFw.2.2 f hf64).2.1, e64, (hFw.2.2 f hf64).2.2.1]
    show cpy Sw 3 (some 4) (nI (64 * p)) (some (11 + 2 * f)) (nI 0) (nI 64) _ = _
    rw [cpy_e hFw.1 (hFw.2.2 f hf64).2.2.2.1 (by omega) (by omega) (by omega) (by rw [hFw.2.1]; omega) (by rw [(hFw.2.2 f hf64).2.2.2.2]; omega) (by omega)]
    rw [dO_s (S := cpI Sw 4 (64 * p) (11 + 2 * f) 0 64) (hFw.2.2 f hf64).2.1, pt_e, dO_s (S := pI (cpI Sw 4 (64 * p) (11 + 2 * f) 0 64) (10 + 2 * f) 1 (nI p)) (hFw.2.2 f hf64).2.1, pt_e, dOn_s (S := pI (pI (cpI Sw 4 (64 * p) (11 + 2 * f) 0 64) (10 + 2 * f) 1 (nI p)) (10 + 2 * f) 3 0) (hFw.2.2 f hf64).2.1, sR_n hp (by omega), hS']
  refine ⟨S', ?_, ⟨hFw.sm hs (fun f hf => ⟨by omega, by omega⟩), ⟨?_, ?_, ?_, ?_, ?_, ?_, fun g hg hgf => ?_, fun _ => ?_, fun q hq => ?_⟩, ?_, fun q hq => ⟨fun g hg k hk => ?_, fun hg k hk => ?_⟩⟩, (hsw.mono fun c k x => by unfold xPl; omega).trans (hs.mono fun c k x => by unfold xPl; omega)⟩
  · rw [lI_n hp (by omega), hot]
    cases ho : ot b p with
    | false =>
      rw [if_pos b1_f]
      have : S = Sw := by rw [← hSw, ho, i_add0, pI_same h4]
      rw [this]
      exact hrun
    | true =>
      rw [if_neg (by decide), pt_e, h4]
      have : pI S 2 8 (re b + 1) = Sw := by rw [← hSw, ho]; rfl
      rw [this]
      exact hrun
  · rw [(hall _ _ (by omega)).1]; exact h1
  · rw [(hall _ _ (by omega)).1]; exact h2
  · rw [(hall _ _ (by omega)).1]; exact h3
  · rw [hs.I (by omega), ← hSw, gI_pI, if_pos ⟨rfl, rfl⟩]; rfl
  · rw [(hall _ _ (by omega)).1]; exact h5
  · rw [(hall _ _ (by omega)).1]; exact h6
  · rw [(hall _ _ (by omega)).1, (hall _ _ (by omega)).1, (hall _ _ (by omega)).1]
    show _ = pg (up (pin b) f (some p) g) ∧ (up (pin b) f (some p) g ≠ none → _ ∧ _ = b1 (up (wrt b) f false g))
    rw [up_n _ _ hgf, up_n _ _ hgf]
    exact h7 g hg hgf
  · show _ = pg (up (pin b) f (some p) f) ∧ _ = b1 (up (wrt b) f false f)
    rw [up_s, up_s, ← hS']
    rw [gI_pR, gI_pI, if_neg (by omega), gI_pI, if_pos ⟨rfl, rfl⟩, gI_pR, gI_pI, if_pos ⟨rfl, rfl⟩]
    exact ⟨rfl, rfl⟩
  · refine ⟨fun g hg => ?_, fun hg => ?_⟩
    · have hg : up (pin b) f (some p) g = some q := hg
      by_cases hgf : g = f
      · rw [hgf, up_s] at hg
        cases hg
        rw [hgf, ← hS', gR_pR, if_pos ⟨rfl, rfl⟩]
      · rw [up_n _ _ hgf] at hg
        have hqp : q ≠ p := fun e => hnp g (by rw [← e]; exact hg)
        rw [(hall _ _ (by omega)).2]
        exact (h8 q hq).1 g hg
    · have hg : ∀ g, up (pin b) f (some p) g ≠ some q := hg
      have hqp : q ≠ p := fun e => hg f (by rw [up_s, e])
      show _ ∧ _ = b1 (up (ot b) p false q)
      rw [(hall _ _ (by omega)).2, (hall _ _ (by omega)).1, up_n _ _ hqp]
      refine (h8 q hq).2 fun g hg2 => ?_
      by_cases hgf : g = f
      · rw [hgf, hn] at hg2; cases hg2
      · exact hg g (by rw [up_n _ _ hgf]; exact hg2)
  · refine ⟨l, (hK.sm hsw (fun c k x => by omega)).sm hs (fun c k x => by omega), hlk, fun q hq => ?_⟩
    have h9 := hlp q hq
    show up (pin b) f (some p) q.2 = some q.1
    rw [up_n]
    · exact h9
    · intro e
      rw [e, hn] at h9
      cases h9
  · have hg : up (pin b) f (some p) g = some q := hg
    by_cases hgf : g = f
    · rw [hgf, up_s] at hg
      cases hg
      rw [hgf, ← hS']
      rw [gI_pR, gI_pI, if_neg (by omega), gI_pI, if_neg (by omega), gI_cpI, if_pos ⟨rfl, by omega, by omega⟩, hsw.I (by omega)]
      have := (hMm p hp).2 hnp k hk
      rw [show 64 * p + (k - 0) = 64 * p + k by omega]
      exact this
    · rw [up_n _ _ hgf] at hg
      have : g < 64 := by have := (o4 g q hg).1; omega
      rw [(hall _ _ (by omega)).1]
      exact (hMm q hq).1 g hg k hk
  · have hg : ∀ g, up (pin b) f (some p) g ≠ some q := hg
    rw [(hall _ _ (by omega)).1]
    refine (hMm q hq).2 (fun g hg2 => ?_) k hk
    by_cases hgf : g = f
    · rw [hgf, hn] at hg2; cases hg2
    · exact hg g (by rw [up_n _ _ hgf]; exact hg2)
theorem x_bring_free {S : Sx} {b : Pb} {mem : Nat → Nat} {f p : Nat} (hM : XP S b mem) (hO : bOK b) (hp : p < 1024) (hnp : ∀ i, pin b i ≠ some p) (hf : bFree b f) : ∃ S', X2_bring (nI p) S = rt (some (10 + 2 * f)) S' ∧ XPr 1 S' (bIn (bFa b) f p) mem f ∧ Sm xPl S S' := by
  obtain ⟨f1, f2, f3⟩ := hf
  have h64 := hO.2.1
  have hM1 := XP_fa hM hO
  obtain ⟨S', e1, e2, e3⟩ := x_bring_34 (hM1.r0 f) (bFa_OK hO) f1 hp f2 hnp
  refine ⟨S', ?_, e2, Sm.trans (Sm.pI (show xPl 2 7 from ⟨by omega, by omega⟩)) e3⟩
  unfold X2_bring
  rw [pt_e, hM.2.1.2.2.1]
  have hr : X2_room (pI S 2 7 (fa b + 1)) = rt (some (10 + 2 * f)) (pI S 2 7 (fa b + 1)) := by
    unfold X2_room
    rw [← nI_0, x_free_loop hM1 (bFa_OK hO) (Nat.le_of_lt f1) f3 (Or.inr f2) f 0 FU (by omega) (by have := FU_ge; omega), if_neg (by show ¬ f = fr b; omega)]
  rw [hr, bd_rt, vl_e]
  exact e1
theorem x_bring_full {S : Sx} {b : Pb} {mem : Nat → Nat} {p : Nat} (hM : XP S b mem) (hO : bOK b) (hp : p < 1024) (hnp : ∀ i, pin b i ≠ some p) (hfull : ∀ i, i < fr b → pin b i ≠ none) : ∃ S', X2_bring (nI p) S = rt (some (10 + 2 * hd (bAdv 65 (bFa b)))) S' ∧ XPr 1 S' (bIn (bOut (bAdv 65 (bFa b))) (hd (bAdv 65 (bFa b))) p) mem (hd (bAdv 65 (bFa b))) ∧ Sm xPl S S' := by
  have hM1 := XP_fa hM hO
  obtain ⟨S1, l1, l2, l3⟩ := x_room_full hM1 (bFa_OK hO) hfull
  have hA := bAdv_OK 65 (bFa_OK hO)
  obtain ⟨q1, q2, -⟩ := bAdv_fr 65 (bFa b)
  have hh2 := bAdv_hd 65 (bFa b) hO.2.2.1
  generalize hB : bAdv 65 (bFa b) = B at *
  obtain ⟨q, hq⟩ : ∃ q, pin B (hd B) = some q := by
    cases hc : pin B (hd B) with
    | none => rw [q2] at hc; exact absurd hc (hfull _ hh2)
    | some q => exact ⟨q, rfl⟩
  obtain ⟨S', e1, e2, e3⟩ := x_bring_34 l2 (bOut_OK hA hq) hA.2.2.1 hp (up_s _ _ _) (fun i e => by
      have e : up (pin B) (hd B) none i = some p := e
      by_cases hi : i = hd B
      · rw [hi, up_s] at e; cases e
      · rw [up_n _ _ hi, q2] at e; exact hnp i e)
  refine ⟨S', ?_, e2, Sm.trans (Sm.trans (Sm.pI (show xPl 2 7 from ⟨by omega, by omega⟩)) l3) e3⟩
  unfold X2_bring
  rw [pt_e, hM.2.1.2.2.1, l1, bd_rt, vl_e]
  exact e1
theorem x_touch_40 {S : Sx} {b : Pb} {mem : Nat → Nat} {f p : Nat} (hM : XPr 1 S b mem f) (hO : bOK b) (hf : pin b f = some p) (hk : ¬ p ∈ kn b) : ∃ S', X2_touch_40 (nI p) (some (10 + 2 * f)) S = rt (some (10 + 2 * f)) S' ∧ XP S' (bAdd b f p) mem ∧ Sm xPl S S' := by
  obtain ⟨o1, o2, o3, o4, o5, o6, o7, o8⟩ := id hO
  obtain ⟨hf2, hp⟩ := o4 f p hf
  have hf64 : f < 64 := by omega
  obtain ⟨hF, ⟨h1, h2, h3, h4, h5, h6, h7, h7b, h8⟩, ⟨l, hK, hlk, hlp⟩, hMm⟩ := hM
  obtain ⟨S1, a1, a2, a3⟩ := x_add hK hF hp hf64
  have hF1 : XF S1 := hF.sm a3 (fun f hf => ⟨by unfold kPl; omega, by unfold kPl; omega⟩)
  have hs : Sm (fun c k => c = 10 + 2 * f ∧ k = 2) S1 (pI S1 (10 + 2 * f) 2 1) := Sm.pI ⟨rfl, rfl⟩
  have hall : ∀ c j, ¬ ((7 ≤ c ∧ c ≤ 9) ∨ (c = 10 + 2 * f ∧ j = 2)) → gI (pI S1 (10 + 2 * f) 2 1) c j = gI S c j ∧ gR (pI S1 (10 + 2 * f) 2 1) c j = gR S c j := by
    intro c j q
    have qk : ¬ kPl c j := by unfold kPl; omega
    rw [hs.I (by omega), hs.R (by omega), a3.I qk, a3.R qk]
    exact ⟨rfl, rfl⟩
  refine ⟨pI S1 (10 + 2 * f) 2 1, ?_, ⟨hF1.sm hs (fun f hf => ⟨by omega, by omega⟩), ⟨?_, ?_, ?_, ?_, ?_, ?_, fun g hg => ?_, fun q hq => ?_⟩, ?_, fun q hq => ⟨fun g hg k hk => ?_, fun hg k hk => ?_⟩⟩, (a3.mono fun c k x => by unfold kPl at x; unfold xPl; omega).trans (hs.mono fun c k x => by unfold xPl; omega)⟩
  · unfold X2_touch_40
    rw [a1, bd_rt]
    unfold X2_touch_49
    rw [dO_s (hF1.2.2 f hf64).2.1, pt_e]
  · rw [(hall _ _ (by omega)).1]; exact h1
  · rw [(hall _ _ (by omega)).1]; exact h2
  · rw [(hall _ _ (by omega)).1]; exact h3
  · rw [(hall _ _ (by omega)).1]; exact h4
  · rw [(hall _ _ (by omega)).1]; exact h5
  · rw [(hall _ _ (by omega)).1]; exact h6
  · show _ = pg (pin b g) ∧ (pin b g ≠ none → _ = b1 (up (tch b) f true g) ∧ _ = b1 (wrt b g))
    rw [(hall (10 + 2 * g) 1 (by omega)).1, (hall (10 + 2 * g) 3 (by omega)).1]
    by_cases hgf : g = f
    · rw [hgf, up_s, gI_pI, if_pos ⟨rfl, rfl⟩]
      exact ⟨(h7b rfl).1, fun _ => ⟨rfl, (h7b rfl).2⟩⟩
    · rw [(hall (10 + 2 * g) 2 (by omega)).1, up_n _ _ hgf]
      exact h7 g hg hgf
  · rw [(hall _ _ (by omega)).2, (hall _ _ (by omega)).1]
    exact h8 q hq
  · refine ⟨_, a2.sm hs (fun c k x => by omega), ?_, fun q hq => ?_⟩
    · show _ = (if (kn b).length = 4 then (kn b).tail else kn b) ++ [p]
      rw [List.map_append, ← hlk, List.length_map]
      congr 1
      split
      · rw [List.map_tail]
      · rfl
    · rw [List.mem_append, List.mem_singleton] at hq
      rcases hq with hq | rfl
      · refine hlp q ?_
        split at hq
        · exact List.mem_of_mem_tail hq
        · exact hq
      · exact hf
  · have : g < 64 := by have := (o4 g q hg).1; omega
    rw [(hall _ _ (by omega)).1]
    exact (hMm q hq).1 g hg k hk
  · rw [(hall _ _ (by omega)).1]
    exact (hMm q hq).2 hg k hk
/-- X's touch -/
theorem x_touch {S : Sx} {b b' : Pb} {mem : Nat → Nat} {p f : Nat} (hM : XP S b mem) (hO : bOK b) (hp : p < 1024) (hT : bTouch b p false f b') : ∃ S', X2_touch (nI p) S = rt (some (10 + 2 * f)) S' ∧ XP S' b' mem ∧ Sm xPl S S' := by
  obtain ⟨o1, o2, o3, o4, o5, o6, o7, o8⟩ := id hO
  obtain ⟨hF, ⟨h1, h2, h3, h4, h5, h6, h7, h8⟩, ⟨l, hK, hlk, hlp⟩, hMm⟩ := id hM
  unfold X2_touch
  by_cases hk : p ∈ kn b
  · have hkl : p ∈ l.map (fun q => q.1) := by rw [hlk]; exact hk
    obtain ⟨e, e1, e2, e3⟩ := idx_of hkl
    rw [List.length_map] at e1
    have hmap : ∀ i, i < l.length → (l.map (fun q => q.1)).getD i 0 = (l.getD i (0, 0)).1 := fun i hi => by
      rw [getD_in (by rw [List.length_map]; exact hi), getD_in hi, List.getElem_map]
    have hfind := x_find_loop (e := e) hK hp (Nat.le_of_lt e1) (fun i hi => by rw [← hmap i (by omega)]; exact e3 i hi) (Or.inr (by rw [← hmap e e1]; exact e2)) e 0 FU (by omega) (by have := FU_ge; have := hK.2.1; omega)
    rw [if_neg (by omega)] at hfind
    have hpe : pin b (l.getD e (0, 0)).2 = some p := by
      have := hlp _ (getD_mem e1 (0, 0))
      rw [← hmap e e1, e2] at this
      exact this
    have hfe : (l.getD e (0, 0)).2 = f := by
      rcases hT with ⟨t1, -⟩ | ⟨t1, -⟩ | ⟨t1, -⟩
      · exact o5 _ _ p hpe t1
      · exact absurd hpe (t1 _)
      · exact absurd hpe (t1 _)
    rw [hfe] at hfind hpe
    have hb' : b' = bHit b f p false := by
      rcases hT with ⟨t1, t2, t3⟩ | ⟨t1, -⟩ | ⟨t1, -⟩
      · exact t3
      · exact absurd hpe (t1 _)
      · exact absurd hpe (t1 _)
    have hf64 : f < 64 := by have := (o4 f p hpe).1; omega
    have hs : Sm (fun c k => c = 10 + 2 * f ∧ k = 2) S (pI S (10 + 2 * f) 2 1) := Sm.pI ⟨rfl, rfl⟩
    refine ⟨pI S (10 + 2 * f) 2 1, ?_, ?_, hs.mono fun c k x => by unfold xPl; omega⟩
    · unfold X3_find
      rw [← nI_0, hfind, bd_rt, vl_e, if_neg (by simp)]
      unfold X2_touch_49
      rw [dO_s (hF.2.2 f hf64).2.1, pt_e]
    · subst hb'
      refine ⟨hF.sm hs (fun f hf => ⟨by omega, by omega⟩), ⟨?_, ?_, ?_, ?_, ?_, ?_, fun g hg => ?_, fun q hq => ?_⟩, ⟨l, hK.sm hs (fun c k x => by omega), ?_, hlp⟩, XM.sm (b := b) hMm (fun f p hf => by have := (o4 f p hf).1; omega) hs (fun c k x => by omega)⟩
      · rw [hs.I (by omega)]; exact h1
      · rw [hs.I (by omega)]; exact h2
      · rw [hs.I (by omega)]; exact h3
      · rw [hs.I (by omega)]; exact h4
      · rw [hs.I (by omega)]; exact h5
      · rw [hs.I (by omega), h6]
        show mi b = if p ∈ kn b then mi b else _
        rw [if_pos hk]
      · show _ = pg (pin b g) ∧ (pin b g ≠ none → _ = b1 (up (tch b) f true g) ∧ _ = b1 (wrt b g))
        rw [hs.I (c := 10 + 2 * g) (k := 1) (by omega), hs.I (c := 10 + 2 * g) (k := 3) (by omega)]
        refine ⟨(h7 g hg).1, fun hne => ⟨?_, ((h7 g hg).2 hne).2⟩⟩
        by_cases hgf : g = f
        · rw [hgf, up_s, gI_pI, if_pos ⟨rfl, rfl⟩]; rfl
        · rw [hs.I (by omega), up_n _ _ hgf]; exact ((h7 g hg).2 hne).1
      · rw [hs.R (by omega), hs.I (by omega)]
        exact h8 q hq
      · show _ = if p ∈ kn b then kn b else _
        rw [if_pos hk]; exact hlk
  · have hnl : ∀ i, i < l.length → (l.getD i (0, 0)).1 ≠ p := fun i hi e => hk (by
      rw [← hlk, ← e]
      exact List.mem_map.mpr ⟨_, getD_mem hi _, rfl⟩)
    have hfind := x_find_loop (e := l.length) hK hp (Nat.le_refl _) hnl (Or.inl rfl) l.length 0 FU (by omega) (by have := FU_ge; have := hK.2.1; omega)
    rw [if_pos rfl] at hfind
    have hM2 := XP_mi hM hO
    have hstart : ∀ (r : Rs (Option Nat)), X3_find (nI p) S = rt none S := fun _ => by
      unfold X3_find
      rw [← nI_0]
      exact hfind
    rw [hstart none, bd_rt, vl_e, if_pos rfl, pt_e, h6, lR_n hp (by omega)]
    have hR6 : gR (pI S 2 10 (mi b + 1)) 6 p = gR S 6 p := rfl
    rw [hR6, vl_e]
    have hsm : Sm xPl S (pI S 2 10 (mi b + 1)) := Sm.pI ⟨by omega, by omega⟩
    rcases hT with ⟨t1, t2, rfl⟩ | ⟨t1, t2, rfl⟩ | ⟨t1, t2, rfl, rfl⟩
    · rw [(h8 p hp).1 f t1, if_neg (by simp)]
      obtain ⟨S', c1, c2, c3⟩ := x_touch_40 (hM2.r1 (by omega) (by show pin b f ≠ none; rw [t1]; simp)) (bMi_OK hO) t1 hk
      rw [bHit_new hk]
      exact ⟨S', c1, c2, hsm.trans c3⟩
    · rw [((h8 p hp).2 t1).1, if_pos rfl]
      obtain ⟨S1, a1, a2, a3⟩ := x_bring_free hM2 (bMi_OK hO) hp t1 t2
      rw [a1, bd_rt, vl_e]
      obtain ⟨S', c1, c2, c3⟩ := x_touch_40 a2 (bIn_OK (bFa_OK (bMi_OK hO)) t2.1 hp t2.2.1 t1) (up_s _ _ _) hk
      rw [bHit_new (show ¬ p ∈ kn (bIn (bFa b) f p) from hk)]
      exact ⟨S', c1, c2, (hsm.trans a3).trans c3⟩
    · rw [((h8 p hp).2 t1).1, if_pos rfl]
      obtain ⟨S1, a1, a2, a3⟩ := x_bring_full hM2 (bMi_OK hO) hp t1 t2
      have e0 : bFa (bMi b) = bMi (bFa b) := rfl
      have hmi : bAdv 65 (bFa (bMi b)) = bMi (bAdv 65 (bFa b)) := by rw [e0, ← bMi_adv]
      rw [hmi] at a1 a2
      have hA := bAdv_OK 65 (bFa_OK hO)
      obtain ⟨q1, q2, -, -, q5, -⟩ := bAdv_fr 65 (bFa b)
      have hh2 := bAdv_hd 65 (bFa b) hO.2.2.1
      generalize hB : bAdv 65 (bFa b) = B at *
      have hhd : hd (bMi B) = hd B := rfl
      rw [hhd] at a1 a2
      rw [a1, bd_rt, vl_e]
      obtain ⟨q, hq⟩ : ∃ q, pin B (hd B) = some q := by
        cases hc : pin B (hd B) with
        | none => rw [q2] at hc; exact absurd hc (t2 _ hh2)
        | some q => exact ⟨q, rfl⟩
      have hnk : ¬ p ∈ kn (bIn (bOut B) (hd B) p) := by
        show ¬ p ∈ (kn B).filter _
        rw [List.mem_filter, q5]
        exact fun x => hk x.1
      have hI : bOK (bIn (bOut (bMi B)) (hd B) p) := bIn_OK (bOut_OK (bMi_OK hA) hq) hA.2.2.1 hp (up_s _ _ _) (fun i e => by
        have e : up (pin B) (hd B) none i = some p := e
        by_cases hi : i = hd B
        · rw [hi, up_s] at e; cases e
        · rw [up_n _ _ hi, q2] at e; exact t1 i e)
      obtain ⟨S', c1, c2, c3⟩ := x_touch_40 a2 hI (up_s _ _ _) hnk
      rw [bHit_new hnk]
      exact ⟨S', c1, c2, (hsm.trans a3).trans c3⟩
end
section
set_option maxRecDepth 100000
/-! ===== bytes ===== -/
theorem by8_l : ∀ v, v < 256 → ((nI v).toInt8.toInt32).toInt64 &&& 255 = lN v := by decide +kernel
theorem by8_i : ∀ v, v < 256 → (nI v).toInt8.toInt32 &&& 255 = nI v := by decide +kernel
theorem by8_8 (x : Int32) : x.toInt8.toInt32.toInt8.toInt32 = x.toInt8.toInt32 := by
  have := pk_vb x
  rwa [vp_nar_byte] at this
theorem by8_of (x : Int32) : x.toInt8.toInt32 = by8 (x.toBitVec.toNat % 256) := by
  unfold by8
  have : x.toInt8 = (nI (x.toBitVec.toNat % 256)).toInt8 := by
    apply Int8.toBitVec_inj.mp
    rw [Int32.toBitVec_toInt8, Int32.toBitVec_toInt8]
    apply BitVec.eq_of_toNat_eq
    rw [BitVec.signExtend_eq_setWidth_of_le _ (by decide), BitVec.signExtend_eq_setWidth_of_le _ (by decide), BitVec.toNat_setWidth, BitVec.toNat_setWidth, pk_tn (by omega)]
    omega
  rw [this]
/-- the byte k of m of a number -/
def bN (v : Int64) (m k : Nat) : Nat := (v >>> ((8 * ((nI m - 1) - nI k)).toInt64 &&& 63)).toInt32.toBitVec.toNat % 256
theorem bN_lt (v : Int64) (m k : Nat) : bN v m k < 256 := Nat.mod_lt _ (by decide)
theorem bN_i (v : Int64) (m k : Nat) : (v >>> ((8 * ((nI m - 1) - nI k)).toInt64 &&& 63)).toInt32 &&& 255 = nI (bN v m k) := pk_and _ 8 (by decide)
theorem bN_8 (v : Int64) (m k : Nat) : ((v >>> ((8 * ((nI m - 1) - nI k)).toInt64 &&& 63)).toInt32).toInt8.toInt32.toInt8.toInt32 = by8 (bN v m k) := by
  rw [by8_8, by8_of]
  rfl
/-- a number of k bytes from a on -/
def numL (mem : Nat → Nat) (a : Nat) : Nat → Int64
  | 0 => 0
  | k + 1 => (numL mem a k <<< (((8 : Int32)).toInt64 &&& 63)) ||| lN (mem (a + k))
/-- m bytes of v from a on -/
def putB (mem : Nat → Nat) (a m : Nat) (v : Int64) : Nat → Nat := fun j => if a ≤ j ∧ j < a + m then bN v m (j - a) else mem j
def memOK (mem : Nat → Nat) : Prop := ∀ a, mem a < 256
theorem putB_OK {mem : Nat → Nat} (h : memOK mem) (a m : Nat) (v : Int64) : memOK (putB mem a m v) := by
  intro j
  unfold putB
  split
  · exact bN_lt _ _ _
  · exact h j
/-! ===== M's memory ===== -/
def MM (S : Sx) (mem : Nat → Nat) : Prop := ∀ a, a < 65536 → gI S 169 a = nI (mem a)
theorem m_number_loop {S : Sx} {mem : Nat → Nat} {a m : Nat} (hM : MM S mem) (hO : memOK mem) (ham : a + m ≤ 65536) (hm : m ≤ 8) : ∀ (d i n : Nat), i + d = m → d < n → X12_number_5 n (nI a) (nI m) (numL mem a i) (nI i) S = rt (numL mem a m) S := by
  intro d
  induction d with
  | zero =>
    intro i n hi hn
    obtain ⟨n, rfl⟩ : ∃ j, n = j + 1 := ⟨n - 1, by omega⟩
    obtain rfl : i = m := by omega
    show X12_number_5b (X12_number_5 n) (nI a) (nI i) (numL mem a i) (nI i) S = _
    unfold X12_number_5b
    rw [if_pos (nI_le (Nat.le_refl _) (by omega))]
  | succ d ih =>
    intro i n hi hn
    obtain ⟨n, rfl⟩ : ∃ j, n = j + 1 := ⟨n - 1, by omega⟩
    show X12_number_5b (X12_number_5 n) (nI a) (nI m) (numL mem a i) (nI i) S = _
    unfold X12_number_5b
    have h256 := hO (a + i)
    rw [if_neg (nI_ge (by omega) (by omega)), nI_add, lI_n (by omega) (by omega), hM _ (by omega), nI_l (by omega), vl_e, vl_e, nI_1]
    exact ih (i + 1) n (by omega) (by omega)
theorem m_number {S : Sx} {mem : Nat → Nat} {a m : Nat} (hM : MM S mem) (hO : memOK mem) (ham : a + m ≤ 65536) (hm : m ≤ 8) : X12_number (nI a) (nI m) S = rt (numL mem a m) S := by
  unfold X12_number
  exact m_number_loop hM hO ham hm m 0 FU (by omega) (by have := FU_ge; omega)
/-- i of m bytes of v -/
def putI (mem : Nat → Nat) (a m i : Nat) (v : Int64) : Nat → Nat := fun j => if a ≤ j ∧ j < a + i then bN v m (j - a) else mem j
theorem putI_0 (mem : Nat → Nat) (a m : Nat) (v : Int64) : putI mem a m 0 v = mem := by
  funext j
  unfold putI
  rw [if_neg (by omega)]
theorem putI_s (mem : Nat → Nat) (a m i : Nat) (v : Int64) : putI mem a m (i + 1) v = up (putI mem a m i v) (a + i) (bN v m i) := by
  funext j
  unfold putI up
  by_cases h : j = a + i
  · rw [if_pos (by omega), if_pos h, h, Nat.add_sub_cancel_left]
  · rw [if_neg h]
    show _ = if a ≤ j ∧ j < a + i then bN v m (j - a) else mem j
    by_cases h2 : a ≤ j ∧ j < a + i
    · rw [if_pos h2, if_pos (by omega)]
    · rw [if_neg h2, if_neg (by omega)]
theorem putI_m (mem : Nat → Nat) (a m : Nat) (v : Int64) : putI mem a m m v = putB mem a m v := rfl
theorem MM_up {S : Sx} {mem : Nat → Nat} {a x : Nat} (hM : MM S mem) : MM (pI S 169 a (nI x)) (up mem a x) := by
  intro j hj
  rw [gI_pI]
  by_cases h : j = a
  · rw [if_pos ⟨rfl, h⟩, h, up_s]
  · rw [if_neg (fun e => h e.2), up_n _ _ h]
    exact hM j hj
theorem m_lay_loop {mem : Nat → Nat} {a m : Nat} {v : Int64} (ham : a + m ≤ 65536) (hm : m ≤ 8) : ∀ (d i n : Nat) (S : Sx), i + d = m → d < n → MM S (putI mem a m i v) → ∃ S', X12_lay_3 n (nI a) (nI m) v (nI i) S = rt () S' ∧ MM S' (putB mem a m v) ∧ Sm (fun c _ => c = 169) S S' := by
  intro d
  induction d with
  | zero =>
    intro i n S hi hn hM
    obtain ⟨n, rfl⟩ : ∃ j, n = j + 1 := ⟨n - 1, by omega⟩
    obtain rfl : i = m := by omega
    refine ⟨S, ?_, hM, Sm.rfl' S⟩
    show X12_lay_3b (X12_lay_3 n) (nI a) (nI i) v (nI i) S = _
    unfold X12_lay_3b
    rw [if_pos (nI_le (Nat.le_refl _) (by omega))]
  | succ d ih =>
    intro i n S hi hn hM
    obtain ⟨n, rfl⟩ : ∃ j, n = j + 1 := ⟨n - 1, by omega⟩
    obtain ⟨S', e1, e2, e3⟩ := ih (i + 1) n (pI S 169 (a + i) (nI (bN v m i))) (by omega) (by omega) (by rw [putI_s]; exact MM_up hM)
    refine ⟨S', ?_, e2, Sm.trans (Sm.pI (P := fun c _ => c = 169) rfl) e3⟩
    show X12_lay_3b (X12_lay_3 n) (nI a) (nI m) v (nI i) S = _
    unfold X12_lay_3b
    rw [if_neg (nI_ge (by omega) (by omega)), nI_add, sI_n (by omega) (by omega), bN_i, vl_e, nI_1]
    exact e1
theorem m_lay {S : Sx} {mem : Nat → Nat} {a m : Nat} {v : Int64} (ham : a + m ≤ 65536) (hm : m ≤ 8) (hM : MM S mem) : ∃ S', X12_lay (nI a) (nI m) v S = rt () S' ∧ MM S' (putB mem a m v) ∧ Sm (fun c _ => c = 169) S S' := by
  unfold X12_lay
  exact m_lay_loop ham hm m 0 FU S (by omega) (by have := FU_ge; omega) (by rw [putI_0]; exact hM)
/-! ===== X's bytes ===== -/
theorem XP.byte {S : Sx} {b : Pb} {mem : Nat → Nat} {f p k x : Nat} (h : XP S b mem) (hO : bOK b) (hf : pin b f = some p) (hk : k < 64) : XP (pI S (11 + 2 * f) k (by8 x)) b (up mem (64 * p + k) x) := by
  obtain ⟨o1, o2, o3, o4, o5, o6, o7, o8⟩ := id hO
  obtain ⟨h1, h2, h3, h4⟩ := h
  have hf64 : f < 64 := by have := (o4 f p hf).1; omega
  have hs : Sm (fun c _ => c = 11 + 2 * f) S (pI S (11 + 2 * f) k (by8 x)) := Sm.pI rfl
  refine ⟨h1.sm hs (fun f hf => ⟨by omega, by omega⟩), h2.sm hs (fun c k x q => by omega), h3.sm hs (fun c k x q => by omega), fun q hq => ⟨fun g hg j hj => ?_, fun hg j hj => ?_⟩⟩
  · by_cases hgf : g = f
    · subst hgf
      rw [hf] at hg
      cases hg
      rw [gI_pI]
      by_cases hjk : j = k
      · rw [if_pos ⟨rfl, hjk⟩, hjk, up_s]
      · rw [if_neg (fun e => hjk e.2), up_n _ _ (by omega)]
        exact (h4 p hq).1 g hf j hj
    · rw [hs.I (by omega)]
      have hqp : q ≠ p := fun e => hgf (o5 g f p (by rw [← e]; exact hg) hf)
      rw [up_n _ _ (by omega)]
      exact (h4 q hq).1 g hg j hj
  · have hqp : q ≠ p := fun e => hg f (by rw [e]; exact hf)
    rw [hs.I (by omega), up_n _ _ (by omega)]
    exact (h4 q hq).2 hg j hj
def bW (b : Pb) (f : Nat) : Pb := mkPb (fr b) (pin b) (tch b) (up (wrt b) f true) (ot b) (hd b) (kn b) (fa b) (re b) (wr b) (mi b)
theorem bTouch_w {b b' : Pb} {p f : Nat} (h : bTouch b p true f b') : ∃ b0, bTouch b p false f b0 ∧ b' = bW b0 f := by
  rcases h with ⟨t1, t2, rfl⟩ | ⟨t1, t2, rfl⟩ | ⟨t1, t2, t3, rfl⟩
  · exact ⟨_, Or.inl ⟨t1, t2, rfl⟩, rfl⟩
  · exact ⟨_, Or.inr (Or.inl ⟨t1, t2, rfl⟩), rfl⟩
  · exact ⟨_, Or.inr (Or.inr ⟨t1, t2, t3, rfl⟩), rfl⟩
theorem XP.w {S : Sx} {b : Pb} {mem : Nat → Nat} {f p : Nat} (h : XP S b mem) (hO : bOK b) (hf : pin b f = some p) : XP (pI S (10 + 2 * f) 3 1) (bW b f) mem := by
  obtain ⟨o1, o2, o3, o4, o5, o6, o7, o8⟩ := id hO
  have hf64 : f < 64 := by have := (o4 f p hf).1; omega
  obtain ⟨h1, ⟨a1, a2, a3, a4, a5, a6, a7, a8⟩, ⟨l, l1, l2⟩, h4⟩ := h
  have hs : Sm (fun c k => c = 10 + 2 * f ∧ k = 3) S (pI S (10 + 2 * f) 3 1) := Sm.pI ⟨rfl, rfl⟩
  refine ⟨h1.sm hs (fun f hf => ⟨by omega, by omega⟩), ⟨?_, ?_, ?_, ?_, ?_, ?_, fun g hg => ?_, fun q hq => ?_⟩, ⟨l, l1.sm hs (fun c k x => by omega), l2⟩, XM.sm (b := b) h4 (fun f p hf => by have := (o4 f p hf).1; omega) hs (fun c k x => by omega)⟩
  · rw [hs.I (by omega)]; exact a1
  · rw [hs.I (by omega)]; exact a2
  · rw [hs.I (by omega)]; exact a3
  · rw [hs.I (by omega)]; exact a4
  · rw [hs.I (by omega)]; exact a5
  · rw [hs.I (by omega)]; exact a6
  · show _ = pg (pin b g) ∧ (pin b g ≠ none → _ = b1 (tch b g) ∧ _ = b1 (up (wrt b) f true g))
    rw [hs.I (c := 10 + 2 * g) (k := 1) (by omega), hs.I (c := 10 + 2 * g) (k := 2) (by omega)]
    refine ⟨(a7 g hg).1, fun hne => ⟨((a7 g hg).2 hne).1, ?_⟩⟩
    by_cases hgf : g = f
    · rw [hgf, up_s, gI_pI, if_pos ⟨rfl, rfl⟩]; rfl
    · rw [hs.I (by omega), up_n _ _ hgf]; exact ((a7 g hg).2 hne).2
  · rw [hs.R (by omega), hs.I (by omega)]
    exact a8 q hq
theorem x_get_loop {S : Sx} {b : Pb} {mem : Nat → Nat} {a m f : Nat} (h : XP S b mem) (hO : bOK b) (hm : memOK mem) (ha : a < 65536) (hf : pin b f = some (a / 64)) (ham : a % 64 + m ≤ 64) : ∀ (d i n : Nat), i + d = m → d < n → X2_get_15 n (nI a) (nI m) (some (10 + 2 * f)) (numL mem a i) (nI i) S = rt (numL mem a m) S := by
  obtain ⟨hF, hB, hC, hMm⟩ := h
  have hf64 : f < 64 := by have := (hO.2.2.2.1 f _ hf).1; have := hO.2.1; omega
  have e64 : nI a - nI a / 64 * 64 = nI (a % 64) := pk_rem (by omega) (by decide) (by decide)
  intro d
  induction d with
  | zero =>
    intro i n hi hn
    obtain ⟨n, rfl⟩ : ∃ j, n = j + 1 := ⟨n - 1, by omega⟩
    obtain rfl : i = m := by omega
    show X2_get_15b (X2_get_15 n) (nI a) (nI i) (some (10 + 2 * f)) (numL mem a i) (nI i) S = _
    unfold X2_get_15b
    rw [if_pos (nI_le (Nat.le_refl _) (by omega))]
  | succ d ih =>
    intro i n hi hn
    obtain ⟨n, rfl⟩ : ∃ j, n = j + 1 := ⟨n - 1, by omega⟩
    show X2_get_15b (X2_get_15 n) (nI a) (nI m) (some (10 + 2 * f)) (numL mem a i) (nI i) S = _
    unfold X2_get_15b
    obtain ⟨q1, q2, q3, q4, q5⟩ := hF.2.2 f hf64
    have hv := (hMm (a / 64) (by omega)).1 f hf (a % 64 + i) (by omega)
    rw [show 64 * (a / 64) + (a % 64 + i) = a + i by omega] at hv
    rw [if_neg (nI_ge (by omega) (by omega)), dO_s q2, q3, dO_s q4, q5, e64, nI_add, lI_n (by omega) (by omega), hv, vl_e, vl_e, nI_1]
    have e8 : (by8 (mem (a + i))).toInt64 &&& 255 = lN (mem (a + i)) := by8_l _ (hm _)
    rw [e8]
    exact ih (i + 1) n (by omega) (by omega)
/-- X reads m bytes -/
theorem x_get {S : Sx} {b b' : Pb} {mem : Nat → Nat} {a m f : Nat} (h : XP S b mem) (hO : bOK b) (hm : memOK mem) (ha : a < 65536) (hT : bTouch b (a / 64) false f b') (ham : a % 64 + m ≤ 64) : ∃ S', X2_get (nI a) (nI m) S = rt (numL mem a m) S' ∧ XP S' b' mem ∧ Sm xPl S S' := by
  have e64 : nI a / (64 : Int32) = nI (a / 64) := pk_div (by omega) (by decide) (by decide)
  obtain ⟨S', e1, e2, e3⟩ := x_touch h hO (by omega) hT
  obtain ⟨o1, o2, -⟩ := bTouch_OK hO (by omega) hT
  refine ⟨S', ?_, e2, e3⟩
  unfold X2_get
  rw [e64, e1, bd_rt, vl_e]
  exact x_get_loop e2 o1 hm ha o2 ham m 0 FU (by omega) (by have := FU_ge; omega)
theorem x_set_loop {b : Pb} {mem : Nat → Nat} {a m f : Nat} {v : Int64} (hO : bOK b) (ha : a < 65536) (hf : pin b f = some (a / 64)) (ham : a % 64 + m ≤ 64) : ∀ (d i n : Nat) (S : Sx), i + d = m → d < n → XP S b (putI mem a m i v) → ∃ S', X2_set_19 n (nI a) (nI m) v (some (10 + 2 * f)) (nI i) S = rt () S' ∧ XP S' b (putB mem a m v) ∧ Sm xPl S S' := by
  have hf64 : f < 64 := by have := (hO.2.2.2.1 f _ hf).1; have := hO.2.1; omega
  have e64 : nI a - nI a / 64 * 64 = nI (a % 64) := pk_rem (by omega) (by decide) (by decide)
  intro d
  induction d with
  | zero =>
    intro i n S hi hn hM
    obtain ⟨n, rfl⟩ : ∃ j, n = j + 1 := ⟨n - 1, by omega⟩
    obtain rfl : i = m := by omega
    refine ⟨S, ?_, hM, Sm.rfl' S⟩
    show X2_set_19b (X2_set_19 n) (nI a) (nI i) v (some (10 + 2 * f)) (nI i) S = _
    unfold X2_set_19b
    rw [if_pos (nI_le (Nat.le_refl _) (by omega))]
  | succ d ih =>
    intro i n S hi hn hM
    obtain ⟨n, rfl⟩ : ∃ j, n = j + 1 := ⟨n - 1, by omega⟩
    have hB := hM.byte (k := a % 64 + i) (x := bN v m i) hO hf (by omega)
    rw [show 64 * (a / 64) + (a % 64 + i) = a + i by omega, ← putI_s] at hB
    obtain ⟨S', e1, e2, e3⟩ := ih (i + 1) n (pI S (11 + 2 * f) (a % 64 + i) (by8 (bN v m i))) (by omega) (by omega) hB
    refine ⟨S', ?_, e2, Sm.trans (Sm.pI (show xPl (11 + 2 * f) (a % 64 + i) from ⟨by omega, by omega⟩)) e3⟩
    show X2_set_19b (X2_set_19 n) (nI a) (nI m) v (some (10 + 2 * f)) (nI i) S = _
    unfold X2_set_19b
    obtain ⟨q1, q2, q3, q4, q5⟩ := hM.1.2.2 f hf64
    rw [if_neg (nI_ge (by omega) (by omega)), dO_s q2, q3, dO_s q4, q5, e64, nI_add, sI_n (by omega) (by omega), bN_8, vl_e, nI_1]
    exact e1
/-- X writes m bytes -/
theorem x_set {S : Sx} {b b' : Pb} {mem : Nat → Nat} {a m f : Nat} {v : Int64} (h : XP S b mem) (hO : bOK b) (ha : a < 65536) (hT : bTouch b (a / 64) true f b') (ham : a % 64 + m ≤ 64) : ∃ S', X2_set (nI a) (nI m) v S = rt () S' ∧ XP S' b' (putB mem a m v) ∧ Sm xPl S S' := by
  have e64 : nI a / (64 : Int32) = nI (a / 64) := pk_div (by omega) (by decide) (by decide)
  obtain ⟨b0, hT0, rfl⟩ := bTouch_w hT
  obtain ⟨S1, e1, e2, e3⟩ := x_touch h hO (by omega) hT0
  obtain ⟨o1, o2, o3, -⟩ := bTouch_OK hO (by omega) hT0
  have hf64 : f < 64 := by have := o1.2.1; omega
  have hW := e2.w o1 o2
  obtain ⟨S', c1, c2, c3⟩ := x_set_loop (mem := mem) (v := v) (b := bW b0 f) o1 ha o2 ham m 0 FU _ (by omega) (by have := FU_ge; omega) (by rw [putI_0]; exact hW)
  refine ⟨S', ?_, c2, (e3.trans (Sm.pI (show xPl (10 + 2 * f) 3 from ⟨by omega, by omega⟩))).trans c3⟩
  unfold X2_set
  rw [e64, e1, bd_rt, vl_e, dO_s (e2.1.2.2 f hf64).2.1, pt_e]
  exact c1
theorem x_peek {S : Sx} {b : Pb} {mem : Nat → Nat} {a : Nat} (h : XP S b mem) (hO : bOK b) (hm : memOK mem) (ha : a < 65536) : X2_peek (nI a) S = rt (nI (mem a)) S := by
  have e64 : nI a / (64 : Int32) = nI (a / 64) := pk_div (by omega) (by decide) (by decide)
  have e65 : nI a - nI a / 64 * 64 = nI (a % 64) := pk_rem (by omega) (by decide) (by decide)
  obtain ⟨hF, hB, hC, hMm⟩ := h
  have e8 : by8 (mem a) &&& 255 = nI (mem a) := by8_i _ (hm _)
  unfold X2_peek
  rw [e64, lR_n (by omega) (by omega), vl_e]
  by_cases hr : ∃ f, pin b f = some (a / 64)
  · obtain ⟨f, hf⟩ := hr
    have hf64 : f < 64 := by have := (hO.2.2.2.1 f _ hf).1; have := hO.2.1; omega
    obtain ⟨q1, q2, q3, q4, q5⟩ := hF.2.2 f hf64
    have hv := (hMm (a / 64) (by omega)).1 f hf (a % 64) (by omega)
    rw [show 64 * (a / 64) + a % 64 = a by omega] at hv
    rw [(hB.2.2.2.2.2.2.2 _ (by omega)).1 f hf, if_neg (by simp), dO_s q2, q3, dO_s q4, q5, show nI a - nI (a / 64) * 64 = nI (a % 64) by rw [← e64]; exact e65, lI_n (by omega) (by omega), hv, e8]
  · have hr : ∀ f, pin b f ≠ some (a / 64) := fun f e => hr ⟨f, e⟩
    have hv := (hMm (a / 64) (by omega)).2 hr (a % 64) (by omega)
    rw [show 64 * (a / 64) + a % 64 = a by omega] at hv
    rw [((hB.2.2.2.2.2.2.2 _ (by omega)).2 hr).1, if_pos rfl, lI_n (by omega) (by omega), hv, e8]
end
section
set_option maxRecDepth 100000
/-! ===== no page was touched ===== -/
/-- the book with r frames, all free; o: which pages are on the disk -/
def b00 (r : Nat) (o : Nat → Bool) : Pb := mkPb r (fun _ => none) (fun _ => false) (fun _ => false) o 0 [] 0 0 0 0
theorem b00_OK {r : Nat} {o : Nat → Bool} (h1 : 2 ≤ r) (h2 : r ≤ 64) : bOK (b00 r o) := ⟨h1, h2, by show 0 < r; omega, (fun f p h => by cases h), (fun f g p h => by cases h), List.nodup_nil, Nat.zero_le _, fun p h => by cases h⟩
/-! M -/
def fPl (c k : Nat) : Prop := (c = 167 ∧ (k = 23 ∨ (25 ≤ k ∧ k ≤ 29))) ∨ (175 ≤ c ∧ c ≤ 179)
theorem m_free_31 : ∀ (d i n : Nat) (S : Sx), i + d = 64 → d < n → (∀ f, f < i → gI S 177 f = -1 ∧ gI S 178 f = 0 ∧ gI S 179 f = 0) → ∃ S', X12_freePages_31 n (nI i) S = rt () S' ∧ (∀ f, f < 64 → gI S' 177 f = -1 ∧ gI S' 178 f = 0 ∧ gI S' 179 f = 0) ∧ gI S' 167 23 = 0 ∧ gI S' 167 25 = 0 ∧ gI S' 167 26 = 0 ∧ gI S' 167 27 = 0 ∧ gI S' 167 28 = 0 ∧ gI S' 167 29 = 0 ∧ Sm (fun c k => (c = 167 ∧ (k = 23 ∨ (25 ≤ k ∧ k ≤ 29))) ∨ (177 ≤ c ∧ c ≤ 179)) S S' := by
  intro d
  induction d with
  | zero =>
    intro i n S hi hn h
    obtain ⟨n, rfl⟩ : ∃ j, n = j + 1 := ⟨n - 1, by omega⟩
    obtain rfl : i = 64 := by omega
    refine ⟨pI (pI (pI (pI (pI (pI S 167 23 0) 167 25 0) 167 26 0) 167 27 0) 167 28 0) 167 29 0, ?_, ?_, ?_, ?_, ?_, ?_, ?_, ?_, ?_⟩
    · show X12_freePages_31b (X12_freePages_31 n) (nI 64) S = _
      unfold X12_freePages_31b
      rw [if_pos (by decide)]
      rfl
    · intro f hf
      simp [gI_pI]
      exact h f hf
    all_goals first | (simp [gI_pI]; done) | skip
    refine Sm.trans (Sm.trans (Sm.trans (Sm.trans (Sm.trans (Sm.pI ?_) (Sm.pI ?_)) (Sm.pI ?_)) (Sm.pI ?_)) (Sm.pI ?_)) (Sm.pI ?_) <;> omega
  | succ d ih =>
    intro i n S hi hn h
    obtain ⟨n, rfl⟩ : ∃ j, n = j + 1 := ⟨n - 1, by omega⟩
    obtain ⟨S', e1, e2⟩ := ih (i + 1) n (pI (pI (pI S 177 i (-1)) 178 i 0) 179 i 0) (by omega) (by omega) (fun f hf => by
      by_cases hfi : f = i
      · subst hfi; simp [gI_pI]
      · simp [gI_pI, hfi]; exact h f (by omega))
    refine ⟨S', ?_, e2.1, e2.2.1, e2.2.2.1, e2.2.2.2.1, e2.2.2.2.2.1, e2.2.2.2.2.2.1, e2.2.2.2.2.2.2.1, Sm.trans (Sm.trans (Sm.trans (Sm.pI (by omega)) (Sm.pI (by omega))) (Sm.pI (by omega))) e2.2.2.2.2.2.2.2⟩
    show X12_freePages_31b (X12_freePages_31 n) (nI i) S = _
    unfold X12_freePages_31b
    rw [if_neg (show ¬ (64 : Int32) ≤ nI i from nI_ge (a := i) (b := 64) (by omega) (by omega)), sI_n (by omega) (by omega), sI_n (by omega) (by omega), sI_n (by omega) (by omega), nz_0, vl_e, nI_1]
    exact e1
theorem m_free_2 : ∀ (d i n : Nat) (S : Sx), i + d = 1024 → d < n → (∀ p, p < i → gI S 175 p = -1 ∧ gI S 176 p = 0) → ∃ S1, X12_freePages_2 n (nI i) S = X12_freePages_31 FU (nI 0) S1 ∧ (∀ p, p < 1024 → gI S1 175 p = -1 ∧ gI S1 176 p = 0) ∧ Sm (fun c _ => 175 ≤ c ∧ c ≤ 176) S S1 := by
  intro d
  induction d with
  | zero =>
    intro i n S hi hn h
    obtain ⟨n, rfl⟩ : ∃ j, n = j + 1 := ⟨n - 1, by omega⟩
    obtain rfl : i = 1024 := by omega
    refine ⟨S, ?_, h, Sm.rfl' S⟩
    show X12_freePages_2b (X12_freePages_2 n) (nI 1024) S = _
    unfold X12_freePages_2b
    rw [if_pos (by decide)]
    rfl
  | succ d ih =>
    intro i n S hi hn h
    obtain ⟨n, rfl⟩ : ∃ j, n = j + 1 := ⟨n - 1, by omega⟩
    obtain ⟨S1, e1, e2, e3⟩ := ih (i + 1) n (pI (pI S 175 i (-1)) 176 i 0) (by omega) (by omega) (fun f hf => by
      by_cases hfi : f = i
      · subst hfi; simp [gI_pI]
      · simp [gI_pI, hfi]; exact h f (by omega))
    refine ⟨S1, ?_, e2, Sm.trans (Sm.trans (Sm.pI (by omega)) (Sm.pI (by omega))) e3⟩
    show X12_freePages_2b (X12_freePages_2 n) (nI i) S = _
    unfold X12_freePages_2b
    rw [if_neg (show ¬ (1024 : Int32) ≤ nI i from nI_ge (a := i) (b := 1024) (by omega) (by omega)), sI_n (by omega) (by omega), sI_n (by omega) (by omega), nz_0, vl_e, nI_1]
    exact e1
theorem m_freePages {S : Sx} {r : Nat} (hr : gI S 167 17 = nI r) : ∃ S', X12_freePages S = rt () S' ∧ MP S' (b00 r (fun _ => false)) ∧ Sm fPl S S' := by
  obtain ⟨S1, e1, e2, e3⟩ := m_free_2 1024 0 FU S (by omega) (by have := FU_ge; omega) (fun p hp => by omega)
  obtain ⟨S', a1, a2, a3, a4, a5, a6, a7, a8, a9⟩ := m_free_31 64 0 FU S1 (by omega) (by have := FU_ge; omega) (fun p hp => by omega)
  refine ⟨S', ?_, ⟨?_, a3, ⟨a4, Nat.zero_le _, fun i hi => absurd hi (Nat.not_lt_zero _)⟩, a5, a6, a7, a8, fun f hf => ?_, fun p hp => ⟨(fun f hf => by cases hf), fun _ => ?_⟩⟩, (e3.mono fun c k x => by unfold fPl; omega).trans (a9.mono fun c k x => by unfold fPl; omega)⟩
  · unfold X12_freePages
    rw [← nI_0, e1, a1]
  · rw [a9.I (by omega), e3.I (by omega)]; exact hr
  · exact ⟨(a2 f hf).1, (a2 f hf).2.1, (a2 f hf).2.2⟩
  · rw [a9.I (by omega), a9.I (by omega)]
    exact e2 p hp
/-! X -/
theorem x_reset_24 : ∀ (d i n : Nat) (S : Sx), i + d = 64 → d < n → XF S → (∀ f, f < i → gI S (10 + 2 * f) 1 = -1) → ∃ S', X2_reset_24 n (nI i) S = rt () S' ∧ (∀ f, f < 64 → gI S' (10 + 2 * f) 1 = -1) ∧ gI S' 7 2 = 0 ∧ gI S' 2 2 = 0 ∧ gI S' 2 7 = 0 ∧ gI S' 2 8 = 0 ∧ gI S' 2 9 = 0 ∧ gI S' 2 10 = 0 ∧ Sm (fun c k => (c = 7 ∧ k = 2) ∨ (c = 2 ∧ (k = 2 ∨ (7 ≤ k ∧ k ≤ 10))) ∨ (10 ≤ c ∧ c ≤ 136 ∧ c % 2 = 0 ∧ k = 1)) S S' := by
  intro d
  induction d with
  | zero =>
    intro i n S hi hn hF h
    obtain ⟨n, rfl⟩ : ∃ j, n = j + 1 := ⟨n - 1, by omega⟩
    obtain rfl : i = 64 := by omega
    refine ⟨pI (pI (pI (pI (pI (pI S 7 2 0) 2 2 0) 2 7 0) 2 8 0) 2 9 0) 2 10 0, ?_, ?_, ?_, ?_, ?_, ?_, ?_, ?_, ?_⟩
    · show X2_reset_24b (X2_reset_24 n) (nI 64) S = _
      unfold X2_reset_24b X3_clear
      rw [if_pos (by decide)]
      rfl
    · intro f hf
      have h2 : ¬ 10 + 2 * f = 2 := by omega
      have h7 : ¬ 10 + 2 * f = 7 := by omega
      simp [gI_pI, h2, h7]
      exact h f hf
    all_goals first | (simp [gI_pI]; done) | skip
    refine Sm.trans (Sm.trans (Sm.trans (Sm.trans (Sm.trans (Sm.pI ?_) (Sm.pI ?_)) (Sm.pI ?_)) (Sm.pI ?_)) (Sm.pI ?_)) (Sm.pI ?_) <;> omega
  | succ d ih =>
    intro i n S hi hn hF h
    obtain ⟨n, rfl⟩ : ∃ j, n = j + 1 := ⟨n - 1, by omega⟩
    have hs : Sm (fun c k => (c = 7 ∧ k = 2) ∨ (c = 2 ∧ (k = 2 ∨ (7 ≤ k ∧ k ≤ 10))) ∨ (10 ≤ c ∧ c ≤ 136 ∧ c % 2 = 0 ∧ k = 1)) S (pI S (10 + 2 * i) 1 (-1)) := Sm.pI (by omega)
    obtain ⟨S', e1, e2⟩ := ih (i + 1) n (pI S (10 + 2 * i) 1 (-1)) (by omega) (by omega) (hF.sm hs (fun f hf => ⟨by omega, by omega⟩)) (fun f hf => by
      rw [gI_pI]
      by_cases hfi : f = i
      · rw [if_pos (by omega)]
      · rw [if_neg (by omega)]; exact h f (by omega))
    refine ⟨S', ?_, e2.1, e2.2.1, e2.2.2.1, e2.2.2.2.1, e2.2.2.2.2.1, e2.2.2.2.2.2.1, e2.2.2.2.2.2.2.1, hs.trans e2.2.2.2.2.2.2.2⟩
    show X2_reset_24b (X2_reset_24 n) (nI i) S = _
    unfold X2_reset_24b
    obtain ⟨q1, q2, -⟩ := hF.2.2 i (by omega)
    rw [if_neg (show ¬ (64 : Int32) ≤ nI i from nI_ge (a := i) (b := 64) (by omega) (by omega)), lR_n (by omega) (by omega), q1, dO_s q2, pt_e, vl_e, nI_1]
    exact e1
theorem x_reset_2 : ∀ (d i n : Nat) (S : Sx), i + d = 1024 → d < n → (∀ p, p < i → gR S 6 p = none) → ∃ S1, X2_reset_2 n (nI i) S = X2_reset_24 FU (nI 0) S1 ∧ (∀ p, p < 1024 → gR S1 6 p = none) ∧ Sm (fun c _ => c = 6) S S1 := by
  intro d
  induction d with
  | zero =>
    intro i n S hi hn h
    obtain ⟨n, rfl⟩ : ∃ j, n = j + 1 := ⟨n - 1, by omega⟩
    obtain rfl : i = 1024 := by omega
    refine ⟨S, ?_, h, Sm.rfl' S⟩
    show X2_reset_2b (X2_reset_2 n) (nI 1024) S = _
    unfold X2_reset_2b
    rw [if_pos (by decide)]
    rfl
  | succ d ih =>
    intro i n S hi hn h
    obtain ⟨n, rfl⟩ : ∃ j, n = j + 1 := ⟨n - 1, by omega⟩
    obtain ⟨S1, e1, e2, e3⟩ := ih (i + 1) n (pR S 6 i none) (by omega) (by omega) (fun f hf => by
      rw [gR_pR]
      by_cases hfi : f = i
      · rw [if_pos ⟨rfl, hfi⟩]
      · rw [if_neg (fun e => hfi e.2)]; exact h f (by omega))
    refine ⟨S1, ?_, e2, Sm.trans (Sm.pR (P := fun c _ => c = 6) rfl) e3⟩
    show X2_reset_2b (X2_reset_2 n) (nI i) S = _
    unfold X2_reset_2b
    rw [if_neg (show ¬ (1024 : Int32) ≤ nI i from nI_ge (a := i) (b := 1024) (by omega) (by omega)), dOn_0, sR_n (by omega) (by omega), vl_e, nI_1]
    exact e1
/-- what is on the disk counts: all frames become free -/
theorem x_reset {S : Sx} {r : Nat} {o : Nat → Bool} {mem : Nat → Nat} (hF : XF S) (hr : gI S 2 1 = nI r) (ho : ∀ p, p < 1024 → gI S 5 p = b1 (o p)) (hm : ∀ a, a < 65536 → gI S 4 a = by8 (mem a)) : ∃ S', X2_reset S = rt () S' ∧ XP S' (b00 r o) mem ∧ Sm xPl S S' := by
  obtain ⟨S1, e1, e2, e3⟩ := x_reset_2 1024 0 FU S (by omega) (by have := FU_ge; omega) (fun p hp => by omega)
  have hF1 : XF S1 := hF.sm e3 (fun f hf => ⟨by omega, by omega⟩)
  obtain ⟨S', a1, a2, a3, a4, a5, a6, a7, a8, a9⟩ := x_reset_24 64 0 FU S1 (by omega) (by have := FU_ge; omega) hF1 (fun p hp => by omega)
  refine ⟨S', ?_, ⟨hF1.sm a9 (fun f hf => ⟨by omega, by omega⟩), ⟨?_, a4, a5, a6, a7, a8, fun f hf => ⟨a2 f hf, fun h => absurd rfl h⟩, fun p hp => ⟨(fun f hf => by cases hf), fun _ => ⟨?_, ?_⟩⟩⟩, ⟨[], ⟨a3, Nat.zero_le _, (fun q hq => by cases hq), fun i hi => absurd hi (Nat.not_lt_zero _)⟩, rfl, fun q hq => by cases hq⟩, fun p hp => ⟨(fun f hf => by cases hf), fun _ k hk => ?_⟩⟩, (e3.mono fun c k x => by unfold xPl; omega).trans (a9.mono fun c k x => by unfold xPl; omega)⟩
  · unfold X2_reset
    rw [← nI_0, e1, a1]
  · rw [a9.I (by omega), e3.I (by omega)]; exact hr
  · rw [a9.R (by omega)]; exact e2 p hp
  · rw [a9.I (by omega), e3.I (by omega)]; exact ho p hp
  · rw [a9.I (by omega), e3.I (by omega)]; exact hm _ (by omega)
theorem x_clear_23 : ∀ (d i n : Nat) (S : Sx), i + d = 1024 → d < n → (∀ p, p < i → gI S 5 p = 0) → ∃ S1, X2_clear_23 n (nI i) S = bd (X2_reset S1) (fun _ S2 => rt () S2) ∧ (∀ p, p < 1024 → gI S1 5 p = 0) ∧ Sm (fun c _ => c = 5) S S1 := by
  intro d
  induction d with
  | zero =>
    intro i n S hi hn h
    obtain ⟨n, rfl⟩ : ∃ j, n = j + 1 := ⟨n - 1, by omega⟩
    obtain rfl : i = 1024 := by omega
    refine ⟨S, ?_, h, Sm.rfl' S⟩
    show X2_clear_23b (X2_clear_23 n) (nI 1024) S = _
    unfold X2_clear_23b
    rw [if_pos (by decide)]
  | succ d ih =>
    intro i n S hi hn h
    obtain ⟨n, rfl⟩ : ∃ j, n = j + 1 := ⟨n - 1, by omega⟩
    obtain ⟨S1, e1, e2, e3⟩ := ih (i + 1) n (pI S 5 i 0) (by omega) (by omega) (fun f hf => by
      rw [gI_pI]
      by_cases hfi : f = i
      · rw [if_pos ⟨rfl, hfi⟩]
      · rw [if_neg (fun e => hfi e.2)]; exact h f (by omega))
    refine ⟨S1, ?_, e2, Sm.trans (Sm.pI (P := fun c _ => c = 5) rfl) e3⟩
    show X2_clear_23b (X2_clear_23 n) (nI i) S = _
    unfold X2_clear_23b
    rw [if_neg (show ¬ (1024 : Int32) ≤ nI i from nI_ge (a := i) (b := 1024) (by omega) (by omega)), sI_n (by omega) (by omega), nz_0, vl_e, nI_1]
    exact e1
theorem x_clear_2 : ∀ (d i n : Nat) (S : Sx), i + d = 65536 → d < n → (∀ p, p < i → gI S 4 p = 0) → ∃ S1, X2_clear_2 n (nI i) S = X2_clear_23 FU (nI 0) S1 ∧ (∀ p, p < 65536 → gI S1 4 p = 0) ∧ Sm (fun c _ => c = 4) S S1 := by
  intro d
  induction d with
  | zero =>
    intro i n S hi hn h
    obtain ⟨n, rfl⟩ : ∃ j, n = j + 1 := ⟨n - 1, by omega⟩
    obtain rfl : i = 65536 := by omega
    refine ⟨S, ?_, h, Sm.rfl' S⟩
    show X2_clear_2b (X2_clear_2 n) (nI 65536) S = _
    unfold X2_clear_2b
    rw [if_pos (by decide)]
    rfl
  | succ d ih =>
    intro i n S hi hn h
    obtain ⟨n, rfl⟩ : ∃ j, n = j + 1 := ⟨n - 1, by omega⟩
    have e0 : ((0 : Int32).toInt8.toInt32) = 0 := by decide
    obtain ⟨S1, e1, e2, e3⟩ := ih (i + 1) n (pI S 4 i 0) (by omega) (by omega) (fun f hf => by
      rw [gI_pI]
      by_cases hfi : f = i
      · rw [if_pos ⟨rfl, hfi⟩]
      · rw [if_neg (fun e => hfi e.2)]; exact h f (by omega))
    refine ⟨S1, ?_, e2, Sm.trans (Sm.pI (P := fun c _ => c = 4) rfl) e3⟩
    show X2_clear_2b (X2_clear_2 n) (nI i) S = _
    unfold X2_clear_2b
    rw [if_neg (show ¬ (65536 : Int32) ≤ nI i from nI_ge (a := i) (b := 65536) (by omega) (by omega)), sI_n (by omega) (by omega), e0, vl_e, nI_1]
    exact e1
theorem x_clear {S : Sx} {r : Nat} (hF : XF S) (hr : gI S 2 1 = nI r) : ∃ S', X2_clear S = rt () S' ∧ XP S' (b00 r (fun _ => false)) (fun _ => 0) ∧ Sm xPl S S' := by
  obtain ⟨S1, e1, e2, e3⟩ := x_clear_2 65536 0 FU S (by omega) (by have := FU_ge; omega) (fun p hp => by omega)
  obtain ⟨S2, a1, a2, a3⟩ := x_clear_23 1024 0 FU S1 (by omega) (by have := FU_ge; omega) (fun p hp => by omega)
  have hF2 : XF S2 := (hF.sm e3 (fun f hf => ⟨by omega, by omega⟩)).sm a3 (fun f hf => ⟨by omega, by omega⟩)
  obtain ⟨S', c1, c2, c3⟩ := x_reset (r := r) (o := fun _ => false) (mem := fun _ => 0) hF2 (by rw [a3.I (by omega), e3.I (by omega)]; exact hr) a2 (fun a ha => by rw [a3.I (by omega), e2 a ha]; decide)
  refine ⟨S', ?_, c2, ((e3.mono fun c k x => by unfold xPl; omega).trans (a3.mono fun c k x => by unfold xPl; omega)).trans c3⟩
  unfold X2_clear
  rw [← nI_0, e1, a1, c1, bd_rt]
end
section
set_option maxRecDepth 100000
/-- on the disk, when all frames become free -/
noncomputable def bO (b : Pb) (p : Nat) : Bool := @decide (∃ f, pin b f = some p) (Classical.propDecidable _) || ot b p
theorem bO_in {b : Pb} {f p : Nat} (h : pin b f = some p) : bO b p = true := by
  unfold bO
  rw [@decide_eq_true _ (Classical.propDecidable _) ⟨f, h⟩]
  rfl
theorem bO_out {b : Pb} {p : Nat} (h : ∀ f, pin b f ≠ some p) : bO b p = ot b p := by
  unfold bO
  rw [@decide_eq_false _ (Classical.propDecidable _) (fun ⟨f, e⟩ => h f e)]
  rfl
def SI (b : Pb) (mem : Nat → Nat) (i : Nat) (S : Sx) : Prop := XF S ∧ gI S 2 1 = nI (fr b) ∧ (∀ f, f < 64 → gI S (10 + 2 * f) 1 = pg (pin b f)) ∧ (∀ f p, pin b f = some p → ∀ k, k < 64 → gI S (11 + 2 * f) k = by8 (mem (64 * p + k))) ∧
  ∀ p, p < 1024 → ((∀ f, pin b f ≠ some p) ∨ ∃ f, f < i ∧ pin b f = some p) → gI S 5 p = b1 (bO b p) ∧ ∀ k, k < 64 → gI S 4 (64 * p + k) = by8 (mem (64 * p + k))
theorem x_settle_loop {b : Pb} {mem : Nat → Nat} (hO : bOK b) : ∀ (d i n : Nat) (S : Sx), i + d = fr b → d < n → SI b mem i S → ∃ S1, X2_settle_2 n (nI i) S = bd (X2_reset S1) (fun _ S2 => rt () S2) ∧ SI b mem (fr b) S1 ∧ Sm xPl S S1 := by
  obtain ⟨o1, o2, o3, o4, o5, o6, o7, o8⟩ := id hO
  intro d
  induction d with
  | zero =>
    intro i n S hi hn h
    obtain ⟨n, rfl⟩ : ∃ j, n = j + 1 := ⟨n - 1, by omega⟩
    obtain rfl : i = fr b := by omega
    refine ⟨S, ?_, h, Sm.rfl' S⟩
    show X2_settle_2b (X2_settle_2 n) (nI (fr b)) S = _
    unfold X2_settle_2b
    rw [h.2.1, if_pos (nI_le (Nat.le_refl _) (by omega))]
  | succ d ih =>
    intro i n S hi hn h
    obtain ⟨n, rfl⟩ : ∃ j, n = j + 1 := ⟨n - 1, by omega⟩
    obtain ⟨hF, h1, h2, h3, h4⟩ := id h
    have hi64 : i < 64 := by omega
    obtain ⟨q1, q2, q3, q4, q5⟩ := hF.2.2 i hi64
    have hstep : X2_settle_2 (n + 1) (nI i) S = if pg (pin b i) < 0 then X2_settle_2 n (nI (i + 1)) S else bd (X2_keep (some (10 + 2 * i)) S) (fun _ S1 => X2_settle_2 n (nI (i + 1)) S1) := by
      show X2_settle_2b (X2_settle_2 n) (nI i) S = _
      unfold X2_settle_2b
      rw [h1, if_neg (nI_ge (by omega) (by omega)), lR_n hi64 (by omega), q1, dO_s q2, h2 i hi64, lR_n hi64 (by omega), q1, nI_1]
      rfl
    cases hp : pin b i with
    | none =>
      obtain ⟨S1, e1, e2, e3⟩ := ih (i + 1) n S (by omega) (by omega) ⟨hF, h1, h2, h3, fun p hp2 hc => h4 p hp2 (by
        rcases hc with hc | ⟨f, hf, hfp⟩
        · exact Or.inl hc
        · refine Or.inr ⟨f, ?_, hfp⟩
          rcases Nat.lt_or_eq_of_le (Nat.le_of_lt_succ hf) with h | h
          · exact h
          · rw [h, hp] at hfp; cases hfp)⟩
      refine ⟨S1, ?_, e2, e3⟩
      rw [hstep, hp, if_pos (by decide)]
      exact e1
    | some p =>
      have hp2 : p < 1024 := (o4 i p hp).2
      have hkeep := x_keep (b := b) (S := S) (f := i) (p := p) hF hi64 hp2 (by rw [h2 i hi64, hp]; rfl)
      generalize hS3 : pI (cpI S (11 + 2 * i) 0 4 (64 * p) 64) 5 p 1 = S3 at hkeep
      have hs3 : Sm (fun c k => c = 4 ∨ c = 5) S S3 := by
        rw [← hS3]
        exact Sm.trans (Sm.cpI (fun k _ _ => Or.inl rfl)) (Sm.pI (Or.inr rfl))
      have hSI : SI b mem (i + 1) S3 := by
        refine ⟨hF.sm hs3 (fun f hf => ⟨by omega, by omega⟩), by rw [hs3.I (by omega)]; exact h1, fun f hf => by rw [hs3.I (by omega)]; exact h2 f hf, fun f q hfq k hk => ?_, fun q hq hc => ?_⟩
        · have := (o4 f q hfq).1
          rw [hs3.I (by omega)]
          exact h3 f q hfq k hk
        · by_cases hqp : q = p
          · subst hqp
            rw [← hS3]
            refine ⟨by rw [gI_pI, if_pos ⟨rfl, rfl⟩, bO_in hp]; rfl, fun k hk => ?_⟩
            rw [gI_pI, if_neg (by omega), gI_cpI, if_pos ⟨rfl, by omega, by omega⟩, show 0 + (64 * q + k - 64 * q) = k by omega]
            exact h3 i q hp k hk
          · have := h4 q hq (by
              rcases hc with hc | ⟨f, hf, hfp⟩
              · exact Or.inl hc
              · refine Or.inr ⟨f, ?_, hfp⟩
                rcases Nat.lt_or_eq_of_le (Nat.le_of_lt_succ hf) with h | h
                · exact h
                · rw [h, hp] at hfp; exact absurd (Option.some.inj hfp).symm hqp)
            rw [← hS3]
            refine ⟨by rw [gI_pI, if_neg (by omega), gI_cpI, if_neg (by omega)]; exact this.1, fun k hk => ?_⟩
            rw [gI_pI, if_neg (by omega), gI_cpI, if_neg (by omega)]
            exact this.2 k hk
      obtain ⟨S1, e1, e2, e3⟩ := ih (i + 1) n S3 (by omega) (by omega) hSI
      refine ⟨S1, ?_, e2, (hs3.mono fun c k x => by unfold xPl; omega).trans e3⟩
      rw [hstep, hp, pg_s, if_neg (nI_pos (n := p) (by omega)), hkeep, bd_rt]
      exact e1
theorem x_settle {S : Sx} {b : Pb} {mem : Nat → Nat} (h : XP S b mem) (hO : bOK b) : ∃ S', X2_settle S = rt () S' ∧ XP S' (b00 (fr b) (bO b)) mem ∧ Sm xPl S S' := by
  obtain ⟨o1, o2, o3, o4, o5, o6, o7, o8⟩ := id hO
  obtain ⟨hF, ⟨a1, a2, a3, a4, a5, a6, a7, a8⟩, hC, hM⟩ := h
  obtain ⟨S1, e1, e2, e3⟩ := x_settle_loop hO (fr b) 0 FU S (by omega) (by have := FU_ge; omega) (mem := mem) ⟨hF, a1, fun f hf => (a7 f hf).1, fun f p hfp k hk => (hM p (o4 f p hfp).2).1 f hfp k hk, fun p hp hc => by
    rcases hc with hc | ⟨f, hf, -⟩
    · refine ⟨by rw [bO_out hc]; exact ((a8 p hp).2 hc).2, (hM p hp).2 hc⟩
    · omega⟩
  obtain ⟨hF1, b1', b2', b3', b4'⟩ := e2
  have hall : ∀ p, p < 1024 → (∀ f, pin b f ≠ some p) ∨ ∃ f, f < fr b ∧ pin b f = some p := fun p hp => by
    by_cases hx : ∃ f, pin b f = some p
    · obtain ⟨f, hf⟩ := hx
      exact Or.inr ⟨f, (o4 f p hf).1, hf⟩
    · exact Or.inl fun f e => hx ⟨f, e⟩
  obtain ⟨S', c1, c2, c3⟩ := x_reset (r := fr b) (o := bO b) (mem := mem) hF1 b1' (fun p hp => (b4' p hp (hall p hp)).1) (fun a ha => by
    have := (b4' (a / 64) (by omega) (hall _ (by omega))).2 (a % 64) (by omega)
    rwa [show 64 * (a / 64) + a % 64 = a by omega] at this)
  refine ⟨S', ?_, c2, e3.trans c3⟩
  unfold X2_settle
  rw [← nI_0, e1, c1, bd_rt]
/-! ===== loops ===== -/
theorem loopD {σ β : Type} {F : Nat → σ → Rs β} {Inv : Nat → σ → Prop} {Done : Rs β → Prop}
    (step : ∀ d n s, Inv d s → Done (F (n + 1) s) ∨ ∃ d' s', d' < d ∧ F (n + 1) s = F n s' ∧ Inv d' s') : ∀ d n s, Inv d s → d < n → Done (F n s) := by
  intro d
  induction d using Nat.strongRecOn with
  | ind d ih =>
    intro n s hs hn
    obtain ⟨n, rfl⟩ : ∃ j, n = j + 1 := ⟨n - 1, by omega⟩
    rcases step d n s hs with h | ⟨d', s', h1, h2, h3⟩
    · exact h
    · rw [h2]
      exact ih d' h1 n s' h3 (by omega)
/-- a loop that counts an int up to N -/
theorem loopN {β : Type} {F : Nat → Int32 → Sx → Rs β} {B : (Int32 → Sx → Rs β) → Int32 → Sx → Rs β} {Inv : Nat → Sx → Prop} {N : Nat} (hN : N < 1000000) (hF : ∀ n i S, F (n + 1) i S = B (F n) i S)
    (step : ∀ k i S, i < N → Inv i S → ∃ S', B k (nI i) S = k (nI (i + 1)) S' ∧ Inv (i + 1) S') {S : Sx} (h : Inv 0 S) : ∃ k S', F FU 0 S = B k (nI N) S' ∧ Inv N S' := by
  have key : ∀ d i n S, i + d = N → d < n → Inv i S → ∃ k S', F n (nI i) S = B k (nI N) S' ∧ Inv N S' := by
    intro d
    induction d with
    | zero =>
      intro i n S hi hn h
      obtain ⟨n, rfl⟩ : ∃ j, n = j + 1 := ⟨n - 1, by omega⟩
      obtain rfl : i = N := by omega
      exact ⟨F n, S, hF n _ S, h⟩
    | succ d ih =>
      intro i n S hi hn h
      obtain ⟨n, rfl⟩ : ∃ j, n = j + 1 := ⟨n - 1, by omega⟩
      obtain ⟨S1, e1, e2⟩ := step (F n) i S (by omega) h
      obtain ⟨k, S2, e3, e4⟩ := ih (i + 1) n S1 (by omega) (by omega) e2
      exact ⟨k, S2, by rw [hF, e1, e3], e4⟩
  rw [← nI_0]
  exact key N 0 FU S (by omega) (by have := FU_ge; omega) h
theorem lit_ge {i N : Nat} (h : i < N) (hN : N < 2 ^ 31) : ¬ (OfNat.ofNat N : Int32) ≤ nI i := nI_ge (a := i) (b := N) h hN
theorem lit_gt {i N : Nat} (h : N ≤ i) (hi : i < 2 ^ 31) : ¬ nI i < (OfNat.ofNat N : Int32) := nI_nlt (a := i) (b := N) h hi
theorem lit_le {i N : Nat} (h : N ≤ i) (hi : i < 2 ^ 31) : (OfNat.ofNat N : Int32) ≤ nI i := nI_le (a := N) (b := i) h hi
theorem lit_lt {i N : Nat} (h : i < N) (hi : N < 2 ^ 31) : nI i < (OfNat.ofNat N : Int32) := nI_lt (a := i) (b := N) h hi
/-! M settles -/
theorem m_settle {S : Sx} {r : Nat} {o : Nat → Bool} (hr : gI S 167 17 = nI r) (ho : ∀ p, p < 1024 → gI S 182 p = b1 (o p)) : ∃ S', X12_settle S = rt () S' ∧ MP S' (b00 r o) ∧ Sm fPl S S' := by
  obtain ⟨S1, e1, e2, e3⟩ := m_freePages hr
  obtain ⟨k, S2, h1, h2, h3⟩ := loopN (F := X12_settle_6) (B := X12_settle_6b) (N := 1024) (Inv := fun i T => (∀ p, p < i → gI T 176 p = b1 (o p)) ∧ Sm (fun c _ => c = 176) S1 T) (by omega) (fun _ _ _ => rfl) (fun k i T hi ⟨a, b⟩ => by
    refine ⟨pI T 176 i (b1 (o i)), ?_, fun p hp => ?_, b.trans (Sm.pI rfl)⟩
    · unfold X12_settle_6b
      rw [if_neg (lit_ge hi (by omega)), lI_n hi (by omega), b.I (by omega), e3.I (by unfold fPl; omega), ho i hi, sI_n hi (by omega), nz_b, vl_e, nI_1]
    · rw [gI_pI]
      split
      · rename_i h; rw [h.2]
      · exact a p (by omega)) ⟨(fun p hp => by omega), Sm.rfl' S1⟩
  refine ⟨S2, ?_, ?_, e3.trans (h3.mono fun c k x => by unfold fPl; omega)⟩
  · unfold X12_settle
    rw [e1, bd_rt, h1]
    unfold X12_settle_6b
    rw [if_pos (by decide)]
  · obtain ⟨a1, a2, ⟨k1, k2, k3⟩, a4, a5, a6, a7, a8, a9⟩ := e2
    refine ⟨by rw [h3.I (by omega)]; exact a1, by rw [h3.I (by omega)]; exact a2, ⟨by rw [h3.I (by omega)]; exact k1, k2, fun i hi => absurd hi (Nat.not_lt_zero _)⟩, by rw [h3.I (by omega)]; exact a4, by rw [h3.I (by omega)]; exact a5, by rw [h3.I (by omega)]; exact a6, by rw [h3.I (by omega)]; exact a7, fun f hf => ?_, fun p hp => ⟨(fun f hf => by cases hf), fun q => ⟨?_, h2 p hp⟩⟩⟩
    · rw [h3.I (by omega), h3.I (by omega), h3.I (by omega)]; exact a8 f hf
    · rw [h3.I (by omega)]; exact ((a9 p hp).2 (fun f hf => by cases hf)).1
end
section
set_option maxRecDepth 100000
/-! ===== lN n to 2^64: shifts, and, or, masks, one bit ===== -/
theorem wb_tb (n : Nat) : (lN n).toBitVec = BitVec.ofNat 64 n := rfl
theorem wb_inj {a b : Int64} (h : a.toBitVec = b.toBitVec) : a = b := Int64.toBitVec_inj.mp h
theorem wb_tn {n : Nat} (h : n < 2 ^ 64) : (lN n).toBitVec.toNat = n := by rw [wb_tb, BitVec.toNat_ofNat, Nat.mod_eq_of_lt h]
theorem wb_of (x : Int64) : ∃ n, n < 2 ^ 64 ∧ x = lN n := ⟨x.toBitVec.toNat, x.toBitVec.isLt, wb_inj (by rw [wb_tb]; simp)⟩
theorem wb_of32 (x : Int32) : ∃ n, n < 2 ^ 32 ∧ x = nI n := ⟨x.toBitVec.toNat, x.toBitVec.isLt, Int32.toBitVec_inj.mp (by show _ = BitVec.ofNat 32 _; simp)⟩
theorem wb_c : ∀ k, k < 64 → ((nI k).toInt64 &&& 63) = lN k := by decide +kernel
theorem wb_cu : ∀ k, k < 64 → ((nI k).toInt64.toUInt64 &&& Int64.toUInt64 63) = UInt64.ofNat k := by decide +kernel
theorem wb_sm : ∀ k, k < 64 → (BitVec.ofNat 64 k).smod 64 = BitVec.ofNat 64 k := by decide +kernel
theorem wb_pw {a b : Nat} (h : a ≤ b) : 2 ^ b = 2 ^ a * 2 ^ (b - a) := by rw [← Nat.pow_add]; congr 1; omega
theorem wb_lt2 {a b : Nat} (h : a < b) : 2 ^ a < 2 ^ b := Nat.pow_lt_pow_right (by decide) h
theorem wb_mod (n : Nat) : lN n = lN (n % 2 ^ 64) := wb_inj (by rw [wb_tb, wb_tb]; apply BitVec.eq_of_toNat_eq; rw [BitVec.toNat_ofNat, BitVec.toNat_ofNat, Nat.mod_mod])
theorem wb_shr {n k : Nat} (hn : n < 2 ^ 64) (hk : k < 64) : ((lN n).toUInt64 >>> ((nI k).toInt64.toUInt64 &&& Int64.toUInt64 63)).toInt64 = lN (n / 2 ^ k) := by
  rw [wb_cu k hk]
  apply wb_inj
  apply BitVec.eq_of_toNat_eq
  show ((lN n).toUInt64 >>> UInt64.ofNat k).toNat = (BitVec.ofNat 64 _).toNat
  have h1 : (UInt64.ofNat k).toNat = k := by
    show (BitVec.ofNat 64 k).toNat = k
    rw [BitVec.toNat_ofNat, Nat.mod_eq_of_lt (by omega)]
  have h2 : (lN n).toUInt64.toNat = n := wb_tn hn
  rw [UInt64.toNat_shiftRight, h1, h2, Nat.mod_eq_of_lt hk, Nat.shiftRight_eq_div_pow, BitVec.toNat_ofNat, Nat.mod_eq_of_lt (Nat.lt_of_le_of_lt (Nat.div_le_self _ _) hn)]
theorem wb_shl (n : Nat) {k : Nat} (hk : k < 64) : lN n <<< ((nI k).toInt64 &&& 63) = lN (n * 2 ^ k) := by
  rw [wb_c k hk]
  apply wb_inj
  rw [Int64.toBitVec_shiftLeft, wb_tb, wb_tb, wb_tb, wb_sm k hk]
  apply BitVec.eq_of_toNat_eq
  rw [BitVec.shiftLeft_eq', BitVec.toNat_shiftLeft, BitVec.toNat_ofNat, BitVec.toNat_ofNat, BitVec.toNat_ofNat, Nat.mod_eq_of_lt (show k < 2 ^ 64 by omega), Nat.shiftLeft_eq, Nat.mul_mod, Nat.mod_mod, ← Nat.mul_mod]
theorem wb_and {a b : Nat} (ha : a < 2 ^ 64) (hb : b < 2 ^ 64) : lN a &&& lN b = lN (a &&& b) := by
  apply wb_inj
  rw [Int64.toBitVec_and, wb_tb, wb_tb, wb_tb]
  apply BitVec.eq_of_toNat_eq
  rw [BitVec.toNat_and, BitVec.toNat_ofNat, BitVec.toNat_ofNat, BitVec.toNat_ofNat, Nat.mod_eq_of_lt ha, Nat.mod_eq_of_lt hb, Nat.mod_eq_of_lt (Nat.and_lt_two_pow _ hb)]
theorem wb_or {a b : Nat} (ha : a < 2 ^ 64) (hb : b < 2 ^ 64) : lN a ||| lN b = lN (a ||| b) := by
  apply wb_inj
  rw [Int64.toBitVec_or, wb_tb, wb_tb, wb_tb]
  apply BitVec.eq_of_toNat_eq
  rw [BitVec.toNat_or, BitVec.toNat_ofNat, BitVec.toNat_ofNat, BitVec.toNat_ofNat, Nat.mod_eq_of_lt ha, Nat.mod_eq_of_lt hb, Nat.mod_eq_of_lt (Nat.or_lt_two_pow ha hb)]
theorem wb_mask {n k : Nat} (hn : n < 2 ^ 64) (hk : k < 64) : lN n &&& lN (2 ^ k - 1) = lN (n % 2 ^ k) := by
  rw [wb_and hn (by have := wb_lt2 hk; omega), Nat.and_two_pow_sub_one_eq_mod]
theorem wb_a1 {n : Nat} (hn : n < 2 ^ 64) : lN n &&& 1 = lN (n % 2) := wb_mask (k := 1) hn (by decide)
theorem wb_bit {n k : Nat} (hn : n < 2 ^ 64) (hk : k < 64) : ((lN n).toUInt64 >>> ((nI k).toInt64.toUInt64 &&& Int64.toUInt64 63)).toInt64 &&& 1 = lN (n / 2 ^ k % 2) := by
  rw [wb_shr hn hk, wb_a1 (Nat.lt_of_le_of_lt (Nat.div_le_self _ _) hn)]
theorem wb_xor {q k : Nat} (hk : k < 63) (h : 2 ^ k ≤ q) (h2 : q < 2 ^ (k + 1)) : lN q ^^^ lN (2 ^ k) = lN (q - 2 ^ k) := by
  obtain ⟨r, rfl⟩ : ∃ r, q = 2 ^ k + r := ⟨q - 2 ^ k, by omega⟩
  have hr : r < 2 ^ k := by rw [Nat.pow_succ] at h2; omega
  have hx : (2 ^ k + r) ^^^ 2 ^ k = r := by
    apply Nat.eq_of_testBit_eq
    intro i
    rw [Nat.testBit_xor, Nat.testBit_two_pow]
    rcases Nat.lt_trichotomy i k with h | h | h
    · rw [Nat.testBit_two_pow_add_gt h]
      simp [show ¬ k = i by omega]
    · subst h
      rw [Nat.testBit_two_pow_add_eq]
      simp
    · have a1 : 2 ^ (k + 1) ≤ 2 ^ i := Nat.pow_le_pow_right (by decide) h
      rw [Nat.testBit_lt_two_pow (show 2 ^ k + r < 2 ^ i by omega), Nat.testBit_lt_two_pow (show r < 2 ^ i by omega)]
      simp [show ¬ k = i by omega]
  have b1 := wb_lt2 (show k + 1 < 64 by omega)
  have b2 := wb_lt2 (show k < 64 by omega)
  apply wb_inj
  rw [Int64.toBitVec_xor, wb_tb, wb_tb, wb_tb]
  apply BitVec.eq_of_toNat_eq
  rw [BitVec.toNat_xor, BitVec.toNat_ofNat, BitVec.toNat_ofNat, BitVec.toNat_ofNat, Nat.mod_eq_of_lt (by omega : 2 ^ k + r < 2 ^ 64), Nat.mod_eq_of_lt b2, hx, Nat.add_sub_cancel_left, Nat.mod_eq_of_lt (by omega)]
/-! ===== lN: masks, 'or' of parts that don't overlap is a sum ===== -/
theorem u_tn {n : Nat} (h : n < 2 ^ 64) : (UInt64.ofNat n).toNat = n := Nat.mod_eq_of_lt h
theorem g_and {a b c : Nat} (ha : a < 2 ^ 64) (hb : b < 2 ^ 64) (hc : a &&& b = c) : lN a &&& lN b = lN c := by
  subst hc
  have h : UInt64.ofNat a &&& UInt64.ofNat b = UInt64.ofNat (a &&& b) := UInt64.toNat_inj.mp (by rw [UInt64.toNat_and, u_tn ha, u_tn hb, u_tn (Nat.and_lt_two_pow a hb)])
  have h2 := congrArg UInt64.toInt64 h
  exact h2
theorem g_and1 {a : Nat} (ha : a < 2 ^ 64) : lN a &&& 1 = lN (a % 2) := g_and (b := 1) ha (by decide) (Nat.and_two_pow_sub_one_eq_mod a 1)
theorem g_mask {a s p : Nat} (hp : 2 ^ s = p) (hs : s < 64) (ha : a < 2 ^ 64) : lN a &&& lN (p - 1) = lN (a % p) := by
  subst hp
  have := Nat.pow_lt_pow_right (show 1 < 2 by decide) hs
  exact g_and ha (by omega) (Nat.and_two_pow_sub_one_eq_mod a s)
theorem g_or {k p a b : Nat} (hp : 2 ^ k = p) (ha : a < p) (h : b * p + a < 2 ^ 64) : lN (b * p) ||| lN a = lN (b * p + a) := by
  subst hp
  have h1 : b * 2 ^ k ||| a = b * 2 ^ k + a := by rw [← Nat.shiftLeft_eq, Nat.shiftLeft_add_eq_or_of_lt ha]
  have h3 : UInt64.ofNat (b * 2 ^ k) ||| UInt64.ofNat a = UInt64.ofNat (b * 2 ^ k + a) := UInt64.toNat_inj.mp (by rw [UInt64.toNat_or, u_tn (by omega), u_tn (by omega), u_tn h, h1])
  have h2 := congrArg UInt64.toInt64 h3
  exact h2
theorem g_or' {k p a b : Nat} (hp : 2 ^ k = p) (ha : a < p) (h : a + b * p < 2 ^ 64) : lN a ||| lN (b * p) = lN (a + b * p) := by
  rw [Int64.or_comm, g_or hp ha (by omega), Nat.add_comm]
theorem g_ushr {a k p : Nat} {y : UInt64} (hy : y = UInt64.ofNat k) (hk : k < 64) (hp : 2 ^ k = p) (ha : a < 2 ^ 64) : ((lN a).toUInt64 >>> y).toInt64 = lN (a / p) := by
  subst hy hp
  have h : UInt64.ofNat a >>> UInt64.ofNat k = UInt64.ofNat (a / 2 ^ k) := UInt64.toNat_inj.mp (by rw [UInt64.toNat_shiftRight, u_tn ha, u_tn (by omega), u_tn (Nat.lt_of_le_of_lt (Nat.div_le_self _ _) ha), Nat.mod_eq_of_lt hk, Nat.shiftRight_eq_div_pow])
  have h2 := congrArg UInt64.toInt64 h
  exact h2
theorem g_shl {a k p : Nat} {y : Int64} (hy : y.toBitVec.smod 64 = BitVec.ofNat 64 k) (hk : k < 64) (hp : 2 ^ k = p) (ha : a < 2 ^ 64) : lN a <<< y = lN (a * p) := by
  subst hp
  apply Int64.toBitVec_inj.mp
  rw [Int64.toBitVec_shiftLeft, hy]
  apply BitVec.eq_of_toNat_eq
  have hb : (lN a).toBitVec.toNat = a := Nat.mod_eq_of_lt ha
  have hk' : (BitVec.ofNat 64 k).toNat = k := Nat.mod_eq_of_lt (by omega)
  have h : ((lN a).toBitVec <<< BitVec.ofNat 64 k).toNat = (a * 2 ^ k) % 2 ^ 64 := by simp only [BitVec.shiftLeft_eq', BitVec.toNat_shiftLeft, hb, hk', Nat.shiftLeft_eq]
  exact h
/-! ===== Int64 as an unsigned number: uN x ===== -/
def uN (x : Int64) : Nat := x.toUInt64.toNat
theorem uN_lt (x : Int64) : uN x < 18446744073709551616 := x.toUInt64.toNat_lt
theorem uN_inj {x y : Int64} (h : uN x = uN y) : x = y := congrArg UInt64.toInt64 (UInt64.toNat_inj.mp h)
theorem uN_add (x y : Int64) : uN (x + y) = (uN x + uN y) % 18446744073709551616 := by
  show (x.toUInt64 + y.toUInt64).toNat = _
  exact UInt64.toNat_add _ _
theorem uN_mul (x y : Int64) : uN (x * y) = (uN x * uN y) % 18446744073709551616 := by
  show (x.toUInt64 * y.toUInt64).toNat = _
  exact UInt64.toNat_mul _ _
theorem uN_shl (x : Int64) : uN (x <<< ((1 : Int32).toInt64 &&& 63)) = (2 * uN x) % 18446744073709551616 := by
  have h : (((1 : Int32).toInt64 &&& 63).toBitVec.smod 64).toNat = 1 := by decide
  show (x.toBitVec <<< (((1 : Int32).toInt64 &&& 63).toBitVec.smod 64).toNat).toNat = _
  rw [h, BitVec.toNat_shiftLeft, Nat.shiftLeft_eq, Nat.mul_comm]
  rfl
theorem uN_shr (x : Int64) (s : UInt64) : uN (x.toUInt64 >>> s).toInt64 = uN x / 2 ^ (s.toNat % 64) := by
  show (x.toUInt64 >>> s).toNat = _
  rw [UInt64.toNat_shiftRight, Nat.shiftRight_eq_div_pow]
  rfl
theorem uN_s32 (x : Int64) : uN (x.toUInt64 >>> ((32 : Int32).toInt64.toUInt64 &&& Int64.toUInt64 63)).toInt64 = uN x / 4294967296 := by
  have h : ((32 : Int32).toInt64.toUInt64 &&& Int64.toUInt64 63).toNat % 64 = 32 := by decide
  rw [uN_shr, h]
theorem uN_s63 (x : Int64) : uN (x.toUInt64 >>> ((63 : Int32).toInt64.toUInt64 &&& Int64.toUInt64 63)).toInt64 = uN x / 9223372036854775808 := by
  have h : ((63 : Int32).toInt64.toUInt64 &&& Int64.toUInt64 63).toNat % 64 = 63 := by decide
  rw [uN_shr, h]
theorem uN_lo (x : Int64) : uN (x &&& 4294967295) = uN x % 4294967296 := by
  show (x.toUInt64 &&& Int64.toUInt64 4294967295).toNat = _
  rw [UInt64.toNat_and]
  exact Nat.and_two_pow_sub_one_eq_mod _ 32
theorem uN_bit (x : Int64) : (x &&& 1) = 0 ↔ uN x % 2 = 0 := by
  have h : uN (x &&& 1) = uN x % 2 := by
    show (x.toUInt64 &&& Int64.toUInt64 1).toNat = _
    rw [UInt64.toNat_and]
    exact Nat.and_two_pow_sub_one_eq_mod _ 1
  rw [← h]
  exact ⟨fun z => by rw [z]; rfl, fun z => uN_inj (z.trans rfl)⟩
theorem uN_or {x y : Int64} (hy : uN y < 2) : uN ((x <<< ((1 : Int32).toInt64 &&& 63)) ||| y) = (2 * uN x) % 18446744073709551616 + uN y := by
  have h1 : uN ((x <<< ((1 : Int32).toInt64 &&& 63)) ||| y) = uN (x <<< ((1 : Int32).toInt64 &&& 63)) ||| uN y := UInt64.toNat_or _ _
  have h2 : (2 * uN x) % 18446744073709551616 = 2 ^ 1 * (uN x % 9223372036854775808) := by omega
  rw [h1, uN_shl, h2]
  exact (Nat.two_pow_add_eq_or_of_lt (i := 1) hy _).symm
theorem nat_xor {a : Nat} (h : a < 18446744073709551616) : a ^^^ 2 ^ 63 = (a + 9223372036854775808) % 18446744073709551616 := by
  have h1 : (a ^^^ 2 ^ 63) % 2 ^ 63 = a % 2 ^ 63 := by rw [Nat.xor_mod_two_pow, Nat.mod_self, Nat.xor_zero]
  have h2 : (a ^^^ 2 ^ 63) / 2 ^ 63 = (a / 2 ^ 63) ^^^ 1 := by rw [Nat.xor_div_two_pow, Nat.div_self (Nat.two_pow_pos 63)]
  have h3 : a / 2 ^ 63 = 0 ∨ a / 2 ^ 63 = 1 := by omega
  generalize a ^^^ 2 ^ 63 = t at h1 h2
  rcases h3 with h3 | h3
  · rw [h3] at h2
    have h2 : t / 2 ^ 63 = 1 := h2
    omega
  · rw [h3] at h2
    have h2 : t / 2 ^ 63 = 0 := h2
    omega
theorem uN_xor (x : Int64) : uN (x ^^^ (-9223372036854775808)) = (uN x + 9223372036854775808) % 18446744073709551616 := by
  rw [← nat_xor (uN_lt x)]
  exact UInt64.toNat_xor _ _
theorem uN_int (x : Int64) : x.toInt = if 2 * uN x < 18446744073709551616 then (uN x : Int) else (uN x : Int) - 18446744073709551616 := BitVec.toInt_eq_toNat_cond _
theorem uN_le (x y : Int64) : (x ^^^ (-9223372036854775808)) ≤ (y ^^^ (-9223372036854775808)) ↔ uN x ≤ uN y := by
  have hx := uN_lt x
  have hy := uN_lt y
  rw [Int64.le_iff_toInt_le, uN_int, uN_int, uN_xor, uN_xor]
  omega
theorem uN_sk (x : Int64) {k : Nat} (hk : k < 64) : uN (x.toUInt64 >>> ((nI k).toInt64.toUInt64 &&& Int64.toUInt64 63)).toInt64 = uN x / 2 ^ k := by
  have h : ((nI k).toInt64.toUInt64 &&& Int64.toUInt64 63).toNat % 64 = k := by
    rw [nI_l (by omega), UInt64.toNat_and]
    have e : (lN k).toUInt64.toNat = k % 2 ^ 64 := rfl
    have e2 : (Int64.toUInt64 63).toNat = 2 ^ 6 - 1 := by decide
    rw [e, e2, Nat.and_two_pow_sub_one_eq_mod]
    omega
  rw [uN_shr, h]
end
section
set_option maxRecDepth 100000
/-! ===== registers: sp values in the stack, L local ones above them, all in fl; gl the global ones ===== -/
def XR (S : Sx) (sp L : Nat) (fl gl : Nat → Int64) : Prop := gI S 139 3 = nI sp ∧ gI S 139 5 = nI L ∧
  (∃ sv, gI S 139 4 = nI sv ∧ sv ≤ sp ∧ sp + L ≤ sv + 40 ∧ (∀ i, i < sv → gL S 141 i = fl i) ∧ ∀ i, sv ≤ i → i < sp + L → gL S 140 (i % 40) = fl i) ∧
  ∀ n, 16 ≤ n → n < 32 → gL S 142 n = gl n
def MR (S : Sx) (sp L : Nat) (fl gl : Nat → Int64) : Prop := gI S 167 11 = nI sp ∧ gL S 172 4 = lN L ∧ (∀ i, i < sp → gL S 173 i = fl i) ∧ (∀ n, n < L → gL S 171 n = fl (sp + n)) ∧
  ∀ n, 16 ≤ n → n < 32 → gL S 171 n = gl n
def xRl (c _ : Nat) : Prop := 139 ≤ c ∧ c ≤ 142
def mRl (c k : Nat) : Prop := c = 171 ∨ (c = 172 ∧ k = 4) ∨ c = 173 ∨ c = 181 ∨ (c = 167 ∧ k = 11)
theorem XR.sm {P : Nat → Nat → Prop} {S S' : Sx} {sp L : Nat} {fl gl : Nat → Int64} (h : XR S sp L fl gl) (hs : Sm P S S') (hp : ∀ c k, P c k → ¬ (139 ≤ c ∧ c ≤ 142)) : XR S' sp L fl gl := by
  obtain ⟨a, b, ⟨sv, c1, c2, c3, c4, c5⟩, d⟩ := h
  refine ⟨?_, ?_, ⟨sv, ?_, c2, c3, fun i hi => ?_, fun i hi hi2 => ?_⟩, fun n hn hn2 => ?_⟩
  · rw [hs.I (fun x => hp _ _ x (by omega))]; exact a
  · rw [hs.I (fun x => hp _ _ x (by omega))]; exact b
  · rw [hs.I (fun x => hp _ _ x (by omega))]; exact c1
  · rw [hs.L (fun x => hp _ _ x (by omega))]; exact c4 i hi
  · rw [hs.L (fun x => hp _ _ x (by omega))]; exact c5 i hi hi2
  · rw [hs.L (fun x => hp _ _ x (by omega))]; exact d n hn hn2
theorem MR.sm {P : Nat → Nat → Prop} {S S' : Sx} {sp L : Nat} {fl gl : Nat → Int64} (h : MR S sp L fl gl) (hs : Sm P S S') (hp : ∀ c k, P c k → ¬ (c = 171 ∨ (c = 172 ∧ k = 4) ∨ c = 173 ∨ (c = 167 ∧ k = 11))) : MR S' sp L fl gl := by
  obtain ⟨a, b, c, d, e⟩ := h
  refine ⟨?_, ?_, fun i hi => ?_, fun n hn => ?_, fun n hn hn2 => ?_⟩
  · rw [hs.I (fun x => hp _ _ x (by omega))]; exact a
  · rw [hs.L (fun x => hp _ _ x (by omega))]; exact b
  · rw [hs.L (fun x => hp _ _ x (by omega))]; exact c i hi
  · rw [hs.L (fun x => hp _ _ x (by omega))]; exact d n hn
  · rw [hs.L (fun x => hp _ _ x (by omega))]; exact e n hn hn2
/-- a register's value -/
def rGet (sp L : Nat) (fl gl : Nat → Int64) (n : Nat) : Int64 := if n < 16 then (if n < L then fl (sp + n) else 0) else gl n
/-- the stack after register n got v -/
def rFl (sp L : Nat) (fl : Nat → Int64) (n : Nat) (v : Int64) : Nat → Int64 := if n < 16 then (fun i => if i = sp + n then v else if sp + L ≤ i ∧ i < sp + n then 0 else fl i) else fl
def rL (L n : Nat) : Nat := if n < 16 then (if n < L then L else n + 1) else L
def rGl (gl : Nat → Int64) (n : Nat) (v : Int64) : Nat → Int64 := if n < 16 then gl else up gl n v
/-! X -/
theorem mod40 {a : Nat} (h : a < 2 ^ 30) : nI a - nI a / 40 * 40 = nI (a % 40) := pk_rem (a := a) (d := 40) (by omega) (by omega) (by omega)
theorem x_rget {S : Sx} {sp L n : Nat} {fl gl : Nat → Int64} (h : XR S sp L fl gl) (hn : n < 32) (hL : L ≤ 16) (hs : sp + L ≤ 600) : X6_get (nI n) S = rt (rGet sp L fl gl n) S := by
  obtain ⟨a, b, ⟨sv, c1, c2, c3, c4, c5⟩, d⟩ := h
  unfold X6_get rGet
  by_cases h16 : n < 16
  · rw [if_pos (lit_lt h16 (by omega)), if_pos h16, b]
    by_cases hnL : n < L
    · rw [if_neg (nI_ge hnL (by omega)), if_pos hnL, a, nI_add, mod40 (by omega), lL_n (Nat.mod_lt _ (by omega)) (by omega), c5 _ (by omega) (by omega)]
    · rw [if_pos (nI_le (by omega) (by omega)), if_neg hnL]
  · rw [if_neg (lit_gt (N := 16) (by omega) (by omega)), if_neg h16, lL_n hn (by omega), d n (by omega) hn]
theorem x_push {S : Sx} {sp L : Nat} {fl gl : Nat → Int64} (v : Int64) (h : XR S sp L fl gl) (hL : L ≤ 16) (hs : sp + L ≤ 600) : ∃ S', X6_push v S = rt () S' ∧ XR S' sp (L + 1) (up fl (sp + L) v) gl ∧ Sm xRl S S' := by
  obtain ⟨a, b, ⟨sv, c1, c2, c3, c4, c5⟩, d⟩ := h
  have fin : ∀ (T : Sx) (w : Nat), Sm xRl S T → gI T 139 3 = nI sp → gI T 139 5 = nI L → gI T 139 4 = nI w → w ≤ sp → sp + L < w + 40 → (∀ i, i < w → gL T 141 i = fl i) → (∀ i, w ≤ i → i < sp + L → gL T 140 (i % 40) = fl i) → (∀ n, 16 ≤ n → n < 32 → gL T 142 n = gl n) → ∃ S', X6_push_50 v T = rt () S' ∧ XR S' sp (L + 1) (up fl (sp + L) v) gl ∧ Sm xRl S S' := by
    intro T w hs0 e1 e2 e3 e4 e5 e6 e7 e8
    refine ⟨pI (pL T 140 ((sp + L) % 40) v) 139 5 (nI (L + 1)), ?_, ⟨?_, ?_, ⟨w, ?_, e4, by omega, fun i hi => ?_, fun i hi hi2 => ?_⟩, fun n hn hn2 => ?_⟩, hs0.trans (Sm.trans (Sm.pL (by unfold xRl; omega)) (Sm.pI (by unfold xRl; omega)))⟩
    · unfold X6_push_50
      rw [e1, e2, nI_add, mod40 (by omega), sL_n (Nat.mod_lt _ (by omega)) (by omega), pt_e, gI_pL, e2, nI_1]
    · rw [gI_pI, if_neg (by omega), gI_pL]; exact e1
    · rw [gI_pI, if_pos ⟨rfl, rfl⟩]
    · rw [gI_pI, if_neg (by omega), gI_pL]; exact e3
    · rw [gL_pI, gL_pL, if_neg (by omega), e6 i hi, up_n _ _ (by omega)]
    · rw [gL_pI, gL_pL]
      by_cases hi3 : i = sp + L
      · rw [if_pos ⟨rfl, by rw [hi3]⟩, hi3, up_s]
      · rw [if_neg (fun x => by have := x.2; omega), e7 i hi (by omega), up_n _ _ hi3]
    · rw [gL_pI, gL_pL, if_neg (by omega)]; exact e8 n hn hn2
  unfold X6_push
  rw [a, b, c1, nI_add, pk_sub (by omega)]
  by_cases hf : sp + L - sv = 40
  · rw [if_pos (show nI (sp + L - sv) = 40 by rw [hf]; rfl), mod40 (by omega), lL_n (Nat.mod_lt _ (by omega)) (by omega), sL_n (k := sv) (by omega) (by omega), pt_e, gI_pL, c1, nI_1]
    have hs0 : Sm xRl S (pI (pL S 141 sv (gL S 140 (sv % 40))) 139 4 (nI (sv + 1))) := Sm.trans (Sm.pL (by unfold xRl; omega)) (Sm.pI (by unfold xRl; omega))
    refine fin _ (sv + 1) hs0 ?_ ?_ ?_ (by omega) (by omega) (fun i hi => ?_) (fun i hi hi2 => ?_) (fun n hn hn2 => ?_)
    · rw [gI_pI, if_neg (by omega), gI_pL]; exact a
    · rw [gI_pI, if_neg (by omega), gI_pL]; exact b
    · rw [gI_pI, if_pos ⟨rfl, rfl⟩]
    · rw [gL_pI, gL_pL]
      split
      · rename_i q; rw [q.2]; exact c5 sv (Nat.le_refl _) (by omega)
      · exact c4 i (by omega)
    · rw [gL_pI, gL_pL, if_neg (by omega)]; exact c5 i (by omega) hi2
    · rw [gL_pI, gL_pL, if_neg (by omega)]; exact d n hn hn2
  · rw [if_neg (show ¬ nI (sp + L - sv) = 40 from fun e => hf ((nI_eq (a := sp + L - sv) (b := 40) (by omega) (by omega)).mp e))]
    exact fin S sv (Sm.rfl' S) a b c1 c2 (by omega) c4 c5 d
def zf (fl : Nat → Int64) (a b : Nat) : Nat → Int64 := fun i => if a ≤ i ∧ i < b then 0 else fl i
theorem zf_0 (fl : Nat → Int64) {a b : Nat} (h : b ≤ a) : zf fl a b = fl := by
  funext i
  unfold zf
  rw [if_neg (by omega)]
theorem zf_s (fl : Nat → Int64) {a b : Nat} (h : a ≤ b) : up (zf fl a b) b 0 = zf fl a (b + 1) := by
  funext i
  unfold zf up
  by_cases hi : i = b
  · rw [if_pos hi, if_pos (by omega)]
  · rw [if_neg hi]
    by_cases h2 : a ≤ i ∧ i < b
    · rw [if_pos (by omega)]; exact if_pos h2
    · rw [if_neg (by omega)]; exact if_neg h2
theorem x_extend_loop {sp L0 m : Nat} {fl gl : Nat → Int64} (hm : m ≤ 17) (hs : sp + m ≤ 600) : ∀ (d L n : Nat) (S : Sx), L + d = m → d < n → L0 ≤ L → XR S sp L (zf fl (sp + L0) (sp + L)) gl → ∃ S', X6_extend_0 n (nI m) S = rt () S' ∧ XR S' sp m (zf fl (sp + L0) (sp + m)) gl ∧ Sm xRl S S' := by
  intro d
  induction d with
  | zero =>
    intro L n S hL hn h0 h
    obtain ⟨n, rfl⟩ : ∃ j, n = j + 1 := ⟨n - 1, by omega⟩
    obtain rfl : L = m := by omega
    refine ⟨S, ?_, h, Sm.rfl' S⟩
    show X6_extend_0b (X6_extend_0 n) (nI L) S = _
    unfold X6_extend_0b
    rw [h.2.1, if_pos (nI_le (Nat.le_refl _) (by omega))]
  | succ d ih =>
    intro L n S hL hn h0 h
    obtain ⟨n, rfl⟩ : ∃ j, n = j + 1 := ⟨n - 1, by omega⟩
    obtain ⟨S1, e1, e2, e3⟩ := x_push 0 h (by omega) (by omega)
    rw [zf_s _ (by omega)] at e2
    obtain ⟨S2, f1, f2, f3⟩ := ih (L + 1) n S1 (by omega) (by omega) (by omega) e2
    refine ⟨S2, ?_, f2, e3.trans f3⟩
    show X6_extend_0b (X6_extend_0 n) (nI m) S = _
    unfold X6_extend_0b
    rw [h.2.1, if_neg (nI_ge (by omega) (by omega)), e1, bd_rt, f1]
theorem x_extend {S : Sx} {sp L m : Nat} {fl gl : Nat → Int64} (h : XR S sp L fl gl) (hL : L ≤ 16) (hm : m ≤ 17) (hs : L < m → sp + m ≤ 600) : ∃ S', X6_extend (nI m) S = rt () S' ∧ XR S' sp (max L m) (zf fl (sp + L) (sp + m)) gl ∧ Sm xRl S S' := by
  by_cases hLm : L ≤ m
  · have hs' : sp + m ≤ 600 ∨ L = m := by rcases Nat.lt_or_eq_of_le hLm with q | q; exact Or.inl (hs q); exact Or.inr q
    rcases hs' with hs' | rfl
    · obtain ⟨S1, e1, e2, e3⟩ := x_extend_loop (sp := sp) (L0 := L) (m := m) (fl := fl) (gl := gl) hm hs' (m - L) L FU S (by omega) (by have := FU_ge; omega) (Nat.le_refl _) (by rw [zf_0 _ (Nat.le_refl _)]; exact h)
      refine ⟨S1, e1, ?_, e3⟩
      rw [show max L m = m by omega]
      exact e2
    · refine ⟨S, ?_, by rw [show max L L = L by omega, zf_0 _ (Nat.le_refl _)]; exact h, Sm.rfl' S⟩
      obtain ⟨n, hn⟩ : ∃ n, FU = n + 1 := ⟨FU - 1, by have := FU_ge; omega⟩
      unfold X6_extend
      rw [hn]
      show X6_extend_0b (X6_extend_0 n) (nI L) S = _
      unfold X6_extend_0b
      rw [h.2.1, if_pos (nI_le (Nat.le_refl _) (by omega))]
  · refine ⟨S, ?_, by rw [show max L m = L by omega, zf_0 _ (by omega)]; exact h, Sm.rfl' S⟩
    obtain ⟨n, hn⟩ : ∃ n, FU = n + 1 := ⟨FU - 1, by have := FU_ge; omega⟩
    unfold X6_extend
    rw [hn]
    show X6_extend_0b (X6_extend_0 n) (nI m) S = _
    unfold X6_extend_0b
    rw [h.2.1, if_pos (nI_le (by omega) (by omega))]
theorem x_local {S : Sx} {sp L n : Nat} {fl gl : Nat → Int64} {v : Int64} (h : XR S sp L fl gl) (hn : n < L) : XR (pL S 140 ((sp + n) % 40) v) sp L (up fl (sp + n) v) gl := by
  obtain ⟨a, b, ⟨sv, c1, c2, c3, c4, c5⟩, d⟩ := h
  refine ⟨a, b, ⟨sv, c1, c2, c3, fun i hi => ?_, fun i hi hi2 => ?_⟩, fun m hm hm2 => ?_⟩
  · rw [gL_pL, if_neg (by omega), up_n _ _ (by omega)]; exact c4 i hi
  · rw [gL_pL]
    by_cases e : i = sp + n
    · rw [if_pos ⟨rfl, by rw [e]⟩, e, up_s]
    · rw [if_neg (fun x => by have := x.2; omega), up_n _ _ e]; exact c5 i hi hi2
  · rw [gL_pL, if_neg (by omega)]; exact d m hm hm2
theorem x_rset {S : Sx} {sp L n : Nat} {fl gl : Nat → Int64} (v : Int64) (h : XR S sp L fl gl) (hn : n < 32) (hL : L ≤ 16) (hs : sp + rL L n ≤ 600) : ∃ S', X6_set (nI n) v S = rt () S' ∧ XR S' sp (rL L n) (rFl sp L fl n v) (rGl gl n v) ∧ Sm xRl S S' := by
  unfold rL at hs ⊢
  unfold rFl rGl X6_set
  by_cases h16 : n < 16
  · rw [if_pos h16] at hs
    rw [if_pos h16, if_pos h16, if_pos h16, if_pos (lit_lt h16 (by omega)), nI_1]
    obtain ⟨S1, e1, e2, e3⟩ := x_extend (m := n + 1) h hL (by omega) (fun q => by rw [if_neg (by omega)] at hs; exact hs)
    refine ⟨pL S1 140 ((sp + n) % 40) v, ?_, ?_, e3.trans (Sm.pL (by unfold xRl; omega))⟩
    · rw [e1, bd_rt, e2.1, nI_add, mod40 (by split at hs <;> omega), sL_n (Nat.mod_lt _ (by omega)) (by omega)]
    · have := x_local (n := n) (v := v) e2 (by omega)
      have e : up (zf fl (sp + L) (sp + (n + 1))) (sp + n) v = (fun i => if i = sp + n then v else if sp + L ≤ i ∧ i < sp + n then 0 else fl i) := by
        funext i
        unfold up zf
        by_cases hi : i = sp + n
        · rw [if_pos hi, if_pos hi]
        · rw [if_neg hi, if_neg hi]
          by_cases hi2 : sp + L ≤ i ∧ i < sp + n
          · rw [if_pos hi2, if_pos (by omega)]
          · rw [if_neg hi2, if_neg (by omega)]
      rw [e] at this
      rw [show (if n < L then L else n + 1) = max L (n + 1) by split <;> omega]
      exact this
  · rw [if_neg h16, if_neg h16, if_neg h16, if_neg (lit_gt (N := 16) (by omega) (by omega)), sL_n hn (by omega)]
    refine ⟨_, rfl, ?_, Sm.pL (by unfold xRl; omega)⟩
    obtain ⟨a, b, ⟨sv, c1, c2, c3, c4, c5⟩, d⟩ := h
    refine ⟨a, b, ⟨sv, c1, c2, c3, fun i hi => ?_, fun i hi hi2 => ?_⟩, fun m hm hm2 => ?_⟩
    · rw [gL_pL, if_neg (by omega)]; exact c4 i hi
    · rw [gL_pL, if_neg (by omega)]; exact c5 i hi hi2
    · rw [gL_pL]
      by_cases e : m = n
      · rw [if_pos ⟨rfl, e⟩, e, up_s]
      · rw [if_neg (by omega), up_n _ _ e]; exact d m hm hm2
/-! M -/
theorem m_rL {S : Sx} {sp L : Nat} {fl gl : Nat → Int64} (h : MR S sp L fl gl) : X12_rL S = rt (nI L) S := by
  unfold X12_rL
  rw [show (4 : Int32) = nI 4 from rfl, lL_n (by omega) (by omega), h.2.1, lN_i]
theorem m_rget {S : Sx} {sp L n : Nat} {fl gl : Nat → Int64} (h : MR S sp L fl gl) (hn : n < 32) (hL : L ≤ 16) : X12_get (nI n) S = rt (rGet sp L fl gl n) S := by
  unfold X12_get X12_get_18 rGet
  by_cases h16 : n < 16
  · rw [if_neg (lit_ge h16 (by omega)), if_pos h16, m_rL h, bd_rt]
    by_cases hnL : n < L
    · rw [if_pos (nI_lt hnL (by omega)), if_pos hnL, lL_n hn (by omega), h.2.2.2.1 n hnL]
    · rw [if_neg (nI_nlt (by omega) (by omega)), if_neg hnL]
  · rw [if_pos (lit_le (N := 16) (by omega) (by omega)), if_neg h16, lL_n hn (by omega), h.2.2.2.2 n (by omega) hn]
theorem m_set_loop {sp L m : Nat} {fl gl : Nat → Int64} {v : Int64} (hm : m < 16) : ∀ (d i n : Nat) (S : Sx), i + d = m → d < n → L ≤ i → gI S 167 11 = nI sp → (∀ j, j < sp → gL S 173 j = fl j) → (∀ j, j < i → gL S 171 j = zf fl (sp + L) (sp + i) (sp + j)) → (∀ j, 16 ≤ j → j < 32 → gL S 171 j = gl j) → ∃ S', X12_set_20 n (nI m) v (nI i) S = rt () S' ∧ MR S' sp (m + 1) (rFl sp L fl m v) gl ∧ Sm mRl S S' := by
  intro d
  induction d with
  | zero =>
    intro i n S hi hn h0 h1 h2 h3 h4
    obtain ⟨n, rfl⟩ : ∃ j, n = j + 1 := ⟨n - 1, by omega⟩
    obtain rfl : i = m := by omega
    refine ⟨pL (pL S 172 4 (lN (i + 1))) 171 i v, ?_, ⟨h1, ?_, fun j hj => ?_, fun j hj => ?_, fun j hj hj2 => ?_⟩, Sm.trans (Sm.pL (by unfold mRl; omega)) (Sm.pL (by unfold mRl; omega))⟩
    · show X12_set_20b (X12_set_20 n) (nI i) v (nI i) S = _
      unfold X12_set_20b X12_set_50
      rw [if_pos (nI_le (Nat.le_refl _) (by omega)), show (4 : Int32) = nI 4 from rfl, sL_n (by omega) (by omega), sL_n (by omega) (by omega), nI_l (by omega), lN_1]
    · rw [gL_pL, if_neg (by omega), gL_pL, if_pos ⟨rfl, rfl⟩]
    · rw [gL_pL, if_neg (by omega), gL_pL, if_neg (by omega), h2 j hj]
      unfold rFl
      rw [if_pos hm, if_neg (by omega), if_neg (by omega)]
    · rw [gL_pL]
      unfold rFl
      rw [if_pos hm]
      by_cases e : j = i
      · rw [if_pos ⟨rfl, e⟩, if_pos (by omega)]
      · rw [if_neg (by omega), if_neg (by omega), gL_pL, if_neg (by omega), h3 j (by omega)]
        unfold zf
        rfl
    · rw [gL_pL, if_neg (by omega), gL_pL, if_neg (by omega)]; exact h4 j hj hj2
  | succ d ih =>
    intro i n S hi hn h0 h1 h2 h3 h4
    obtain ⟨n, rfl⟩ : ∃ j, n = j + 1 := ⟨n - 1, by omega⟩
    obtain ⟨S1, e1, e2, e3⟩ := ih (i + 1) n (pL S 171 i 0) (by omega) (by omega) (by omega) h1 (fun j hj => by rw [gL_pL, if_neg (by omega)]; exact h2 j hj) (fun j hj => by
      rw [gL_pL]
      by_cases e : j = i
      · rw [if_pos ⟨rfl, e⟩]
        unfold zf
        rw [if_pos (by omega)]
      · rw [if_neg (by omega), h3 j (by omega)]
        unfold zf
        by_cases q : sp + L ≤ sp + j ∧ sp + j < sp + i
        · rw [if_pos q, if_pos (by omega)]
        · rw [if_neg q, if_neg (by omega)]) (fun j hj hj2 => by rw [gL_pL, if_neg (by omega)]; exact h4 j hj hj2)
    refine ⟨S1, ?_, e2, (Sm.pL (by unfold mRl; omega)).trans e3⟩
    show X12_set_20b (X12_set_20 n) (nI m) v (nI i) S = _
    unfold X12_set_20b
    rw [if_neg (nI_ge (by omega) (by omega)), sL_n (by omega) (by omega), vl_e, nI_1]
    exact e1
theorem m_rset {S : Sx} {sp L n : Nat} {fl gl : Nat → Int64} (v : Int64) (h : MR S sp L fl gl) (hn : n < 32) (hL : L ≤ 16) : ∃ S', X12_set (nI n) v S = rt () S' ∧ MR S' sp (rL L n) (rFl sp L fl n v) (rGl gl n v) ∧ Sm mRl S S' := by
  obtain ⟨a, b, c, d, e⟩ := id h
  unfold rL rGl X12_set
  by_cases h16 : n < 16
  · rw [if_pos h16, if_pos h16, if_neg (lit_ge h16 (by omega)), m_rL h, bd_rt]
    by_cases hnL : n < L
    · rw [if_pos (nI_lt hnL (by omega)), if_pos hnL]
      unfold X12_set_50
      rw [sL_n hn (by omega)]
      refine ⟨_, rfl, ⟨a, by rw [gL_pL, if_neg (by omega)]; exact b, fun i hi => ?_, fun i hi => ?_, fun i hi hi2 => ?_⟩, Sm.pL (by unfold mRl; omega)⟩
      · unfold rFl
        rw [gL_pL, if_neg (by omega), if_pos h16, if_neg (by omega), if_neg (by omega)]; exact c i hi
      · unfold rFl
        rw [gL_pL, if_pos h16]
        by_cases q : i = n
        · rw [if_pos ⟨rfl, q⟩, if_pos (by omega)]
        · rw [if_neg (by omega), if_neg (by omega), if_neg (by omega)]; exact d i hi
      · rw [gL_pL, if_neg (by omega)]; exact e i hi hi2
    · rw [if_neg (nI_nlt (by omega) (by omega)), if_neg hnL, m_rL h, bd_rt, vl_e]
      exact m_set_loop h16 (n - L) L FU S (by omega) (by have := FU_ge; omega) (Nat.le_refl _) a c (fun j hj => by rw [zf_0 _ (Nat.le_refl _)]; exact d j hj) e
  · rw [if_neg h16, if_neg h16, if_pos (lit_le (N := 16) (by omega) (by omega))]
    unfold X12_set_50
    rw [sL_n hn (by omega)]
    refine ⟨_, rfl, ⟨a, by rw [gL_pL, if_neg (by omega)]; exact b, fun i hi => ?_, fun i hi => ?_, fun i hi hi2 => ?_⟩, Sm.pL (by unfold mRl; omega)⟩
    · unfold rFl
      rw [gL_pL, if_neg (by omega), if_neg h16]; exact c i hi
    · unfold rFl
      rw [gL_pL, if_neg (by omega), if_neg h16]; exact d i hi
    · rw [gL_pL]
      by_cases q : i = n
      · rw [if_pos ⟨rfl, q⟩, q, up_s]
      · rw [if_neg (by omega), up_n _ _ q]; exact e i hi hi2
end
section
set_option maxRecDepth 100000
/-! ===== calls: what PUSHJ and POP do to the stack ===== -/
/-- the frames that lie in the stack, the newest first: how many registers each keeps -/
def Fr (fl : Nat → Int64) : List Nat → Nat → Prop
  | [], sp => sp = 0
  | c :: l, sp => fl (sp - 1) = lN c ∧ c ≤ 16 ∧ c + 1 ≤ sp ∧ Fr fl l (sp - (c + 1))
theorem Fr.congr {fl fl' : Nat → Int64} : ∀ {l : List Nat} {sp : Nat}, (∀ i, i < sp → fl' i = fl i) → Fr fl l sp → Fr fl' l sp := by
  intro l
  induction l with
  | nil => intro sp _ h; exact h
  | cons c l ih =>
    intro sp h ⟨a, b, d, e⟩
    exact ⟨by rw [h _ (by omega)]; exact a, b, d, ih (fun i hi => h i (by omega)) e⟩
def dK (x L : Nat) : Nat := if x < 16 then x else L
def dFl (sp L : Nat) (fl : Nat → Int64) (k : Nat) : Nat → Int64 := up (zf fl (sp + L) (sp + (k + 1))) (sp + k) (lN k)
def upC (x L : Nat) : Nat := if x = 0 then 0 else if x ≤ L then x else L + 1
def uV (sp x L : Nat) (fl : Nat → Int64) : Int64 := if x ≤ L then fl (sp + x - 1) else 0
def uFl (sp x L : Nat) (fl : Nat → Int64) : Nat → Int64 := if x = 0 then fl else up fl (sp - 1) (uV sp x L fl)
/-! X -/
theorem x_down_14 {S : Sx} {sp L k : Nat} {fl gl : Nat → Int64} (h : XR S sp L fl gl) (hL : L ≤ 16) (hk : k ≤ 16) (hs : sp + (k + 1) ≤ 600) : ∃ S', X6_down_14 (nI k) S = rt () S' ∧ XR S' (sp + (k + 1)) (L - (k + 1)) (dFl sp L fl k) gl ∧ Sm xRl S S' := by
  obtain ⟨S1, e1, e2, e3⟩ := x_extend (m := k + 1) h hL (by omega) (fun _ => hs)
  have e4 := x_local (n := k) (v := lN k) e2 (by omega)
  obtain ⟨a, b, ⟨sv, c1, c2, c3, c4, c5⟩, d⟩ := e4
  refine ⟨pI (pI (pL S1 140 ((sp + k) % 40) (lN k)) 139 3 (nI (sp + (k + 1)))) 139 5 (nI (L - (k + 1))), ?_, ⟨?_, ?_, ⟨sv, ?_, by omega, by omega, fun i hi => ?_, fun i hi hi2 => ?_⟩, fun n hn hn2 => ?_⟩, e3.trans (Sm.trans (Sm.trans (Sm.pL (by unfold xRl; omega)) (Sm.pI (by unfold xRl; omega))) (Sm.pI (by unfold xRl; omega)))⟩
  · unfold X6_down_14
    rw [vl_e, nI_1, e1, bd_rt, e2.1, nI_add, mod40 (by omega), sL_n (Nat.mod_lt _ (by omega)) (by omega), nI_l (by omega), pt_e, gI_pL, e2.1, nI_add, pt_e, gI_pI, if_neg (by omega), gI_pL, e2.2.1, pk_sub (by omega), show max L (k + 1) - (k + 1) = L - (k + 1) by omega]
  · rw [gI_pI, if_neg (by omega), gI_pI, if_pos ⟨rfl, rfl⟩]
  · rw [gI_pI, if_pos ⟨rfl, rfl⟩]
  · rw [gI_pI, if_neg (by omega), gI_pI, if_neg (by omega)]; exact c1
  · rw [gL_pI, gL_pI]; exact c4 i hi
  · rw [gL_pI, gL_pI]; exact c5 i hi (by omega)
  · rw [gL_pI, gL_pI]; exact d n hn hn2
theorem x_down {S : Sx} {sp L x : Nat} {fl gl : Nat → Int64} (h : XR S sp L fl gl) (hL : L ≤ 16) (hx : x < 256) (hs : sp + (dK x L + 1) ≤ 600) : ∃ S', X6_down (nI x) S = rt () S' ∧ XR S' (sp + (dK x L + 1)) (L - (dK x L + 1)) (dFl sp L fl (dK x L)) gl ∧ Sm xRl S S' := by
  unfold X6_down
  unfold dK at hs ⊢
  by_cases hx16 : x < 16
  · rw [if_pos hx16] at hs
    rw [if_pos (lit_lt hx16 (by omega)), if_pos hx16]
    exact x_down_14 h hL (by omega) hs
  · rw [if_neg hx16] at hs
    rw [if_neg (lit_gt (N := 16) (by omega) (by omega)), if_neg hx16, h.2.1]
    exact x_down_14 h hL hL hs
def XRs (S : Sx) (sp L : Nat) (fl gl : Nat → Int64) (sv : Nat) : Prop := gI S 139 3 = nI sp ∧ gI S 139 5 = nI L ∧ (gI S 139 4 = nI sv ∧ sv ≤ sp ∧ sp + L ≤ sv + 40 ∧ (∀ i, i < sv → gL S 141 i = fl i) ∧ ∀ i, sv ≤ i → i < sp + L → gL S 140 (i % 40) = fl i) ∧
  ∀ n, 16 ≤ n → n < 32 → gL S 142 n = gl n
theorem x_fill_loop {sp L t : Nat} {fl gl : Nat → Int64} (ht : t ≤ sp) (hs : sp ≤ 600) (hw : sp + L ≤ t + 40) : ∀ (d sv n : Nat) (S : Sx), sv - t = d → d < n → XRs S sp L fl gl sv → ∃ S' w, X6_fillTo_0 n (nI t) S = rt () S' ∧ XRs S' sp L fl gl w ∧ w ≤ t ∧ Sm xRl S S' := by
  intro d
  induction d with
  | zero =>
    intro sv n S hd hn h
    obtain ⟨n, rfl⟩ : ∃ j, n = j + 1 := ⟨n - 1, by omega⟩
    obtain ⟨a, b, ⟨c1, c2, c3, c4, c5⟩, d⟩ := id h
    refine ⟨S, sv, ?_, h, by omega, Sm.rfl' S⟩
    show X6_fillTo_0b (X6_fillTo_0 n) (nI t) S = _
    unfold X6_fillTo_0b
    rw [c1, if_pos (nI_le (by omega) (by omega))]
  | succ d ih =>
    intro sv n S hd hn h
    obtain ⟨n, rfl⟩ : ∃ j, n = j + 1 := ⟨n - 1, by omega⟩
    obtain ⟨a, b, ⟨c1, c2, c3, c4, c5⟩, e⟩ := id h
    obtain ⟨u, rfl⟩ : ∃ u, sv = u + 1 := ⟨sv - 1, by omega⟩
    have h1 : XRs (pL (pI S 139 4 (nI u)) 140 (u % 40) (fl u)) sp L fl gl u := by
      refine ⟨?_, ?_, ⟨?_, by omega, by omega, fun i hi => ?_, fun i hi hi2 => ?_⟩, fun m hm hm2 => ?_⟩
      · rw [gI_pL, gI_pI, if_neg (by omega)]; exact a
      · rw [gI_pL, gI_pI, if_neg (by omega)]; exact b
      · rw [gI_pL, gI_pI, if_pos ⟨rfl, rfl⟩]
      · rw [gL_pL, if_neg (by omega), gL_pI]; exact c4 i (by omega)
      · rw [gL_pL, gL_pI]
        by_cases q : i = u
        · rw [if_pos ⟨rfl, by rw [q]⟩, q]
        · rw [if_neg (fun x => by have := x.2; omega)]; exact c5 i (by omega) hi2
      · rw [gL_pL, if_neg (by omega), gL_pI]; exact e m hm hm2
    obtain ⟨S', w, f1, f2, f3, f4⟩ := ih u n _ (by omega) (by omega) h1
    refine ⟨S', w, ?_, f2, f3, (Sm.trans (Sm.pI (by unfold xRl; omega)) (Sm.pL (by unfold xRl; omega))).trans f4⟩
    show X6_fillTo_0b (X6_fillTo_0 n) (nI t) S = _
    unfold X6_fillTo_0b
    rw [c1, if_neg (nI_ge (by omega) (by omega)), nI_pred, pt_e, gI_pI, if_pos ⟨rfl, rfl⟩, lL_n (by omega) (by omega), gL_pI, c4 u (by omega), mod40 (by omega), sL_n (Nat.mod_lt _ (by omega)) (by omega)]
    exact f1
theorem x_fill {S : Sx} {sp L t sv : Nat} {fl gl : Nat → Int64} (h : XRs S sp L fl gl sv) (ht : t ≤ sp) (hs : sp ≤ 600) (hw : sp + L ≤ t + 40) : ∃ S' w, X6_fillTo (nI t) S = rt () S' ∧ XRs S' sp L fl gl w ∧ w ≤ t ∧ Sm xRl S S' :=
  x_fill_loop ht hs hw (sv - t) sv FU S rfl (by have := FU_ge; have := h.2.2.1.2.1; omega) h
theorem x_up_119 {S : Sx} {sp L c m w : Nat} {fl gl : Nat → Int64} (h : XRs S sp L fl gl w) (hc : c + 1 ≤ sp) (hw : w ≤ sp - 1 - c) (hm : m ≤ L + 1) (hc2 : c ≤ 16) (hL : L ≤ 16) : ∃ S', X6_up_119 (nI c) (nI m) S = rt () S' ∧ XR S' (sp - (c + 1)) (min 16 (c + m)) fl gl ∧ Sm xRl S S' := by
  obtain ⟨a, b, ⟨c1, c2, c3, c4, c5⟩, d⟩ := h
  refine ⟨pI (pI S 139 3 (nI (sp - (c + 1)))) 139 5 (nI (min 16 (c + m))), ?_, ⟨?_, ?_, ⟨w, ?_, by omega, by omega, fun i hi => ?_, fun i hi hi2 => ?_⟩, fun n hn hn2 => ?_⟩, Sm.trans (Sm.pI (by unfold xRl; omega)) (Sm.pI (by unfold xRl; omega))⟩
  · unfold X6_up_119 X6_up_150
    rw [a, nI_1, pk_sub hc, pt_e, nI_add]
    by_cases q : 16 ≤ c + m
    · rw [if_pos (lit_le q (by omega)), pt_e, show min 16 (c + m) = 16 by omega]; rfl
    · rw [if_neg (lit_ge (N := 16) (by omega) (by omega)), pt_e, show min 16 (c + m) = c + m by omega]
  · rw [gI_pI, if_neg (by omega), gI_pI, if_pos ⟨rfl, rfl⟩]
  · rw [gI_pI, if_pos ⟨rfl, rfl⟩]
  · rw [gI_pI, if_neg (by omega), gI_pI, if_neg (by omega)]; exact c1
  · rw [gL_pI, gL_pI]; exact c4 i hi
  · rw [gL_pI, gL_pI]; exact c5 i hi (by omega)
  · rw [gL_pI, gL_pI]; exact d n hn hn2
theorem x_hole {S : Sx} {sp L w : Nat} {fl gl : Nat → Int64} {v : Int64} (h : XRs S sp L fl gl w) (hs : 0 < sp) (hw : w ≤ sp - 1) : XRs (pL S 140 ((sp - 1) % 40) v) sp L (up fl (sp - 1) v) gl w := by
  obtain ⟨a, b, ⟨c1, c2, c3, c4, c5⟩, d⟩ := h
  refine ⟨a, b, ⟨c1, c2, c3, fun i hi => ?_, fun i hi hi2 => ?_⟩, fun m hm hm2 => ?_⟩
  · rw [gL_pL, if_neg (by omega), up_n _ _ (by omega)]; exact c4 i hi
  · rw [gL_pL]
    by_cases e : i = sp - 1
    · rw [if_pos ⟨rfl, by rw [e]⟩, e, up_s]
    · rw [if_neg (fun x => by have := x.2; omega), up_n _ _ e]; exact c5 i hi hi2
  · rw [gL_pL, if_neg (by omega)]; exact d m hm hm2
theorem x_up {S : Sx} {sp L x c : Nat} {l : List Nat} {fl gl : Nat → Int64} (h : XR S sp L fl gl) (hL : L ≤ 16) (hx : x < 256) (hs : sp + L ≤ 600) (hf : Fr fl (c :: l) sp) : ∃ S', X6_up (nI x) S = rt () S' ∧ XR S' (sp - (c + 1)) (min 16 (c + upC x L)) (uFl sp x L fl) gl ∧ Sm xRl S S' := by
  obtain ⟨f1, f2, f3, f4⟩ := hf
  obtain ⟨a, b, ⟨sv, q⟩, d⟩ := h
  obtain ⟨S1, w1, g1, g2, g3, g4⟩ := x_fill (t := sp - 1) (h := ⟨a, b, q, d⟩) (by omega) (by omega) (by omega)
  obtain ⟨S2, w2, k1, k2, k3, k4⟩ := x_fill (t := sp - 1 - c) (h := g2) (by omega) (by omega) (by omega)
  obtain ⟨a2, b2, ⟨c1, c2, c3, c4, c5⟩, d2⟩ := id k2
  have hstart : X6_up (nI x) S = if nI x ≤ nI L then X6_up_51 (nI x) (nI c) 0 S2 else X6_up_51 (nI x) (nI c) 1 S2 := by
    unfold X6_up
    rw [a, show nI sp - 1 = nI (sp - 1) from by obtain ⟨u, rfl⟩ : ∃ u, sp = u + 1 := ⟨sp - 1, by omega⟩; exact nI_pred u, g1, bd_rt, g2.1, show nI sp - 1 = nI (sp - 1) from by obtain ⟨u, rfl⟩ : ∃ u, sp = u + 1 := ⟨sp - 1, by omega⟩; exact nI_pred u, mod40 (by omega), lL_n (Nat.mod_lt _ (by omega)) (by omega), g2.2.2.1.2.2.2.2 (sp - 1) g3 (by omega), f1, lN_i, vl_e, pk_sub (by omega), k1, bd_rt, b2]
  rw [hstart]
  unfold X6_up_51
  have hin : inb (nI ((sp - 1) % 40)) 40 = true := inb_nI (Nat.mod_lt _ (by omega)) (by omega)
  by_cases hxL : x ≤ L
  · rw [if_pos (nI_le hxL (by omega)), vl_e]
    by_cases hx0 : x = 0
    · subst hx0
      rw [if_pos rfl]
      unfold X6_up_74
      rw [vl_e, if_pos (by decide), ← nI_0, show uFl sp 0 L fl = fl from if_pos rfl, show upC 0 L = 0 from if_pos rfl]
      obtain ⟨S3, m1, m2, m3⟩ := x_up_119 (m := 0) k2 f3 k3 (by omega) f2 hL
      exact ⟨S3, m1, m2, (g4.trans k4).trans m3⟩
    · rw [if_neg (nI_ne0 (by omega) (by omega)), if_pos rfl]
      unfold X6_up_74 X6_up_118
      rw [vl_e, if_neg (nI_nle (by omega) (by omega)), if_pos rfl, a2, nI_add, show nI (sp + x) - 1 = nI (sp + x - 1) from by obtain ⟨u, e⟩ : ∃ u, sp + x = u + 1 := ⟨sp + x - 1, by omega⟩; rw [e]; exact nI_pred u, mod40 (by omega), lL_n (Nat.mod_lt _ (by omega)) (by omega), c5 (sp + x - 1) (by omega) (by omega), show nI sp - 1 = nI (sp - 1) from by obtain ⟨u, rfl⟩ : ∃ u, sp = u + 1 := ⟨sp - 1, by omega⟩; exact nI_pred u, mod40 (by omega), sL_n (Nat.mod_lt _ (by omega)) (by omega)]
      obtain ⟨S3, m1, m2, m3⟩ := x_up_119 (m := x) (x_hole (v := fl (sp + x - 1)) k2 (by omega) (by omega)) f3 k3 (by omega) f2 hL
      refine ⟨S3, m1, ?_, ((g4.trans k4).trans (Sm.pL (by unfold xRl; omega))).trans m3⟩
      rw [show upC x L = x by unfold upC; rw [if_neg hx0, if_pos hxL], show uFl sp x L fl = up fl (sp - 1) (fl (sp + x - 1)) by unfold uFl uV; rw [if_neg hx0, if_pos hxL]]
      exact m2
  · rw [if_neg (nI_ge (by omega) (by omega)), vl_e, if_neg (nI_ne0 (by omega) (by omega)), if_neg (by decide), b2, nI_1]
    unfold X6_up_74 X6_up_118
    rw [vl_e, if_neg (nI_nle (by omega) (by omega)), if_neg (by decide), a2, show nI sp - 1 = nI (sp - 1) from by obtain ⟨u, rfl⟩ : ∃ u, sp = u + 1 := ⟨sp - 1, by omega⟩; exact nI_pred u, mod40 (by omega), sL_n (Nat.mod_lt _ (by omega)) (by omega)]
    obtain ⟨S3, m1, m2, m3⟩ := x_up_119 (m := L + 1) (x_hole (v := 0) k2 (by omega) (by omega)) f3 k3 (by omega) f2 hL
    refine ⟨S3, m1, ?_, ((g4.trans k4).trans (Sm.pL (by unfold xRl; omega))).trans m3⟩
    rw [show upC x L = L + 1 by unfold upC; rw [if_neg (by omega), if_neg hxL], show uFl sp x L fl = up fl (sp - 1) 0 by unfold uFl uV; rw [if_neg (by omega), if_neg hxL]]
    exact m2
end
section
set_option maxRecDepth 100000
/-! ===== M: calls ===== -/
theorem m_push {S : Sx} {sp : Nat} (v : Int64) (h : gI S 167 11 = nI sp) (hs : sp < 601) : X12_push v S = rt () (pI (pL S 173 sp v) 167 11 (nI (sp + 1))) := by
  unfold X12_push
  rw [h, sL_n hs (by omega), pt_e, gI_pL, h, nI_1]
theorem m_call_71 {S : Sx} {sp L k : Nat} {fl gl : Nat → Int64} (h : MR S sp L fl gl) (hk : k ≤ L) (hL : L ≤ 16) (hs : sp + (k + 1) ≤ 600) : ∃ S', X12_call_71 (nI k) S = rt () S' ∧ MR S' (sp + (k + 1)) (L - (k + 1)) (up fl (sp + k) (lN k)) gl ∧ Sm mRl S S' := by
  obtain ⟨a, b, c, d, e⟩ := id h
  obtain ⟨kk, S1, h1, h2, h3, h4⟩ := loopN (F := fun n i S => X12_call_79 n (nI k) (nI L) i S) (B := fun q i S => X12_call_79b (fun _ _ i S => q i S) (nI k) (nI L) i S) (N := k) (Inv := fun i T => gI T 167 11 = nI (sp + i) ∧ (∀ j, j < sp + i → gL T 173 j = fl j) ∧ Sm (fun c k => c = 173 ∨ (c = 167 ∧ k = 11)) S T) (by omega) (fun _ _ _ => rfl) (fun q i T hi ⟨x1, x2, x3⟩ => by
    refine ⟨pI (pL T 173 (sp + i) (fl (sp + i))) 167 11 (nI (sp + i + 1)), ?_, ?_, fun j hj => ?_, x3.trans (Sm.trans (Sm.pL (by omega)) (Sm.pI (by omega)))⟩
    · show X12_call_79b (fun _ _ i S => q i S) (nI k) (nI L) (nI i) T = _
      unfold X12_call_79b
      rw [if_neg (nI_ge hi (by omega)), lL_n (by omega) (by omega), x3.L (by omega), d i (by omega), m_push _ x1 (by omega), bd_rt, vl_e, nI_1]
    · rw [gI_pI, if_pos ⟨rfl, rfl⟩]; rfl
    · rw [gL_pI, gL_pL]
      split
      · rename_i q; rw [q.2]
      · exact x2 j (by omega)) ⟨by rw [a]; rfl, c, Sm.rfl' S⟩
  have e2 : X12_call_79b (fun _ _ i S => kk i S) (nI k) (nI L) (nI k) S1 = X12_call_122 FU (nI k) (nI (L - (k + 1))) 0 (pI (pL S1 173 (sp + k) (lN k)) 167 11 (nI (sp + k + 1))) := by
    unfold X12_call_79b
    rw [if_pos (nI_le (Nat.le_refl _) (by omega)), nI_l (by omega), m_push _ h2 (by omega), bd_rt]
    unfold J7_max
    by_cases q : k = L
    · subst q
      rw [if_pos (show nI k - nI k - 1 < 0 by rw [pk_sub (Nat.le_refl _), Nat.sub_self]; decide), bd_rt, vl_e, show k - (k + 1) = 0 by omega]
      rfl
    · rw [show nI L - nI k - 1 = nI (L - (k + 1)) from by rw [pk_sub hk]; obtain ⟨u, eu⟩ : ∃ u, L - k = u + 1 := ⟨L - k - 1, by omega⟩; rw [eu, nI_pred, show L - (k + 1) = u by omega], if_neg (nI_pos (by omega)), bd_rt, vl_e]
  generalize hS2 : pI (pL S1 173 (sp + k) (lN k)) 167 11 (nI (sp + k + 1)) = S2 at e2
  have hs2 : Sm (fun c k => c = 173 ∨ (c = 167 ∧ k = 11)) S S2 := by
    rw [← hS2]
    exact h4.trans (Sm.trans (Sm.pL (by omega)) (Sm.pI (by omega)))
  obtain ⟨k2, S3, g1, g2, g3, g4⟩ := loopN (F := fun n i S => X12_call_122 n (nI k) (nI (L - (k + 1))) i S) (B := fun q i S => X12_call_122b (fun _ _ i S => q i S) (nI k) (nI (L - (k + 1))) i S) (N := L - (k + 1)) (Inv := fun i T => (∀ j, j < i → gL T 171 j = fl (sp + (k + 1) + j)) ∧ (∀ j, i ≤ j → gL T 171 j = gL S 171 j) ∧ Sm (fun c _ => c = 171) S2 T) (by omega) (fun _ _ _ => rfl) (fun q i T hi ⟨x1, x2, x3⟩ => by
    refine ⟨pL T 171 i (fl (sp + (k + 1) + i)), ?_, fun j hj => ?_, fun j hj => ?_, x3.trans (Sm.pL rfl)⟩
    · show X12_call_122b (fun _ _ i S => q i S) (nI k) (nI (L - (k + 1))) (nI i) T = _
      unfold X12_call_122b
      rw [if_neg (nI_ge hi (by omega)), nI_1, nI_add, lL_n (by omega) (by omega), x2 _ (by omega), d _ (by omega), sL_n (by omega) (by omega), vl_e, nI_1, show sp + (k + 1 + i) = sp + (k + 1) + i by omega]
    · rw [gL_pL]
      split
      · rename_i q; rw [q.2]
      · exact x1 j (by omega)
    · rw [gL_pL, if_neg (by omega)]; exact x2 j (by omega)) ⟨(fun j hj => by omega), (fun j _ => hs2.L (by omega)), Sm.rfl' S2⟩
  have hsm : Sm mRl S S3 := (hs2.mono fun c k x => by unfold mRl; omega).trans (g4.mono fun c k x => by unfold mRl; omega)
  refine ⟨pL S3 172 4 (lN (L - (k + 1))), ?_, ⟨?_, ?_, fun i hi => ?_, fun n hn => ?_, fun n hn hn2 => ?_⟩, hsm.trans (Sm.pL (by unfold mRl; omega))⟩
  · unfold X12_call_71
    rw [m_rL h, bd_rt, vl_e]
    refine h1.trans (e2.trans (g1.trans ?_))
    show X12_call_122b (fun _ _ i S => k2 i S) (nI k) (nI (L - (k + 1))) (nI (L - (k + 1))) S3 = _
    unfold X12_call_122b
    rw [if_pos (nI_le (Nat.le_refl _) (by omega)), show (4 : Int32) = nI 4 from rfl, sL_n (by omega) (by omega), nI_l (by omega)]
  · rw [gI_pL, g4.I (by omega), ← hS2, gI_pI, if_pos ⟨rfl, rfl⟩]; rfl
  · rw [gL_pL, if_pos ⟨rfl, rfl⟩]
  · rw [gL_pL, if_neg (by omega), g4.L (by omega), ← hS2, gL_pI, gL_pL]
    by_cases q : i = sp + k
    · rw [if_pos ⟨rfl, q⟩, q, up_s]
    · rw [if_neg (by omega), up_n _ _ q]; exact h3 i (by omega)
  · rw [gL_pL, if_neg (by omega), g2 n hn, up_n _ _ (by omega)]
  · rw [gL_pL, if_neg (by omega), g3 n (by omega)]; exact e n hn hn2
theorem dFl_1 {sp L k : Nat} {fl : Nat → Int64} (h : k < L) : dFl sp L fl k = up fl (sp + k) (lN k) := by
  unfold dFl
  rw [zf_0 _ (by omega)]
theorem dFl_2 {sp L : Nat} {fl : Nat → Int64} : dFl sp L fl L = up fl (sp + L) (lN L) := by
  unfold dFl
  funext i
  unfold up zf
  by_cases q : i = sp + L
  · rw [if_pos q, if_pos q]
  · rw [if_neg q, if_neg q]; exact if_neg (by omega)
theorem dFl_3 {sp L k : Nat} {fl : Nat → Int64} (h : L ≤ k) (hk : k < 16) : dFl sp L fl k = up (rFl sp L fl k 0) (sp + k) (lN k) := by
  unfold dFl rFl
  rw [if_pos hk]
  funext i
  unfold up zf
  by_cases q : i = sp + k
  · rw [if_pos q, if_pos q]
  · rw [if_neg q, if_neg q]
    by_cases q2 : sp + L ≤ i ∧ i < sp + k
    · rw [if_pos (by omega)]; exact ((if_neg q).trans (if_pos q2)).symm
    · rw [if_neg (by omega)]; exact ((if_neg q).trans (if_neg q2)).symm
theorem m_call {S : Sx} {sp L x : Nat} {fl gl : Nat → Int64} (h : MR S sp L fl gl) (hL : L ≤ 16) (hx : x < 256) (hs : sp + (dK x L + 1) ≤ 600) (hs2 : sp + L ≤ 600) : ∃ S', X12_call (nI x) S = rt () S' ∧ MR S' (sp + (dK x L + 1)) (L - (dK x L + 1)) (dFl sp L fl (dK x L)) gl ∧ Sm mRl S S' := by
  have hst : X12_call (nI x) S = X12_call_14 (nI x) (nI (dK x L)) S := by
    unfold X12_call dK
    by_cases hx16 : x < 16
    · rw [if_pos (lit_lt hx16 (by omega)), if_pos hx16]
    · rw [if_neg (lit_gt (N := 16) (by omega) (by omega)), if_neg hx16, m_rL h, bd_rt]
  have hk : dK x L ≤ 16 := by unfold dK; split <;> omega
  rw [hst]
  unfold X12_call_14
  rw [vl_e, m_rL h, bd_rt]
  have hmax : J7_max (nI (dK x L) + 1) (nI L) S = rt (nI (max (dK x L + 1) L)) S := by
    unfold J7_max
    rw [nI_1]
    by_cases q : dK x L + 1 < L
    · rw [if_pos (nI_lt q (by omega)), show max (dK x L + 1) L = L by omega]
    · rw [if_neg (nI_nlt (by omega) (by omega)), show max (dK x L + 1) L = dK x L + 1 by omega]
  rw [hmax, bd_rt, h.1, nI_add, if_pos (show nI (sp + max (dK x L + 1) L) ≤ 600 from nI_le (a := sp + max (dK x L + 1) L) (b := 600) (by omega) (by omega))]
  by_cases hkL : dK x L < L
  · have e : (if 16 ≤ nI (dK x L) then X12_call_71 (nI (dK x L)) S else bd (X12_rL S) (fun v4 S3 => if nI (dK x L) < v4 then X12_call_71 (nI (dK x L)) S3 else if 16 ≤ nI x then X12_call_71 (nI (dK x L)) S3 else bd (X12_set (nI (dK x L)) 0 S3) (fun _ S4 => X12_call_71 (nI (dK x L)) S4))) = X12_call_71 (nI (dK x L)) S := by
      split
      · rfl
      · rw [m_rL h, bd_rt, if_pos (nI_lt hkL (by omega))]
    rw [e, dFl_1 hkL]
    exact m_call_71 h (by omega) hL hs
  · by_cases hx16 : x < 16
    · have hd : dK x L = x := by unfold dK; rw [if_pos hx16]
      rw [hd] at hs hkL ⊢
      obtain ⟨S1, e1, e2, e3⟩ := m_rset (n := x) 0 h (by omega) hL
      rw [if_neg (lit_ge hx16 (by omega)), m_rL h, bd_rt, if_neg (nI_nlt (by omega) (by omega)), if_neg (lit_ge hx16 (by omega)), e1, bd_rt, dFl_3 (by omega) hx16]
      have e2' : MR S1 sp (x + 1) (rFl sp L fl x 0) gl := by
        have q1 : rL L x = x + 1 := by unfold rL; rw [if_pos hx16, if_neg (by omega)]
        have q2 : rGl gl x 0 = gl := by unfold rGl; rw [if_pos hx16]
        rw [q1, q2] at e2
        exact e2
      obtain ⟨S2, f1, f2, f3⟩ := m_call_71 (k := x) e2' (by omega) (by omega) hs
      refine ⟨S2, f1, ?_, e3.trans f3⟩
      rw [show L - (x + 1) = x + 1 - (x + 1) by omega]
      exact f2
    · have hd : dK x L = L := by unfold dK; rw [if_neg hx16]
      rw [hd] at hs hkL ⊢
      have e : (if 16 ≤ nI L then X12_call_71 (nI L) S else bd (X12_rL S) (fun v4 S3 => if nI L < v4 then X12_call_71 (nI L) S3 else if 16 ≤ nI x then X12_call_71 (nI L) S3 else bd (X12_set (nI L) 0 S3) (fun _ S4 => X12_call_71 (nI L) S4))) = X12_call_71 (nI L) S := by
        split
        · rfl
        · rw [m_rL h, bd_rt, if_neg (nI_nlt (Nat.le_refl _) (by omega)), if_pos (lit_le (N := 16) (by omega) (by omega))]
      rw [e, dFl_2]
      exact m_call_71 h (Nat.le_refl _) hL hs
/-! ===== M: giveBack ===== -/
theorem m_give_81 {S : Sx} {sp L x c : Nat} {fl gl : Nat → Int64} (a : gI S 167 11 = nI (sp - (c + 1))) (c3 : ∀ i, i < sp → gL S 173 i = fl i) (sv : ∀ n, n < L → gL S 181 n = fl (sp + n)) (e5 : ∀ n, 16 ≤ n → n < 32 → gL S 171 n = gl n) (hL : L ≤ 16) (hc : c ≤ 16) (hc2 : c + 1 ≤ sp) (hx : x < 256) (hs : sp ≤ 600) : ∃ S', X12_giveBack_81 FU (nI x) (nI L) (nI c) 0 S = rt () S' ∧ MR S' (sp - (c + 1)) (min 16 (c + upC x L)) (uFl sp x L fl) gl ∧ Sm mRl S S' := by
  obtain ⟨kk, S1, h1, h2, h3, h4⟩ := loopN (F := fun n i S => X12_giveBack_81 n (nI x) (nI L) (nI c) i S) (B := fun q i S => X12_giveBack_81b (fun _ _ _ i S => q i S) (nI x) (nI L) (nI c) i S) (N := c) (Inv := fun i T => (∀ j, j < i → gL T 171 j = fl (sp - (c + 1) + j)) ∧ (∀ j, 16 ≤ j → j < 32 → gL T 171 j = gl j) ∧ Sm (fun c _ => c = 171) S T) (by omega) (fun _ _ _ => rfl) (fun q i T hi ⟨x1, x2, x3⟩ => by
    refine ⟨pL T 171 i (fl (sp - (c + 1) + i)), ?_, fun j hj => ?_, fun j hj hj2 => ?_, x3.trans (Sm.pL rfl)⟩
    · show X12_giveBack_81b (fun _ _ _ i S => q i S) (nI x) (nI L) (nI c) (nI i) T = _
      unfold X12_giveBack_81b
      rw [if_neg (nI_ge hi (by omega)), x3.I (by omega), a, nI_add, lL_n (by omega) (by omega), x3.L (by omega), c3 _ (by omega), sL_n (by omega) (by omega), vl_e, nI_1]
    · rw [gL_pL]
      split
      · rename_i q; rw [q.2]
      · exact x1 j (by omega)
    · rw [gL_pL, if_neg (by omega)]; exact x2 j hj hj2) ⟨(fun j hj => by omega), e5, Sm.rfl' S⟩
  have hmid : X12_giveBack_81b (fun _ _ _ i S => kk i S) (nI x) (nI L) (nI c) (nI c) S1 = X12_giveBack_137 FU (nI x) (nI L) (nI c) (nI (upC x L)) 0 S1 := by
    unfold X12_giveBack_81b upC
    rw [if_pos (nI_le (Nat.le_refl _) (by omega))]
    by_cases hx0 : x = 0
    · subst hx0
      rw [if_pos rfl, if_pos nI_0]; rfl
    · rw [if_neg (nI_ne0 (by omega) (by omega)), if_neg hx0]
      by_cases hxL : x ≤ L
      · rw [if_neg (nI_nlt (by omega) (by omega)), if_pos hxL, vl_e]
      · rw [if_pos (nI_lt (by omega) (by omega)), if_neg hxL, vl_e, nI_1]
  have huN : upC x L ≤ L + 1 := by unfold upC; split; omega; split <;> omega
  obtain ⟨k2, S3, g1, g2, g3, g4⟩ := loopN (F := fun n i S => X12_giveBack_137 n (nI x) (nI L) (nI c) (nI (upC x L)) i S) (B := fun q i S => X12_giveBack_137b (fun _ _ _ _ i S => q i S) (nI x) (nI L) (nI c) (nI (upC x L)) i S) (N := min (upC x L) (16 - c)) (Inv := fun i T => (∀ j, j < c + i → gL T 171 j = uFl sp x L fl (sp - (c + 1) + j)) ∧ (∀ j, 16 ≤ j → j < 32 → gL T 171 j = gl j) ∧ Sm (fun c _ => c = 171) S1 T) (by omega) (fun _ _ _ => rfl) (fun q i T hi ⟨x1, x2, x3⟩ => by
    have hx0 : ¬ x = 0 := fun e => by rw [e] at hi; unfold upC at hi; simp at hi
    refine ⟨pL T 171 (c + i) (uFl sp x L fl (sp - (c + 1) + (c + i))), ?_, fun j hj => ?_, fun j hj hj2 => ?_, x3.trans (Sm.pL rfl)⟩
    · show X12_giveBack_137b (fun _ _ _ _ i S => q i S) (nI x) (nI L) (nI c) (nI (upC x L)) (nI i) T = _
      unfold X12_giveBack_137b X12_giveBack_187
      rw [if_neg (nI_ge (by omega) (by omega)), nI_add, if_neg (lit_ge (N := 16) (by omega) (by omega))]
      have hv : uFl sp x L fl (sp - (c + 1) + (c + i)) = if i = 0 then (if x ≤ L then fl (sp + x - 1) else 0) else fl (sp + (i - 1)) := by
        unfold uFl uV
        rw [if_neg hx0]
        by_cases hi0 : i = 0
        · rw [if_pos hi0, show sp - (c + 1) + (c + i) = sp - 1 by omega, up_s]
        · rw [if_neg hi0, up_n _ _ (by omega), show sp - (c + 1) + (c + i) = sp + (i - 1) by omega]
      rw [hv]
      by_cases hi0 : i = 0
      · subst hi0
        rw [if_pos (by decide), if_pos rfl]
        by_cases hxL : x ≤ L
        · rw [if_neg (nI_nlt (by omega) (by omega)), if_pos hxL, show nI x - 1 = nI (x - 1) from by obtain ⟨u, rfl⟩ : ∃ u, x = u + 1 := ⟨x - 1, by omega⟩; exact nI_pred u, lL_n (by omega) (by omega), x3.L (by omega), h4.L (by omega), sv _ (by omega), vl_e, sL_n (by omega) (by omega), vl_e, nI_1, show sp + (x - 1) = sp + x - 1 by omega]
        · rw [if_pos (nI_lt (by omega) (by omega)), if_neg hxL, vl_e, sL_n (by omega) (by omega), vl_e, nI_1]
      · rw [if_neg (nI_nle (by omega) (by omega)), if_neg hi0, show nI i - 1 = nI (i - 1) from by obtain ⟨u, rfl⟩ : ∃ u, i = u + 1 := ⟨i - 1, by omega⟩; exact nI_pred u, lL_n (by omega) (by omega), x3.L (by omega), h4.L (by omega), sv _ (by omega), vl_e, sL_n (by omega) (by omega), vl_e, nI_1]
    · rw [gL_pL]
      split
      · rename_i q; rw [q.2]
      · exact x1 j (by omega)
    · rw [gL_pL, if_neg (by omega)]; exact x2 j hj hj2) ⟨(fun j hj => by
      rw [h2 j (by omega)]
      unfold uFl
      split
      · rfl
      · rw [up_n _ _ (by omega)]), h3, Sm.rfl' S1⟩
  have hsm : Sm (fun c _ => c = 171) S S3 := h4.trans g4
  refine ⟨pL S3 172 4 (lN (min 16 (c + upC x L))), ?_, ⟨?_, ?_, fun i hi => ?_, fun n hn => ?_, fun n hn hn2 => ?_⟩, (hsm.mono fun c k x => by unfold mRl; omega).trans (Sm.pL (by unfold mRl; omega))⟩
  · refine h1.trans (hmid.trans (g1.trans ?_))
    show X12_giveBack_137b (fun _ _ _ _ i S => k2 i S) (nI x) (nI L) (nI c) (nI (upC x L)) (nI (min (upC x L) (16 - c))) S3 = _
    have hfin : X12_giveBack_206 (nI c) (nI (upC x L)) S3 = rt () (pL S3 172 4 (lN (min 16 (c + upC x L)))) := by
      unfold X12_giveBack_206 J7_min
      rw [nI_add]
      by_cases q : 16 < c + upC x L
      · rw [if_pos (show (16 : Int32) < nI (c + upC x L) from nI_lt (a := 16) (b := c + upC x L) q (by omega)), bd_rt, show (4 : Int32) = nI 4 from rfl, sL_n (by omega) (by omega), show min 16 (c + upC x L) = 16 by omega]; rfl
      · rw [if_neg (show ¬ (16 : Int32) < nI (c + upC x L) from nI_nlt (a := 16) (b := c + upC x L) (by omega) (by omega)), bd_rt, show (4 : Int32) = nI 4 from rfl, sL_n (by omega) (by omega), show min 16 (c + upC x L) = c + upC x L by omega, nI_l (by omega)]
    unfold X12_giveBack_137b
    by_cases q : upC x L ≤ 16 - c
    · rw [if_pos (nI_le (by omega) (by omega))]; exact hfin
    · rw [if_neg (nI_ge (by omega) (by omega)), nI_add, if_pos (lit_le (N := 16) (by omega) (by omega))]; exact hfin
  · rw [gI_pL, hsm.I (by omega)]; exact a
  · rw [gL_pL, if_pos ⟨rfl, rfl⟩]
  · rw [gL_pL, if_neg (by omega), hsm.L (by omega), c3 i (by omega)]
    unfold uFl
    split
    · rfl
    · rw [up_n _ _ (by omega)]
  · rw [gL_pL, if_neg (by omega)]; exact g2 n (by omega)
  · rw [gL_pL, if_neg (by omega)]; exact g3 n hn hn2
theorem m_give {S : Sx} {sp L x c : Nat} {l : List Nat} {fl gl : Nat → Int64} (h : MR S sp L fl gl) (hL : L ≤ 16) (hx : x < 256) (hs : sp + L ≤ 600) (hf : Fr fl (c :: l) sp) : ∃ S', X12_giveBack (nI x) S = rt () S' ∧ MR S' (sp - (c + 1)) (min 16 (c + upC x L)) (uFl sp x L fl) gl ∧ Sm mRl S S' := by
  obtain ⟨f1, f2, f3, f4⟩ := hf
  obtain ⟨a, b, c', d, e⟩ := id h
  obtain ⟨kk, S1, h1, h2, h3⟩ := loopN (F := fun n i S => X12_giveBack_24 n (nI x) (nI L) i S) (B := fun q i S => X12_giveBack_24b (fun _ _ i S => q i S) (nI x) (nI L) i S) (N := L) (Inv := fun i T => (∀ j, j < i → gL T 181 j = fl (sp + j)) ∧ Sm (fun c _ => c = 181) S T) (by omega) (fun _ _ _ => rfl) (fun q i T hi ⟨x1, x3⟩ => by
    refine ⟨pL T 181 i (fl (sp + i)), ?_, fun j hj => ?_, x3.trans (Sm.pL rfl)⟩
    · show X12_giveBack_24b (fun _ _ i S => q i S) (nI x) (nI L) (nI i) T = _
      unfold X12_giveBack_24b
      rw [if_neg (nI_ge hi (by omega)), lL_n (by omega) (by omega), x3.L (by omega), d _ (by omega), sL_n (by omega) (by omega), vl_e, nI_1]
    · rw [gL_pL]
      split
      · rename_i q; rw [q.2]
      · exact x1 j (by omega)) ⟨(fun j hj => by omega), Sm.rfl' S⟩
  obtain ⟨u, rfl⟩ : ∃ u, sp = u + 1 := ⟨sp - 1, by omega⟩
  obtain ⟨S2, g1, g2, g3⟩ := m_give_81 (S := pI (pI S1 167 11 (nI u)) 167 11 (nI (u + 1 - (c + 1)))) (sp := u + 1) (L := L) (x := x) (c := c) (fl := fl) (gl := gl) (by rw [gI_pI, if_pos ⟨rfl, rfl⟩]) (fun i hi => by rw [gL_pI, gL_pI, h3.L (by omega)]; exact c' i hi) (fun n hn => by rw [gL_pI, gL_pI]; exact h2 n hn) (fun n hn hn2 => by rw [gL_pI, gL_pI, h3.L (by omega)]; exact e n hn hn2) hL f2 f3 hx (by omega)
  refine ⟨S2, ?_, g2, ((h3.mono fun c k x => by unfold mRl; omega).trans (Sm.trans (Sm.pI (by unfold mRl; omega)) (Sm.pI (by unfold mRl; omega)))).trans g3⟩
  unfold X12_giveBack
  rw [a, if_neg (nI_ne0 (by omega) (by omega)), m_rL h, bd_rt, vl_e]
  refine h1.trans ?_
  show X12_giveBack_24b (fun _ _ i S => kk i S) (nI x) (nI L) (nI L) S1 = _
  unfold X12_giveBack_24b
  rw [if_pos (nI_le (Nat.le_refl _) (by omega)), h3.I (by omega), a, nI_pred, pt_e, gI_pI, if_pos ⟨rfl, rfl⟩, lL_n (by omega) (by omega), gL_pI, h3.L (by omega), c' u (by omega), show fl u = lN c from f1, lN_i, vl_e, pk_sub (by omega), show u - c = u + 1 - (c + 1) by omega, pt_e]
  exact g1
end
section
set_option maxRecDepth 100000
/-! ===== numbers of 64 bits, unsigned ===== -/
theorem lN_uN (x : Int64) : lN (uN x) = x := uN_inj (by
  have h := uN_lt x
  show (UInt64.ofNat (uN x)).toNat = uN x
  exact u_tn (by omega))
theorem uN_lN (n : Nat) : uN (lN n) = n % 18446744073709551616 := rfl
theorem ult_e (x y : Int64) : y + (-9223372036854775808) ≤ x + (-9223372036854775808) ↔ uN y ≤ uN x := by
  have h1 := uN_lt x
  have h2 := uN_lt y
  have h3 : uN (-9223372036854775808 : Int64) = 9223372036854775808 := by decide +kernel
  rw [Int64.le_iff_toInt_le, uN_int, uN_int, uN_add, uN_add, h3]
  constructor
  · intro h; split at h <;> split at h <;> omega
  · intro h; split <;> split <;> omega
theorem m_less (a b : Int64) (S : Sx) : X12_isLess a b S = rt (b1 (decide (uN a < uN b))) S := by
  unfold X12_isLess
  by_cases h : uN a < uN b
  · rw [if_neg (fun e => by have := (ult_e a b).mp e; omega), decide_eq_true h]; rfl
  · rw [if_pos ((ult_e a b).mpr (by omega)), decide_eq_false h]; rfl
theorem x_below (a b : Int64) (S : Sx) : X7_isBelow a b S = rt (b1 (decide (uN a < uN b))) S := by
  unfold X7_isBelow
  by_cases h : uN a < uN b
  · rw [if_neg (fun e => by have := (ult_e a b).mp e; omega), decide_eq_true h]; rfl
  · rw [if_pos ((ult_e a b).mpr (by omega)), decide_eq_false h]; rfl
/-- the upper half of the product -/
def mulH (a b : Int64) : Int64 := lN (uN a * uN b / 18446744073709551616)
theorem x_mul (a b : Int64) (S : Sx) : X7_multiply a b S = rt () (pL (pL S 143 1 (a * b)) 143 0 (mulH a b)) := by
  unfold X7_multiply
  rw [vl_e, vl_e, vl_e, vl_e, vl_e, vl_e, vl_e, pt_e, pt_e]
  generalize hv1 : a &&& 4294967295 = v1
  generalize hv2 : (a.toUInt64 >>> ((32 : Int32).toInt64.toUInt64 &&& Int64.toUInt64 63)).toInt64 = v2
  generalize hv3 : b &&& 4294967295 = v3
  generalize hv4 : (b.toUInt64 >>> ((32 : Int32).toInt64.toUInt64 &&& Int64.toUInt64 63)).toInt64 = v4
  have u1 : uN v1 = uN a % 4294967296 := by rw [← hv1, uN_lo]
  have u2 : uN v2 = uN a / 4294967296 := by rw [← hv2, uN_s32]
  have u3 : uN v3 = uN b % 4294967296 := by rw [← hv3, uN_lo]
  have u4 : uN v4 = uN b / 4294967296 := by rw [← hv4, uN_s32]
  have la := uN_lt a
  have lb := uN_lt b
  have m1 : uN v1 * uN v3 ≤ 4294967295 * 4294967295 := Nat.mul_le_mul (by omega) (by omega)
  have m2 : uN v2 * uN v3 ≤ 4294967295 * 4294967295 := Nat.mul_le_mul (by omega) (by omega)
  have m3 : uN v1 * uN v4 ≤ 4294967295 * 4294967295 := Nat.mul_le_mul (by omega) (by omega)
  have m4 : uN v2 * uN v4 ≤ 4294967295 * 4294967295 := Nat.mul_le_mul (by omega) (by omega)
  generalize hv5 : v1 * v3 = v5
  have u5 : uN v5 = uN v1 * uN v3 := by rw [← hv5, uN_mul]; omega
  generalize hv6 : v2 * v3 + (v5.toUInt64 >>> ((32 : Int32).toInt64.toUInt64 &&& Int64.toUInt64 63)).toInt64 = v6
  have u6 : uN v6 = uN v2 * uN v3 + uN v5 / 4294967296 := by
    rw [← hv6, uN_add, uN_mul, uN_s32]; omega
  generalize hv7 : v1 * v4 + (v6 &&& 4294967295) = v7
  have u7 : uN v7 = uN v1 * uN v4 + uN v6 % 4294967296 := by
    rw [← hv7, uN_add, uN_mul, uN_lo]; omega
  have hAB : uN a * uN b = uN v2 * uN v4 * 18446744073709551616 + (uN v2 * uN v3 + uN v1 * uN v4) * 4294967296 + uN v1 * uN v3 := by
    have ea : uN a = uN v2 * 4294967296 + uN v1 := by omega
    have eb : uN b = uN v4 * 4294967296 + uN v3 := by omega
    rw [ea, eb]
    generalize uN v1 = p
    generalize uN v2 = q
    generalize uN v3 = r
    generalize uN v4 = s
    have e1 : (q * 4294967296 + p) * (s * 4294967296 + r) = q * s * 18446744073709551616 + (q * r + p * s) * 4294967296 + p * r := by
      rw [Nat.add_mul, Nat.mul_add, Nat.mul_add]
      have x1 : q * 4294967296 * (s * 4294967296) = q * s * 18446744073709551616 := by
        rw [Nat.mul_mul_mul_comm]
      have x2 : q * 4294967296 * r = q * r * 4294967296 := Nat.mul_right_comm _ _ _
      have x3 : p * (s * 4294967296) = p * s * 4294967296 := (Nat.mul_assoc _ _ _).symm
      rw [x1, x2, x3]
      omega
    exact e1
  have hlo : v7 <<< ((32 : Int32).toInt64 &&& 63) ||| v5 &&& 4294967295 = a * b := by
    have e1 : v7 <<< ((32 : Int32).toInt64 &&& 63) = lN (uN v7 % 4294967296 * 4294967296) := by
      have q := wb_shl (uN v7) (k := 32) (by omega)
      rw [lN_uN] at q
      rw [show ((32 : Int32).toInt64 &&& 63) = ((nI 32).toInt64 &&& 63) from rfl, q]
      apply uN_inj
      rw [uN_lN, uN_lN]
      omega
    have e2 : v5 &&& 4294967295 = lN (uN v5 % 4294967296) := by
      apply uN_inj
      rw [uN_lo, uN_lN]
      omega
    rw [e1, e2, g_or (k := 32) (by decide) (by omega) (by omega)]
    apply uN_inj
    rw [uN_lN, uN_mul, hAB]
    omega
  have hhi : v2 * v4 + (v6.toUInt64 >>> ((32 : Int32).toInt64.toUInt64 &&& Int64.toUInt64 63)).toInt64 + (v7.toUInt64 >>> ((32 : Int32).toInt64.toUInt64 &&& Int64.toUInt64 63)).toInt64 = mulH a b := by
    apply uN_inj
    unfold mulH
    rw [uN_add, uN_add, uN_mul, uN_s32, uN_s32, uN_lN, hAB]
    omega
  rw [hlo, hhi]
/-- the lowest bit behind a shift -/
theorem shr_bit (x : Int64) {k : Nat} (hk : k < 64) : (x >>> ((nI k).toInt64 &&& 63)) &&& 1 = lN (uN x / 2 ^ k % 2) := by
  rw [wb_c k hk]
  apply wb_inj
  apply BitVec.eq_of_getLsbD_eq
  intro i hi
  rw [Int64.toBitVec_and, Int64.toBitVec_shiftRight, BitVec.getLsbD_and, wb_tb, wb_sm k hk, BitVec.sshiftRight_eq', BitVec.toNat_ofNat, Nat.mod_eq_of_lt (show k < 2 ^ 64 by omega), BitVec.getLsbD_sshiftRight, wb_tb, BitVec.getLsbD_ofNat]
  by_cases h0 : i = 0
  · subst h0
    have e : x.toBitVec.getLsbD k = (uN x / 2 ^ k % 2).testBit 0 := by
      rw [Nat.testBit_zero, Nat.mod_mod]
      show x.toBitVec.toNat.testBit k = _
      rw [Nat.testBit_eq_decide_div_mod_eq]
      rfl
    rw [← e]
    have : k + 0 < 64 := by omega
    simp [hk]
  · have e1 : (1 : Int64).toBitVec.getLsbD i = false := by
      show (1 : Nat).testBit i = false
      exact Bool.eq_false_iff.mpr (fun e => h0 (Nat.testBit_one_eq_true_iff_self_eq_zero.mp e))
    have e2 : (uN x / 2 ^ k % 2).testBit i = false := Nat.testBit_lt_two_pow (by
      have : 2 ^ 1 ≤ 2 ^ i := Nat.pow_le_pow_right (by omega) (by omega)
      omega)
    rw [e1, e2]
    simp
theorem mu0 {hi lo : Nat} (h1 : lo < 18446744073709551616) (h2 : 2 * (hi * 18446744073709551616 + lo) < 340282366920938463463374607431768211456) : ((2 * hi) % 18446744073709551616 + lo / 9223372036854775808) * 18446744073709551616 + (2 * lo) % 18446744073709551616 = 2 * (hi * 18446744073709551616 + lo) := by omega
theorem mu1 {hi lo x : Nat} (h1 : lo < 18446744073709551616) (hx : x < 18446744073709551616) (h2 : 2 * (hi * 18446744073709551616 + lo) + x < 340282366920938463463374607431768211456) (hc : ((2 * lo) % 18446744073709551616 + x) % 18446744073709551616 < x) : (((2 * hi) % 18446744073709551616 + lo / 9223372036854775808 + 1) % 18446744073709551616) * 18446744073709551616 + ((2 * lo) % 18446744073709551616 + x) % 18446744073709551616 = 2 * (hi * 18446744073709551616 + lo) + x := by omega
theorem mu2 {hi lo x : Nat} (h1 : lo < 18446744073709551616) (hx : x < 18446744073709551616) (h2 : 2 * (hi * 18446744073709551616 + lo) + x < 340282366920938463463374607431768211456) (hc : ¬ ((2 * lo) % 18446744073709551616 + x) % 18446744073709551616 < x) : (((2 * hi) % 18446744073709551616 + lo / 9223372036854775808 + 0) % 18446744073709551616) * 18446744073709551616 + ((2 * lo) % 18446744073709551616 + x) % 18446744073709551616 = 2 * (hi * 18446744073709551616 + lo) + x := by omega
theorem m_upper_loop (x y : Int64) : ∀ (d n : Nat) (hi lo : Int64) (S : Sx), d ≤ 64 → d < n → uN hi * 18446744073709551616 + uN lo = uN x * (uN y / 2 ^ d) → X12_upper_10 n x y hi lo (nI d - 1) S = rt (mulH x y) S := by
  intro d
  induction d with
  | zero =>
    intro n hi lo S hd hn h
    obtain ⟨n, rfl⟩ : ∃ j, n = j + 1 := ⟨n - 1, by omega⟩
    show X12_upper_10b (X12_upper_10 n) x y hi lo (nI 0 - 1) S = _
    unfold X12_upper_10b
    rw [if_pos (by decide)]
    congr 1
    apply uN_inj
    unfold mulH
    rw [Nat.pow_zero, Nat.div_one] at h
    rw [uN_lN, ← h]
    have := uN_lt hi
    have := uN_lt lo
    omega
  | succ d ih =>
    intro n hi lo S hd hn h
    obtain ⟨n, rfl⟩ : ∃ j, n = j + 1 := ⟨n - 1, by omega⟩
    show X12_upper_10b (X12_upper_10 n) x y hi lo (nI (d + 1) - 1) S = _
    unfold X12_upper_10b
    have l1 := uN_lt hi
    have l2 := uN_lt lo
    have l3 := uN_lt x
    have l4 := uN_lt y
    rw [nI_pred, if_neg (nI_pos (by omega)), vl_e, vl_e, shr_bit y (by omega), show nI d + (-1) = nI d - 1 from (Int32.sub_eq_add_neg _ _).symm]
    have hdiv : uN y / 2 ^ d = 2 * (uN y / 2 ^ (d + 1)) + uN y / 2 ^ d % 2 := by
      rw [Nat.pow_succ, ← Nat.div_div_eq_div_mul]
      omega
    have hbig : uN x * (uN y / 2 ^ d) ≤ 18446744073709551615 * 18446744073709551615 := Nat.mul_le_mul (by omega) (Nat.le_trans (Nat.div_le_self _ _) (by omega))
    have hmul : uN x * (uN y / 2 ^ d) = 2 * (uN x * (uN y / 2 ^ (d + 1))) + uN x * (uN y / 2 ^ d % 2) := by
      conv => lhs; rw [hdiv]
      rw [Nat.mul_add, Nat.mul_left_comm]
    have hm2 : uN y / 2 ^ d % 2 < 2 := Nat.mod_lt _ (by omega)
    generalize hbit : uN y / 2 ^ d % 2 = bit at *
    have hv1 : uN (hi <<< ((1 : Int32).toInt64 &&& 63) ||| (lo.toUInt64 >>> ((63 : Int32).toInt64.toUInt64 &&& Int64.toUInt64 63)).toInt64) = (2 * uN hi) % 18446744073709551616 + uN lo / 9223372036854775808 := by
      rw [uN_or (by rw [uN_s63]; omega), uN_s63]
    have hv2 : uN (lo <<< ((1 : Int32).toInt64 &&& 63)) = (2 * uN lo) % 18446744073709551616 := uN_shl lo
    generalize hi <<< ((1 : Int32).toInt64 &&& 63) ||| (lo.toUInt64 >>> ((63 : Int32).toInt64.toUInt64 &&& Int64.toUInt64 63)).toInt64 = w1 at *
    generalize lo <<< ((1 : Int32).toInt64 &&& 63) = w2 at *
    by_cases hb : bit = 0
    · subst hb
      rw [if_pos (by rfl), vl_e]
      refine ih n _ _ S (by omega) (by omega) ?_
      rw [hmul, ← h] at hbig
      rw [Nat.mul_zero, Nat.add_zero] at hbig hmul
      rw [hmul, ← h, hv1, hv2]
      exact mu0 l2 (Nat.lt_of_le_of_lt hbig (by decide))
    · obtain rfl : bit = 1 := by omega
      rw [if_neg (by decide), vl_e, m_less, bd_rt]
      rw [Nat.mul_one] at hmul
      have hv3 : uN (w2 + x) = ((2 * uN lo) % 18446744073709551616 + uN x) % 18446744073709551616 := by rw [uN_add, hv2]
      rw [hmul, ← h] at hbig
      by_cases hc : uN (w2 + x) < uN x
      · rw [decide_eq_true hc, if_neg (by decide), vl_e, vl_e]
        refine ih n _ _ S (by omega) (by omega) ?_
        rw [hv3] at hc
        rw [hmul, ← h, uN_add, hv1, hv3, show uN (1 : Int64) = 1 from rfl]
        exact mu1 l2 l3 (Nat.lt_of_le_of_lt hbig (by decide)) hc
      · rw [decide_eq_false hc, if_pos (by rfl), vl_e, vl_e]
        refine ih n _ _ S (by omega) (by omega) ?_
        rw [hv3] at hc
        rw [hmul, ← h, uN_add, hv1, hv3, show uN (0 : Int64) = 0 from rfl]
        exact mu2 l2 l3 (Nat.lt_of_le_of_lt hbig (by decide)) hc
theorem m_upper (x y : Int64) (S : Sx) : X12_upper x y S = rt (mulH x y) S := by
  have := m_upper_loop x y 64 FU 0 0 S (by omega) (by have := FU_ge; omega) (by
    have := uN_lt y
    rw [Nat.div_eq_of_lt (show uN y < 2 ^ 64 by omega)]
    rfl)
  exact this
/-! ===== the division ===== -/
def dR (r lo : Int64) (k : Nat) : Int64 := r <<< ((1 : Int32).toInt64 &&& 63) ||| lN (uN lo / 2 ^ k % 2)
/-- remainder and quotient after i steps -/
def dv (h lo d : Int64) : Nat → Int64 × Int64
  | 0 => (h, 0)
  | i + 1 => if (dv h lo d i).1 < 0 ∨ uN d ≤ uN (dR (dv h lo d i).1 lo (63 - i)) then (dR (dv h lo d i).1 lo (63 - i) - d, (dv h lo d i).2 <<< ((1 : Int32).toInt64 &&& 63) ||| 1) else (dR (dv h lo d i).1 lo (63 - i), (dv h lo d i).2 <<< ((1 : Int32).toInt64 &&& 63))
theorem dv_s (h lo d : Int64) (i : Nat) : dv h lo d (i + 1) = if (dv h lo d i).1 < 0 ∨ uN d ≤ uN (dR (dv h lo d i).1 lo (63 - i)) then (dR (dv h lo d i).1 lo (63 - i) - d, (dv h lo d i).2 <<< ((1 : Int32).toInt64 &&& 63) ||| 1) else (dR (dv h lo d i).1 lo (63 - i), (dv h lo d i).2 <<< ((1 : Int32).toInt64 &&& 63)) := rfl
theorem m_quot_loop (h lo d : Int64) : ∀ (e n : Nat) (S : Sx), e ≤ 64 → e < n → X12_quotient_10 n lo d (dv h lo d (64 - e)).1 (dv h lo d (64 - e)).2 (nI e - 1) S = rt (dv h lo d 64).2 (pL S 172 2 (dv h lo d 64).1) := by
  intro e
  induction e with
  | zero =>
    intro n S he hn
    obtain ⟨n, rfl⟩ : ∃ j, n = j + 1 := ⟨n - 1, by omega⟩
    show X12_quotient_10b (X12_quotient_10 n) lo d (dv h lo d 64).1 (dv h lo d 64).2 (nI 0 - 1) S = _
    unfold X12_quotient_10b
    rw [if_pos (by decide), show (2 : Int32) = nI 2 from rfl, sL_n (by omega) (by omega)]
  | succ e ih =>
    intro n S he hn
    obtain ⟨n, rfl⟩ : ∃ j, n = j + 1 := ⟨n - 1, by omega⟩
    have ih := ih n S (by omega) (by omega)
    rw [show 64 - e = 64 - (e + 1) + 1 by omega] at ih
    show X12_quotient_10b (X12_quotient_10 n) lo d _ _ (nI (e + 1) - 1) S = _
    unfold X12_quotient_10b X12_quotient_27 X12_quotient_66
    rw [nI_pred, if_neg (nI_pos (by omega)), shr_bit lo (by omega), show nI e + (-1) = nI e - 1 from (Int32.sub_eq_add_neg _ _).symm]
    have e63 : 63 - (64 - (e + 1)) = e := by omega
    rw [dv_s, e63] at ih
    rw [← ih]
    have hdr : (dv h lo d (64 - (e + 1))).1 <<< ((1 : Int32).toInt64 &&& 63) ||| lN (uN lo / 2 ^ e % 2) = dR (dv h lo d (64 - (e + 1))).1 lo e := rfl
    rw [hdr]
    by_cases h1 : (dv h lo d (64 - (e + 1))).1 < 0
    · rw [if_neg (show ¬ 0 ≤ (dv h lo d (64 - (e + 1))).1 from fun q => by rw [l_le] at q; rw [l_lt] at h1; omega), if_pos (Or.inl h1), vl_e, vl_e, vl_e, if_neg (by decide), vl_e, vl_e, vl_e]
    · rw [if_pos (show 0 ≤ (dv h lo d (64 - (e + 1))).1 from by rw [l_lt] at h1; rw [l_le]; omega), vl_e, vl_e, vl_e, if_pos (by rfl), m_less, bd_rt]
      by_cases h2 : uN d ≤ uN (dR (dv h lo d (64 - (e + 1))).1 lo e)
      · rw [if_pos (Or.inr h2), decide_eq_false (by omega), if_pos (by rfl), vl_e, vl_e, vl_e]
      · rw [decide_eq_true (by omega), if_neg (by decide), vl_e, if_neg (fun q => q.elim h1 h2)]
theorem m_quot (h lo d : Int64) (S : Sx) : X12_quotient h lo d S = rt (dv h lo d 64).2 (pL S 172 2 (dv h lo d 64).1) := m_quot_loop h lo d 64 FU S (by omega) (by have := FU_ge; omega)
theorem dv_q (h lo d : Int64) : ∀ i, i ≤ 64 → uN (dv h lo d i).2 < 2 ^ i := by
  intro i
  induction i with
  | zero => intro _; exact Nat.one_pos
  | succ i ih =>
    intro hi
    have ih := ih (by omega)
    have hp : 2 ^ (i + 1) = 2 * 2 ^ i := by rw [Nat.pow_succ, Nat.mul_comm]
    have hq : 2 ^ i ≤ 2 ^ 63 := Nat.pow_le_pow_right (by omega) (by omega)
    unfold dv
    split
    · show uN ((dv h lo d i).2 <<< ((1 : Int32).toInt64 &&& 63) ||| 1) < _
      rw [uN_or (by decide), show uN (1 : Int64) = 1 from rfl]
      omega
    · show uN ((dv h lo d i).2 <<< ((1 : Int32).toInt64 &&& 63)) < _
      rw [uN_shl]
      omega
theorem top_bit {L i q : Nat} (hi : i ≤ 63) (hq : q < 2 ^ i) : (L * 2 ^ i + q) % 18446744073709551616 / 9223372036854775808 = L / 2 ^ (63 - i) % 2 := by
  have e1 : (L * 2 ^ i + q) % (9223372036854775808 * 2) / 9223372036854775808 = (L * 2 ^ i + q) / 9223372036854775808 % 2 := Nat.mod_mul_right_div_self _ _ _
  have e2 : (9223372036854775808 : Nat) = 2 ^ i * 2 ^ (63 - i) := by rw [← Nat.pow_add, show i + (63 - i) = 63 by omega]
  have e3 : (L * 2 ^ i + q) / 2 ^ i = L := by
    rw [Nat.add_comm, Nat.add_mul_div_right _ _ (Nat.two_pow_pos i), Nat.div_eq_of_lt hq, Nat.zero_add]
  rw [show (18446744073709551616 : Nat) = 9223372036854775808 * 2 from rfl, e1]
  conv => lhs; rw [e2]
  rw [← Nat.div_div_eq_div_mul, e3]
theorem x_div_loop (h lo d : Int64) : ∀ (e n : Nat) (x : Int64) (S : Sx), e ≤ 64 → e < n → uN x = (uN lo * 2 ^ (64 - e) + uN (dv h lo d (64 - e)).2) % 18446744073709551616 → X7_divide_9 n d (dv h lo d (64 - e)).1 x (nI (64 - e)) S = rt () (pL (pL S 143 0 (dv h lo d 64).1) 143 1 (dv h lo d 64).2) := by
  intro e
  induction e with
  | zero =>
    intro n x S he hn hx
    obtain ⟨n, rfl⟩ : ∃ j, n = j + 1 := ⟨n - 1, by omega⟩
    show X7_divide_9b (X7_divide_9 n) d (dv h lo d 64).1 x (nI 64) S = _
    unfold X7_divide_9b
    have : x = (dv h lo d 64).2 := by
      apply uN_inj
      have h2 := uN_lt (dv h lo d 64).2
      rw [hx, show 64 - 0 = 64 from rfl, show uN lo * 2 ^ 64 = uN lo * 18446744073709551616 from rfl]
      omega
    rw [if_pos (by decide), pt_e, pt_e, this]
  | succ e ih =>
    intro n x S he hn hx
    obtain ⟨n, rfl⟩ : ∃ j, n = j + 1 := ⟨n - 1, by omega⟩
    have hq := dv_q h lo d (64 - (e + 1)) (by omega)
    have htop : uN x / 9223372036854775808 = uN lo / 2 ^ e % 2 := by
      rw [hx, top_bit (by omega) hq, show 63 - (64 - (e + 1)) = e by omega]
    have hsh : (x.toUInt64 >>> ((63 : Int32).toInt64.toUInt64 &&& Int64.toUInt64 63)).toInt64 = lN (uN lo / 2 ^ e % 2) := by
      apply uN_inj
      rw [uN_s63, htop, uN_lN]
      omega
    have hp : uN lo * 2 ^ (64 - e) = 2 * (uN lo * 2 ^ (64 - (e + 1))) := by
      rw [show 64 - e = 64 - (e + 1) + 1 by omega, Nat.pow_succ, Nat.mul_comm (2 ^ (64 - (e + 1))) 2, Nat.mul_left_comm]
    have hs1 : 64 - e = 64 - (e + 1) + 1 := by omega
    have e63 : 63 - (64 - (e + 1)) = e := by omega
    have hq2 : uN (dv h lo d (64 - (e + 1))).2 < 9223372036854775808 := Nat.lt_of_lt_of_le hq (Nat.pow_le_pow_right (n := 2) (by omega) (show 64 - (e + 1) ≤ 63 by omega))
    show X7_divide_9b (X7_divide_9 n) d _ x (nI (64 - (e + 1))) S = _
    unfold X7_divide_9b X7_divide_28 X7_divide_63
    have hdr : (dv h lo d (64 - (e + 1))).1 <<< ((1 : Int32).toInt64 &&& 63) ||| lN (uN lo / 2 ^ e % 2) = dR (dv h lo d (64 - (e + 1))).1 lo e := rfl
    rw [if_neg (lit_ge (N := 64) (by omega) (by omega)), hsh, nI_1, ← hs1, hdr]
    have step1 : dv h lo d (64 - e) = (dR (dv h lo d (64 - (e + 1))).1 lo e - d, (dv h lo d (64 - (e + 1))).2 <<< ((1 : Int32).toInt64 &&& 63) ||| 1) → X7_divide_9 n d (dR (dv h lo d (64 - (e + 1))).1 lo e - d) (x <<< ((1 : Int32).toInt64 &&& 63) ||| 1) (nI (64 - e)) S = rt () (pL (pL S 143 0 (dv h lo d 64).1) 143 1 (dv h lo d 64).2) := fun q => by
      have := ih n (x <<< ((1 : Int32).toInt64 &&& 63) ||| 1) S (by omega) (by omega) (by
        rw [q, uN_or (by decide), hx, hp, show uN (1 : Int64) = 1 from rfl, uN_or (by decide), show uN (1 : Int64) = 1 from rfl]
        omega)
      rw [q] at this
      exact this
    have step2 : dv h lo d (64 - e) = (dR (dv h lo d (64 - (e + 1))).1 lo e, (dv h lo d (64 - (e + 1))).2 <<< ((1 : Int32).toInt64 &&& 63)) → X7_divide_9 n d (dR (dv h lo d (64 - (e + 1))).1 lo e) (x <<< ((1 : Int32).toInt64 &&& 63)) (nI (64 - e)) S = rt () (pL (pL S 143 0 (dv h lo d 64).1) 143 1 (dv h lo d 64).2) := fun q => by
      have := ih n (x <<< ((1 : Int32).toInt64 &&& 63)) S (by omega) (by omega) (by
        rw [q, uN_shl, hx, hp, uN_shl]
        omega)
      rw [q] at this
      exact this
    by_cases h1 : (dv h lo d (64 - (e + 1))).1 < 0
    · rw [if_neg (show ¬ 0 ≤ (dv h lo d (64 - (e + 1))).1 from fun q => by rw [l_le] at q; rw [l_lt] at h1; omega), vl_e, vl_e, vl_e, if_neg (by decide), vl_e, vl_e, vl_e]
      refine step1 ?_
      rw [hs1]
      rw [dv_s, e63, if_pos (Or.inl h1)]
    · rw [if_pos (show 0 ≤ (dv h lo d (64 - (e + 1))).1 from by rw [l_lt] at h1; rw [l_le]; omega), vl_e, vl_e, vl_e, if_pos (by rfl), x_below, bd_rt]
      by_cases h2 : uN d ≤ uN (dR (dv h lo d (64 - (e + 1))).1 lo e)
      · rw [decide_eq_false (by omega), if_pos (by rfl), vl_e, vl_e, vl_e]
        refine step1 ?_
        rw [hs1]
        rw [dv_s, e63, if_pos (Or.inr h2)]
      · rw [decide_eq_true (by omega), if_neg (by decide), vl_e]
        refine step2 ?_
        rw [hs1]
        rw [dv_s, e63, if_neg (fun q => q.elim h1 h2)]
theorem x_div (h lo d : Int64) (S : Sx) : X7_divide h lo d S = rt () (pL (pL S 143 0 (dv h lo d 64).1) 143 1 (dv h lo d 64).2) := x_div_loop h lo d 64 FU lo S (by omega) (by have := FU_ge; omega) (by
  show uN lo = (uN lo * 1 + 0) % _
  have := uN_lt lo
  omega)
theorem dv64_ex (h lo d : Int64) : ∃ v : Int64 × Int64, v = dv h lo d 64 := ⟨_, rfl⟩
/-- remainder and quotient -/
noncomputable def dvv (h lo d : Int64) : Int64 × Int64 := Classical.choose (dv64_ex h lo d)
theorem dvv_e (h lo d : Int64) : dvv h lo d = dv h lo d 64 := Classical.choose_spec (dv64_ex h lo d)
theorem m_quo (h lo d : Int64) (S : Sx) : X12_quotient h lo d S = rt (dvv h lo d).2 (pL S 172 2 (dvv h lo d).1) := by
  rw [dvv_e]; exact m_quot h lo d S
theorem x_quo (h lo d : Int64) (S : Sx) : X7_divide h lo d S = rt () (pL (pL S 143 0 (dvv h lo d).1) 143 1 (dvv h lo d).2) := by
  rw [dvv_e]; exact x_div h lo d S
end
section
set_option maxRecDepth 100000
/-! ===== what an operation of the first kind reckons ===== -/
def fD (a b : Int64) : Int64 := if 0 ≤ (a ^^^ b) then a / b else if (a / b * b) = a then a / b else a / b - 1
def fM (a b : Int64) : Int64 := if 0 ≤ (a ^^^ b) then a - a / b * b else if (a - a / b * b) = 0 then a - a / b * b else a - a / b * b + b
theorem fD_e {a b : Int64} (S : Sx) (h : ¬ b = 0) : J7_floorDiv a b S = rt (fD a b) S := by
  unfold J7_floorDiv fD
  rw [if_neg h, vl_e]
  split
  · rfl
  · split <;> rfl
theorem fM_e {a b : Int64} (S : Sx) (h : ¬ b = 0) : J7_floorMod a b S = rt (fM a b) S := by
  unfold J7_floorMod fM
  rw [if_neg h, vl_e]
  split
  · rfl
  · split <;> rfl
noncomputable def rkV (k : Nat) (a b : Int64) (s : Nat → Int64) : Int64 :=
  if k = 2 then a * b else if k = 4 then (if b = 0 then 0 else fD a b) else if k = 6 then a + b else if k = 8 then a - b else if k = 10 then (if b ≤ a then (if a = b then 0 else 1) else -1)
  else if k = 12 then (if uN a < uN b then -1 else if a = b then 0 else 1) else if k = 14 then a * b else if k = 16 then (if uN (s 0) < uN b then (dvv (s 0) a b).2 else s 0)
  else if k = 18 then a &&& b else if k = 20 then a ||| b else if k = 22 then a ^^^ b else if k = 24 then a &&& (b ^^^ (-1))
  else if k = 26 then (if uN b < 64 then a <<< (b.toInt32.toInt64 &&& 63) else 0) else if k = 28 then (if uN b < 64 then a >>> (b.toInt32.toInt64 &&& 63) else a >>> (((63 : Int32)).toInt64 &&& 63))
  else if k = 30 then (if uN b < 64 then (a.toUInt64 >>> (b.toInt32.toInt64.toUInt64 &&& Int64.toUInt64 63)).toInt64 else 0) else if k = 32 then a - b else a + b
noncomputable def rkS (k : Nat) (a b : Int64) (s : Nat → Int64) : Nat → Int64 :=
  if k = 4 then up s 2 (if b = 0 then a else fM a b) else if k = 14 then up s 1 (mulH a b) else if k = 16 then up s 2 (if uN (s 0) < uN b then (dvv (s 0) a b).1 else a) else s
def XS (A : Sx) (s : Nat → Int64) : Prop := ∀ k, k < 4 → gL A 144 k = s k
def MS (B : Sx) (s : Nat → Int64) : Prop := ∀ k, k < 4 → gL B 172 k = s k
theorem XS.up {A : Sx} {s : Nat → Int64} {k : Nat} {v : Int64} (h : XS A s) : XS (pL A 144 k v) (up s k v) := by
  intro j hj
  rw [gL_pL]
  by_cases q : j = k
  · rw [if_pos ⟨rfl, q⟩, q, up_s]
  · rw [if_neg (by omega), up_n _ _ q]; exact h j hj
theorem MS.up {A : Sx} {s : Nat → Int64} {k : Nat} {v : Int64} (h : MS A s) : MS (pL A 172 k v) (up s k v) := by
  intro j hj
  rw [gL_pL]
  by_cases q : j = k
  · rw [if_pos ⟨rfl, q⟩, q, up_s]
  · rw [if_neg (by omega), up_n _ _ q]; exact h j hj
theorem XS.sm {P : Nat → Nat → Prop} {A A' : Sx} {s : Nat → Int64} (h : XS A s) (hs : Sm P A A') (hp : ∀ c k, P c k → c ≠ 144) : XS A' s := fun k hk => by rw [hs.L (fun x => hp _ _ x rfl)]; exact h k hk
theorem MS.sm {P : Nat → Nat → Prop} {A A' : Sx} {s : Nat → Int64} (h : MS A s) (hs : Sm P A A') (hp : ∀ c k, P c k → ¬ (c = 172 ∧ k < 4)) : MS A' s := fun k hk => by rw [hs.L (fun x => hp _ _ x ⟨rfl, hk⟩)]; exact h k hk
theorem op_even : ∀ op, op < 256 → nI op &&& (-2) = nI (op / 2 * 2) := by decide +kernel
theorem b64 (b : Int64) : uN b < 64 ↔ ¬ b < 0 ∧ b ≤ 63 := by
  have h := uN_lt b
  rw [l_lt, l_le, uN_int, show (0 : Int64).toInt = 0 from rfl, show (63 : Int64).toInt = 63 from rfl]
  split <;> omega
theorem x_moved (k : Nat) (a b : Int64) (A : Sx) : X5_moved (nI k) a b A = X5_moved_19 (nI k) a b (b1 (!decide (uN b < 64))) A := by
  unfold X5_moved
  by_cases h : uN b < 64
  · have h2 := (b64 b).mp h
    rw [if_neg h2.1, if_pos h2.2, decide_eq_true h]; rfl
  · rw [decide_eq_false h]
    by_cases h1 : b < 0
    · rw [if_pos h1]; rfl
    · rw [if_neg h1, if_neg (fun q => h ((b64 b).mpr ⟨h1, q⟩))]; rfl
def xRk (c k : Nat) : Prop := (c = 143 ∧ k < 2) ∨ (c = 144 ∧ k < 4)
def mRk (c k : Nat) : Prop := c = 172 ∧ k < 4
theorem x_reckon {A : Sx} {s : Nat → Int64} {op k : Nat} (a b : Int64) (hs : XS A s) (hop : op < 256) (hk : op / 2 * 2 = k) (hr : (2 ≤ k ∧ k ≤ 32) ∨ k = 50) : ∃ A', X5_reckon (nI op) a b A = rt (rkV k a b s) A' ∧ XS A' (rkS k a b s) ∧ Sm xRk A A' := by
  unfold X5_reckon
  rw [op_even op hop, hk]
  have hk' : k = 2 ∨ k = 4 ∨ k = 6 ∨ k = 8 ∨ k = 10 ∨ k = 12 ∨ k = 14 ∨ k = 16 ∨ k = 18 ∨ k = 20 ∨ k = 22 ∨ k = 24 ∨ k = 26 ∨ k = 28 ∨ k = 30 ∨ k = 32 ∨ k = 50 := by omega
  clear hk hr
  rcases hk' with rfl | rfl | rfl | rfl | rfl | rfl | rfl | rfl | rfl | rfl | rfl | rfl | rfl | rfl | rfl | rfl | rfl
  · rw [if_pos (by decide)]; exact ⟨A, rfl, hs, Sm.rfl' A⟩
  · rw [if_neg (by decide), if_pos (by decide)]
    unfold X5_reckon_243
    by_cases hb : b = 0
    · rw [if_pos hb, show (2 : Int32) = nI 2 from rfl, sL_n (by omega) (by omega), if_pos hb]
      refine ⟨_, congrArg (fun v => rt v _) (show (0 : Int64) = rkV 4 a b s from (if_pos hb).symm), ?_, Sm.pL (by unfold xRk; omega)⟩
      rw [show rkS 4 a b s = up s 2 a from congrArg (up s 2) (if_pos hb)]
      exact hs.up
    · rw [if_neg hb, fM_e _ hb, bd_rt, show (2 : Int32) = nI 2 from rfl, sL_n (by omega) (by omega), if_neg hb, fD_e _ hb, bd_rt]
      refine ⟨_, congrArg (fun v => rt v _) (show fD a b = rkV 4 a b s from (if_neg hb).symm), ?_, Sm.pL (by unfold xRk; omega)⟩
      rw [show rkS 4 a b s = up s 2 (fM a b) from congrArg (up s 2) (if_neg hb)]
      exact hs.up
  · rw [if_neg (by decide), if_neg (by decide), if_pos (by decide)]; exact ⟨A, rfl, hs, Sm.rfl' A⟩
  · rw [if_neg (by decide), if_neg (by decide), if_neg (by decide), if_pos (by decide)]; exact ⟨A, rfl, hs, Sm.rfl' A⟩
  · rw [if_neg (by decide), if_neg (by decide), if_neg (by decide), if_neg (by decide), if_pos (by decide)]
    unfold X5_reckon_284 X5_reckon_296 X5_compare
    refine ⟨A, ?_, hs, Sm.rfl' A⟩
    show _ = rt (if b ≤ a then (if a = b then 0 else 1) else -1) A
    by_cases h1 : b ≤ a
    · rw [if_pos h1, if_pos h1]
      by_cases h2 : a = b
      · rw [if_pos h2, if_pos h2]; rfl
      · rw [if_neg h2, if_neg h2]; rfl
    · rw [if_neg h1, if_neg h1]
      by_cases h2 : a = b
      · rw [if_pos h2]; rfl
      · rw [if_neg h2]; rfl
  · rw [if_neg (by decide), if_neg (by decide), if_neg (by decide), if_neg (by decide), if_neg (by decide), if_pos (by decide), x_below, bd_rt]
    unfold X5_reckon_319 X5_compare
    refine ⟨A, ?_, hs, Sm.rfl' A⟩
    show _ = rt (if uN a < uN b then -1 else if a = b then 0 else 1) A
    by_cases h1 : uN a < uN b
    · rw [if_pos h1, decide_eq_true h1]
      by_cases h2 : a = b
      · rw [if_pos h2]; rfl
      · rw [if_neg h2]; rfl
    · rw [if_neg h1, decide_eq_false h1]
      by_cases h2 : a = b
      · rw [if_pos h2, if_pos h2]; rfl
      · rw [if_neg h2, if_neg h2]; rfl
  · rw [if_neg (by decide), if_neg (by decide), if_neg (by decide), if_neg (by decide), if_neg (by decide), if_neg (by decide), if_pos (by decide), x_mul, bd_rt, show (1 : Int32) = nI 1 from rfl, sL_n (by omega) (by omega), gL_pL (x := 143) (y := 0), if_pos ⟨rfl, rfl⟩, gL_pL, if_neg (by omega), gL_pL, if_neg (by omega), gL_pL, if_pos ⟨rfl, rfl⟩]
    exact ⟨_, rfl, XS.up ((hs.sm (Sm.pL (P := fun c _ => c = 143) rfl) (fun c _ x => by omega)).sm (Sm.pL (P := fun c _ => c = 143) rfl) (fun c _ x => by omega)), Sm.trans (Sm.trans (Sm.pL (by unfold xRk; omega)) (Sm.pL (by unfold xRk; omega))) (Sm.pL (by unfold xRk; omega))⟩
  · rw [if_neg (by decide), if_neg (by decide), if_neg (by decide), if_neg (by decide), if_neg (by decide), if_neg (by decide), if_neg (by decide), if_pos (by decide)]
    unfold X5_divided
    rw [← nI_0, lL_n (by omega) (by omega), hs 0 (by omega), x_below, bd_rt, nI_0]
    by_cases h1 : uN (s 0) < uN b
    · rw [decide_eq_true h1, if_neg (by decide), ← nI_0, lL_n (by omega) (by omega), hs 0 (by omega), x_quo, bd_rt, show (2 : Int32) = nI 2 from rfl, sL_n (by omega) (by omega), gL_pL, if_neg (by omega), gL_pL, if_pos ⟨rfl, rfl⟩, bd_rt, gL_pL, if_neg (by omega), gL_pL, if_pos ⟨rfl, rfl⟩]
      refine ⟨_, congrArg (fun v => rt v _) (show (dvv (s 0) a b).2 = rkV 16 a b s from (if_pos h1).symm), ?_, Sm.trans (Sm.trans (Sm.pL (by unfold xRk; omega)) (Sm.pL (by unfold xRk; omega))) (Sm.pL (by unfold xRk; omega))⟩
      rw [show rkS 16 a b s = up s 2 (dvv (s 0) a b).1 from congrArg (up s 2) (if_pos h1)]
      exact XS.up ((hs.sm (Sm.pL (P := fun c _ => c = 143) rfl) (fun c _ x => by omega)).sm (Sm.pL (P := fun c _ => c = 143) rfl) (fun c _ x => by omega))
    · rw [decide_eq_false h1, if_pos (by rfl), show (2 : Int32) = nI 2 from rfl, sL_n (by omega) (by omega), ← nI_0, lL_n (by omega) (by omega), gL_pL, if_neg (by omega), hs 0 (by omega), bd_rt]
      refine ⟨_, congrArg (fun v => rt v _) (show s 0 = rkV 16 a b s from (if_neg h1).symm), ?_, Sm.pL (by unfold xRk; omega)⟩
      rw [show rkS 16 a b s = up s 2 a from congrArg (up s 2) (if_neg h1)]
      exact hs.up
  · rw [if_neg (by decide), if_neg (by decide), if_neg (by decide), if_neg (by decide), if_neg (by decide), if_neg (by decide), if_neg (by decide), if_neg (by decide), if_pos (by decide)]; exact ⟨A, rfl, hs, Sm.rfl' A⟩
  · rw [if_neg (by decide), if_neg (by decide), if_neg (by decide), if_neg (by decide), if_neg (by decide), if_neg (by decide), if_neg (by decide), if_neg (by decide), if_neg (by decide), if_pos (by decide)]; exact ⟨A, rfl, hs, Sm.rfl' A⟩
  · rw [if_neg (by decide), if_neg (by decide), if_neg (by decide), if_neg (by decide), if_neg (by decide), if_neg (by decide), if_neg (by decide), if_neg (by decide), if_neg (by decide), if_neg (by decide), if_pos (by decide)]; exact ⟨A, rfl, hs, Sm.rfl' A⟩
  · rw [if_neg (by decide), if_neg (by decide), if_neg (by decide), if_neg (by decide), if_neg (by decide), if_neg (by decide), if_neg (by decide), if_neg (by decide), if_neg (by decide), if_neg (by decide), if_neg (by decide), if_pos (by decide)]; exact ⟨A, rfl, hs, Sm.rfl' A⟩
  · rw [if_neg (by decide), if_neg (by decide), if_neg (by decide), if_neg (by decide), if_neg (by decide), if_neg (by decide), if_neg (by decide), if_neg (by decide), if_neg (by decide), if_neg (by decide), if_neg (by decide), if_neg (by decide), if_neg (by decide), if_neg (by decide), x_moved]
    unfold X5_moved_19
    refine ⟨A, ?_, hs, Sm.rfl' A⟩
    by_cases h1 : uN b < 64
    · rw [decide_eq_true h1, show rkV 26 a b s = a <<< (b.toInt32.toInt64 &&& 63) from if_pos h1]; rfl
    · rw [decide_eq_false h1, show rkV 26 a b s = 0 from if_neg h1]; rfl
  · rw [if_neg (by decide), if_neg (by decide), if_neg (by decide), if_neg (by decide), if_neg (by decide), if_neg (by decide), if_neg (by decide), if_neg (by decide), if_neg (by decide), if_neg (by decide), if_neg (by decide), if_neg (by decide), if_neg (by decide), if_neg (by decide), x_moved]
    unfold X5_moved_19
    refine ⟨A, ?_, hs, Sm.rfl' A⟩
    by_cases h1 : uN b < 64
    · rw [decide_eq_true h1, show rkV 28 a b s = a >>> (b.toInt32.toInt64 &&& 63) from if_pos h1]; rfl
    · rw [decide_eq_false h1, show rkV 28 a b s = a >>> (((63 : Int32)).toInt64 &&& 63) from if_neg h1]; rfl
  · rw [if_neg (by decide), if_neg (by decide), if_neg (by decide), if_neg (by decide), if_neg (by decide), if_neg (by decide), if_neg (by decide), if_neg (by decide), if_neg (by decide), if_neg (by decide), if_neg (by decide), if_neg (by decide), if_neg (by decide), if_neg (by decide), x_moved]
    unfold X5_moved_19
    refine ⟨A, ?_, hs, Sm.rfl' A⟩
    by_cases h1 : uN b < 64
    · rw [decide_eq_true h1, show rkV 30 a b s = (a.toUInt64 >>> (b.toInt32.toInt64.toUInt64 &&& Int64.toUInt64 63)).toInt64 from if_pos h1]; rfl
    · rw [decide_eq_false h1, show rkV 30 a b s = 0 from if_neg h1]; rfl
  · rw [if_neg (by decide), if_neg (by decide), if_neg (by decide), if_neg (by decide), if_neg (by decide), if_neg (by decide), if_neg (by decide), if_neg (by decide), if_neg (by decide), if_neg (by decide), if_neg (by decide), if_neg (by decide), if_pos (by decide)]; exact ⟨A, rfl, hs, Sm.rfl' A⟩
  · rw [if_neg (by decide), if_neg (by decide), if_neg (by decide), if_neg (by decide), if_neg (by decide), if_neg (by decide), if_neg (by decide), if_neg (by decide), if_neg (by decide), if_neg (by decide), if_neg (by decide), if_neg (by decide), if_neg (by decide), if_pos (by decide)]; exact ⟨A, rfl, hs, Sm.rfl' A⟩
theorem m_reckon {A : Sx} {s : Nat → Int64} {k : Nat} (a b : Int64) (hs : MS A s) (hr : 2 ≤ k ∧ k ≤ 32 ∧ k % 2 = 0) : ∃ A', X12_reckoned (nI k) a b A = rt (rkV k a b s) A' ∧ MS A' (rkS k a b s) ∧ Sm mRk A A' := by
  unfold X12_reckoned
  have hk' : k = 2 ∨ k = 4 ∨ k = 6 ∨ k = 8 ∨ k = 10 ∨ k = 12 ∨ k = 14 ∨ k = 16 ∨ k = 18 ∨ k = 20 ∨ k = 22 ∨ k = 24 ∨ k = 26 ∨ k = 28 ∨ k = 30 ∨ k = 32 := by omega
  clear hr
  rcases hk' with rfl | rfl | rfl | rfl | rfl | rfl | rfl | rfl | rfl | rfl | rfl | rfl | rfl | rfl | rfl | rfl
  · rw [if_pos (by decide)]; exact ⟨A, rfl, hs, Sm.rfl' A⟩
  · rw [if_neg (by decide), if_pos (by decide)]
    unfold X12_reckoned_159
    by_cases hb : b = 0
    · rw [if_pos hb, show (2 : Int32) = nI 2 from rfl, sL_n (by omega) (by omega), if_pos hb]
      refine ⟨_, congrArg (fun v => rt v _) (show (0 : Int64) = rkV 4 a b s from (if_pos hb).symm), ?_, Sm.pL (by unfold mRk; omega)⟩
      rw [show rkS 4 a b s = up s 2 a from congrArg (up s 2) (if_pos hb)]
      exact hs.up
    · rw [if_neg hb, fM_e _ hb, bd_rt, show (2 : Int32) = nI 2 from rfl, sL_n (by omega) (by omega), if_neg hb, fD_e _ hb, bd_rt]
      refine ⟨_, congrArg (fun v => rt v _) (show fD a b = rkV 4 a b s from (if_neg hb).symm), ?_, Sm.pL (by unfold mRk; omega)⟩
      rw [show rkS 4 a b s = up s 2 (fM a b) from congrArg (up s 2) (if_neg hb)]
      exact hs.up
  · rw [if_neg (by decide), if_neg (by decide), if_pos (by decide)]; exact ⟨A, rfl, hs, Sm.rfl' A⟩
  · rw [if_neg (by decide), if_neg (by decide), if_neg (by decide), if_pos (by decide)]; exact ⟨A, rfl, hs, Sm.rfl' A⟩
  · rw [if_neg (by decide), if_neg (by decide), if_neg (by decide), if_neg (by decide), if_pos (by decide)]
    refine ⟨A, ?_, hs, Sm.rfl' A⟩
    show _ = rt (if b ≤ a then (if a = b then 0 else 1) else -1) A
    by_cases h1 : b ≤ a
    · rw [if_pos h1, if_pos h1]
      by_cases h2 : a = b
      · rw [if_pos h2, if_pos h2]
      · rw [if_neg h2, if_neg h2]
    · rw [if_neg h1, if_neg h1]
  · rw [if_neg (by decide), if_neg (by decide), if_neg (by decide), if_neg (by decide), if_neg (by decide), if_pos (by decide), m_less, bd_rt]
    refine ⟨A, ?_, hs, Sm.rfl' A⟩
    show _ = rt (if uN a < uN b then -1 else if a = b then 0 else 1) A
    by_cases h1 : uN a < uN b
    · rw [if_pos h1, decide_eq_true h1]; rfl
    · rw [if_neg h1, decide_eq_false h1]
      by_cases h2 : a = b
      · rw [if_pos h2, if_pos h2]; rfl
      · rw [if_neg h2, if_neg h2]; rfl
  · rw [if_neg (by decide), if_neg (by decide), if_neg (by decide), if_neg (by decide), if_neg (by decide), if_neg (by decide), if_pos (by decide), m_upper, bd_rt, show (1 : Int32) = nI 1 from rfl, sL_n (by omega) (by omega)]
    exact ⟨_, rfl, hs.up, Sm.pL (by unfold mRk; omega)⟩
  · rw [if_neg (by decide), if_neg (by decide), if_neg (by decide), if_neg (by decide), if_neg (by decide), if_neg (by decide), if_neg (by decide), if_pos (by decide), ← nI_0, lL_n (by omega) (by omega), hs 0 (by omega), m_less, bd_rt, nI_0]
    by_cases h1 : uN (s 0) < uN b
    · rw [decide_eq_true h1, if_neg (by decide), ← nI_0, lL_n (by omega) (by omega), hs 0 (by omega), m_quo, bd_rt]
      refine ⟨_, congrArg (fun v => rt v _) (show (dvv (s 0) a b).2 = rkV 16 a b s from (if_pos h1).symm), ?_, Sm.pL (by unfold mRk; omega)⟩
      rw [show rkS 16 a b s = up s 2 (dvv (s 0) a b).1 from congrArg (up s 2) (if_pos h1)]
      exact hs.up
    · rw [decide_eq_false h1, if_pos (by rfl), show (2 : Int32) = nI 2 from rfl, sL_n (by omega) (by omega), ← nI_0, lL_n (by omega) (by omega), gL_pL, if_neg (by omega), hs 0 (by omega)]
      refine ⟨_, congrArg (fun v => rt v _) (show s 0 = rkV 16 a b s from (if_neg h1).symm), ?_, Sm.pL (by unfold mRk; omega)⟩
      rw [show rkS 16 a b s = up s 2 a from congrArg (up s 2) (if_neg h1)]
      exact hs.up
  · rw [if_neg (by decide), if_neg (by decide), if_neg (by decide), if_neg (by decide), if_neg (by decide), if_neg (by decide), if_neg (by decide), if_neg (by decide), if_pos (by decide)]; exact ⟨A, rfl, hs, Sm.rfl' A⟩
  · rw [if_neg (by decide), if_neg (by decide), if_neg (by decide), if_neg (by decide), if_neg (by decide), if_neg (by decide), if_neg (by decide), if_neg (by decide), if_neg (by decide), if_pos (by decide)]; exact ⟨A, rfl, hs, Sm.rfl' A⟩
  · rw [if_neg (by decide), if_neg (by decide), if_neg (by decide), if_neg (by decide), if_neg (by decide), if_neg (by decide), if_neg (by decide), if_neg (by decide), if_neg (by decide), if_neg (by decide), if_pos (by decide)]; exact ⟨A, rfl, hs, Sm.rfl' A⟩
  · rw [if_neg (by decide), if_neg (by decide), if_neg (by decide), if_neg (by decide), if_neg (by decide), if_neg (by decide), if_neg (by decide), if_neg (by decide), if_neg (by decide), if_neg (by decide), if_neg (by decide), if_pos (by decide)]; exact ⟨A, rfl, hs, Sm.rfl' A⟩
  · rw [if_neg (by decide), if_neg (by decide), if_neg (by decide), if_neg (by decide), if_neg (by decide), if_neg (by decide), if_neg (by decide), if_neg (by decide), if_neg (by decide), if_neg (by decide), if_neg (by decide), if_neg (by decide), if_pos (by decide), m_less, bd_rt]
    refine ⟨A, ?_, hs, Sm.rfl' A⟩
    by_cases h1 : uN b < 64
    · rw [decide_eq_true (show uN b < uN 64 from h1), show rkV 26 a b s = a <<< (b.toInt32.toInt64 &&& 63) from if_pos h1]; rfl
    · rw [decide_eq_false (show ¬ uN b < uN 64 from h1), show rkV 26 a b s = 0 from if_neg h1]; rfl
  · rw [if_neg (by decide), if_neg (by decide), if_neg (by decide), if_neg (by decide), if_neg (by decide), if_neg (by decide), if_neg (by decide), if_neg (by decide), if_neg (by decide), if_neg (by decide), if_neg (by decide), if_neg (by decide), if_neg (by decide), if_pos (by decide), m_less, bd_rt]
    refine ⟨A, ?_, hs, Sm.rfl' A⟩
    by_cases h1 : uN b < 64
    · rw [decide_eq_true (show uN b < uN 64 from h1), show rkV 28 a b s = a >>> (b.toInt32.toInt64 &&& 63) from if_pos h1]; rfl
    · rw [decide_eq_false (show ¬ uN b < uN 64 from h1), show rkV 28 a b s = a >>> (((63 : Int32)).toInt64 &&& 63) from if_neg h1]; rfl
  · rw [if_neg (by decide), if_neg (by decide), if_neg (by decide), if_neg (by decide), if_neg (by decide), if_neg (by decide), if_neg (by decide), if_neg (by decide), if_neg (by decide), if_neg (by decide), if_neg (by decide), if_neg (by decide), if_neg (by decide), if_neg (by decide), if_pos (by decide), m_less, bd_rt]
    refine ⟨A, ?_, hs, Sm.rfl' A⟩
    by_cases h1 : uN b < 64
    · rw [decide_eq_true (show uN b < uN 64 from h1), show rkV 30 a b s = (a.toUInt64 >>> (b.toInt32.toInt64.toUInt64 &&& Int64.toUInt64 63)).toInt64 from if_pos h1]; rfl
    · rw [decide_eq_false (show ¬ uN b < uN 64 from h1), show rkV 30 a b s = 0 from if_neg h1]; rfl
  · rw [if_neg (by decide), if_neg (by decide), if_neg (by decide), if_neg (by decide), if_neg (by decide), if_neg (by decide), if_neg (by decide), if_neg (by decide), if_neg (by decide), if_neg (by decide), if_neg (by decide), if_neg (by decide), if_neg (by decide), if_neg (by decide), if_neg (by decide)]; exact ⟨A, rfl, hs, Sm.rfl' A⟩
end
section
set_option maxRecDepth 100000
/-! ===== four bytes, and what they are ===== -/
def numN (mem : Nat → Nat) (a : Nat) : Nat → Nat
  | 0 => 0
  | i + 1 => numN mem a i * 256 + mem (a + i)
theorem numN_lt {mem : Nat → Nat} (hm : memOK mem) (a : Nat) : ∀ i, numN mem a i < 256 ^ i := by
  intro i
  induction i with
  | zero => exact Nat.one_pos
  | succ i ih =>
    have := hm (a + i)
    unfold numN
    rw [Nat.pow_succ]
    omega
theorem numL_N {mem : Nat → Nat} (hm : memOK mem) (a : Nat) : ∀ i, i ≤ 8 → numL mem a i = lN (numN mem a i) := by
  intro i
  induction i with
  | zero => intro _; rfl
  | succ i ih =>
    intro hi
    have h1 := numN_lt hm a (i + 1)
    have h2 : 256 ^ (i + 1) ≤ 256 ^ 8 := Nat.pow_le_pow_right (by omega) hi
    have h3 := hm (a + i)
    have h4 : numN mem a (i + 1) = numN mem a i * 256 + mem (a + i) := rfl
    unfold numL
    rw [ih (by omega), show (((8 : Int32)).toInt64 &&& 63) = ((nI 8).toInt64 &&& 63) from rfl, wb_shl _ (by omega), g_or (k := 8) (p := 256) (by decide) h3 (by rw [← h4]; omega)]
    rfl
theorem shr32 {w k : Nat} (hw : w < 2 ^ 32) (hk : k ≤ 24) : (nI w >>> (nI k &&& 31)) &&& 255 = nI (w / 2 ^ k % 256) := by
  apply Int32.toBitVec_inj.mp
  apply BitVec.eq_of_getLsbD_eq
  intro i hi
  have hs : ((nI k &&& 31).toBitVec.smod 32).toNat = k := by
    have : ∀ n, n < 32 → ((nI n &&& 31).toBitVec.smod 32).toNat = n := by decide +kernel
    exact this k (by omega)
  rw [Int32.toBitVec_and, Int32.toBitVec_shiftRight, BitVec.getLsbD_and, BitVec.sshiftRight_eq', hs, BitVec.getLsbD_sshiftRight]
  have e0 : (nI (w / 2 ^ k % 256)).toBitVec.getLsbD i = (w / 2 ^ k % 256).testBit i := by
    show (BitVec.ofNat 32 _).getLsbD i = _
    rw [BitVec.getLsbD_ofNat]
    simp [hi]
  have e1 : (255 : Int32).toBitVec.getLsbD i = decide (i < 8) := by
    show (255 : Nat).testBit i = _
    exact Nat.testBit_two_pow_sub_one 8 i
  rw [e0, e1]
  by_cases h8 : i < 8
  · have e2 : (nI w).toBitVec.getLsbD (k + i) = w.testBit (k + i) := by
      show (BitVec.ofNat 32 _).getLsbD _ = _
      rw [BitVec.getLsbD_ofNat]
      simp [show k + i < 32 by omega]
    rw [if_pos (show k + i < 32 by omega), e2, show (256 : Nat) = 2 ^ 8 from rfl, Nat.testBit_mod_two_pow, Nat.testBit_div_two_pow, Nat.add_comm i k]
    simp [h8, show ¬ 32 ≤ i by omega]
  · rw [show (256 : Nat) = 2 ^ 8 from rfl, Nat.testBit_mod_two_pow]
    simp [h8]
/-- op, x, y, z out of four bytes -/
theorem decode {mem : Nat → Nat} (hm : memOK mem) (a : Nat) : (numL mem a 4).toInt32 = nI (numN mem a 4) ∧ ((nI (numN mem a 4)).toUInt32 >>> (((24 : Int32)).toUInt32 &&& Int32.toUInt32 31)).toInt32 = nI (mem a) ∧ ((nI (numN mem a 4) >>> ((16 : Int32) &&& 31)) &&& 255) = nI (mem (a + 1)) ∧ ((nI (numN mem a 4) >>> ((8 : Int32) &&& 31)) &&& 255) = nI (mem (a + 2)) ∧ (nI (numN mem a 4) &&& 255) = nI (mem (a + 3)) := by
  have h0 := hm a
  have h1 := hm (a + 1)
  have h2 := hm (a + 2)
  have h3 := hm (a + 3)
  have hw : numN mem a 4 = ((mem a * 256 + mem (a + 1)) * 256 + mem (a + 2)) * 256 + mem (a + 3) := by
    show (((0 * 256 + mem (a + 0)) * 256 + mem (a + 1)) * 256 + mem (a + 2)) * 256 + mem (a + 3) = _
    rw [Nat.zero_mul, Nat.zero_add, Nat.add_zero]
  have hlt : numN mem a 4 < 2 ^ 32 := by omega
  refine ⟨by rw [numL_N hm a 4 (by omega), lN_i], ?_, ?_, ?_, ?_⟩
  · rw [pk_ushrN hlt 24 24 (by decide)]
    congr 1
    omega
  · rw [show ((16 : Int32) &&& 31) = (nI 16 &&& 31) from rfl, shr32 hlt (by omega)]
    congr 1
    omega
  · rw [show ((8 : Int32) &&& 31) = (nI 8 &&& 31) from rfl, shr32 hlt (by omega)]
    congr 1
    omega
  · rw [pk_andN hlt 8 (by decide)]
    congr 1
    omega
/-! ===== which fields an operation has ===== -/
def opT (op : Nat) : Bool := decide (2 ≤ op ∧ op ≤ 53 ∧ op ≠ 34 ∧ op ≠ 35)
def opO (op : Nat) : Bool := decide (op = 0) || opT op || decide (60 ≤ op ∧ op ≤ 80)
def opX (op : Nat) : Bool := opT op || decide (60 ≤ op ∧ op ≤ 65) || decide (69 ≤ op ∧ op ≤ 78)
def opY (op : Nat) : Bool := opT op && decide (op ≠ 32 ∧ op ≠ 33)
def opZ (op : Nat) : Bool := (opT op && decide (op % 2 = 0)) || decide (op = 79)
def opS (op : Nat) : Bool := decide (44 ≤ op ∧ op ≤ 49)
def opW (op : Nat) : Bool := (opT op && !opS op) || decide (69 ≤ op ∧ op ≤ 78)
def vT (a : Int32) : Int32 := if a < 2 then 0 else if 53 < a then 0 else if a = 34 then 0 else if a = 35 then 0 else 1
theorem vT_e : ∀ op, op < 256 → vT (nI op) = b1 (opT op) := by decide +kernel
theorem x_T {op : Nat} (h : op < 256) (S : Sx) : X5_isThree (nI op) S = rt (b1 (opT op)) S := by
  rw [← vT_e op h]
  unfold X5_isThree vT
  split; rfl; split; rfl; split; rfl; split <;> rfl
def vO (a : Int32) : Int32 := if a = 0 then 1 else if vT a = 0 then if a < 60 then 0 else if 80 < a then 0 else 1 else 1
theorem vO_e : ∀ op, op < 256 → vO (nI op) = b1 (opO op) := by decide +kernel
theorem x_O {op : Nat} (h : op < 256) (S : Sx) : X5_isOp (nI op) S = rt (b1 (opO op)) S := by
  rw [← vO_e op h]
  unfold X5_isOp vO
  rw [x_T h, bd_rt, vT_e op h]
  split; rfl; split; split; rfl; split <;> rfl; rfl
def v69 (a : Int32) : Int32 := if a < 69 then 0 else if 78 < a then 0 else 1
def vX (a : Int32) : Int32 := if vT a = 0 then if a < 60 then v69 a else if a ≤ 65 then 1 else v69 a else 1
theorem vX_e : ∀ op, op < 256 → vX (nI op) = b1 (opX op) := by decide +kernel
theorem x_X {op : Nat} (h : op < 256) (S : Sx) : X5_hasX (nI op) S = rt (b1 (opX op)) S := by
  have h69 : X5_hasX_19 (nI op) S = rt (v69 (nI op)) S := by
    unfold X5_hasX_19 v69
    split; rfl; split <;> rfl
  rw [← vX_e op h]
  unfold X5_hasX vX
  rw [x_T h, bd_rt, vT_e op h, h69]
  split; split; rfl; split <;> rfl; rfl
def vS (a : Int32) : Int32 := if a < 44 then 0 else if 49 < a then 0 else 1
theorem vS_e : ∀ op, op < 256 → vS (nI op) = b1 (opS op) := by decide +kernel
theorem x_S {op : Nat} (h : op < 256) (S : Sx) : X5_isStore (nI op) S = rt (b1 (opS op)) S := by
  rw [← vS_e op h]
  unfold X5_isStore vS
  split; rfl; split <;> rfl
def vW (a : Int32) : Int32 := if vT a = 0 then v69 a else if vS a = 0 then 1 else v69 a
theorem vW_e : ∀ op, op < 256 → vW (nI op) = b1 (opW op) := by decide +kernel
theorem x_W {op : Nat} (h : op < 256) (S : Sx) : X5_writesX (nI op) S = rt (b1 (opW op)) S := by
  have h69 : X5_writesX_14 (nI op) S = rt (v69 (nI op)) S := by
    unfold X5_writesX_14 v69
    split; rfl; split <;> rfl
  rw [← vW_e op h]
  unfold X5_writesX vW
  rw [x_T h, bd_rt, vT_e op h, h69, x_S h, bd_rt, vS_e op h]
  split; rfl; split; rfl; exact h69
def vY (a : Int32) : Int32 := if vT a = 0 then 0 else if a = 32 then 0 else if a = 33 then 0 else 1
theorem vY_e : ∀ op, op < 256 → vY (nI op) = b1 (opY op) := by decide +kernel
theorem x_Y {op : Nat} (h : op < 256) (S : Sx) : X5_hasY (nI op) S = rt (b1 (opY op)) S := by
  rw [← vY_e op h]
  unfold X5_hasY vY
  rw [x_T h, bd_rt, vT_e op h]
  split; rfl; split; rfl; split <;> rfl
def v79 (a : Int32) : Int32 := if a = 79 then 1 else 0
def vZ (a : Int32) : Int32 := if vT a = 0 then v79 a else if a - a / 2 * 2 = 0 then 1 else v79 a
theorem vZ_e : ∀ op, op < 256 → vZ (nI op) = b1 (opZ op) := by decide +kernel
theorem x_Z {op : Nat} (h : op < 256) (S : Sx) : X5_hasZ (nI op) S = rt (b1 (opZ op)) S := by
  have h79 : X5_hasZ_13 (nI op) S = rt (v79 (nI op)) S := by
    unfold X5_hasZ_13 v79
    split <;> rfl
  rw [← vZ_e op h]
  unfold X5_hasZ vZ
  rw [x_T h, bd_rt, vT_e op h, h79]
  split; rfl; split <;> rfl
/-! M -/
def wO1 (a : Int32) : Int32 := if a < 60 then 0 else if 80 < a then 0 else 1
def wO2 (a : Int32) : Int32 := if a < 36 then wO1 a else if a ≤ 53 then 1 else wO1 a
def wO (a : Int32) : Int32 := if a = 0 then 1 else if a < 2 then wO2 a else if a ≤ 33 then 1 else wO2 a
theorem wO_e : ∀ op, op < 256 → wO (nI op) = b1 (opO op) := by decide +kernel
theorem m_O {op : Nat} (h : op < 256) (S : Sx) : X12_isOp (nI op) S = rt (b1 (opO op)) S := by
  have h1 : X12_isOp_27 (nI op) S = rt (wO1 (nI op)) S := by
    unfold X12_isOp_27 wO1
    split; rfl; split <;> rfl
  have h2 : X12_isOp_15 (nI op) S = rt (wO2 (nI op)) S := by
    unfold X12_isOp_15 wO2
    rw [h1]
    split; rfl; split <;> rfl
  rw [← wO_e op h]
  unfold X12_isOp wO
  rw [h2]
  split; rfl; split; rfl; split <;> rfl
def wF1 (a y : Int32) : Int32 := if a - a / 2 * 2 = 0 then y + 4 else y
def wF (a : Int32) : Int32 := if a = 0 then 0 else if a = 66 then 0 else if a = 67 then 0 else if a = 68 then 0 else if a = 80 then 0 else if a = 79 then 4 else if a < 60 then if a < 32 then wF1 a 3 else if 33 < a then wF1 a 3 else wF1 a 1 else 1
theorem m_F (a : Int32) (S : Sx) : X12_fields a S = rt (wF a) S := by
  have h1 : ∀ y, X12_fields_63 a y S = rt (wF1 a y) S := fun y => by
    unfold X12_fields_63 wF1
    rw [vl_e]
    split <;> rfl
  unfold X12_fields wF
  rw [h1, h1]
  split; rfl; split; rfl; split; rfl; split; rfl; split; rfl; split; rfl; split; split; rfl; split <;> rfl; rfl
theorem wF_1 : ∀ op, op < 256 → opO op = true → (wF (nI op) &&& 1 = 0 ↔ opX op = false) := by decide +kernel
theorem wF_2 : ∀ op, op < 256 → opO op = true → (wF (nI op) &&& 2 = 0 ↔ opY op = false) := by decide +kernel
theorem wF_4 : ∀ op, op < 256 → opO op = true → (wF (nI op) &&& 4 = 0 ↔ opZ op = false) := by decide +kernel
end
section
set_option maxRecDepth 100000
/-! ===== faults ===== -/
/-- X's fault c, at place p -/
def xF (S : Sx) (c p : Int32) : Sx := pI (pI S 1 6 c) 1 7 p
/-- M's end with c -/
def mE (S : Sx) (c : Int32) : Sx := pI (xs (nw S 70 0 7) (gn S) 20) (gn S) 6 c
theorem x_want0 {S : Sx} (h : gK S 1 = 7) (c : Int32) : X5_want 0 c S = th 1 (xF S c 0) := by
  unfold X5_want X1_of
  rw [if_pos rfl, pt_e, pt_e, bd_rt, dO_s (by rw [gK_pI, gK_pI]; exact h)]
  rfl
theorem x_want1 (S : Sx) (c : Int32) : X5_want 1 c S = rt () S := if_neg (by decide)
theorem x_wantb {S : Sx} (h : gK S 1 = 7) (b : Bool) (c : Int32) : X5_want (b1 b) c S = if b = true then rt () S else th 1 (xF S c 0) := by
  cases b
  · exact x_want0 h c
  · exact x_want1 S c
def roomM (S : Sx) : Prop := gn S + 1 ≤ CAPC ∧ gu S + 8 ≤ CAPS
theorem m_end {β : Type} {S : Sx} (h : roomM S) (c : Int32) : (al S (14 + 50 + 6) 0 7 (fun c1 S1 => bd (X14_init c1 c S1) (fun _ S2 => (th c1 S2 : Rs β)))) = th (gn S) (mE S c) := by
  rw [al_e h.1 (by have := h.2; omega)]
  unfold X14_init xi
  rw [if_pos (by rw [gK_nw, if_pos rfl])]
  show bd (kd (xs (nw S 70 0 7) (gn S) 20) 20 (gn S) (pt (pI (xs (nw S 70 0 7) (gn S) 20) (gn S) 6 c) (fun S2 => rt () S2))) _ = _
  rw [kd_e (by rw [gK_xs, if_pos rfl]), pt_e, bd_rt]
  rfl
/-! ===== the checks of an operation ===== -/
def ck8 (op sp : Nat) : Nat := if op = 68 ∧ sp = 0 then 8 else 0
def ck67 (op x sp L : Nat) : Nat := if op = 67 then (if dK x L + 1 ≤ L ∨ sp + (dK x L + 1) ≤ 600 then 0 else 5) else ck8 op sp
def ckW (op x sp L t : Nat) : Nat := if opW op = true ∧ x < 16 ∧ ¬ x < L ∧ ¬ sp + (x + 1) ≤ 600 then 5 else t
def ck79 (op x sp L t : Nat) : Nat := if op = 79 ∧ 4 < x then 3 else ckW op x sp L t
def ck78 (op x z sp L t : Nat) : Nat := if op = 78 ∧ 4 < z then 3 else ck79 op x sp L t
def ckR (op x y z sp L t : Nat) : Nat := if (opX op = true ∧ 31 < x) ∨ (opY op = true ∧ 31 < y) ∨ (opZ op = true ∧ 31 < z) then 3 else ck78 op x z sp L t
def chk (op x y z sp L t : Nat) : Nat := if opO op = true then ckR op x y z sp L t else 3
def lk (S : Sx) (n : Nat) : Rs Unit := if n = 0 then rt () S else th 1 (xF S (nI n) 0)
theorem n_lt {i N : Nat} (hi : i < 2 ^ 31) (hN : N < 2 ^ 31) : (OfNat.ofNat N : Int32) < nI i ↔ N < i := nI_ltI hN hi
theorem x_250 {S : Sx} {n : Nat} (h : gK S 1 = 7) (b : Bool) (hn : n = if b = true then 0 else 8) : X5_look_250 (b1 b) S = lk S n := by
  unfold X5_look_250
  cases b
  · rw [show b1 false = 0 from rfl, x_want0 h, bd_th, hn]; rfl
  · rw [show b1 true = 1 from rfl, x_want1, bd_rt, hn]; rfl
theorem x_228 {S : Sx} {op sp : Nat} (h : gK S 1 = 7) (hop : op < 256) (hs : gI S 139 3 = nI sp) (hsp : sp ≤ 600) : X5_look_228 (nI op) S = lk S (ck8 op sp) := by
  unfold X5_look_228 ck8
  by_cases h1 : op = 68
  · subst h1
    rw [if_pos (by rfl), hs]
    by_cases h2 : sp = 0
    · subst h2
      rw [if_pos (by decide), if_pos ⟨rfl, rfl⟩]
      exact x_250 h false rfl
    · rw [if_neg (nI_nle (by omega) (by omega)), if_neg (fun q => h2 q.2)]
      exact x_250 h true rfl
  · rw [if_neg (show ¬ nI op = 68 from fun q => h1 ((nI_eq (a := op) (b := 68) (by omega) (by omega)).mp q)), if_neg (fun q => h1 q.1)]
    exact x_250 h true rfl
theorem x_many {S : Sx} {sp n : Nat} (hs : gI S 139 3 = nI sp) (hsp : sp ≤ 600) (hn : n < 1000) : X6_isTooMany (nI n) S = rt (b1 (!decide (sp + n ≤ 600))) S := by
  unfold X6_isTooMany
  rw [hs, nI_add]
  by_cases q : sp + n ≤ 600
  · rw [if_pos (show nI (sp + n) ≤ 600 from nI_le (a := sp + n) (b := 600) q (by omega)), decide_eq_true q]; rfl
  · rw [if_neg (show ¬ nI (sp + n) ≤ 600 from nI_ge (a := 600) (b := sp + n) (by omega) (by omega)), decide_eq_false q]; rfl
theorem x_161 {S : Sx} {op x sp L : Nat} (h : gK S 1 = 7) (hop : op < 256) (hx : x < 256) (hs : gI S 139 3 = nI sp) (hL : gI S 139 5 = nI L) (hsp : sp ≤ 600) (hL2 : L ≤ 16) : X5_look_161 (nI op) (nI x) 1 S = lk S (ck67 op x sp L) := by
  unfold X5_look_161 ck67
  rw [x_want1, bd_rt]
  by_cases h1 : op = 67
  · subst h1
    rw [if_pos (by rfl), if_pos rfl]
    have key : X5_look_192 (nI 67) (nI (dK x L + 1)) S = lk S (if dK x L + 1 ≤ L ∨ sp + (dK x L + 1) ≤ 600 then 0 else 5) := by
      have hd : dK x L ≤ 16 := by unfold dK; split <;> omega
      unfold X5_look_192 X5_look_224
      rw [vl_e, hL]
      by_cases q : dK x L + 1 ≤ L
      · rw [if_pos (nI_le q (by omega)), if_pos (Or.inl q), x_want1, bd_rt, x_228 h (by omega) hs hsp]; rfl
      · rw [if_neg (nI_ge (by omega) (by omega)), x_many hs hsp (by omega), bd_rt]
        by_cases q2 : sp + (dK x L + 1) ≤ 600
        · rw [decide_eq_true q2, if_pos (by rfl), if_pos (Or.inr q2), x_want1, bd_rt, x_228 h (by omega) hs hsp]; rfl
        · rw [decide_eq_false q2, if_neg (by decide), if_neg (fun z => z.elim q q2), x_want0 h, bd_th]; rfl
    rw [← key]
    unfold dK
    by_cases hx16 : x < 16
    · rw [if_pos (lit_lt hx16 (by omega)), if_pos hx16, nI_1]
    · rw [if_neg (lit_gt (N := 16) (by omega) (by omega)), if_neg hx16, hL, nI_1]
  · rw [if_neg (show ¬ nI op = 67 from fun q => h1 ((nI_eq (a := op) (b := 67) (by omega) (by omega)).mp q)), if_neg h1]
    exact x_228 h hop hs hsp
theorem x_102 {S : Sx} {op x sp L : Nat} (h : gK S 1 = 7) (hop : op < 256) (hx : x < 256) (hs : gI S 139 3 = nI sp) (hL : gI S 139 5 = nI L) (hsp : sp ≤ 600) (hL2 : L ≤ 16) : X5_look_102 (nI op) (nI x) 1 S = lk S (ckW op x sp L (ck67 op x sp L)) := by
  unfold X5_look_102 ckW X5_look_135
  rw [x_want1, bd_rt, x_W hop, bd_rt]
  have h161 := x_161 h hop hx hs hL hsp hL2
  by_cases q1 : opW op = true
  · rw [q1, if_neg (by decide)]
    by_cases q2 : x < 16
    · rw [if_neg (lit_ge q2 (by omega)), hL]
      by_cases q3 : x < L
      · rw [if_pos (nI_lt q3 (by omega)), vl_e, if_pos rfl, h161, if_neg (fun z => z.2.2.1 q3)]
      · rw [if_neg (nI_nlt (by omega) (by omega)), vl_e, if_neg (by decide), nI_1, x_many hs hsp (by omega), bd_rt]
        by_cases q4 : sp + (x + 1) ≤ 600
        · rw [decide_eq_true q4, if_pos (by rfl), h161, if_neg (fun z => z.2.2.2 q4)]
        · rw [decide_eq_false q4, if_neg (by decide), if_pos ⟨rfl, q2, q3, q4⟩]
          unfold X5_look_161
          rw [x_want0 h, bd_th]; rfl
    · rw [if_pos (lit_le (N := 16) (by omega) (by omega)), vl_e, if_pos rfl, h161, if_neg (fun z => q2 z.2.1)]
  · rw [Bool.eq_false_iff.mpr q1, if_pos (by rfl), vl_e, if_pos rfl, h161, if_neg (fun z => Bool.noConfusion z.1)]
theorem x_81 {S : Sx} {op x sp L : Nat} (h : gK S 1 = 7) (hop : op < 256) (hx : x < 256) (hs : gI S 139 3 = nI sp) (hL : gI S 139 5 = nI L) (hsp : sp ≤ 600) (hL2 : L ≤ 16) : X5_look_81 (nI op) (nI x) 1 S = lk S (ck79 op x sp L (ck67 op x sp L)) := by
  unfold X5_look_81 ck79
  rw [x_want1, bd_rt]
  have h102 := x_102 h hop hx hs hL hsp hL2
  by_cases h1 : op = 79
  · rw [if_pos (show nI op = 79 from by rw [h1]; rfl)]
    by_cases h2 : 4 < x
    · rw [if_pos ((n_lt (N := 4) (by omega) (by omega)).mpr h2), if_pos ⟨h1, h2⟩]
      unfold X5_look_102
      rw [x_want0 h, bd_th]; rfl
    · rw [if_neg (fun q => h2 ((n_lt (N := 4) (by omega) (by omega)).mp q)), if_neg (fun q => h2 q.2)]; exact h102
  · rw [if_neg (show ¬ nI op = 79 from fun q => h1 ((nI_eq (a := op) (b := 79) (by omega) (by omega)).mp q)), if_neg (fun q => h1 q.1)]; exact h102
theorem x_59 {S : Sx} {op x z sp L : Nat} (h : gK S 1 = 7) (hop : op < 256) (hx : x < 256) (hz : z < 256) (hs : gI S 139 3 = nI sp) (hL : gI S 139 5 = nI L) (hsp : sp ≤ 600) (hL2 : L ≤ 16) : X5_look_59 (nI op) (nI x) (nI z) 1 S = lk S (ck78 op x z sp L (ck67 op x sp L)) := by
  unfold X5_look_59 ck78
  rw [x_want1, bd_rt]
  have h81 := x_81 h hop hx hs hL hsp hL2
  by_cases h1 : op = 78
  · rw [if_pos (show nI op = 78 from by rw [h1]; rfl)]
    by_cases h2 : 4 < z
    · rw [if_pos ((n_lt (N := 4) (by omega) (by omega)).mpr h2), if_pos ⟨h1, h2⟩]
      unfold X5_look_81
      rw [x_want0 h, bd_th]; rfl
    · rw [if_neg (fun q => h2 ((n_lt (N := 4) (by omega) (by omega)).mp q)), if_neg (fun q => h2 q.2)]; exact h81
  · rw [if_neg (show ¬ nI op = 78 from fun q => h1 ((nI_eq (a := op) (b := 78) (by omega) (by omega)).mp q)), if_neg (fun q => h1 q.1)]; exact h81
theorem x_look {S : Sx} {op x y z sp L : Nat} (h : gK S 1 = 7) (hop : op < 256) (hx : x < 256) (hy : y < 256) (hz : z < 256) (hs : gI S 139 3 = nI sp) (hL : gI S 139 5 = nI L) (hsp : sp ≤ 600) (hL2 : L ≤ 16) : X5_look (nI op) (nI x) (nI y) (nI z) S = lk S (chk op x y z sp L (ck67 op x sp L)) := by
  have h59 := x_59 h hop hx hz hs hL hsp hL2
  have hbad : X5_look_59 (nI op) (nI x) (nI z) 0 S = lk S 3 := by
    unfold X5_look_59
    rw [x_want0 h, bd_th]; rfl
  unfold X5_look chk ckR
  rw [x_O hop, bd_rt, x_wantb h]
  by_cases h0 : opO op = true
  · rw [if_pos h0, bd_rt, x_X hop, bd_rt, if_pos h0]
    have h27 : X5_look_27 (nI op) (nI x) (nI y) (nI z) 31 S = lk S (if (opY op = true ∧ 31 < y) ∨ (opZ op = true ∧ 31 < z) then 3 else ck78 op x z sp L (ck67 op x sp L)) := by
      have h40 : X5_look_40 (nI op) (nI x) (nI z) 31 S = lk S (if (opZ op = true ∧ 31 < z) then 3 else ck78 op x z sp L (ck67 op x sp L)) := by
        unfold X5_look_40
        rw [x_Z hop, bd_rt]
        by_cases q : opZ op = true
        · rw [q, if_neg (by decide)]
          by_cases q2 : 31 < z
          · rw [if_pos ((n_lt (N := 31) (by omega) (by omega)).mpr q2), hbad, if_pos ⟨rfl, q2⟩]
          · rw [if_neg (fun e => q2 ((n_lt (N := 31) (by omega) (by omega)).mp e)), h59, if_neg (fun e => q2 e.2)]
        · rw [Bool.eq_false_iff.mpr q, if_pos (by rfl), h59, if_neg (fun e => Bool.noConfusion e.1)]
      unfold X5_look_27
      rw [x_Y hop, bd_rt]
      by_cases q : opY op = true
      · rw [q, if_neg (by decide)]
        by_cases q2 : 31 < y
        · rw [if_pos ((n_lt (N := 31) (by omega) (by omega)).mpr q2), hbad, if_pos (Or.inl ⟨rfl, q2⟩)]
        · rw [if_neg (fun e => q2 ((n_lt (N := 31) (by omega) (by omega)).mp e)), h40]
          by_cases q3 : opZ op = true ∧ 31 < z
          · rw [if_pos q3, if_pos (Or.inr q3)]
          · rw [if_neg q3, if_neg (fun e => e.elim (fun e => q2 e.2) q3)]
      · rw [Bool.eq_false_iff.mpr q, if_pos (by rfl), h40]
        by_cases q3 : opZ op = true ∧ 31 < z
        · rw [if_pos q3, if_pos (Or.inr q3)]
        · rw [if_neg q3, if_neg (fun e => e.elim (fun e => Bool.noConfusion e.1) q3)]
    by_cases q : opX op = true
    · rw [q, if_neg (by decide)]
      by_cases q2 : 31 < x
      · rw [if_pos ((n_lt (N := 31) (by omega) (by omega)).mpr q2), hbad, if_pos (Or.inl ⟨rfl, q2⟩)]
      · rw [if_neg (fun e => q2 ((n_lt (N := 31) (by omega) (by omega)).mp e)), h27]
        by_cases q3 : (opY op = true ∧ 31 < y) ∨ (opZ op = true ∧ 31 < z)
        · rw [if_pos q3, if_pos (Or.inr q3)]
        · rw [if_neg q3, if_neg (fun e => e.elim (fun e => q2 e.2) q3)]
    · rw [Bool.eq_false_iff.mpr q, if_pos (by rfl), h27]
      by_cases q3 : (opY op = true ∧ 31 < y) ∨ (opZ op = true ∧ 31 < z)
      · rw [if_pos q3, if_pos (Or.inr q3)]
      · rw [if_neg q3, if_neg (fun e => e.elim (fun e => Bool.noConfusion e.1) q3)]
  · rw [if_neg h0, bd_th, if_neg h0]; rfl
/-! M -/
def w228 (a : Int32) : Int32 := if a < 69 then 0 else if 78 < a then 0 else 1
def w199 (a : Int32) : Int32 := if a < 50 then w228 a else if a ≤ 53 then 1 else w228 a
def wW (a : Int32) : Int32 := if a < 2 then w199 a else if a ≤ 43 then 1 else w199 a
theorem wW_e : ∀ op, op < 256 → opO op = true → wW (nI op) = b1 (opW op) := by decide +kernel
theorem m_W {op : Nat} (h : op < 256) (h0 : opO op = true) (S : Sx) : X12_step_188 (nI op) S = X12_step_228 (nI op) (b1 (opW op)) S := by
  have h1 : X12_step_211 (nI op) S = X12_step_228 (nI op) (w228 (nI op)) S := by
    unfold X12_step_211 w228
    split; rfl; split <;> rfl
  have h2 : X12_step_199 (nI op) S = X12_step_228 (nI op) (w199 (nI op)) S := by
    unfold X12_step_199 w199
    rw [h1]
    split; rfl; split <;> rfl
  rw [← wW_e op h h0]
  unfold X12_step_188 wW
  rw [h2]
  split; rfl; split <;> rfl
/-- what M's checks come to -/
def mk (S : Sx) (n : Nat) (r : Rs Unit) : Rs Unit := if n = 0 then r else th (gn S) (mE S (nI n))
theorem m_228 {S : Sx} {op x sp L : Nat} {fl gl : Nat → Int64} (hR : MR S sp L fl gl) (hr : roomM S) (hop : op < 256) (hx : x < 256) (h30 : gI S 167 30 = nI x) (hsp : sp ≤ 600) (hL2 : L ≤ 16) (h0 : opO op = true) : X12_step_188 (nI op) S = mk S (ckW op x sp L 0) (X12_step_241 (nI op) S) := by
  rw [m_W hop h0]
  unfold X12_step_228 ckW
  rw [vl_e]
  by_cases q1 : opW op = true
  · rw [q1, if_neg (by decide), h30]
    unfold X12_mayWrite
    by_cases q2 : x < 16
    · rw [if_neg (lit_ge q2 (by omega)), m_rL hR, bd_rt]
      by_cases q3 : x < L
      · rw [if_pos (nI_lt q3 (by omega)), bd_rt, if_neg (fun z => z.2.2.1 q3)]; rfl
      · rw [if_neg (nI_nlt (by omega) (by omega)), hR.1, nI_add, nI_1]
        by_cases q4 : sp + (x + 1) ≤ 600
        · rw [if_pos (show nI (sp + x + 1) ≤ 600 from nI_le (a := sp + x + 1) (b := 600) (by omega) (by omega)), bd_rt, if_neg (fun z => z.2.2.2 q4)]; rfl
        · rw [if_neg (show ¬ nI (sp + x + 1) ≤ 600 from nI_ge (a := 600) (b := sp + x + 1) (by omega) (by omega)), m_end hr, bd_th, if_pos ⟨rfl, q2, q3, q4⟩]; rfl
    · rw [if_pos (lit_le (N := 16) (by omega) (by omega)), bd_rt, if_neg (fun z => q2 z.2.1)]; rfl
  · rw [Bool.eq_false_iff.mpr q1, if_pos (by rfl), if_neg (fun z => Bool.noConfusion z.1)]; rfl
theorem m_165 {S : Sx} {op x sp L : Nat} {fl gl : Nat → Int64} (hR : MR S sp L fl gl) (hr : roomM S) (hop : op < 256) (hx : x < 256) (h30 : gI S 167 30 = nI x) (hsp : sp ≤ 600) (hL2 : L ≤ 16) (h0 : opO op = true) : X12_step_165 (nI op) S = mk S (ck79 op x sp L 0) (X12_step_241 (nI op) S) := by
  have h188 := m_228 hR hr hop hx h30 hsp hL2 h0
  unfold X12_step_165 ck79
  by_cases h1 : op = 79
  · rw [if_pos (show nI op = 79 from by rw [h1]; rfl), h30]
    by_cases h2 : 4 < x
    · rw [if_neg (show ¬ nI x ≤ 4 from nI_ge (a := 4) (b := x) h2 (by omega)), if_pos ⟨h1, h2⟩]
      unfold X12_step_179
      rw [m_end hr]; rfl
    · rw [if_pos (show nI x ≤ 4 from nI_le (a := x) (b := 4) (by omega) (by omega)), if_neg (fun q => h2 q.2)]; exact h188
  · rw [if_neg (show ¬ nI op = 79 from fun q => h1 ((nI_eq (a := op) (b := 79) (by omega) (by omega)).mp q)), if_neg (fun q => h1 q.1)]; exact h188
theorem m_151 {S : Sx} {op x z sp L : Nat} {fl gl : Nat → Int64} (hR : MR S sp L fl gl) (hr : roomM S) (hop : op < 256) (hx : x < 256) (hz : z < 256) (h30 : gI S 167 30 = nI x) (h32 : gI S 167 32 = nI z) (hsp : sp ≤ 600) (hL2 : L ≤ 16) (h0 : opO op = true) : X12_step_151 (nI op) S = mk S (ck78 op x z sp L 0) (X12_step_241 (nI op) S) := by
  have h165 := m_165 hR hr hop hx h30 hsp hL2 h0
  unfold X12_step_151 ck78
  by_cases h1 : op = 78
  · rw [if_pos (show nI op = 78 from by rw [h1]; rfl), h32]
    by_cases h2 : 4 < z
    · rw [if_pos ((n_lt (N := 4) (by omega) (by omega)).mpr h2), if_pos ⟨h1, h2⟩]
      unfold X12_step_179
      rw [m_end hr]; rfl
    · rw [if_neg (fun q => h2 ((n_lt (N := 4) (by omega) (by omega)).mp q)), if_neg (fun q => h2 q.2)]; exact h165
  · rw [if_neg (show ¬ nI op = 78 from fun q => h1 ((nI_eq (a := op) (b := 78) (by omega) (by omega)).mp q)), if_neg (fun q => h1 q.1)]; exact h165
theorem m_look {S : Sx} {op x y z sp L : Nat} {fl gl : Nat → Int64} (hR : MR S sp L fl gl) (hr : roomM S) (hop : op < 256) (hx : x < 256) (hy : y < 256) (hz : z < 256) (h30 : gI S 167 30 = nI x) (h31 : gI S 167 31 = nI y) (h32 : gI S 167 32 = nI z) (hsp : sp ≤ 600) (hL2 : L ≤ 16) :
    (bd (X12_isOp (nI op) S) (fun v7 S7 => if v7 = 0 then al S7 (14 + 50 + 6) 0 7 (fun c8 S8 => bd (X14_init c8 3 S8) (fun _ S9 => th c8 S9)) else bd (X12_fields (nI op) S7) (fun v8 S8 => vl v8 (fun v9 => if (v9 &&& 1) = 0 then X12_step_112 (nI op) v9 S8 else if 31 < (gI S8 167 30) then X12_step_142 S8 else X12_step_112 (nI op) v9 S8)))) = mk S (chk op x y z sp L 0) (X12_step_241 (nI op) S) := by
  have hbad : X12_step_142 S = mk S 3 (X12_step_241 (nI op) S) := by
    unfold X12_step_142
    rw [m_end hr]; rfl
  rw [m_O hop, bd_rt]
  unfold chk ckR
  by_cases h0 : opO op = true
  · have h151 := m_151 hR hr hop hx hz h30 h32 hsp hL2 h0
    rw [h0, if_neg (by decide), m_F, bd_rt, vl_e, if_pos rfl, h30]
    have h112 : X12_step_112 (nI op) (wF (nI op)) S = mk S (if (opY op = true ∧ 31 < y) ∨ (opZ op = true ∧ 31 < z) then 3 else ck78 op x z sp L 0) (X12_step_241 (nI op) S) := by
      have h127 : X12_step_127 (nI op) (wF (nI op)) S = mk S (if (opZ op = true ∧ 31 < z) then 3 else ck78 op x z sp L 0) (X12_step_241 (nI op) S) := by
        unfold X12_step_127
        by_cases q : opZ op = true
        · rw [if_neg (fun e => by rw [(wF_4 op hop h0).mp e] at q; cases q), h32]
          by_cases q2 : 31 < z
          · rw [if_neg (show ¬ nI z ≤ 31 from nI_ge (a := 31) (b := z) q2 (by omega)), hbad, if_pos ⟨q, q2⟩]
          · rw [if_pos (show nI z ≤ 31 from nI_le (a := z) (b := 31) (by omega) (by omega)), h151, if_neg (fun e => q2 e.2)]
        · rw [if_pos ((wF_4 op hop h0).mpr (Bool.eq_false_iff.mpr q)), h151, if_neg (fun e => q e.1)]
      unfold X12_step_112
      by_cases q : opY op = true
      · rw [if_neg (fun e => by rw [(wF_2 op hop h0).mp e] at q; cases q), h31]
        by_cases q2 : 31 < y
        · rw [if_pos ((n_lt (N := 31) (by omega) (by omega)).mpr q2), hbad, if_pos (Or.inl ⟨q, q2⟩)]
        · rw [if_neg (fun e => q2 ((n_lt (N := 31) (by omega) (by omega)).mp e)), h127]
          by_cases q3 : opZ op = true ∧ 31 < z
          · rw [if_pos q3, if_pos (Or.inr q3)]
          · rw [if_neg q3, if_neg (fun e => e.elim (fun e => q2 e.2) q3)]
      · rw [if_pos ((wF_2 op hop h0).mpr (Bool.eq_false_iff.mpr q)), h127]
        by_cases q3 : opZ op = true ∧ 31 < z
        · rw [if_pos q3, if_pos (Or.inr q3)]
        · rw [if_neg q3, if_neg (fun e => e.elim (fun e => q e.1) q3)]
    by_cases q : opX op = true
    · rw [if_neg (fun e => by rw [(wF_1 op hop h0).mp e] at q; cases q)]
      by_cases q2 : 31 < x
      · rw [if_pos ((n_lt (N := 31) (by omega) (by omega)).mpr q2), hbad, if_pos (Or.inl ⟨q, q2⟩)]
      · rw [if_neg (fun e => q2 ((n_lt (N := 31) (by omega) (by omega)).mp e)), h112]
        by_cases q3 : (opY op = true ∧ 31 < y) ∨ (opZ op = true ∧ 31 < z)
        · rw [if_pos q3, if_pos (Or.inr q3)]
        · rw [if_neg q3, if_neg (fun e => e.elim (fun e => q2 e.2) q3)]
    · rw [if_pos ((wF_1 op hop h0).mpr (Bool.eq_false_iff.mpr q)), h112]
      by_cases q3 : (opY op = true ∧ 31 < y) ∨ (opZ op = true ∧ 31 < z)
      · rw [if_pos q3, if_pos (Or.inr q3)]
      · rw [if_neg q3, if_neg (fun e => e.elim (fun e => q e.1) q3)]
  · rw [Bool.eq_false_iff.mpr h0, if_pos (by rfl), m_end hr, if_neg (fun e => Bool.noConfusion e)]; rfl
end
section
set_option maxRecDepth 100000
/-! ===== the machine, whole ===== -/
def XO (A : Sx) (ou : List Int32) : Prop := gI A 138 9 = nI ou.length ∧ ∀ i, i < ou.length → gI A 145 i = ou.getD i 0
def MO (B : Sx) (ou : List Int32) : Prop := gI B 167 16 = nI ou.length ∧ ∀ i, i < ou.length → gI B 174 i = ou.getD i 0
def XN (A : Sx) (inp : List Int32) : Prop := ∃ r tot tk, gR A 146 0 = some r ∧ 147 ≤ r ∧ gK A r = 1 ∧ gI A 146 1 = nI tot ∧ gI A 138 11 = nI tk ∧ tot = tk + inp.length ∧ tot ≤ gN A r ∧ gN A r < 2 ^ 30 ∧ ∀ i, i < inp.length → gI A r (tk + i) = inp.getD i 0
def MN (B : Sx) (inp : List Int32) : Prop := gI B 167 4 = nI inp.length ∧ ∀ i, i < inp.length → gI B 170 i = inp.getD i 0
theorem XO.sm {P : Nat → Nat → Prop} {A A' : Sx} {ou : List Int32} (h : XO A ou) (hs : Sm P A A') (hp : ∀ c k, P c k → ¬ ((c = 138 ∧ k = 9) ∨ c = 145)) : XO A' ou :=
  ⟨by rw [hs.I (fun x => hp _ _ x (by omega))]; exact h.1, fun i hi => by rw [hs.I (fun x => hp _ _ x (by omega))]; exact h.2 i hi⟩
theorem MO.sm {P : Nat → Nat → Prop} {A A' : Sx} {ou : List Int32} (h : MO A ou) (hs : Sm P A A') (hp : ∀ c k, P c k → ¬ ((c = 167 ∧ k = 16) ∨ c = 174)) : MO A' ou :=
  ⟨by rw [hs.I (fun x => hp _ _ x (by omega))]; exact h.1, fun i hi => by rw [hs.I (fun x => hp _ _ x (by omega))]; exact h.2 i hi⟩
theorem XN.sm {P : Nat → Nat → Prop} {A A' : Sx} {inp : List Int32} (h : XN A inp) (hs : Sm P A A') (hp : ∀ c k, P c k → ¬ ((c = 138 ∧ k = 11) ∨ 146 ≤ c)) : XN A' inp := by
  obtain ⟨r, tot, tk, a1, a2, a3, a4, a5, a6, a7, a8, a9⟩ := h
  refine ⟨r, tot, tk, ?_, a2, ?_, ?_, ?_, a6, ?_, ?_, fun i hi => ?_⟩
  · rw [hs.R (fun x => hp _ _ x (by omega))]; exact a1
  · rw [hs.K]; exact a3
  · rw [hs.I (fun x => hp _ _ x (by omega))]; exact a4
  · rw [hs.I (fun x => hp _ _ x (by omega))]; exact a5
  · rw [hs.N]; exact a7
  · rw [hs.N]; exact a8
  · rw [hs.I (fun x => hp _ _ x (by omega))]; exact a9 i hi
theorem MN.sm {P : Nat → Nat → Prop} {A A' : Sx} {inp : List Int32} (h : MN A inp) (hs : Sm P A A') (hp : ∀ c k, P c k → ¬ ((c = 167 ∧ k = 4) ∨ c = 170)) : MN A' inp :=
  ⟨by rw [hs.I (fun x => hp _ _ x (by omega))]; exact h.1, fun i hi => by rw [hs.I (fun x => hp _ _ x (by omega))]; exact h.2 i hi⟩
theorem MM.sm {P : Nat → Nat → Prop} {A A' : Sx} {mem : Nat → Nat} (h : MM A mem) (hs : Sm P A A') (hp : ∀ c k, P c k → c ≠ 169) : MM A' mem := fun a ha => by rw [hs.I (fun x => hp _ _ x rfl)]; exact h a ha
def XMc (A : Sx) (b : Pb) (mem : Nat → Nat) (sp L : Nat) (fl gl s : Nat → Int64) (ou inp : List Int32) (pc : Int64) (n st : Int32) : Prop :=
  gK A 1 = 7 ∧ XP A b mem ∧ XR A sp L fl gl ∧ XS A s ∧ XO A ou ∧ XN A inp ∧ gL A 138 5 = pc ∧ gI A 138 6 = n ∧ gI A 138 7 = st
def MMc (B : Sx) (b : Pb) (mem : Nat → Nat) (sp L : Nat) (fl gl s : Nat → Int64) (ou inp : List Int32) (pc : Int64) (n st : Int32) : Prop :=
  MP B b ∧ MM B mem ∧ MR B sp L fl gl ∧ MS B s ∧ MO B ou ∧ MN B inp ∧ gL B 167 12 = pc ∧ gI B 167 14 = n ∧ gI B 167 13 = st
def mcOK (b : Pb) (mem : Nat → Nat) (sp L : Nat) (fl : Nat → Int64) (fs : List Nat) (ou inp : List Int32) : Prop := bOK b ∧ memOK mem ∧ L ≤ 16 ∧ sp + L ≤ 600 ∧ Fr fl fs sp ∧ ou.length ≤ 1000 ∧ inp.length ≤ 4000
/-- where a step changes X, M -/
def xSt (c _ : Nat) : Prop := 1 ≤ c ∧ c ≤ 145
def mSt (c k : Nat) : Prop := (c = 167 ∧ (k = 4 ∨ (11 ≤ k ∧ k ≤ 14) ∨ k = 16 ∨ (23 ≤ k ∧ k ≤ 29))) ∨ (169 ≤ c ∧ c ≤ 181)
/-! X: what the parts do to the whole -/
theorem xm_rset {A : Sx} {b : Pb} {mem : Nat → Nat} {sp L x : Nat} {fl gl s : Nat → Int64} {ou inp : List Int32} {pc : Int64} {n st : Int32} (v : Int64) (h : XMc A b mem sp L fl gl s ou inp pc n st) (hb : bOK b) (hx : x < 32) (hL : L ≤ 16) (hs : sp + rL L x ≤ 600) :
    ∃ A', X6_set (nI x) v A = rt () A' ∧ XMc A' b mem sp (rL L x) (rFl sp L fl x v) (rGl gl x v) s ou inp pc n st ∧ Sm xSt A A' := by
  obtain ⟨h1, h2, h3, h4, h5, h6, h7, h8, h9⟩ := h
  obtain ⟨A', e1, e2, e3⟩ := x_rset v h3 hx hL hs
  unfold xRl at e3
  exact ⟨A', e1, ⟨by rw [e3.K]; exact h1, h2.sm hb e3 (by intro c k; omega), e2, h4.sm e3 (by intro c k; omega), h5.sm e3 (by intro c k; omega), h6.sm e3 (by intro c k; omega), by rw [e3.L (by omega)]; exact h7, by rw [e3.I (by omega)]; exact h8, by rw [e3.I (by omega)]; exact h9⟩, e3.mono (by unfold xSt; intro c k; omega)⟩
theorem xm_down {A : Sx} {b : Pb} {mem : Nat → Nat} {sp L x : Nat} {fl gl s : Nat → Int64} {ou inp : List Int32} {pc : Int64} {n st : Int32} (h : XMc A b mem sp L fl gl s ou inp pc n st) (hb : bOK b) (hx : x < 256) (hL : L ≤ 16) (hs : sp + (dK x L + 1) ≤ 600) :
    ∃ A', X6_down (nI x) A = rt () A' ∧ XMc A' b mem (sp + (dK x L + 1)) (L - (dK x L + 1)) (dFl sp L fl (dK x L)) gl s ou inp pc n st ∧ Sm xSt A A' := by
  obtain ⟨h1, h2, h3, h4, h5, h6, h7, h8, h9⟩ := h
  obtain ⟨A', e1, e2, e3⟩ := x_down h3 hL hx hs
  unfold xRl at e3
  exact ⟨A', e1, ⟨by rw [e3.K]; exact h1, h2.sm hb e3 (by intro c k; omega), e2, h4.sm e3 (by intro c k; omega), h5.sm e3 (by intro c k; omega), h6.sm e3 (by intro c k; omega), by rw [e3.L (by omega)]; exact h7, by rw [e3.I (by omega)]; exact h8, by rw [e3.I (by omega)]; exact h9⟩, e3.mono (by unfold xSt; intro c k; omega)⟩
theorem xm_up {A : Sx} {b : Pb} {mem : Nat → Nat} {sp L x c : Nat} {l : List Nat} {fl gl s : Nat → Int64} {ou inp : List Int32} {pc : Int64} {n st : Int32} (h : XMc A b mem sp L fl gl s ou inp pc n st) (hb : bOK b) (hx : x < 256) (hL : L ≤ 16) (hs : sp + L ≤ 600) (hf : Fr fl (c :: l) sp) :
    ∃ A', X6_up (nI x) A = rt () A' ∧ XMc A' b mem (sp - (c + 1)) (min 16 (c + upC x L)) (uFl sp x L fl) gl s ou inp pc n st ∧ Sm xSt A A' := by
  obtain ⟨h1, h2, h3, h4, h5, h6, h7, h8, h9⟩ := h
  obtain ⟨A', e1, e2, e3⟩ := x_up h3 hL hx hs hf
  unfold xRl at e3
  exact ⟨A', e1, ⟨by rw [e3.K]; exact h1, h2.sm hb e3 (by intro c k; omega), e2, h4.sm e3 (by intro c k; omega), h5.sm e3 (by intro c k; omega), h6.sm e3 (by intro c k; omega), by rw [e3.L (by omega)]; exact h7, by rw [e3.I (by omega)]; exact h8, by rw [e3.I (by omega)]; exact h9⟩, e3.mono (by unfold xSt; intro c k; omega)⟩
theorem xm_get {A : Sx} {b b' : Pb} {mem : Nat → Nat} {sp L a m f : Nat} {fl gl s : Nat → Int64} {ou inp : List Int32} {pc : Int64} {n st : Int32} (h : XMc A b mem sp L fl gl s ou inp pc n st) (hb : bOK b) (hm : memOK mem) (ha : a < 65536) (hT : bTouch b (a / 64) false f b') (ham : a % 64 + m ≤ 64) :
    ∃ A', X2_get (nI a) (nI m) A = rt (numL mem a m) A' ∧ XMc A' b' mem sp L fl gl s ou inp pc n st ∧ Sm xSt A A' := by
  obtain ⟨h1, h2, h3, h4, h5, h6, h7, h8, h9⟩ := h
  obtain ⟨A', e1, e2, e3⟩ := x_get h2 hb hm ha hT ham
  unfold xPl at e3
  exact ⟨A', e1, ⟨by rw [e3.K]; exact h1, e2, h3.sm e3 (by intro c k; omega), h4.sm e3 (by intro c k; omega), h5.sm e3 (by intro c k; omega), h6.sm e3 (by intro c k; omega), by rw [e3.L (by omega)]; exact h7, by rw [e3.I (by omega)]; exact h8, by rw [e3.I (by omega)]; exact h9⟩, e3.mono (by unfold xSt; intro c k; omega)⟩
theorem xm_set {A : Sx} {b b' : Pb} {mem : Nat → Nat} {sp L a m f : Nat} {fl gl s : Nat → Int64} {ou inp : List Int32} {pc : Int64} {n st : Int32} (v : Int64) (h : XMc A b mem sp L fl gl s ou inp pc n st) (hb : bOK b) (ha : a < 65536) (hT : bTouch b (a / 64) true f b') (ham : a % 64 + m ≤ 64) :
    ∃ A', X2_set (nI a) (nI m) v A = rt () A' ∧ XMc A' b' (putB mem a m v) sp L fl gl s ou inp pc n st ∧ Sm xSt A A' := by
  obtain ⟨h1, h2, h3, h4, h5, h6, h7, h8, h9⟩ := h
  obtain ⟨A', e1, e2, e3⟩ := x_set (v := v) h2 hb ha hT ham
  unfold xPl at e3
  exact ⟨A', e1, ⟨by rw [e3.K]; exact h1, e2, h3.sm e3 (by intro c k; omega), h4.sm e3 (by intro c k; omega), h5.sm e3 (by intro c k; omega), h6.sm e3 (by intro c k; omega), by rw [e3.L (by omega)]; exact h7, by rw [e3.I (by omega)]; exact h8, by rw [e3.I (by omega)]; exact h9⟩, e3.mono (by unfold xSt; intro c k; omega)⟩
theorem xm_reckon {A : Sx} {b : Pb} {mem : Nat → Nat} {sp L op k : Nat} {fl gl s : Nat → Int64} {ou inp : List Int32} {pc : Int64} {n st : Int32} (x y : Int64) (h : XMc A b mem sp L fl gl s ou inp pc n st) (hb : bOK b) (hop : op < 256) (hk : op / 2 * 2 = k) (hr : (2 ≤ k ∧ k ≤ 32) ∨ k = 50) :
    ∃ A', X5_reckon (nI op) x y A = rt (rkV k x y s) A' ∧ XMc A' b mem sp L fl gl (rkS k x y s) ou inp pc n st ∧ Sm xSt A A' := by
  obtain ⟨h1, h2, h3, h4, h5, h6, h7, h8, h9⟩ := h
  obtain ⟨A', e1, e2, e3⟩ := x_reckon x y h4 hop hk hr
  unfold xRk at e3
  exact ⟨A', e1, ⟨by rw [e3.K]; exact h1, h2.sm hb e3 (by intro c k; omega), h3.sm e3 (by intro c k; omega), e2, h5.sm e3 (by intro c k; omega), h6.sm e3 (by intro c k; omega), by rw [e3.L (by omega)]; exact h7, by rw [e3.I (by omega)]; exact h8, by rw [e3.I (by omega)]; exact h9⟩, e3.mono (by unfold xSt; intro c k; omega)⟩
theorem xm_spc {A : Sx} {b : Pb} {mem : Nat → Nat} {sp L k : Nat} {fl gl s : Nat → Int64} {ou inp : List Int32} {pc : Int64} {n st : Int32} (v : Int64) (h : XMc A b mem sp L fl gl s ou inp pc n st) (hb : bOK b) :
    XMc (pL A 144 k v) b mem sp L fl gl (up s k v) ou inp pc n st ∧ Sm xSt A (pL A 144 k v) := by
  obtain ⟨h1, h2, h3, h4, h5, h6, h7, h8, h9⟩ := h
  have e3 : Sm (fun c _ => c = 144) A (pL A 144 k v) := Sm.pL rfl
  exact ⟨⟨by rw [e3.K]; exact h1, h2.sm hb e3 (by intro c k; omega), h3.sm e3 (by intro c k; omega), h4.up, h5.sm e3 (by intro c k; omega), h6.sm e3 (by intro c k; omega), by rw [e3.L (by omega)]; exact h7, by rw [e3.I (by omega)]; exact h8, by rw [e3.I (by omega)]; exact h9⟩, e3.mono (by unfold xSt; intro c k; omega)⟩
theorem xm_pc {A : Sx} {b : Pb} {mem : Nat → Nat} {sp L : Nat} {fl gl s : Nat → Int64} {ou inp : List Int32} {pc : Int64} {n st : Int32} (q : Int64) (h : XMc A b mem sp L fl gl s ou inp pc n st) (hb : bOK b) :
    ∃ A', X5_step_256 q A = rt () A' ∧ XMc A' b mem sp L fl gl s ou inp q (n + 1) st ∧ Sm xSt A A' := by
  obtain ⟨h1, h2, h3, h4, h5, h6, h7, h8, h9⟩ := h
  have e3 : Sm (fun c k => c = 138 ∧ (k = 5 ∨ k = 6)) A (pI (pL A 138 5 q) 138 6 (n + 1)) := Sm.trans (Sm.pL (by omega)) (Sm.pI (by omega))
  refine ⟨_, ?_, ⟨by rw [e3.K]; exact h1, h2.sm hb e3 (by intro c k; omega), h3.sm e3 (by intro c k; omega), h4.sm e3 (by intro c k; omega), h5.sm e3 (by intro c k; omega), h6.sm e3 (by intro c k; omega), ?_, ?_, by rw [e3.I (by omega)]; exact h9⟩, e3.mono (by unfold xSt; intro c k; omega)⟩
  · unfold X5_step_256
    rw [pt_e, pt_e, gI_pL, h8]
  · rw [gL_pI, gL_pL, if_pos ⟨rfl, rfl⟩]
  · rw [gI_pI, if_pos ⟨rfl, rfl⟩]
/-! M -/
theorem mm_rset {A : Sx} {b : Pb} {mem : Nat → Nat} {sp L x : Nat} {fl gl s : Nat → Int64} {ou inp : List Int32} {pc : Int64} {n st : Int32} (v : Int64) (h : MMc A b mem sp L fl gl s ou inp pc n st) (hx : x < 32) (hL : L ≤ 16) :
    ∃ A', X12_set (nI x) v A = rt () A' ∧ MMc A' b mem sp (rL L x) (rFl sp L fl x v) (rGl gl x v) s ou inp pc n st ∧ Sm mRl A A' := by
  obtain ⟨h2, h1, h3, h4, h5, h6, h7, h8, h9⟩ := h
  obtain ⟨A', e1, e2, e3⟩ := m_rset v h3 hx hL
  have e4 := e3
  unfold mRl at e4
  exact ⟨A', e1, ⟨MP_back h2 e4 (by intro c k; omega), h1.sm e4 (by intro c k; omega), e2, h4.sm e4 (by intro c k; omega), h5.sm e4 (by intro c k; omega), h6.sm e4 (by intro c k; omega), by rw [e4.L (by omega)]; exact h7, by rw [e4.I (by omega)]; exact h8, by rw [e4.I (by omega)]; exact h9⟩, e3⟩
theorem mm_call {A : Sx} {b : Pb} {mem : Nat → Nat} {sp L x : Nat} {fl gl s : Nat → Int64} {ou inp : List Int32} {pc : Int64} {n st : Int32} (h : MMc A b mem sp L fl gl s ou inp pc n st) (hL : L ≤ 16) (hx : x < 256) (hs : sp + (dK x L + 1) ≤ 600) (hs2 : sp + L ≤ 600) :
    ∃ A', X12_call (nI x) A = rt () A' ∧ MMc A' b mem (sp + (dK x L + 1)) (L - (dK x L + 1)) (dFl sp L fl (dK x L)) gl s ou inp pc n st ∧ Sm mRl A A' := by
  obtain ⟨h2, h1, h3, h4, h5, h6, h7, h8, h9⟩ := h
  obtain ⟨A', e1, e2, e3⟩ := m_call h3 hL hx hs hs2
  have e4 := e3
  unfold mRl at e4
  exact ⟨A', e1, ⟨MP_back h2 e4 (by intro c k; omega), h1.sm e4 (by intro c k; omega), e2, h4.sm e4 (by intro c k; omega), h5.sm e4 (by intro c k; omega), h6.sm e4 (by intro c k; omega), by rw [e4.L (by omega)]; exact h7, by rw [e4.I (by omega)]; exact h8, by rw [e4.I (by omega)]; exact h9⟩, e3⟩
theorem mm_give {A : Sx} {b : Pb} {mem : Nat → Nat} {sp L x c : Nat} {l : List Nat} {fl gl s : Nat → Int64} {ou inp : List Int32} {pc : Int64} {n st : Int32} (h : MMc A b mem sp L fl gl s ou inp pc n st) (hL : L ≤ 16) (hx : x < 256) (hs : sp + L ≤ 600) (hf : Fr fl (c :: l) sp) :
    ∃ A', X12_giveBack (nI x) A = rt () A' ∧ MMc A' b mem (sp - (c + 1)) (min 16 (c + upC x L)) (uFl sp x L fl) gl s ou inp pc n st ∧ Sm mRl A A' := by
  obtain ⟨h2, h1, h3, h4, h5, h6, h7, h8, h9⟩ := h
  obtain ⟨A', e1, e2, e3⟩ := m_give h3 hL hx hs hf
  have e4 := e3
  unfold mRl at e4
  exact ⟨A', e1, ⟨MP_back h2 e4 (by intro c k; omega), h1.sm e4 (by intro c k; omega), e2, h4.sm e4 (by intro c k; omega), h5.sm e4 (by intro c k; omega), h6.sm e4 (by intro c k; omega), by rw [e4.L (by omega)]; exact h7, by rw [e4.I (by omega)]; exact h8, by rw [e4.I (by omega)]; exact h9⟩, e3⟩
theorem mm_touch {A : Sx} {b b' : Pb} {mem : Nat → Nat} {sp L a f : Nat} {w : Bool} {fl gl s : Nat → Int64} {ou inp : List Int32} {pc : Int64} {n st : Int32} (h : MMc A b mem sp L fl gl s ou inp pc n st) (hb : bOK b) (ha : a < 65536) (hT : bTouch b (a / 64) w f b') :
    ∃ A', X12_touch (nI a) (b1 w) A = rt () A' ∧ MMc A' b' mem sp L fl gl s ou inp pc n st ∧ Sm mPl A A' := by
  obtain ⟨h2, h1, h3, h4, h5, h6, h7, h8, h9⟩ := h
  obtain ⟨A', e1, e2, e3⟩ := m_touch h2 hb ha hT
  have e4 := e3
  unfold mPl at e4
  exact ⟨A', e1, ⟨e2, h1.sm e4 (by intro c k; omega), h3.sm e4 (by intro c k; omega), h4.sm e4 (by intro c k; omega), h5.sm e4 (by intro c k; omega), h6.sm e4 (by intro c k; omega), by rw [e4.L (by omega)]; exact h7, by rw [e4.I (by omega)]; exact h8, by rw [e4.I (by omega)]; exact h9⟩, e3⟩
theorem mm_lay {A : Sx} {b : Pb} {mem : Nat → Nat} {sp L a m : Nat} {fl gl s : Nat → Int64} {ou inp : List Int32} {pc : Int64} {n st : Int32} (v : Int64) (h : MMc A b mem sp L fl gl s ou inp pc n st) (ham : a + m ≤ 65536) (hm : m ≤ 8) :
    ∃ A', X12_lay (nI a) (nI m) v A = rt () A' ∧ MMc A' b (putB mem a m v) sp L fl gl s ou inp pc n st ∧ Sm (fun c _ => c = 169) A A' := by
  obtain ⟨h2, h1, h3, h4, h5, h6, h7, h8, h9⟩ := h
  obtain ⟨A', e1, e2, e4⟩ := m_lay (v := v) ham hm h1
  exact ⟨A', e1, ⟨MP_back h2 e4 (by intro c k; omega), e2, h3.sm e4 (by intro c k; omega), h4.sm e4 (by intro c k; omega), h5.sm e4 (by intro c k; omega), h6.sm e4 (by intro c k; omega), by rw [e4.L (by omega)]; exact h7, by rw [e4.I (by omega)]; exact h8, by rw [e4.I (by omega)]; exact h9⟩, e4⟩
theorem mm_reckon {A : Sx} {b : Pb} {mem : Nat → Nat} {sp L k : Nat} {fl gl s : Nat → Int64} {ou inp : List Int32} {pc : Int64} {n st : Int32} (x y : Int64) (h : MMc A b mem sp L fl gl s ou inp pc n st) (hr : 2 ≤ k ∧ k ≤ 32 ∧ k % 2 = 0) :
    ∃ A', X12_reckoned (nI k) x y A = rt (rkV k x y s) A' ∧ MMc A' b mem sp L fl gl (rkS k x y s) ou inp pc n st ∧ Sm mRk A A' := by
  obtain ⟨h2, h1, h3, h4, h5, h6, h7, h8, h9⟩ := h
  obtain ⟨A', e1, e2, e3⟩ := m_reckon x y h4 hr
  have e4 := e3
  unfold mRk at e4
  exact ⟨A', e1, ⟨MP_back h2 e4 (by intro c k; omega), h1.sm e4 (by intro c k; omega), h3.sm e4 (by intro c k; omega), e2, h5.sm e4 (by intro c k; omega), h6.sm e4 (by intro c k; omega), by rw [e4.L (by omega)]; exact h7, by rw [e4.I (by omega)]; exact h8, by rw [e4.I (by omega)]; exact h9⟩, e3⟩
theorem mm_spc {A : Sx} {b : Pb} {mem : Nat → Nat} {sp L k : Nat} {fl gl s : Nat → Int64} {ou inp : List Int32} {pc : Int64} {n st : Int32} (v : Int64) (hk : k < 4) (h : MMc A b mem sp L fl gl s ou inp pc n st) :
    MMc (pL A 172 k v) b mem sp L fl gl (up s k v) ou inp pc n st ∧ Sm mRk A (pL A 172 k v) := by
  obtain ⟨h2, h1, h3, h4, h5, h6, h7, h8, h9⟩ := h
  have e4 : Sm (fun c j => c = 172 ∧ j < 4) A (pL A 172 k v) := Sm.pL ⟨rfl, hk⟩
  exact ⟨⟨MP_back h2 e4 (by intro c k; omega), h1.sm e4 (by intro c k; omega), h3.sm e4 (by intro c k; omega), h4.up, h5.sm e4 (by intro c k; omega), h6.sm e4 (by intro c k; omega), by rw [e4.L (by omega)]; exact h7, by rw [e4.I (by omega)]; exact h8, by rw [e4.I (by omega)]; exact h9⟩, e4⟩
/-- M's scratch: the operation and its fields -/
theorem mm_scr {P : Nat → Nat → Prop} {A A' : Sx} {b : Pb} {mem : Nat → Nat} {sp L : Nat} {fl gl s : Nat → Int64} {ou inp : List Int32} {pc : Int64} {n st : Int32} (h : MMc A b mem sp L fl gl s ou inp pc n st) (e3 : Sm P A A') (hp : ∀ c k, P c k → (c = 167 ∧ 30 ≤ k ∧ k ≤ 33)) : MMc A' b mem sp L fl gl s ou inp pc n st := by
  obtain ⟨h2, h1, h3, h4, h5, h6, h7, h8, h9⟩ := h
  have e4 : Sm (fun c k => c = 167 ∧ 30 ≤ k ∧ k ≤ 33) A A' := e3.mono hp
  exact ⟨MP_back h2 e4 (by intro c k; omega), h1.sm e4 (by intro c k; omega), h3.sm e4 (by intro c k; omega), h4.sm e4 (by intro c k; omega), h5.sm e4 (by intro c k; omega), h6.sm e4 (by intro c k; omega), by rw [e4.L (by omega)]; exact h7, by rw [e4.I (by omega)]; exact h8, by rw [e4.I (by omega)]; exact h9⟩
theorem mm_pc {A : Sx} {b : Pb} {mem : Nat → Nat} {sp L : Nat} {fl gl s : Nat → Int64} {ou inp : List Int32} {pc : Int64} {n st : Int32} (q : Int64) (h : MMc A b mem sp L fl gl s ou inp pc n st) : MMc (pL A 167 12 q) b mem sp L fl gl s ou inp q n st ∧ Sm mSt A (pL A 167 12 q) := by
  obtain ⟨h2, h1, h3, h4, h5, h6, h7, h8, h9⟩ := h
  have e4 : Sm (fun c k => c = 167 ∧ k = 12) A (pL A 167 12 q) := Sm.pL (by omega)
  exact ⟨⟨MP_back h2 e4 (by intro c k; omega), h1.sm e4 (by intro c k; omega), h3.sm e4 (by intro c k; omega), h4.sm e4 (by intro c k; omega), h5.sm e4 (by intro c k; omega), h6.sm e4 (by intro c k; omega), by rw [gL_pL, if_pos ⟨rfl, rfl⟩], by rw [e4.I (by omega)]; exact h8, by rw [e4.I (by omega)]; exact h9⟩, e4.mono (by unfold mSt; intro c k; omega)⟩
theorem mm_n {A : Sx} {b : Pb} {mem : Nat → Nat} {sp L : Nat} {fl gl s : Nat → Int64} {ou inp : List Int32} {pc : Int64} {n st : Int32} (q : Int32) (h : MMc A b mem sp L fl gl s ou inp pc n st) : MMc (pI A 167 14 q) b mem sp L fl gl s ou inp pc q st ∧ Sm mSt A (pI A 167 14 q) := by
  obtain ⟨h2, h1, h3, h4, h5, h6, h7, h8, h9⟩ := h
  have e4 : Sm (fun c k => c = 167 ∧ k = 14) A (pI A 167 14 q) := Sm.pI (by omega)
  exact ⟨⟨MP_back h2 e4 (by intro c k; omega), h1.sm e4 (by intro c k; omega), h3.sm e4 (by intro c k; omega), h4.sm e4 (by intro c k; omega), h5.sm e4 (by intro c k; omega), h6.sm e4 (by intro c k; omega), by rw [e4.L (by omega)]; exact h7, by rw [gI_pI, if_pos ⟨rfl, rfl⟩], by rw [e4.I (by omega)]; exact h9⟩, e4.mono (by unfold mSt; intro c k; omega)⟩
theorem mm_st {A : Sx} {b : Pb} {mem : Nat → Nat} {sp L : Nat} {fl gl s : Nat → Int64} {ou inp : List Int32} {pc : Int64} {n st : Int32} (q : Int32) (h : MMc A b mem sp L fl gl s ou inp pc n st) : MMc (pI A 167 13 q) b mem sp L fl gl s ou inp pc n q ∧ Sm mSt A (pI A 167 13 q) := by
  obtain ⟨h2, h1, h3, h4, h5, h6, h7, h8, h9⟩ := h
  have e4 : Sm (fun c k => c = 167 ∧ k = 13) A (pI A 167 13 q) := Sm.pI (by omega)
  exact ⟨⟨MP_back h2 e4 (by intro c k; omega), h1.sm e4 (by intro c k; omega), h3.sm e4 (by intro c k; omega), h4.sm e4 (by intro c k; omega), h5.sm e4 (by intro c k; omega), h6.sm e4 (by intro c k; omega), by rw [e4.L (by omega)]; exact h7, by rw [e4.I (by omega)]; exact h8, by rw [gI_pI, if_pos ⟨rfl, rfl⟩]⟩, e4.mono (by unfold mSt; intro c k; omega)⟩
end
section
set_option maxRecDepth 100000
/-! ===== addresses ===== -/
def isA (x : Int64) : Bool := decide (¬ x < 0 ∧ x < 65536)
theorem isA_of {x : Int64} (h : isA x = true) : ∃ a, a < 65536 ∧ x = lN a := by
  have h := of_decide_eq_true h
  obtain ⟨k, hk, rfl⟩ := pk_lOf h.1
  exact ⟨k, (pk_lLT (a := k) (b := 65536) hk (by decide)).mp h.2, rfl⟩
theorem isA_n {a : Nat} (h : a < 65536) : isA (lN a) = true := decide_eq_true ⟨fun q => by rw [l_lt, pk_lT (by omega), show (0 : Int64).toInt = 0 from rfl] at q; omega, (pk_lLT (a := a) (b := 65536) (by omega) (by decide)).mpr h⟩
theorem x_isA (x : Int64) (S : Sx) : X0_isAddress x S = rt (b1 (isA x)) S := by
  unfold X0_isAddress isA
  by_cases h1 : x < 0
  · rw [if_pos h1, decide_eq_false (fun q => q.1 h1)]; rfl
  · rw [if_neg h1]
    by_cases h2 : x < 65536
    · rw [if_neg (fun q => by rw [l_le] at q; rw [l_lt] at h2; omega), decide_eq_true ⟨h1, h2⟩]; rfl
    · rw [if_pos (by rw [l_lt] at h2; rw [l_le]; omega), decide_eq_false (fun q => h2 q.2)]; rfl
def isM (m : Nat) : Prop := m = 1 ∨ m = 4 ∨ m = 8
/-- the place that is asked -/
def al8 (a m : Nat) : Nat := a / m * m
theorem al8_lt {a m : Nat} (hm : isM m) (h : a < 65536) : al8 a m < 65536 ∧ al8 a m + m ≤ 65536 ∧ al8 a m % 64 + m ≤ 64 := by
  unfold al8
  rcases hm with rfl | rfl | rfl <;> omega
theorem m_addr {B : Sx} {m a : Nat} (hm : isM m) (h : a < 65536) : X12_address (lN a) (nI m) B = rt (nI (al8 a m)) B := by
  unfold X12_address
  have h1 := of_decide_eq_true (isA_n h)
  have hm0 : ¬ nI m = 0 := by rcases hm with rfl | rfl | rfl <;> decide
  rw [if_neg h1.1, if_pos h1.2, if_neg hm0, lN_i, pk_div (by omega) (by rcases hm with rfl | rfl | rfl <;> omega) (by rcases hm with rfl | rfl | rfl <;> omega), pk_mul]
  rfl
theorem m_addr0 {B : Sx} {m : Int32} {x : Int64} (hr : roomM B) (h : isA x = false) : X12_address x m B = th (gn B) (mE B 4) := by
  unfold X12_address X12_address_14
  have h1 := of_decide_eq_false h
  by_cases h2 : x < 0
  · rw [if_pos h2, m_end hr]
  · rw [if_neg h2, if_neg (fun q => h1 ⟨h2, q⟩), m_end hr]
theorem and_neg {a k : Nat} (ha : a < 65536) (hk : k ≤ 3) : nI a &&& (-nI (2 ^ k)) = nI (a / 2 ^ k * 2 ^ k) := by
  apply Int32.toBitVec_inj.mp
  apply BitVec.eq_of_getLsbD_eq
  intro i hi
  have e1 : (nI (a / 2 ^ k * 2 ^ k)).toBitVec.getLsbD i = (a / 2 ^ k * 2 ^ k).testBit i := by
    show (BitVec.ofNat 32 _).getLsbD i = _
    rw [BitVec.getLsbD_ofNat]
    simp [hi]
  have e2 : (nI a).toBitVec.getLsbD i = a.testBit i := by
    show (BitVec.ofNat 32 _).getLsbD i = _
    rw [BitVec.getLsbD_ofNat]
    simp [hi]
  have e3 : ∀ k, k < 4 → ∀ i, i < 32 → (-nI (2 ^ k)).toBitVec.getLsbD i = decide (k ≤ i) := by decide +kernel
  rw [Int32.toBitVec_and, BitVec.getLsbD_and, e1, e2, e3 k (by omega) i hi, Nat.testBit_mul_two_pow, Nat.testBit_div_two_pow]
  by_cases q : k ≤ i
  · simp [q, show i - k + k = i by omega]
  · simp [q]
theorem x_align {a m : Nat} (ha : a < 65536) (hm : isM m) : nI a &&& (-nI m) = nI (al8 a m) := by
  rcases hm with rfl | rfl | rfl
  · exact and_neg (k := 0) ha (by omega)
  · exact and_neg (k := 2) ha (by omega)
  · exact and_neg (k := 3) ha (by omega)
/-! M: fetch and store -/
theorem mm_fetch {A : Sx} {b b' : Pb} {mem : Nat → Nat} {sp L a m f : Nat} {fl gl s : Nat → Int64} {ou inp : List Int32} {pc : Int64} {n st : Int32} (h : MMc A b mem sp L fl gl s ou inp pc n st) (hb : bOK b) (hmm : memOK mem) (hm : isM m) (ha : a < 65536) (hT : bTouch b (al8 a m / 64) false f b') :
    ∃ A', X12_fetch (lN a) (nI m) A = rt (numL mem (al8 a m) m) A' ∧ MMc A' b' mem sp L fl gl s ou inp pc n st ∧ Sm mPl A A' := by
  obtain ⟨q1, q2, q3⟩ := al8_lt hm ha
  obtain ⟨A', e1, e2, e3⟩ := mm_touch h hb q1 hT
  refine ⟨A', ?_, e2, e3⟩
  unfold X12_fetch
  rw [m_addr hm ha, bd_rt, vl_e, show (0 : Int32) = b1 false from rfl, e1, bd_rt, m_number e2.2.1 hmm q2 (by rcases hm with rfl | rfl | rfl <;> omega), bd_rt]
theorem mm_store {A : Sx} {b b' : Pb} {mem : Nat → Nat} {sp L a m f : Nat} {fl gl s : Nat → Int64} {ou inp : List Int32} {pc : Int64} {n st : Int32} (v : Int64) (h : MMc A b mem sp L fl gl s ou inp pc n st) (hb : bOK b) (hm : isM m) (ha : a < 65536) (hT : bTouch b (al8 a m / 64) true f b') :
    ∃ A', X12_store (lN a) (nI m) v A = rt () A' ∧ MMc A' b' (putB mem (al8 a m) m v) sp L fl gl s ou inp pc n st ∧ Sm mSt A A' := by
  obtain ⟨q1, q2, q3⟩ := al8_lt hm ha
  obtain ⟨A1, e1, e2, e3⟩ := mm_touch h hb q1 hT
  obtain ⟨A', f1, f2, f3⟩ := mm_lay v e2 q2 (by rcases hm with rfl | rfl | rfl <;> omega)
  refine ⟨A', ?_, f2, (e3.mono (by unfold mPl mSt; intro c k; omega)).trans (f3.mono (by unfold mSt; intro c k; omega))⟩
  unfold X12_store
  rw [m_addr hm ha, bd_rt, vl_e, show (1 : Int32) = b1 true from rfl, e1, bd_rt, f1, bd_rt]
theorem m_fetch0 {B : Sx} {m : Int32} {x : Int64} (hr : roomM B) (h : isA x = false) : X12_fetch x m B = th (gn B) (mE B 4) := by
  unfold X12_fetch
  rw [m_addr0 hr h, bd_th]
theorem m_store0 {B : Sx} {m : Int32} {x v : Int64} (hr : roomM B) (h : isA x = false) : X12_store x m v B = th (gn B) (mE B 4) := by
  unfold X12_store
  rw [m_addr0 hr h, bd_th]
/-! ===== the relation of both ===== -/
def RMp (A B : Sx) (pc : Int64) (n st : Int32) : Prop := ∃ b mem sp L fl gl fs s ou inp, XMc A b mem sp L fl gl s ou inp pc n st ∧ MMc B b mem sp L fl gl s ou inp pc n st ∧ mcOK b mem sp L fl fs ou inp
/-- both go on -/
def OkR (A B A' B' : Sx) (pc : Int64) (n st : Int32) : Prop := RMp A' B' pc n st ∧ Sm xSt A A' ∧ Sm mSt B B'
/-! ===== loads and stores ===== -/
def acM (op : Nat) : Nat := if op / 2 * 2 = 40 ∨ op / 2 * 2 = 46 then 4 else if op / 2 * 2 = 42 ∨ op / 2 * 2 = 48 then 8 else 1
theorem acM_M (op : Nat) : isM (acM op) := by
  unfold acM isM
  split
  · omega
  · split <;> omega
def vB (a : Int32) : Int32 := if (a &&& (-2)) = 40 then 4 else if (a &&& (-2)) = 42 then 8 else if (a &&& (-2)) = 46 then 4 else if (a &&& (-2)) = 48 then 8 else 1
theorem vB_e : ∀ op, op < 256 → vB (nI op) = nI (acM op) := by decide +kernel
theorem x_bytes {op : Nat} (h : op < 256) (S : Sx) : X5_bytesOf (nI op) S = rt (nI (acM op)) S := by
  rw [← vB_e op h]
  unfold X5_bytesOf vB
  split; rfl; split; rfl; split; rfl; split <;> rfl
/-- what a load makes of the bytes -/
def ldV (k : Nat) (v : Int64) : Int64 := if k = 36 then v.toInt32.toInt8.toInt32.toInt64 else if k = 40 then v.toInt32.toInt64 else v
theorem rset_OK {b : Pb} {mem : Nat → Nat} {sp L x : Nat} {fl : Nat → Int64} {fs : List Nat} {ou inp : List Int32} (v : Int64) (h : mcOK b mem sp L fl fs ou inp) (hs : sp + rL L x ≤ 600) : mcOK b mem sp (rL L x) (rFl sp L fl x v) fs ou inp := by
  obtain ⟨h1, h2, h3, h4, h5, h6⟩ := h
  refine ⟨h1, h2, ?_, hs, h5.congr (fun i hi => ?_), h6⟩
  · unfold rL
    split
    · split <;> omega
    · omega
  · unfold rFl
    split
    · show (if i = sp + x then v else if sp + L ≤ i ∧ i < sp + x then 0 else fl i) = fl i
      rw [if_neg (by omega), if_neg (by omega)]
    · rfl
theorem acc_load {A B : Sx} {b : Pb} {mem : Nat → Nat} {sp L op x : Nat} {fl gl s : Nat → Int64} {fs : List Nat} {ou inp : List Int32} {pc nx : Int64} {n st : Int32} (addr : Int64) (hX : XMc A b mem sp L fl gl s ou inp pc n st) (hM : MMc B b mem sp L fl gl s ou inp pc n st) (hO : mcOK b mem sp L fl fs ou inp) (hr : roomM B) (h30 : gI B 167 30 = nI x) (hx : x < 32) (hop : 36 ≤ op ∧ op < 44) (hs : sp + rL L x ≤ 600) :
    (∃ A' B', X5_access (nI op) (nI x) addr A = rt () A' ∧ X12_moved (nI (op / 2 * 2)) addr nx B = rt nx B' ∧ OkR A B A' B' pc n st) ∨ (X5_access (nI op) (nI x) addr A = th 1 (xF A 4 0) ∧ X12_moved (nI (op / 2 * 2)) addr nx B = th (gn B) (mE B 4)) := by
  have hMv : ∀ (r : Rs Int64) , X12_fetch addr (nI (acM op)) B = r → X12_moved (nI (op / 2 * 2)) addr nx B = bd r (fun v S1 => bd (X12_set (nI x) (ldV (op / 2 * 2) v) S1) (fun _ S2 => rt nx S2)) := by
    intro r hrr
    rw [← hrr]
    unfold X12_moved acM ldV
    rw [h30]
    have hk : op / 2 * 2 = 36 ∨ op / 2 * 2 = 38 ∨ op / 2 * 2 = 40 ∨ op / 2 * 2 = 42 := by omega
    rcases hk with hk | hk | hk | hk <;> rw [hk]
    · rw [if_pos (by decide)]; rfl
    · rw [if_neg (by decide), if_pos (by decide)]; rfl
    · rw [if_neg (by decide), if_neg (by decide), if_pos (by decide)]; rfl
    · rw [if_neg (by decide), if_neg (by decide), if_neg (by decide), if_pos (by decide)]; rfl
  have hX1 : X5_access (nI op) (nI x) addr A = bd (X5_want (b1 (isA addr)) 4 A) (fun _ S2 => bd (X2_get (addr.toInt32 &&& (-nI (acM op))) (nI (acM op)) S2) (fun v6 S5 => bd (X6_set (nI x) (ldV (op / 2 * 2) v6) S5) (fun _ S1 => rt () S1))) := by
    unfold X5_access
    rw [x_isA, bd_rt, x_wantb hX.1]
    by_cases q : isA addr = true
    · rw [if_pos q, bd_rt, bd_rt, x_bytes (by omega), bd_rt, vl_e, vl_e, x_S (by omega), bd_rt, show opS op = false from decide_eq_false (by omega), if_pos (by rfl), op_even op (by omega)]
      congr 1
      funext v6 S5
      rw [vl_e, vl_e]
      unfold ldV X5_access_105
      have hk : op / 2 * 2 = 36 ∨ op / 2 * 2 = 38 ∨ op / 2 * 2 = 40 ∨ op / 2 * 2 = 42 := by omega
      rcases hk with hk | hk | hk | hk <;> rw [hk]
      · rw [if_pos (by decide)]; rfl
      · rw [if_neg (by decide), if_neg (by decide)]; rfl
      · rw [if_neg (by decide), if_pos (by decide)]; rfl
      · rw [if_neg (by decide), if_neg (by decide)]; rfl
    · rw [if_neg q, bd_th, bd_th]
  by_cases q : isA addr = true
  · left
    obtain ⟨a, ha, rfl⟩ := isA_of q
    obtain ⟨q1, q2, q3⟩ := al8_lt (acM_M op) ha
    obtain ⟨f, b', hT⟩ := bTouch_ex b (al8 a (acM op) / 64) false hO.1
    have hb' := (bTouch_OK hO.1 (by omega) hT).1
    obtain ⟨A1, e1, e2, e3⟩ := xm_get hX hO.1 hO.2.1 q1 hT q3
    obtain ⟨B1, f1, f2, f3⟩ := mm_fetch hM hO.1 hO.2.1 (acM_M op) ha hT
    obtain ⟨A2, g1, g2, g3⟩ := xm_rset (ldV (op / 2 * 2) (numL mem (al8 a (acM op)) (acM op))) e2 hb' hx hO.2.2.1 hs
    obtain ⟨B2, k1, k2, k3⟩ := mm_rset (ldV (op / 2 * 2) (numL mem (al8 a (acM op)) (acM op))) f2 hx hO.2.2.1
    refine ⟨A2, B2, ?_, ?_, ⟨b', mem, sp, rL L x, _, _, fs, s, ou, inp, g2, k2, rset_OK _ ⟨hb', hO.2⟩ hs⟩, e3.trans g3, (f3.mono (by unfold mPl mSt; intro c k; omega)).trans (k3.mono (by unfold mRl mSt; intro c k; omega))⟩
    · rw [hX1, q, show b1 true = 1 from rfl, x_want1, bd_rt, lN_i, x_align ha (acM_M op), e1, bd_rt, g1, bd_rt]
    · rw [hMv _ f1, bd_rt, k1, bd_rt]
  · right
    have q := Bool.eq_false_iff.mpr q
    refine ⟨?_, ?_⟩
    · rw [hX1, q, show b1 false = 0 from rfl, x_want0 hX.1, bd_th]
    · rw [hMv _ (m_fetch0 hr q), bd_th]
theorem putB_mc {b : Pb} {mem : Nat → Nat} {sp L a m : Nat} {fl : Nat → Int64} {fs : List Nat} {ou inp : List Int32} {b' : Pb} (v : Int64) (h : mcOK b mem sp L fl fs ou inp) (hb : bOK b') : mcOK b' (putB mem a m v) sp L fl fs ou inp := ⟨hb, putB_OK h.2.1 a m v, h.2.2⟩
theorem acc_store {A B : Sx} {b : Pb} {mem : Nat → Nat} {sp L op x : Nat} {fl gl s : Nat → Int64} {fs : List Nat} {ou inp : List Int32} {pc nx : Int64} {n st : Int32} (addr : Int64) (hX : XMc A b mem sp L fl gl s ou inp pc n st) (hM : MMc B b mem sp L fl gl s ou inp pc n st) (hO : mcOK b mem sp L fl fs ou inp) (hr : roomM B) (h30 : gI B 167 30 = nI x) (hx : x < 32) (hop : 44 ≤ op ∧ op < 50) :
    (∃ A' B', X5_access (nI op) (nI x) addr A = rt () A' ∧ X12_moved (nI (op / 2 * 2)) addr nx B = rt nx B' ∧ OkR A B A' B' pc n st) ∨ (X5_access (nI op) (nI x) addr A = th 1 (xF A 4 0) ∧ X12_moved (nI (op / 2 * 2)) addr nx B = th (gn B) (mE B 4)) := by
  have hgM := m_rget hM.2.2.1 hx hO.2.2.1
  have hMv : X12_moved (nI (op / 2 * 2)) addr nx B = bd (X12_store addr (nI (acM op)) (rGet sp L fl gl x) B) (fun _ S2 => rt nx S2) := by
    unfold X12_moved acM
    rw [h30, hgM]
    have hk : op / 2 * 2 = 44 ∨ op / 2 * 2 = 46 ∨ op / 2 * 2 = 48 := by omega
    rcases hk with hk | hk | hk <;> rw [hk]
    · rw [if_neg (by decide), if_neg (by decide), if_neg (by decide), if_neg (by decide), if_pos (by decide), bd_rt]; rfl
    · rw [if_neg (by decide), if_neg (by decide), if_neg (by decide), if_neg (by decide), if_neg (by decide), if_pos (by decide), bd_rt]; rfl
    · rw [if_neg (by decide), if_neg (by decide), if_neg (by decide), if_neg (by decide), if_neg (by decide), if_neg (by decide), if_pos (by decide), bd_rt]; rfl
  have hX1 : X5_access (nI op) (nI x) addr A = bd (X5_want (b1 (isA addr)) 4 A) (fun _ S2 => bd (X2_set (addr.toInt32 &&& (-nI (acM op))) (nI (acM op)) (rGet sp L fl gl x) A) (fun _ S6 => rt () S6)) := by
    unfold X5_access
    rw [x_isA, bd_rt, x_wantb hX.1]
    by_cases q : isA addr = true
    · rw [if_pos q, bd_rt, bd_rt, x_bytes (by omega), bd_rt, vl_e, vl_e, x_S (by omega), bd_rt, show opS op = true from decide_eq_true (by omega), if_neg (by decide), x_rget hX.2.2.1 hx hO.2.2.1 hO.2.2.2.1, bd_rt]
    · rw [if_neg q, bd_th, bd_th]
  by_cases q : isA addr = true
  · left
    obtain ⟨a, ha, rfl⟩ := isA_of q
    obtain ⟨q1, q2, q3⟩ := al8_lt (acM_M op) ha
    obtain ⟨f, b', hT⟩ := bTouch_ex b (al8 a (acM op) / 64) true hO.1
    have hb' := (bTouch_OK hO.1 (by omega) hT).1
    obtain ⟨A1, e1, e2, e3⟩ := xm_set (rGet sp L fl gl x) hX hO.1 q1 hT q3
    obtain ⟨B1, f1, f2, f3⟩ := mm_store (rGet sp L fl gl x) hM hO.1 (acM_M op) ha hT
    refine ⟨A1, B1, ?_, ?_, ⟨b', _, sp, L, _, _, fs, s, ou, inp, e2, f2, putB_mc _ hO hb'⟩, e3, f3⟩
    · rw [hX1, q, show b1 true = 1 from rfl, x_want1, bd_rt, lN_i, x_align ha (acM_M op), e1, bd_rt]
    · rw [hMv, f1, bd_rt]
  · right
    have q := Bool.eq_false_iff.mpr q
    refine ⟨?_, ?_⟩
    · rw [hX1, q, show b1 false = 0 from rfl, x_want0 hX.1, bd_th]
    · rw [hMv, m_store0 hr q, bd_th]
end
section
set_option maxRecDepth 100000
/-! ===== traps ===== -/
theorem roomM.sm {P : Nat → Nat → Prop} {S S' : Sx} (h : roomM S) (hs : Sm P S S') : roomM S' := by
  unfold roomM
  rw [hs.1, hs.2.1]
  exact h
theorem xm_out {A : Sx} {b : Pb} {mem : Nat → Nat} {sp L : Nat} {fl gl s : Nat → Int64} {ou inp : List Int32} {pc : Int64} {n st : Int32} (v : Int32) (h : XMc A b mem sp L fl gl s ou inp pc n st) (hb : bOK b) : XMc (pI (pI A 145 ou.length v) 138 9 (nI (ou.length + 1))) b mem sp L fl gl s (ou ++ [v]) inp pc n st ∧ Sm xSt A (pI (pI A 145 ou.length v) 138 9 (nI (ou.length + 1))) := by
  obtain ⟨h1, h2, h3, h4, h5, h6, h7, h8, h9⟩ := h
  have e3 : Sm (fun c k => c = 145 ∨ (c = 138 ∧ k = 9)) A (pI (pI A 145 ou.length v) 138 9 (nI (ou.length + 1))) := Sm.trans (Sm.pI (by omega)) (Sm.pI (by omega))
  refine ⟨⟨by rw [e3.K]; exact h1, h2.sm hb e3 (by intro c k; omega), h3.sm e3 (by intro c k; omega), h4.sm e3 (by intro c k; omega), ⟨?_, fun i hi => ?_⟩, h6.sm e3 (by intro c k; omega), by rw [e3.L (by omega)]; exact h7, by rw [e3.I (by omega)]; exact h8, by rw [e3.I (by omega)]; exact h9⟩, e3.mono (by unfold xSt; intro c k; omega)⟩
  · rw [gI_pI, if_pos ⟨rfl, rfl⟩, List.length_append]; rfl
  · rw [List.length_append] at hi
    have hi : i < ou.length + 1 := hi
    rw [gI_pI, if_neg (by omega), gI_pI, getD_appP]
    by_cases q : i = ou.length
    · rw [if_pos ⟨rfl, q⟩, if_neg (by omega), if_pos q]
    · rw [if_neg (by omega), if_pos (by omega)]; exact h5.2 i (by omega)
theorem mm_out {A : Sx} {b : Pb} {mem : Nat → Nat} {sp L : Nat} {fl gl s : Nat → Int64} {ou inp : List Int32} {pc : Int64} {n st : Int32} (v : Int32) (h : MMc A b mem sp L fl gl s ou inp pc n st) : MMc (pI (pI A 174 ou.length v) 167 16 (nI (ou.length + 1))) b mem sp L fl gl s (ou ++ [v]) inp pc n st ∧ Sm (fun c k => c = 174 ∨ (c = 167 ∧ k = 16)) A (pI (pI A 174 ou.length v) 167 16 (nI (ou.length + 1))) := by
  obtain ⟨h2, h1, h3, h4, h5, h6, h7, h8, h9⟩ := h
  have e4 : Sm (fun c k => c = 174 ∨ (c = 167 ∧ k = 16)) A (pI (pI A 174 ou.length v) 167 16 (nI (ou.length + 1))) := Sm.trans (Sm.pI (by omega)) (Sm.pI (by omega))
  refine ⟨⟨MP_back h2 e4 (by intro c k; omega), h1.sm e4 (by intro c k; omega), h3.sm e4 (by intro c k; omega), h4.sm e4 (by intro c k; omega), ⟨?_, fun i hi => ?_⟩, h6.sm e4 (by intro c k; omega), by rw [e4.L (by omega)]; exact h7, by rw [e4.I (by omega)]; exact h8, by rw [e4.I (by omega)]; exact h9⟩, e4⟩
  · rw [gI_pI, if_pos ⟨rfl, rfl⟩, List.length_append]; rfl
  · rw [List.length_append] at hi
    have hi : i < ou.length + 1 := hi
    rw [gI_pI, if_neg (by omega), gI_pI, getD_appP]
    by_cases q : i = ou.length
    · rw [if_pos ⟨rfl, q⟩, if_neg (by omega), if_pos q]
    · rw [if_neg (by omega), if_pos (by omega)]; exact h5.2 i (by omega)
theorem al8_1 (a : Nat) : al8 a 1 = a := by unfold al8; omega
theorem numL_1 {mem : Nat → Nat} (hm : memOK mem) (a : Nat) : numL mem a 1 = lN (mem a) := by
  rw [numL_N hm a 1 (by omega)]
  show lN (0 * 256 + mem (a + 0)) = _
  rw [Nat.zero_mul, Nat.zero_add, Nat.add_zero]
/-- both return, or both fault alike -/
def Tr (A B : Sx) (pc : Int64) (n st : Int32) (r r' : Rs Unit) : Prop := (∃ A' B', r = rt () A' ∧ r' = rt () B' ∧ OkR A B A' B' pc n st) ∨ ∃ A' B' c, r = th 1 (xF A' c 0) ∧ r' = th (gn B') (mE B' c) ∧ ¬ c = 0 ∧ OkR A B A' B' pc n st
theorem Tr.pre {A B A1 B1 : Sx} {pc : Int64} {n st : Int32} {r r' : Rs Unit} (h : Tr A1 B1 pc n st r r') (h1 : Sm xSt A A1) (h2 : Sm mSt B B1) : Tr A B pc n st r r' := by
  rcases h with ⟨A', B', a, b, c, d, e⟩ | ⟨A', B', k, a, b, z, c, d, e⟩
  · exact Or.inl ⟨A', B', a, b, c, h1.trans d, h2.trans e⟩
  · exact Or.inr ⟨A', B', k, a, b, z, c, h1.trans d, h2.trans e⟩
theorem x_put_end (n : Nat) (x : Int64) (A : Sx) : X5_putString_12 (n + 1) x (nI 0) A = rt () A := by
  show X5_putString_12b (X5_putString_12 n) x (nI 0) A = _
  unfold X5_putString_12b
  rw [if_pos nI_0]
theorem put_loop {sp L : Nat} {fl gl s : Nat → Int64} {fs : List Nat} {inp : List Int32} {pc : Int64} {n st : Int32} {x1 : Int64} : ∀ (d nX nM : Nat) (A B : Sx) (b : Pb) (mem : Nat → Nat) (ou : List Int32) (x : Int64) (c : Nat), ou.length + d = 1000 → d + 2 < nX → d + 2 < nM → 0 < c → c < 256 → XMc A b mem sp L fl gl s ou inp pc n st → MMc B b mem sp L fl gl s ou inp pc n st → mcOK b mem sp L fl fs ou inp → roomM B → gI B 167 32 = nI 1 → Tr A B pc n st (X5_putString_12 nX x (nI c) A) (X12_trap_36 nM x1 x B) := by
  intro d
  induction d with
  | zero =>
    intro nX nM A B b mem ou x c hd h1 h2 hc hc2 hX hM hO hr h32
    obtain ⟨nX, rfl⟩ : ∃ j, nX = j + 2 := ⟨nX - 2, by omega⟩
    obtain ⟨nM, rfl⟩ : ∃ j, nM = j + 1 := ⟨nM - 1, by omega⟩
    show Tr A B pc n st (X5_putString_12b (X5_putString_12 (nX + 1)) x (nI c) A) (X12_trap_36b (X12_trap_36 nM) x1 x B)
    unfold X5_putString_12b X12_trap_36b
    rw [if_neg (nI_ne0 hc (by omega)), x_isA, bd_rt]
    by_cases q : isA x = true
    · obtain ⟨a, ha, rfl⟩ := isA_of q
      obtain ⟨f, b', hT⟩ := bTouch_ex b (a / 64) false hO.1
      have hb' := (bTouch_OK hO.1 (by omega) hT).1
      obtain ⟨A1, e1, e2, e3⟩ := xm_get (m := 1) hX hO.1 hO.2.1 ha hT (by omega)
      obtain ⟨B1, f1, f2, f3⟩ := mm_fetch (m := 1) hM hO.1 hO.2.1 (Or.inl rfl) ha (by rw [al8_1]; exact hT)
      have f3' : Sm mSt B B1 := f3.mono (by unfold mPl mSt; intro c k; omega)
      rw [al8_1, numL_1 hO.2.1] at f1
      rw [numL_1 hO.2.1] at e1
      replace e1 : X2_get (nI a) 1 A = rt (lN (mem a)) A1 := e1
      replace f1 : X12_fetch (lN a) 1 B = rt (lN (mem a)) B1 := f1
      have hby := hO.2.1 a
      rw [q, show b1 true = 1 from rfl, x_want1, bd_rt, lN_i, e1, bd_rt, vl_e, lN_i, f1, bd_rt]
      by_cases hz : mem a = 0
      · rw [hz, if_pos nI_0, if_pos (by rfl)]
        unfold X5_putString_82 X12_trap_100
        rw [vl_e, x_put_end, f3.I (by unfold mPl; omega), h32, if_neg (by decide)]
        exact Or.inl ⟨A1, B1, rfl, rfl, ⟨b', mem, sp, L, fl, gl, fs, s, ou, inp, e2, f2, hb', hO.2⟩, e3, f3'⟩
      · rw [if_neg (nI_ne0 (by omega) (by omega)), if_neg (show ¬ lN (mem a) = 0 from fun e => hz ((lN_eq (a := mem a) (b := 0) (by omega) (by omega)).mp e)), e2.2.2.2.2.1.1, f2.2.2.2.2.1.1, if_pos (lit_le (N := 1000) (by omega) (by omega)), if_pos (show nI ou.length = 1000 from by rw [show ou.length = 1000 by omega]; rfl), m_end (hr.sm f3)]
        unfold X5_putString_57
        rw [x_want0 e2.1, bd_th]
        exact Or.inr ⟨A1, B1, 7, rfl, rfl, by decide, ⟨b', mem, sp, L, fl, gl, fs, s, ou, inp, e2, f2, hb', hO.2⟩, e3, f3'⟩
    · have q := Bool.eq_false_iff.mpr q
      rw [q, show b1 false = 0 from rfl, x_want0 hX.1, bd_th, m_fetch0 hr q, bd_th]
      exact Or.inr ⟨A, B, 4, rfl, rfl, by decide, ⟨b, mem, sp, L, fl, gl, fs, s, ou, inp, hX, hM, hO⟩, Sm.rfl' A, Sm.rfl' B⟩
  | succ d ih =>
    intro nX nM A B b mem ou x c hd h1 h2 hc hc2 hX hM hO hr h32
    obtain ⟨nX, rfl⟩ : ∃ j, nX = j + 2 := ⟨nX - 2, by omega⟩
    obtain ⟨nM, rfl⟩ : ∃ j, nM = j + 1 := ⟨nM - 1, by omega⟩
    show Tr A B pc n st (X5_putString_12b (X5_putString_12 (nX + 1)) x (nI c) A) (X12_trap_36b (X12_trap_36 nM) x1 x B)
    unfold X5_putString_12b X12_trap_36b
    rw [if_neg (nI_ne0 hc (by omega)), x_isA, bd_rt]
    by_cases q : isA x = true
    · obtain ⟨a, ha, rfl⟩ := isA_of q
      obtain ⟨f, b', hT⟩ := bTouch_ex b (a / 64) false hO.1
      have hb' := (bTouch_OK hO.1 (by omega) hT).1
      obtain ⟨A1, e1, e2, e3⟩ := xm_get (m := 1) hX hO.1 hO.2.1 ha hT (by omega)
      obtain ⟨B1, f1, f2, f3⟩ := mm_fetch (m := 1) hM hO.1 hO.2.1 (Or.inl rfl) ha (by rw [al8_1]; exact hT)
      have f3' : Sm mSt B B1 := f3.mono (by unfold mPl mSt; intro c k; omega)
      rw [al8_1, numL_1 hO.2.1] at f1
      rw [numL_1 hO.2.1] at e1
      replace e1 : X2_get (nI a) 1 A = rt (lN (mem a)) A1 := e1
      replace f1 : X12_fetch (lN a) 1 B = rt (lN (mem a)) B1 := f1
      have hby := hO.2.1 a
      rw [q, show b1 true = 1 from rfl, x_want1, bd_rt, lN_i, e1, bd_rt, vl_e, lN_i, f1, bd_rt]
      by_cases hz : mem a = 0
      · rw [hz, if_pos nI_0, if_pos (by rfl)]
        unfold X5_putString_82 X12_trap_100
        rw [vl_e, x_put_end, f3.I (by unfold mPl; omega), h32, if_neg (by decide)]
        exact Or.inl ⟨A1, B1, rfl, rfl, ⟨b', mem, sp, L, fl, gl, fs, s, ou, inp, e2, f2, hb', hO.2⟩, e3, f3'⟩
      · rw [if_neg (nI_ne0 (by omega) (by omega)), if_neg (show ¬ lN (mem a) = 0 from fun e => hz ((lN_eq (a := mem a) (b := 0) (by omega) (by omega)).mp e)), e2.2.2.2.2.1.1, f2.2.2.2.2.1.1, if_neg (lit_ge (N := 1000) (by omega) (by omega)), if_neg (show ¬ nI ou.length = 1000 from fun e => by have := (nI_eq (a := ou.length) (b := 1000) (by omega) (by omega)).mp e; omega)]
        unfold X5_putString_57 X5_putString_82
        obtain ⟨g1, g2⟩ := xm_out (nI (mem a)) e2 hb'
        obtain ⟨k1, k2⟩ := mm_out (nI (mem a)) f2
        rw [x_want1, bd_rt, e2.2.2.2.2.1.1, sI_n (by omega) (by omega), pt_e, gI_pI, if_neg (by omega), e2.2.2.2.2.1.1, nI_1, vl_e, lN_1, lI_n ha (by omega), f2.2.1 a ha, sI_n (by omega) (by omega), pt_e, gI_pI, if_neg (by omega), f2.2.2.2.2.1.1, nI_1, vl_e]
        have ih := ih (nX + 1) nM _ _ b' mem (ou ++ [nI (mem a)]) (lN (a + 1)) (mem a) (by rw [List.length_append]; show ou.length + 1 + d = 1000; omega) (by omega) (by omega) (by omega) hby g1 k1 ⟨hb', hO.2.1, hO.2.2.1, hO.2.2.2.1, hO.2.2.2.2.1, by rw [List.length_append]; show ou.length + 1 ≤ 1000; omega, hO.2.2.2.2.2.2⟩ ((hr.sm f3).sm k2) (by rw [k2.I (by omega), f3.I (by unfold mPl; omega)]; exact h32)
        exact Tr.pre ih (e3.trans g2) (f3'.trans (k2.mono (by unfold mSt; intro c k; omega)))
    · have q := Bool.eq_false_iff.mpr q
      rw [q, show b1 false = 0 from rfl, x_want0 hX.1, bd_th, m_fetch0 hr q, bd_th]
      exact Or.inr ⟨A, B, 4, rfl, rfl, by decide, ⟨b, mem, sp, L, fl, gl, fs, s, ou, inp, hX, hM, hO⟩, Sm.rfl' A, Sm.rfl' B⟩
/-! ===== takeLine ===== -/
theorem x_left {A : Sx} {inp : List Int32} (h : XN A inp) : X5_left A = rt (nI inp.length) A := by
  obtain ⟨r, tot, tk, a1, a2, a3, a4, a5, a6, a7, a8, a9⟩ := h
  unfold X5_left
  rw [a4, a5, pk_sub (by omega), show tot - tk = inp.length by omega]
theorem xm_take {A : Sx} {b : Pb} {mem : Nat → Nat} {sp L : Nat} {fl gl s : Nat → Int64} {ou inp : List Int32} {pc : Int64} {n st v : Int32} (h : XMc A b mem sp L fl gl s ou (v :: inp) pc n st) (hb : bOK b) : X8_at 146 (gI A 138 11) A = rt v A ∧ XMc (pI A 138 11 (gI A 138 11 + 1)) b mem sp L fl gl s ou inp pc n st ∧ Sm xSt A (pI A 138 11 (gI A 138 11 + 1)) := by
  obtain ⟨h1, h2, h3, h4, h5, ⟨r, tot, tk, a1, a2, a3, a4, a5, a6, a7, a8, a9⟩, h7, h8, h9⟩ := h
  have a6' : tot = tk + (inp.length + 1) := a6
  have e3 : Sm (fun c k => c = 138 ∧ k = 11) A (pI A 138 11 (gI A 138 11 + 1)) := Sm.pI (by omega)
  refine ⟨?_, ⟨by rw [e3.K]; exact h1, h2.sm hb e3 (by intro c k; omega), h3.sm e3 (by intro c k; omega), h4.sm e3 (by intro c k; omega), h5.sm e3 (by intro c k; omega), ⟨r, tot, tk + 1, a1, a2, a3, ?_, ?_, by omega, a7, a8, fun i hi => ?_⟩, by rw [e3.L (by omega)]; exact h7, by rw [e3.I (by omega)]; exact h8, by rw [e3.I (by omega)]; exact h9⟩, e3.mono (by unfold xSt; intro c k; omega)⟩
  · unfold X8_at
    rw [a1, dO_s a3, a5, lI_n (by omega) (by omega)]
    have := a9 0 (by show 0 < inp.length + 1; omega)
    rw [Nat.add_zero] at this
    rw [this]; rfl
  · rw [gI_pI, if_neg (by omega)]; exact a4
  · rw [gI_pI, if_pos ⟨rfl, rfl⟩, a5, nI_1]
  · rw [gI_pI, if_neg (by omega)]
    have := a9 (i + 1) (by show i + 1 < inp.length + 1; omega)
    rw [show tk + 1 + i = tk + (i + 1) by omega, this]
    rfl
theorem mm_take {A : Sx} {b : Pb} {mem : Nat → Nat} {sp L c : Nat} {fl gl s : Nat → Int64} {ou inp : List Int32} {pc : Int64} {n st v : Int32} {x1 : Int64} {k144 : Int64 → Int32 → Int32 → Sx → Rs Unit} (h : MMc A b mem sp L fl gl s ou (v :: inp) pc n st) (hl : inp.length + 1 ≤ 4000) :
    gI A 170 0 = v ∧ ∃ A', X12_trap_204 k144 FU x1 (nI c) v 0 (pI A 167 4 (gI A 167 4 - 1)) = (if v = 10 then k144 x1 (nI (c + 1)) 0 A' else k144 x1 (nI (c + 1)) 1 A') ∧ MMc A' b mem sp L fl gl s ou inp pc n st ∧ Sm (fun c k => c = 170 ∨ (c = 167 ∧ k = 4)) A A' := by
  obtain ⟨h2, h1, h3, h4, h5, ⟨h6, h6'⟩, h7, h8, h9⟩ := h
  have h6 : gI A 167 4 = nI (inp.length + 1) := h6
  have e0 : Sm (fun c k => c = 170 ∨ (c = 167 ∧ k = 4)) A (pI A 167 4 (gI A 167 4 - 1)) := Sm.pI (by omega)
  obtain ⟨kk, S1, g1, g2, g3, g4⟩ := loopN (F := fun n i S => X12_trap_204 k144 n x1 (nI c) v i S) (B := fun q i S => X12_trap_204b k144 (fun _ _ _ i S => q i S) x1 (nI c) v i S) (N := inp.length) (S := pI A 167 4 (gI A 167 4 - 1)) (Inv := fun i T => (∀ j, j < i → gI T 170 j = inp.getD j 0) ∧ (∀ j, i ≤ j → gI T 170 j = gI A 170 j) ∧ Sm (fun c k => c = 170) (pI A 167 4 (gI A 167 4 - 1)) T) (by omega) (fun _ _ _ => rfl) (fun q i T hi ⟨x1', x2, x3⟩ => by
    refine ⟨pI T 170 i (inp.getD i 0), ?_, fun j hj => ?_, fun j hj => ?_, x3.trans (Sm.pI rfl)⟩
    · show X12_trap_204b k144 (fun _ _ _ i S => q i S) x1 (nI c) v (nI i) T = _
      unfold X12_trap_204b
      have hT : gI T 167 4 = nI inp.length := by rw [x3.I (by omega), gI_pI, if_pos ⟨rfl, rfl⟩, h6, nI_pred]
      rw [hT, if_neg (nI_ge hi (by omega)), nI_1, lI_n (by omega) (by omega), x2 _ (by omega), h6' (i + 1) (by show i + 1 < inp.length + 1; omega), sI_n (by omega) (by omega), vl_e]
      rfl
    · rw [gI_pI]
      split
      · rename_i e; rw [e.2]
      · exact x1' j (by omega)
    · rw [gI_pI, if_neg (by omega)]; exact x2 j (by omega)) ⟨(fun j hj => by omega), (fun j _ => by rw [gI_pI, if_neg (by omega)]), Sm.rfl' _⟩
  have e4 : Sm (fun c k => c = 170 ∨ (c = 167 ∧ k = 4)) A S1 := e0.trans (g4.mono (by intro c k; omega))
  refine ⟨h6' 0 (by show 0 < inp.length + 1; omega), S1, ?_, ⟨MP_back h2 e4 (by intro c k; omega), h1.sm e4 (by intro c k; omega), h3.sm e4 (by intro c k; omega), h4.sm e4 (by intro c k; omega), h5.sm e4 (by intro c k; omega), ⟨?_, fun i hi => g2 i hi⟩, by rw [e4.L (by omega)]; exact h7, by rw [e4.I (by omega)]; exact h8, by rw [e4.I (by omega)]; exact h9⟩, e4⟩
  · refine g1.trans ?_
    show X12_trap_204b k144 (fun _ _ _ i S => kk i S) x1 (nI c) v (nI inp.length) S1 = _
    unfold X12_trap_204b
    have hT : gI S1 167 4 = nI inp.length := by rw [g4.I (by omega), gI_pI, if_pos ⟨rfl, rfl⟩, h6, nI_pred]
    rw [hT, if_pos (nI_le (Nat.le_refl _) (by omega)), vl_e, nI_1]
  · rw [g4.I (by omega), gI_pI, if_pos ⟨rfl, rfl⟩, h6, nI_pred]
theorem m_set31 {B : Sx} (v : Int64) : X12_set (nI 31) v B = sL B 171 32 31 v (fun S1 => rt () S1) := by
  unfold X12_set X12_set_50
  rw [if_pos (by decide)]
  rfl
theorem set31 {A B : Sx} {b : Pb} {mem : Nat → Nat} {sp L : Nat} {fl gl s : Nat → Int64} {fs : List Nat} {ou inp : List Int32} {pc : Int64} {n st : Int32} (v : Int64) (hX : XMc A b mem sp L fl gl s ou inp pc n st) (hM : MMc B b mem sp L fl gl s ou inp pc n st) (hO : mcOK b mem sp L fl fs ou inp) : ∃ A' B', X6_set 31 v A = rt () A' ∧ sL B 171 32 31 v (fun S1 => rt () S1) = rt () B' ∧ OkR A B A' B' pc n st := by
  have hL : rL L 31 = L := rfl
  obtain ⟨A', e1, e2, e3⟩ := xm_rset (x := 31) v hX hO.1 (by omega) hO.2.2.1 (by rw [hL]; exact hO.2.2.2.1)
  obtain ⟨B', f1, f2, f3⟩ := mm_rset (x := 31) v hM (by omega) hO.2.2.1
  exact ⟨A', B', e1, by rw [← m_set31]; exact f1, ⟨b, mem, sp, _, _, _, fs, s, ou, inp, e2, f2, rset_OK v hO (by rw [hL]; exact hO.2.2.2.1)⟩, e3, f3.mono (by unfold mRl mSt; intro c k; omega)⟩
/-- a byte into both memories -/
theorem st1 {A B : Sx} {b : Pb} {mem : Nat → Nat} {sp L : Nat} {fl gl s : Nat → Int64} {fs : List Nat} {ou inp : List Int32} {pc : Int64} {n st : Int32} (x v : Int64) (hX : XMc A b mem sp L fl gl s ou inp pc n st) (hM : MMc B b mem sp L fl gl s ou inp pc n st) (hO : mcOK b mem sp L fl fs ou inp) (q : isA x = true) :
    ∃ A' B' b' mem', X2_set x.toInt32 1 v A = rt () A' ∧ X12_store x 1 v B = rt () B' ∧ XMc A' b' mem' sp L fl gl s ou inp pc n st ∧ MMc B' b' mem' sp L fl gl s ou inp pc n st ∧ mcOK b' mem' sp L fl fs ou inp ∧ Sm xSt A A' ∧ Sm mSt B B' := by
  obtain ⟨a, ha, rfl⟩ := isA_of q
  obtain ⟨f, b', hT⟩ := bTouch_ex b (a / 64) true hO.1
  have hb' := (bTouch_OK hO.1 (by omega) hT).1
  obtain ⟨A1, e1, e2, e3⟩ := xm_set (m := 1) v hX hO.1 ha hT (by omega)
  obtain ⟨B1, f1, f2, f3⟩ := mm_store (m := 1) v hM hO.1 (Or.inl rfl) ha (by rw [al8_1]; exact hT)
  rw [al8_1] at f2
  exact ⟨A1, B1, b', _, by rw [lN_i]; exact e1, f1, e2, f2, putB_mc v hO hb', e3, f3⟩
theorem take_end {A B : Sx} {b : Pb} {mem : Nat → Nat} {sp L c : Nat} {fl gl s : Nat → Int64} {fs : List Nat} {ou inp : List Int32} {pc ad : Int64} {n st : Int32} (hX : XMc A b mem sp L fl gl s ou inp pc n st) (hM : MMc B b mem sp L fl gl s ou inp pc n st) (hO : mcOK b mem sp L fl fs ou inp) (hr : roomM B) (hc : c ≤ 4000) : Tr A B pc n st (X5_takeLine_147 ad (lN c) A) (X12_trap_255 ad (nI c) B) := by
  unfold X5_takeLine_147 X12_trap_255
  rw [x_isA, bd_rt, nI_l (by omega)]
  by_cases q : isA (ad + lN c) = true
  · obtain ⟨A1, B1, b', mem', e1, e2, e3, e4, e5, e6, e7⟩ := st1 (ad + lN c) 0 hX hM hO q
    obtain ⟨A2, B2, f1, f2, f3, f4, f5⟩ := set31 (lN c) e3 e4 e5
    rw [q, show b1 true = 1 from rfl, x_want1, bd_rt, e1, bd_rt, f1, bd_rt, e2, bd_rt, f2]
    exact Or.inl ⟨A2, B2, rfl, rfl, f3, e6.trans f4, e7.trans f5⟩
  · have q := Bool.eq_false_iff.mpr q
    rw [q, show b1 false = 0 from rfl, x_want0 hX.1, bd_th, m_store0 hr q, bd_th]
    exact Or.inr ⟨A, B, 4, rfl, rfl, by decide, ⟨b, mem, sp, L, fl, gl, fs, s, ou, inp, hX, hM, hO⟩, Sm.rfl' A, Sm.rfl' B⟩
theorem take_loop {sp L : Nat} {fl gl s : Nat → Int64} {fs : List Nat} {ou : List Int32} {pc ad : Int64} {n st : Int32} : ∀ (inp : List Int32) (nX nM : Nat) (A B : Sx) (b : Pb) (mem : Nat → Nat) (c : Nat) (t : Bool), inp.length < nX → inp.length < nM → c + inp.length ≤ 4000 → XMc A b mem sp L fl gl s ou inp pc n st → MMc B b mem sp L fl gl s ou inp pc n st → mcOK b mem sp L fl fs ou inp → roomM B → Tr A B pc n st (X5_takeLine_52 nX ad (gl 30) (lN c) (b1 t) A) (X12_trap_144 nM ad (nI c) (b1 t) B) := by
  intro inp
  induction inp with
  | nil =>
    intro nX nM A B b mem c t h1 h2 hc hX hM hO hr
    obtain ⟨nX, rfl⟩ : ∃ j, nX = j + 1 := ⟨nX - 1, by have : 0 < nX := h1; omega⟩
    obtain ⟨nM, rfl⟩ : ∃ j, nM = j + 1 := ⟨nM - 1, by have : 0 < nM := h2; omega⟩
    have hc : c + 0 ≤ 4000 := hc
    have hend := take_end (c := c) (ad := ad) hX hM hO hr (by omega)
    show Tr A B pc n st (X5_takeLine_52b (X5_takeLine_52 nX) ad (gl 30) (lN c) (b1 t) A) (X12_trap_144b (X12_trap_144 nM) ad (nI c) (b1 t) B)
    unfold X5_takeLine_52b X12_trap_144b
    rw [x_left hX.2.2.2.2.2.1, bd_rt, hM.2.2.2.2.2.1.1, if_pos (show nI ([] : List Int32).length ≤ 0 by decide), if_pos (show nI ([] : List Int32).length ≤ 0 by decide)]
    have e1 : (if b1 t = 0 then X5_takeLine_147 ad (lN c) A else if gl 30 - 1 ≤ lN c then X5_takeLine_147 ad (lN c) A else X5_takeLine_147 ad (lN c) A) = X5_takeLine_147 ad (lN c) A := by split; rfl; split <;> rfl
    have e2 : (if b1 t = 0 then X12_trap_255 ad (nI c) B else X12_trap_255 ad (nI c) B) = X12_trap_255 ad (nI c) B := by split <;> rfl
    rw [e1, e2]
    exact hend
  | cons v inp ih =>
    intro nX nM A B b mem c t h1 h2 hc hX hM hO hr
    obtain ⟨nX, rfl⟩ : ∃ j, nX = j + 1 := ⟨nX - 1, by have : inp.length + 1 < nX := h1; omega⟩
    obtain ⟨nM, rfl⟩ : ∃ j, nM = j + 1 := ⟨nM - 1, by have : inp.length + 1 < nM := h2; omega⟩
    have hc : c + (inp.length + 1) ≤ 4000 := hc
    have h1 : inp.length + 1 < nX + 1 := h1
    have h2 : inp.length + 1 < nM + 1 := h2
    have hend := take_end (c := c) (ad := ad) hX hM hO hr (by omega)
    show Tr A B pc n st (X5_takeLine_52b (X5_takeLine_52 nX) ad (gl 30) (lN c) (b1 t) A) (X12_trap_144b (X12_trap_144 nM) ad (nI c) (b1 t) B)
    unfold X5_takeLine_52b X12_trap_144b
    have hlen : nI (v :: inp).length = nI (inp.length + 1) := rfl
    rw [x_left hX.2.2.2.2.2.1, bd_rt, hM.2.2.2.2.2.1.1, hlen, if_neg (nI_nle (by omega) (by omega)), if_neg (nI_nle (by omega) (by omega)), show (30 : Int32) = nI 30 from rfl, lL_n (by omega) (by omega), hM.2.2.1.2.2.2.2 30 (by omega) (by omega), nI_l (by omega)]
    cases t with
    | false =>
      rw [if_pos (show b1 false = 0 by rfl), if_pos (show b1 false = 0 by rfl)]
      exact hend
    | true =>
      rw [if_neg (show ¬ b1 true = 0 by decide), if_neg (show ¬ b1 true = 0 by decide)]
      by_cases hlim : gl 30 - 1 ≤ lN c
      · rw [if_pos hlim, if_pos hlim]
        exact hend
      · rw [if_neg hlim, if_neg hlim, ← nI_0, lI_n (by omega) (by omega), vl_e, x_isA, bd_rt]
        obtain ⟨m1, -⟩ := mm_take (c := c) (x1 := ad) (k144 := X12_trap_144 nM) hM (by omega)
        rw [m1]
        by_cases q : isA (ad + lN c) = true
        · obtain ⟨t1, t2, t3⟩ := xm_take hX hO.1
          have hO' : mcOK b mem sp L fl fs ou inp := ⟨hO.1, hO.2.1, hO.2.2.1, hO.2.2.2.1, hO.2.2.2.2.1, hO.2.2.2.2.2.1, by omega⟩
          obtain ⟨a, ha, hae⟩ := isA_of q
          obtain ⟨f, b', hT⟩ := bTouch_ex b (a / 64) true hO.1
          have hb' := (bTouch_OK hO.1 (by omega) hT).1
          obtain ⟨A1, e1, e2, e3⟩ := xm_set (m := 1) v.toInt64 t2 hO.1 ha hT (by omega)
          obtain ⟨B1, f1, f2, f3⟩ := mm_store (m := 1) v.toInt64 hM hO.1 (Or.inl rfl) ha (by rw [al8_1]; exact hT)
          rw [al8_1] at f2
          obtain ⟨-, B2, g1, g2, g3⟩ := mm_take (c := c) (x1 := ad) (k144 := X12_trap_144 nM) f2 (by omega)
          replace e1 : X2_set (nI a) 1 v.toInt64 (pI A 138 11 (gI A 138 11 + 1)) = rt () A1 := e1
          replace f1 : X12_store (lN a) 1 v.toInt64 B = rt () B1 := f1
          rw [q, show b1 true = 1 from rfl, x_want1, bd_rt, t1, bd_rt, vl_e, pt_e, hae, lN_i, e1, bd_rt, vl_e, lN_1, f1, bd_rt, pt_e, nI_0, g1]
          have hr2 : roomM B2 := (hr.sm f3).sm g3
          have hs2 : Sm mSt B B2 := f3.trans (g3.mono (by unfold mSt; intro c k; omega))
          by_cases hv : v = 10
          · rw [if_pos hv, if_pos hv]
            exact Tr.pre (ih nX nM A1 B2 b' _ (c + 1) false (by omega) (by omega) (by omega) e2 g2 (putB_mc _ hO' hb') hr2) (t3.trans e3) hs2
          · rw [if_neg hv, if_neg hv]
            exact Tr.pre (ih nX nM A1 B2 b' _ (c + 1) true (by omega) (by omega) (by omega) e2 g2 (putB_mc _ hO' hb') hr2) (t3.trans e3) hs2
        · have q := Bool.eq_false_iff.mpr q
          rw [q, show b1 false = 0 from rfl, x_want0 hX.1, bd_th, m_store0 hr q, bd_th]
          exact Or.inr ⟨A, B, 4, rfl, rfl, by decide, ⟨b, mem, sp, L, fl, gl, fs, s, ou, v :: inp, hX, hM, hO⟩, Sm.rfl' A, Sm.rfl' B⟩
end
section
set_option maxRecDepth 100000
/-! ===== the end of a step ===== -/
def RM2 (A B : Sx) (pc : Int64) (nX nM sX sM : Int32) : Prop := ∃ b mem sp L fl gl fs s ou inp, XMc A b mem sp L fl gl s ou inp pc nX sX ∧ MMc B b mem sp L fl gl s ou inp pc nM sM ∧ mcOK b mem sp L fl fs ou inp
def mS2 (c k : Nat) : Prop := mSt c k ∨ (c = 167 ∧ 30 ≤ k ∧ k ≤ 33)
def StR (A B : Sx) (n : Int32) (r r' : Rs Unit) : Prop :=
  (∃ A' B' pc, r = rt () A' ∧ r' = rt () B' ∧ RM2 A' B' pc (n + 1) n 0 0 ∧ Sm xSt A A' ∧ Sm mS2 B B') ∨
  (∃ A' B' pc, r = rt () A' ∧ r' = th (gn B') (mE B' 1) ∧ RM2 A' B' pc (n + 1) (n + 1) 1 0 ∧ Sm xSt A A' ∧ Sm mS2 B B') ∨
  (∃ A' B' pc c, r = th 1 (xF A' c 0) ∧ r' = th (gn B') (mE B' c) ∧ ¬ c = 0 ∧ RM2 A' B' pc n n 0 0 ∧ Sm xSt A A' ∧ Sm mS2 B B')
theorem mSt_S2 {B B' : Sx} (h : Sm mSt B B') : Sm mS2 B B' := h.mono (fun c k x => Or.inl x)
theorem StR.pre {A B A1 B1 : Sx} {n : Int32} {r r' : Rs Unit} (h : StR A1 B1 n r r') (h1 : Sm xSt A A1) (h2 : Sm mS2 B B1) : StR A B n r r' := by
  rcases h with ⟨A', B', pc, a, b, c, d, e⟩ | ⟨A', B', pc, a, b, c, d, e⟩ | ⟨A', B', pc, k, a, b, z, c, d, e⟩
  · exact Or.inl ⟨A', B', pc, a, b, c, h1.trans d, h2.trans e⟩
  · exact Or.inr (Or.inl ⟨A', B', pc, a, b, c, h1.trans d, h2.trans e⟩)
  · exact Or.inr (Or.inr ⟨A', B', pc, k, a, b, z, c, h1.trans d, h2.trans e⟩)
theorem st_fault {A B A1 B1 : Sx} {pc : Int64} {n c : Int32} (h : OkR A B A1 B1 pc n 0) (hc : ¬ c = 0) : StR A B n (th 1 (xF A1 c 0)) (th (gn B1) (mE B1 c)) := Or.inr (Or.inr ⟨A1, B1, pc, c, rfl, rfl, hc, h.1, h.2.1, mSt_S2 h.2.2⟩)
theorem st_end {A B A1 B1 : Sx} {pc : Int64} {n : Int32} {op : Nat} (q : Int64) (h : OkR A B A1 B1 pc n 0) (hop : op < 256) (hz : ¬ op = 0 ∨ ¬ gI B1 167 32 = 0) : StR A B n (X5_step_256 q A1) (X12_step_395 (nI op) q B1) := by
  obtain ⟨⟨b, mem, sp, L, fl, gl, fs, s, ou, inp, hX, hM, hO⟩, h2, h3⟩ := h
  obtain ⟨A2, e1, e2, e3⟩ := xm_pc q hX hO.1
  obtain ⟨f1, f2⟩ := mm_pc q hM
  refine Or.inl ⟨A2, pL B1 167 12 q, q, e1, ?_, ⟨b, mem, sp, L, fl, gl, fs, s, ou, inp, e2, f1, hO⟩, h2.trans e3, mSt_S2 (h3.trans f2)⟩
  unfold X12_step_395
  rw [pt_e]
  by_cases q0 : op = 0
  · rw [if_pos (show nI op = 0 from by rw [q0]; rfl), gI_pL, if_neg (hz.resolve_left (fun x => x q0))]
  · rw [if_neg (nI_ne0 (by omega) (by omega))]
/-- trap 0 -/
theorem st_halt {A B : Sx} {pc : Int64} {n : Int32} (q : Int64) (h : RMp A B pc n 0) (hr : roomM B) (hz : gI B 167 32 = 0) : StR A B n (X5_step_256 q (pI A 138 7 1)) (X12_step_395 (nI 0) q B) := by
  obtain ⟨b, mem, sp, L, fl, gl, fs, s, ou, inp, hX, hM, hO⟩ := h
  have h1 : XMc (pI A 138 7 1) b mem sp L fl gl s ou inp pc n 1 := by
    obtain ⟨h1, h2, h3, h4, h5, h6, h7, h8, h9⟩ := hX
    have e3 : Sm (fun c k => c = 138 ∧ k = 7) A (pI A 138 7 1) := Sm.pI (by omega)
    exact ⟨by rw [e3.K]; exact h1, h2.sm hO.1 e3 (by intro c k; omega), h3.sm e3 (by intro c k; omega), h4.sm e3 (by intro c k; omega), h5.sm e3 (by intro c k; omega), h6.sm e3 (by intro c k; omega), by rw [e3.L (by omega)]; exact h7, by rw [e3.I (by omega)]; exact h8, by rw [gI_pI, if_pos ⟨rfl, rfl⟩]⟩
  obtain ⟨A2, e1, e2, e3⟩ := xm_pc q h1 hO.1
  obtain ⟨f1, f2⟩ := mm_pc q hM
  obtain ⟨g1, g2⟩ := mm_n (n + 1) f1
  refine Or.inr (Or.inl ⟨A2, pI (pL B 167 12 q) 167 14 (n + 1), q, e1, ?_, ⟨b, mem, sp, L, fl, gl, fs, s, ou, inp, e2, g1, hO⟩, (Sm.pI (by unfold xSt; omega)).trans e3, mSt_S2 (f2.trans g2)⟩)
  unfold X12_step_395
  rw [pt_e, if_pos nI_0, gI_pL, if_pos hz, pt_e, gI_pL, hM.2.2.2.2.2.2.2.1, m_end ((hr.sm f2).sm g2)]
/-- trap 1, 2 and faulty ones -/
theorem tr_trap {A B : Sx} {b : Pb} {mem : Nat → Nat} {sp L z : Nat} {fl gl s : Nat → Int64} {fs : List Nat} {ou inp : List Int32} {pc : Int64} {n st : Int32} (hX : XMc A b mem sp L fl gl s ou inp pc n st) (hM : MMc B b mem sp L fl gl s ou inp pc n st) (hO : mcOK b mem sp L fl fs ou inp) (hr : roomM B) (hz : 0 < z) (hz2 : z < 256) (h32 : gI B 167 32 = nI z) : Tr A B pc n st (X5_trap (nI z) A) (X12_trap B) := by
  have hF := FU_ge
  unfold X5_trap X12_trap X5_trap_11
  rw [h32]
  by_cases h2 : 2 < z
  · rw [if_pos ((n_lt (N := 2) (by omega) (by omega)).mpr h2), if_neg (show ¬ nI z ≤ 2 from nI_ge (a := 2) (b := z) h2 (by omega)), x_want0 hX.1, bd_th, m_end hr]
    exact Or.inr ⟨A, B, 6, rfl, rfl, by decide, ⟨b, mem, sp, L, fl, gl, fs, s, ou, inp, hX, hM, hO⟩, Sm.rfl' A, Sm.rfl' B⟩
  · rw [if_neg (fun e => h2 ((n_lt (N := 2) (by omega) (by omega)).mp e)), if_pos (show nI z ≤ 2 from nI_le (a := z) (b := 2) (by omega) (by omega)), x_want1, bd_rt, if_neg (nI_ne0 hz (by omega)), show (31 : Int32) = nI 31 from rfl, lL_n (by omega) (by omega), hM.2.2.1.2.2.2.2 31 (by omega) (by omega), vl_e]
    have g31 : X6_get 31 A = rt (gl 31) A := x_rget (n := 31) hX.2.2.1 (by omega) hO.2.2.1 hO.2.2.2.1
    have g30 : X6_get 30 A = rt (gl 30) A := x_rget (n := 30) hX.2.2.1 (by omega) hO.2.2.1 hO.2.2.2.1
    by_cases h1 : z = 1
    · subst h1
      rw [if_pos (show nI 1 = 1 by rfl), if_pos (show nI 1 = 1 by rfl), vl_e]
      unfold X5_putString
      rw [g31, bd_rt, vl_e]
      have := put_loop (x1 := gl 31) (1000 - ou.length) FU FU A B b mem ou (gl 31) 1 (by have := hO.2.2.2.2.2.1; omega) (by omega) (by omega) (by omega) (by omega) hX hM hO hr h32
      rcases this with ⟨A', B', a, b, c⟩ | ⟨A', B', k, a, b, z, c⟩
      · exact Or.inl ⟨A', B', by rw [show (1 : Int32) = nI 1 from rfl, a, bd_rt], b, c⟩
      · exact Or.inr ⟨A', B', k, by rw [show (1 : Int32) = nI 1 from rfl, a, bd_th], b, z, c⟩
    · obtain rfl : z = 2 := by omega
      rw [if_neg (show ¬ nI 2 = 1 by decide), if_neg (show ¬ nI 2 = 1 by decide)]
      unfold X5_takeLine X12_trap_100 X5_takeLine_33 X12_trap_128
      rw [g31, bd_rt, vl_e, g30, bd_rt, vl_e, x_left hX.2.2.2.2.2.1, bd_rt, h32, if_pos (show nI 2 = 2 by rfl), hM.2.2.2.2.2.1.1, show (30 : Int32) = nI 30 from rfl, lL_n (k := 30) (by omega) (by omega), hM.2.2.1.2.2.2.2 30 (by omega) (by omega)]
      obtain ⟨A1, B1, e1, e2, e3⟩ := set31 (-1) hX hM hO
      have hm1 : Tr A B pc n st (bd (bd (X6_set 31 (-1) A) (fun _ S1 => rt () S1)) (fun _ S2 => rt () S2)) (sL B 171 32 31 (-1) (fun S1 => rt () S1)) := Or.inl ⟨A1, B1, by rw [e1, bd_rt, bd_rt], e2, e3⟩
      by_cases hl : inp.length = 0
      · rw [if_pos (show nI inp.length = 0 by rw [hl]; rfl), if_pos (show nI inp.length = 0 by rw [hl]; rfl)]
        exact hm1
      · rw [if_neg (nI_ne0 (by omega) (by have := hO.2.2.2.2.2.2; omega)), if_neg (nI_ne0 (by omega) (by have := hO.2.2.2.2.2.2; omega))]
        by_cases hg : 1 ≤ gl 30
        · rw [if_pos hg, if_pos hg]
          have := take_loop (ad := gl 31) inp FU FU A B b mem 0 true (by have := hO.2.2.2.2.2.2; omega) (by have := hO.2.2.2.2.2.2; omega) (by have := hO.2.2.2.2.2.2; omega) hX hM hO hr
          rcases this with ⟨A', B', a, b, c⟩ | ⟨A', B', k, a, b, z, c⟩
          · exact Or.inl ⟨A', B', (congrArg (fun r => bd r (fun _ S2 => rt () S2)) a).trans (bd_rt _ _ _), b, c⟩
          · exact Or.inr ⟨A', B', k, (congrArg (fun r => bd r (fun _ S2 => rt () S2)) a).trans (bd_th _ _ _), b, z, c⟩
        · rw [if_neg hg, if_neg hg]
          exact hm1
/-! ===== operations of three registers ===== -/
theorem chk_ok {op x y z sp L t : Nat} (h : chk op x y z sp L t = 0) : opO op = true ∧ (opX op = true → x < 32) ∧ (opY op = true → y < 32) ∧ (opZ op = true → z < 32) ∧ (op = 78 → z ≤ 4) ∧ (op = 79 → x ≤ 4) ∧ (opW op = true → x < 16 → ¬ x < L → sp + (x + 1) ≤ 600) ∧ t = 0 := by
  unfold chk ckR ck78 ck79 ckW at h
  by_cases h0 : opO op = true
  · rw [if_pos h0] at h
    split at h
    · exact absurd h (by decide)
    · rename_i h1
      split at h
      · exact absurd h (by decide)
      · rename_i h2
        split at h
        · exact absurd h (by decide)
        · rename_i h3
          split at h
          · exact absurd h (by decide)
          · rename_i h4
            refine ⟨h0, fun e => ?_, fun e => ?_, fun e => ?_, fun e => ?_, fun e => ?_, fun e f g => ?_, h⟩
            · exact Nat.lt_of_not_le fun q => h1 (Or.inl ⟨e, by omega⟩)
            · exact Nat.lt_of_not_le fun q => h1 (Or.inr (Or.inl ⟨e, by omega⟩))
            · exact Nat.lt_of_not_le fun q => h1 (Or.inr (Or.inr ⟨e, by omega⟩))
            · exact Nat.le_of_not_lt fun q => h2 ⟨e, q⟩
            · exact Nat.le_of_not_lt fun q => h3 ⟨e, q⟩
            · exact Nat.le_of_not_lt fun q => h4 ⟨e, f, g, by omega⟩
  · rw [if_neg h0] at h
    exact absurd h (by decide)
theorem rL_ok {x sp L : Nat} (h : x < 16 → ¬ x < L → sp + (x + 1) ≤ 600) (hs : sp + L ≤ 600) : sp + rL L x ≤ 600 := by
  unfold rL
  split
  · rename_i q
    split
    · exact hs
    · rename_i q2; exact h q q2
  · exact hs
/-- the right operand -/
def rz (sp L : Nat) (fl gl : Nat → Int64) (op z : Nat) : Int64 := if op % 2 = 0 then rGet sp L fl gl z else lN z
theorem mod2 {op : Nat} (h : op < 256) : nI op - nI op / 2 * 2 = nI (op % 2) := pk_rem (a := op) (d := 2) (by omega) (by omega) (by omega)
theorem x_right {A : Sx} {sp L op z : Nat} {fl gl : Nat → Int64} (h : XR A sp L fl gl) (hop : op < 256) (hz : op % 2 = 0 → z < 32) (hz2 : z < 256) (hL : L ≤ 16) (hs : sp + L ≤ 600) : X5_right (nI op) (nI z) A = rt (rz sp L fl gl op z) A := by
  unfold X5_right rz
  rw [mod2 hop]
  by_cases q : op % 2 = 0
  · rw [if_pos (show nI (op % 2) = 0 by rw [q]; rfl), if_pos q, x_rget h (hz q) hL hs, bd_rt]
  · rw [if_neg (nI_ne0 (by omega) (by omega)), if_neg q, nI_l (by omega)]
theorem even_e {op : Nat} (h : op < 256) : nI op / 2 * 2 = nI (op / 2 * 2) := by
  rw [show (2 : Int32) = nI 2 from rfl, pk_div (by omega) (by omega) (by omega), pk_mul]
theorem st_reckon {A B : Sx} {b : Pb} {mem : Nat → Nat} {sp L op x z : Nat} {fl gl s : Nat → Int64} {fs : List Nat} {ou inp : List Int32} {pc nx v : Int64} {n : Int32} (hX : XMc A b mem sp L fl gl s ou inp pc n 0) (hM : MMc B b mem sp L fl gl s ou inp pc n 0) (hO : mcOK b mem sp L fl fs ou inp) (hop : 2 ≤ op ∧ op ≤ 33) (hx : x < 32) (hz : op % 2 = 0 → z < 32) (hz2 : z < 256) (hs : sp + rL L x ≤ 600) (h32 : gI B 167 32 = nI z) (h30 : gI B 167 30 = nI x) : StR A B n (X5_step_213 (nI op) (nI z) nx v (nI op) (nI x) A) (X12_step_302 (nI op) nx v (nI op / 2 * 2) (nI x) B) := by
  obtain ⟨A1, e1, e2, e3⟩ := xm_reckon (op := op) (k := op / 2 * 2) v (rz sp L fl gl op z) hX hO.1 (by omega) rfl (by omega)
  obtain ⟨B1, f1, f2, f3⟩ := mm_reckon (k := op / 2 * 2) v (rz sp L fl gl op z) hM (by omega)
  obtain ⟨A2, g1, g2, g3⟩ := xm_rset (x := x) (rkV (op / 2 * 2) v (rz sp L fl gl op z) s) e2 hO.1 hx hO.2.2.1 hs
  obtain ⟨B2, k1, k2, k3⟩ := mm_rset (x := x) (rkV (op / 2 * 2) v (rz sp L fl gl op z) s) f2 hx hO.2.2.1
  have hmid : X12_step_302 (nI op) nx v (nI op / 2 * 2) (nI x) B = X12_step_395 (nI op) nx B2 := by
    unfold X12_step_302 X12_step_324
    rw [mod2 (by omega), even_e (by omega), h32]
    have hr' : (if nI (op % 2) = 0 then bd (X12_get (nI z) B) (fun v1 S1 => bd (X12_reckoned (nI (op / 2 * 2)) v v1 S1) (fun v1 S1 => bd (X12_set (nI x) v1 S1) (fun _ S2 => X12_step_395 (nI op) nx S2))) else bd (X12_reckoned (nI (op / 2 * 2)) v (nI z).toInt64 B) (fun v1 S1 => bd (X12_set (nI x) v1 S1) (fun _ S2 => X12_step_395 (nI op) nx S2))) = bd (X12_reckoned (nI (op / 2 * 2)) v (rz sp L fl gl op z) B) (fun v1 S1 => bd (X12_set (nI x) v1 S1) (fun _ S2 => X12_step_395 (nI op) nx S2)) := by
      unfold rz
      by_cases q : op % 2 = 0
      · rw [if_pos (show nI (op % 2) = 0 by rw [q]; rfl), if_pos q, m_rget hM.2.2.1 (hz q) hO.2.2.1, bd_rt]
      · rw [if_neg (nI_ne0 (by omega) (by omega)), if_neg q, nI_l (by omega)]
    rw [hr', f1, bd_rt, k1, bd_rt]
  have hxm : X5_step_213 (nI op) (nI z) nx v (nI op) (nI x) A = X5_step_256 nx A2 := by
    unfold X5_step_213 X5_step_224
    rw [x_right hX.2.2.1 (by omega) hz hz2 hO.2.2.1 hO.2.2.2.1, bd_rt, e1, bd_rt, g1, bd_rt]
  rw [hmid, hxm]
  refine st_end nx ⟨⟨b, mem, sp, rL L x, _, _, fs, _, ou, inp, g2, k2, rset_OK _ hO hs⟩, e3.trans g3, (f3.mono (by unfold mRk mSt; intro c k; omega)).trans (k3.mono (by unfold mRl mSt; intro c k; omega))⟩ (by omega) (Or.inl (by omega))
theorem m_y {B : Sx} {sp L x z : Nat} {fl gl : Nat → Int64} (h : MR B sp L fl gl) (hop : x < 256) (hz : x % 2 = 0 → z < 32) (hz2 : z < 256) (hL : L ≤ 16) (h32 : gI B 167 32 = nI z) (f : Int64 → Sx → Rs Unit) : (if nI x - nI x / 2 * 2 = 0 then bd (X12_get (gI B 167 32) B) f else f (gI B 167 32).toInt64 B) = f (rz sp L fl gl x z) B := by
  unfold rz
  rw [mod2 hop, h32]
  by_cases q : x % 2 = 0
  · rw [if_pos (show nI (x % 2) = 0 by rw [q]; rfl), if_pos q, m_rget h (hz q) hL, bd_rt]
  · rw [if_neg (nI_ne0 (by omega) (by omega)), if_neg q, nI_l (by omega)]
theorem st_acc {A B : Sx} {b : Pb} {mem : Nat → Nat} {sp L op x y z : Nat} {fl gl s : Nat → Int64} {fs : List Nat} {ou inp : List Int32} {pc nx : Int64} {n : Int32} (hX : XMc A b mem sp L fl gl s ou inp pc n 0) (hM : MMc B b mem sp L fl gl s ou inp pc n 0) (hO : mcOK b mem sp L fl fs ou inp) (hr : roomM B) (hop : 36 ≤ op ∧ op < 50) (hx : x < 32) (hy : y < 32) (hz : op % 2 = 0 → z < 32) (hz2 : z < 256) (hs : op < 44 → sp + rL L x ≤ 600) (h32 : gI B 167 32 = nI z) (h31 : gI B 167 31 = nI y) (h30 : gI B 167 30 = nI x) :
    StR A B n (bd (X6_get (nI y) A) (fun v10 S5 => bd (X5_right (nI op) (nI z) S5) (fun v11 S6 => bd (X5_access (nI op) (nI x) (v10 + v11) S6) (fun _ S7 => X5_step_256 nx S7)))) (bd (X12_get (gI B 167 31) B) (fun v2 S1 => if (nI op - nI op / 2 * 2) = 0 then bd (X12_get (gI S1 167 32) S1) (fun v3 S2 => X12_step_375 (nI op) nx v3 v2 (nI op / 2 * 2) S2) else X12_step_375 (nI op) nx ((gI S1 167 32).toInt64) v2 (nI op / 2 * 2) S1)) := by
  rw [x_rget hX.2.2.1 hy hO.2.2.1 hO.2.2.2.1, bd_rt, x_right hX.2.2.1 (by omega) hz hz2 hO.2.2.1 hO.2.2.2.1, bd_rt, h31, m_rget hM.2.2.1 hy hO.2.2.1, bd_rt]
  rw [m_y hM.2.2.1 (by omega) hz hz2 hO.2.2.1 h32 (fun v3 S2 => X12_step_375 (nI op) nx v3 (rGet sp L fl gl y) (nI op / 2 * 2) S2)]
  unfold X12_step_375
  rw [even_e (by omega)]
  have hor : (∃ A' B', X5_access (nI op) (nI x) (rGet sp L fl gl y + rz sp L fl gl op z) A = rt () A' ∧ X12_moved (nI (op / 2 * 2)) (rGet sp L fl gl y + rz sp L fl gl op z) nx B = rt nx B' ∧ OkR A B A' B' pc n 0) ∨ (X5_access (nI op) (nI x) (rGet sp L fl gl y + rz sp L fl gl op z) A = th 1 (xF A 4 0) ∧ X12_moved (nI (op / 2 * 2)) (rGet sp L fl gl y + rz sp L fl gl op z) nx B = th (gn B) (mE B 4)) := by
    by_cases q : op < 44
    · exact acc_load _ hX hM hO hr h30 hx (by omega) (hs q)
    · exact acc_store _ hX hM hO hr h30 hx (by omega)
  rcases hor with ⟨A', B', e1, e2, e3⟩ | ⟨e1, e2⟩
  · rw [e1, bd_rt, e2, bd_rt, vl_e]
    exact st_end nx e3 (by omega) (Or.inl (by omega))
  · rw [e1, bd_th, e2, bd_th]
    exact st_fault (pc := pc) ⟨⟨b, mem, sp, L, fl, gl, fs, s, ou, inp, hX, hM, hO⟩, Sm.rfl' A, Sm.rfl' B⟩ (by decide)
end
section
set_option maxRecDepth 100000
/-! ===== one register is set, and it goes on ===== -/
/-- both set register x to v, and go on at q -/
theorem st_set {A B : Sx} {b : Pb} {mem : Nat → Nat} {sp L op x : Nat} {fl gl s : Nat → Int64} {fs : List Nat} {ou inp : List Int32} {pc : Int64} {n : Int32} (v q : Int64) (hX : XMc A b mem sp L fl gl s ou inp pc n 0) (hM : MMc B b mem sp L fl gl s ou inp pc n 0) (hO : mcOK b mem sp L fl fs ou inp) (hop : 0 < op ∧ op < 256) (hx : x < 32) (hs : sp + rL L x ≤ 600) : StR A B n (bd (X6_set (nI x) v A) (fun _ S1 => X5_step_256 q S1)) (bd (X12_set (nI x) v B) (fun _ S2 => X12_step_395 (nI op) q S2)) := by
  obtain ⟨A1, g1, g2, g3⟩ := xm_rset (x := x) v hX hO.1 hx hO.2.2.1 hs
  obtain ⟨B1, k1, k2, k3⟩ := mm_rset (x := x) v hM hx hO.2.2.1
  rw [g1, bd_rt, k1, bd_rt]
  exact st_end q ⟨⟨b, mem, sp, rL L x, _, _, fs, s, ou, inp, g2, k2, rset_OK v hO hs⟩, g3, k3.mono (by unfold mRl mSt; intro c k; omega)⟩ hop.2 (Or.inl (by omega))
theorem bd_bd {α β γ : Type} (r : Rs α) (f : α → Sx → Rs β) (g : β → Sx → Rs γ) : bd (bd r f) g = bd r (fun v S => bd (f v S) g) := by
  cases r with
  | none => rfl
  | some p =>
    obtain ⟨p, S⟩ := p
    cases p <;> rfl
theorem st_50 {A B : Sx} {b : Pb} {mem : Nat → Nat} {sp L op x y z : Nat} {fl gl s : Nat → Int64} {fs : List Nat} {ou inp : List Int32} {pc nx at' : Int64} {n : Int32} (hX : XMc A b mem sp L fl gl s ou inp pc n 0) (hM : MMc B b mem sp L fl gl s ou inp pc n 0) (hO : mcOK b mem sp L fl fs ou inp) (hop : 50 ≤ op ∧ op < 54) (hx : x < 32) (hy : y < 32) (hz : op % 2 = 0 → z < 32) (hz2 : z < 256) (hs : sp + rL L x ≤ 600) (h32 : gI B 167 32 = nI z) (h31 : gI B 167 31 = nI y) (h30 : gI B 167 30 = nI x) (hnx : at' + 4 = nx) (w : Int32) :
    StR A B n (X5_step_125 at' w (nI op) (nI x) (nI y) (nI z) nx A) (bd (X12_get (gI B 167 31) B) (fun v2 S1 => if (nI op - nI op / 2 * 2) = 0 then bd (X12_get (gI S1 167 32) S1) (fun v3 S2 => X12_step_375 (nI op) nx v3 v2 (nI op / 2 * 2) S2) else X12_step_375 (nI op) nx ((gI S1 167 32).toInt64) v2 (nI op / 2 * 2) S1)) := by
  rw [h31, m_rget hM.2.2.1 hy hO.2.2.1, bd_rt]
  rw [m_y hM.2.2.1 (by omega) hz hz2 hO.2.2.1 h32 (fun v3 S2 => X12_step_375 (nI op) nx v3 (rGet sp L fl gl y) (nI op / 2 * 2) S2)]
  unfold X12_step_375 X5_step_125
  rw [even_e (by omega), x_T (by omega), bd_rt, show opT op = true from decide_eq_true (by omega), if_neg (show ¬ b1 true = 0 by decide)]
  by_cases q : op < 52
  · have hk : op / 2 * 2 = 50 := by omega
    obtain ⟨A1, e1, e2, e3⟩ := xm_reckon (op := op) (k := 50) (rGet sp L fl gl y) (rz sp L fl gl op z) hX hO.1 (by omega) hk (Or.inr rfl)
    have hv : rkV 50 (rGet sp L fl gl y) (rz sp L fl gl op z) s = rGet sp L fl gl y + rz sp L fl gl op z := rfl
    have hss : rkS 50 (rGet sp L fl gl y) (rz sp L fl gl op z) s = s := rfl
    rw [hv] at e1
    rw [hss] at e2
    rw [if_pos (lit_lt q (by omega)), hk]
    have hxx : X5_step_160 at' (nI op) (nI x) (nI y) (nI z) nx A = bd (X6_set (nI x) (rGet sp L fl gl y + rz sp L fl gl op z) A1) (fun _ S1 => X5_step_256 nx S1) := by
      unfold X5_step_160 X5_step_213 X5_step_224
      rw [if_pos (lit_lt q (by omega)), if_neg (show ¬ nI op = 32 from fun e => by have := (nI_eq (a := op) (b := 32) (by omega) (by omega)).mp e; omega), if_neg (show ¬ nI op = 33 from fun e => by have := (nI_eq (a := op) (b := 33) (by omega) (by omega)).mp e; omega), x_rget hX.2.2.1 hy hO.2.2.1 hO.2.2.2.1, bd_rt, x_right hX.2.2.1 (by omega) hz hz2 hO.2.2.1 hO.2.2.2.1, bd_rt, e1, bd_rt]
    have hmm : X12_moved (nI 50) (rGet sp L fl gl y + rz sp L fl gl op z) nx B = bd (X12_set (nI x) (rGet sp L fl gl y + rz sp L fl gl op z) B) (fun _ S1 => rt nx S1) := by
      unfold X12_moved
      rw [if_neg (by decide), if_neg (by decide), if_neg (by decide), if_neg (by decide), if_neg (by decide), if_neg (by decide), if_neg (by decide), if_pos (by decide), h30]
    rw [hxx, hmm, bd_bd]
    exact StR.pre (st_set _ nx e2 hM hO (by omega) hx hs) e3 (Sm.rfl' B)
  · have hk : op / 2 * 2 = 52 := by omega
    rw [if_neg (lit_gt (N := 52) (by omega) (by omega)), hk, x_rget hX.2.2.1 hy hO.2.2.1 hO.2.2.2.1, bd_rt, x_right hX.2.2.1 (by omega) hz hz2 hO.2.2.1 hO.2.2.2.1, bd_rt, vl_e]
    have hxx : X5_step_160 at' (nI op) (nI x) (nI y) (nI z) (rGet sp L fl gl y + rz sp L fl gl op z) A = bd (X6_set (nI x) nx A) (fun _ S1 => X5_step_256 (rGet sp L fl gl y + rz sp L fl gl op z) S1) := by
      unfold X5_step_160 X5_step_224
      rw [if_neg (lit_gt (N := 52) (by omega) (by omega)), hnx]
    have hmm : X12_moved (nI 52) (rGet sp L fl gl y + rz sp L fl gl op z) nx B = bd (X12_set (nI x) nx B) (fun _ S1 => rt (rGet sp L fl gl y + rz sp L fl gl op z) S1) := by
      unfold X12_moved
      rw [if_neg (by decide), if_neg (by decide), if_neg (by decide), if_neg (by decide), if_neg (by decide), if_neg (by decide), if_neg (by decide), if_neg (by decide), h30]
    rw [hxx, hmm, bd_bd]
    exact st_set _ _ hX hM hO (by omega) hx hs
end
section
set_option maxRecDepth 100000
/-! ===== the fields of a word as numbers ===== -/
theorem nI_mod (a : Nat) : nI a = nI (a % 4294967296) := Int32.toBitVec_inj.mp (by
  apply BitVec.eq_of_toNat_eq
  show (BitVec.ofNat 32 a).toNat = (BitVec.ofNat 32 _).toNat
  rw [BitVec.toNat_ofNat, BitVec.toNat_ofNat]
  omega)
theorem t16 (a : Nat) : (nI a).toInt16 = (nI (a % 65536)).toInt16 := Int16.toBitVec_inj.mp (by
  apply BitVec.eq_of_toNat_eq
  show ((BitVec.ofNat 32 a).signExtend 16).toNat = ((BitVec.ofNat 32 (a % 65536)).signExtend 16).toNat
  rw [BitVec.signExtend_eq_setWidth_of_le _ (by omega), BitVec.signExtend_eq_setWidth_of_le _ (by omega), BitVec.toNat_setWidth, BitVec.toNat_setWidth, BitVec.toNat_ofNat, BitVec.toNat_ofNat]
  omega)
theorem nI_or (a b : Nat) : nI a ||| nI b = nI (a ||| b) := Int32.toBitVec_inj.mp (by
  show BitVec.ofNat 32 a ||| BitVec.ofNat 32 b = BitVec.ofNat 32 (a ||| b)
  apply BitVec.eq_of_toNat_eq
  rw [BitVec.toNat_or, BitVec.toNat_ofNat, BitVec.toNat_ofNat, BitVec.toNat_ofNat, Nat.or_mod_two_pow])
theorem or_add {a b k : Nat} (hb : b < 2 ^ k) : a * 2 ^ k ||| b = a * 2 ^ k + b := by
  rw [Nat.mul_comm, Nat.two_pow_add_eq_or_of_lt hb]
theorem nI_shl (a : Nat) {k : Nat} (hk : k < 32) : nI a <<< (nI k &&& 31) = nI (a * 2 ^ k) := Int32.toBitVec_inj.mp (by
  have hs : ((nI k &&& 31).toBitVec.smod 32).toNat = k := by
    have : ∀ n, n < 32 → ((nI n &&& 31).toBitVec.smod 32).toNat = n := by decide +kernel
    exact this k hk
  rw [Int32.toBitVec_shiftLeft, BitVec.shiftLeft_eq', hs]
  apply BitVec.eq_of_toNat_eq
  show ((BitVec.ofNat 32 a) <<< k).toNat = (BitVec.ofNat 32 (a * 2 ^ k)).toNat
  rw [BitVec.toNat_shiftLeft, BitVec.toNat_ofNat, BitVec.toNat_ofNat, Nat.shiftLeft_eq, Nat.mod_mul_mod])
/-- what a jump's three bytes are -/
theorem jmp_e {op x y z : Nat} (hx : x < 256) (hy : y < 256) (hz : z < 256) : nI (((op * 256 + x) * 256 + y) * 256 + z) <<< ((8 : Int32) &&& 31) = (((nI x <<< ((16 : Int32) &&& 31)) ||| (nI y <<< ((8 : Int32) &&& 31))) ||| nI z) <<< ((8 : Int32) &&& 31) := by
  rw [show ((8 : Int32) &&& 31) = (nI 8 &&& 31) from rfl, show ((16 : Int32) &&& 31) = (nI 16 &&& 31) from rfl, nI_shl _ (by omega), nI_shl _ (by omega), nI_shl _ (by omega), nI_or, nI_or, nI_shl _ (by omega), nI_mod (_ * 2 ^ 8)]
  have e1 : x * 2 ^ 16 ||| y * 2 ^ 8 = (x * 256 + y) * 2 ^ 8 := by
    rw [or_add (by omega)]
    omega
  rw [e1, or_add (by omega), nI_mod (((x * 256 + y) * 2 ^ 8 + z) * 2 ^ 8)]
  congr 1
  omega
theorem low16 {op x y z : Nat} (hy : y < 256) (hz : z < 256) : (((op * 256 + x) * 256 + y) * 256 + z) % 65536 = y * 256 + z := by omega
theorem rel_e {op x y z : Nat} (hy : y < 256) (hz : z < 256) : (nI (((op * 256 + x) * 256 + y) * 256 + z)).toInt16 = ((256 * lN y + lN z).toInt32).toInt16 := by
  rw [t16, low16 hy hz, show (256 : Int64) = lN 256 from rfl, lN_mul, lN_add, lN_i, show 256 * y + z = y * 256 + z by omega]
theorem low_e {op x y z : Nat} (hy : y < 256) (hz : z < 256) : nI (((op * 256 + x) * 256 + y) * 256 + z) &&& 65535 = nI (y * 256 + z) := by
  rw [nI_mod, pk_andN (Nat.mod_lt _ (by decide)) 16 (by decide)]
  congr 1
  omega
theorem z_e {op x y z : Nat} (hz : z < 256) : nI (((op * 256 + x) * 256 + y) * 256 + z) &&& 255 = nI z := by
  rw [nI_mod, pk_andN (Nat.mod_lt _ (by decide)) 8 (by decide)]
  congr 1
  omega
end
section
set_option maxRecDepth 100000
/-! ===== the other operations ===== -/
/-- the word; where a branch goes; the 16 bits -/
def wd (op x y z : Nat) : Nat := ((op * 256 + x) * 256 + y) * 256 + z
noncomputable def tg (a y z : Nat) : Int64 := lN a + 4 * ((256 * lN y + lN z).toInt32).toInt16.toInt32.toInt64
theorem tg_e {op x y z : Nat} (a : Nat) (hy : y < 256) (hz : z < 256) : lN a + 4 * (nI (wd op x y z)).toInt16.toInt32.toInt64 = tg a y z := by
  unfold tg wd
  rw [rel_e hy hz]
theorem m_oth {B : Sx} {sp L op x y z a : Nat} {fl gl : Nat → Int64} {nx : Int64} (hR : MR B sp L fl gl) (hL : L ≤ 16) (hx : x < 256) (hy : y < 256) (hz : z < 256) (ha : a < 65536) (h30 : gI B 167 30 = nI x) (h31 : gI B 167 31 = nI y) (h32 : gI B 167 32 = nI z) (h33 : gI B 167 33 = nI a) (hop : op < 256) (h67 : ¬ op = 67) (h68 : ¬ op = 68) : X12_other (nI op) nx B = X12_other_61 (nI op) nx (lN (y * 256 + z)) (tg a y z) (rGet sp L fl gl (x % 32)) B := by
  unfold X12_other tg
  rw [vl_e, vl_e, h31, h32, h33, nI_l (by omega), nI_l (by omega), nI_l (by omega), if_neg (show ¬ nI op = 67 from fun e => h67 ((nI_eq (a := op) (b := 67) (by omega) (by omega)).mp e)), if_neg (show ¬ nI op = 68 from fun e => h68 ((nI_eq (a := op) (b := 68) (by omega) (by omega)).mp e)), h30, pk_andN (by omega) 5 (by decide), m_rget hR (Nat.mod_lt _ (by decide)) hL, bd_rt]
  rw [show (256 : Int64) = lN 256 from rfl, lN_mul, lN_add, show 256 * y + z = y * 256 + z by omega]
theorem m_oth' {B : Sx} {op y z a : Nat} {nx : Int64} (hy : y < 256) (hz : z < 256) (ha : a < 65536) (h31 : gI B 167 31 = nI y) (h32 : gI B 167 32 = nI z) (h33 : gI B 167 33 = nI a) (h : op = 67 ∨ op = 68) : X12_other (nI op) nx B = X12_other_61 (nI op) nx (lN (y * 256 + z)) (tg a y z) 0 B := by
  unfold X12_other tg
  rw [vl_e, vl_e, h31, h32, h33, nI_l (by omega), nI_l (by omega), nI_l (by omega), show (256 : Int64) = lN 256 from rfl, lN_mul, lN_add, show 256 * y + z = y * 256 + z by omega]
  rcases h with rfl | rfl
  · rw [if_pos (by rfl)]
  · rw [if_neg (by decide), if_pos (by rfl)]
/-- the two ends -/
noncomputable def XE (op x y z a : Nat) (A : Sx) : Rs Unit := bd (X5_orderElse (nI op) (nI x) (nI (wd op x y z)) (lN a) A) (fun v2 S2 => vl v2 (fun v3 => X5_step_256 v3 S2))
noncomputable def ME (op a : Nat) (B : Sx) : Rs Unit := bd (X12_other (nI op) (lN a + 4) B) (fun v2 S1 => vl v2 (fun v3 => X12_step_395 (nI op) v3 S1))
theorem st_go {A B : Sx} {b : Pb} {mem : Nat → Nat} {sp L op : Nat} {fl gl s : Nat → Int64} {fs : List Nat} {ou inp : List Int32} {pc : Int64} {n : Int32} (q : Int64) (hX : XMc A b mem sp L fl gl s ou inp pc n 0) (hM : MMc B b mem sp L fl gl s ou inp pc n 0) (hO : mcOK b mem sp L fl fs ou inp) (hop : 0 < op ∧ op < 256) : StR A B n (bd (rt q A) (fun v2 S2 => vl v2 (fun v3 => X5_step_256 v3 S2))) (bd (rt q B) (fun v2 S1 => vl v2 (fun v3 => X12_step_395 (nI op) v3 S1))) :=
  st_end q ⟨⟨b, mem, sp, L, fl, gl, fs, s, ou, inp, hX, hM, hO⟩, Sm.rfl' A, Sm.rfl' B⟩ hop.2 (Or.inl (by omega))
theorem st_60 {A B : Sx} {b : Pb} {mem : Nat → Nat} {sp L x y z a : Nat} {fl gl s : Nat → Int64} {fs : List Nat} {ou inp : List Int32} {pc : Int64} {n : Int32} (hX : XMc A b mem sp L fl gl s ou inp pc n 0) (hM : MMc B b mem sp L fl gl s ou inp pc n 0) (hO : mcOK b mem sp L fl fs ou inp) (hx : x < 256) (hy : y < 256) (hz : z < 256) (ha : a < 65536) (h30 : gI B 167 30 = nI x) (h31 : gI B 167 31 = nI y) (h32 : gI B 167 32 = nI z) (h33 : gI B 167 33 = nI a) (hx32 : x < 32) : StR A B n (XE 60 x y z a A) (ME 60 a B) := by
  have hxe : X5_orderElse (nI 60) (nI x) (nI (wd 60 x y z)) (lN a) A = rt (if 0 ≤ rGet sp L fl gl x then lN a + 4 else tg a y z) A := by
    unfold X5_orderElse X5_isTaken
    rw [vl_e, vl_e, tg_e a hy hz, if_neg (show ¬ (65 : Int32) < nI 60 by decide), x_rget hX.2.2.1 hx32 hO.2.2.1 hO.2.2.2.1, bd_rt]
    generalize rGet sp L fl gl x = v
    rw [if_pos (by decide)]
    by_cases h : 0 ≤ v
    · rw [if_pos h, if_pos h, bd_rt]; rfl
    · rw [if_neg h, if_neg h, bd_rt]; rfl
  have hme : X12_other (nI 60) (lN a + 4) B = rt (if 0 ≤ rGet sp L fl gl x then lN a + 4 else tg a y z) B := by
    rw [m_oth hM.2.2.1 hO.2.2.1 hx hy hz ha h30 h31 h32 h33 (by decide) (by decide) (by decide), Nat.mod_eq_of_lt hx32]
    unfold X12_other_61
    rw [vl_e]
    generalize rGet sp L fl gl x = v
    rw [if_pos (show nI 60 = 60 by rfl)]
    by_cases h : 0 ≤ v
    · rw [if_pos h, if_pos h]
    · rw [if_neg h, if_neg h]
  unfold XE ME
  rw [hxe, hme]
  exact st_go _ hX hM hO (by decide)
theorem st_61 {A B : Sx} {b : Pb} {mem : Nat → Nat} {sp L x y z a : Nat} {fl gl s : Nat → Int64} {fs : List Nat} {ou inp : List Int32} {pc : Int64} {n : Int32} (hX : XMc A b mem sp L fl gl s ou inp pc n 0) (hM : MMc B b mem sp L fl gl s ou inp pc n 0) (hO : mcOK b mem sp L fl fs ou inp) (hx : x < 256) (hy : y < 256) (hz : z < 256) (ha : a < 65536) (h30 : gI B 167 30 = nI x) (h31 : gI B 167 31 = nI y) (h32 : gI B 167 32 = nI z) (h33 : gI B 167 33 = nI a) (hx32 : x < 32) : StR A B n (XE 61 x y z a A) (ME 61 a B) := by
  have hxe : X5_orderElse (nI 61) (nI x) (nI (wd 61 x y z)) (lN a) A = rt (if rGet sp L fl gl x = 0 then tg a y z else lN a + 4) A := by
    unfold X5_orderElse X5_isTaken
    rw [vl_e, vl_e, tg_e a hy hz, if_neg (show ¬ (65 : Int32) < nI 61 by decide), x_rget hX.2.2.1 hx32 hO.2.2.1 hO.2.2.2.1, bd_rt]
    generalize rGet sp L fl gl x = v
    rw [if_neg (by decide), if_pos (by decide)]
    by_cases h : v = 0
    · rw [if_pos h, if_pos h, bd_rt]; rfl
    · rw [if_neg h, if_neg h, bd_rt]; rfl
  have hme : X12_other (nI 61) (lN a + 4) B = rt (if rGet sp L fl gl x = 0 then tg a y z else lN a + 4) B := by
    rw [m_oth hM.2.2.1 hO.2.2.1 hx hy hz ha h30 h31 h32 h33 (by decide) (by decide) (by decide), Nat.mod_eq_of_lt hx32]
    unfold X12_other_61
    rw [vl_e]
    generalize rGet sp L fl gl x = v
    rw [if_neg (by decide), if_pos (show nI 61 = 61 by rfl)]
    by_cases h : v = 0
    · rw [if_pos h, if_pos h]
    · rw [if_neg h, if_neg h]
  unfold XE ME
  rw [hxe, hme]
  exact st_go _ hX hM hO (by decide)
theorem st_62 {A B : Sx} {b : Pb} {mem : Nat → Nat} {sp L x y z a : Nat} {fl gl s : Nat → Int64} {fs : List Nat} {ou inp : List Int32} {pc : Int64} {n : Int32} (hX : XMc A b mem sp L fl gl s ou inp pc n 0) (hM : MMc B b mem sp L fl gl s ou inp pc n 0) (hO : mcOK b mem sp L fl fs ou inp) (hx : x < 256) (hy : y < 256) (hz : z < 256) (ha : a < 65536) (h30 : gI B 167 30 = nI x) (h31 : gI B 167 31 = nI y) (h32 : gI B 167 32 = nI z) (h33 : gI B 167 33 = nI a) (hx32 : x < 32) : StR A B n (XE 62 x y z a A) (ME 62 a B) := by
  have hxe : X5_orderElse (nI 62) (nI x) (nI (wd 62 x y z)) (lN a) A = rt (if rGet sp L fl gl x ≤ 0 then lN a + 4 else tg a y z) A := by
    unfold X5_orderElse X5_isTaken
    rw [vl_e, vl_e, tg_e a hy hz, if_neg (show ¬ (65 : Int32) < nI 62 by decide), x_rget hX.2.2.1 hx32 hO.2.2.1 hO.2.2.2.1, bd_rt]
    generalize rGet sp L fl gl x = v
    rw [if_neg (by decide), if_neg (by decide), if_pos (by decide)]
    by_cases h : v ≤ 0
    · rw [if_pos h, if_pos h, bd_rt]; rfl
    · rw [if_neg h, if_neg h, bd_rt]; rfl
  have hme : X12_other (nI 62) (lN a + 4) B = rt (if rGet sp L fl gl x ≤ 0 then lN a + 4 else tg a y z) B := by
    rw [m_oth hM.2.2.1 hO.2.2.1 hx hy hz ha h30 h31 h32 h33 (by decide) (by decide) (by decide), Nat.mod_eq_of_lt hx32]
    unfold X12_other_61
    rw [vl_e]
    generalize rGet sp L fl gl x = v
    rw [if_neg (by decide), if_neg (by decide), if_pos (show nI 62 = 62 by rfl)]
    by_cases h : v ≤ 0
    · rw [if_pos h, if_pos h]
    · rw [if_neg h, if_neg h]
  unfold XE ME
  rw [hxe, hme]
  exact st_go _ hX hM hO (by decide)
theorem st_63 {A B : Sx} {b : Pb} {mem : Nat → Nat} {sp L x y z a : Nat} {fl gl s : Nat → Int64} {fs : List Nat} {ou inp : List Int32} {pc : Int64} {n : Int32} (hX : XMc A b mem sp L fl gl s ou inp pc n 0) (hM : MMc B b mem sp L fl gl s ou inp pc n 0) (hO : mcOK b mem sp L fl fs ou inp) (hx : x < 256) (hy : y < 256) (hz : z < 256) (ha : a < 65536) (h30 : gI B 167 30 = nI x) (h31 : gI B 167 31 = nI y) (h32 : gI B 167 32 = nI z) (h33 : gI B 167 33 = nI a) (hx32 : x < 32) : StR A B n (XE 63 x y z a A) (ME 63 a B) := by
  have hxe : X5_orderElse (nI 63) (nI x) (nI (wd 63 x y z)) (lN a) A = rt (if rGet sp L fl gl x < 0 then lN a + 4 else tg a y z) A := by
    unfold X5_orderElse X5_isTaken
    rw [vl_e, vl_e, tg_e a hy hz, if_neg (show ¬ (65 : Int32) < nI 63 by decide), x_rget hX.2.2.1 hx32 hO.2.2.1 hO.2.2.2.1, bd_rt]
    generalize rGet sp L fl gl x = v
    rw [if_neg (by decide), if_neg (by decide), if_neg (by decide), if_pos (by decide)]
    by_cases h : v < 0
    · rw [if_pos h, if_pos h, bd_rt]; rfl
    · rw [if_neg h, if_neg h, bd_rt]; rfl
  have hme : X12_other (nI 63) (lN a + 4) B = rt (if rGet sp L fl gl x < 0 then lN a + 4 else tg a y z) B := by
    rw [m_oth hM.2.2.1 hO.2.2.1 hx hy hz ha h30 h31 h32 h33 (by decide) (by decide) (by decide), Nat.mod_eq_of_lt hx32]
    unfold X12_other_61
    rw [vl_e]
    generalize rGet sp L fl gl x = v
    rw [if_neg (by decide), if_neg (by decide), if_neg (by decide), if_pos (show nI 63 = 63 by rfl)]
    by_cases h : v < 0
    · rw [if_pos h, if_pos h]
    · rw [if_neg h, if_neg h]
  unfold XE ME
  rw [hxe, hme]
  exact st_go _ hX hM hO (by decide)
theorem st_64 {A B : Sx} {b : Pb} {mem : Nat → Nat} {sp L x y z a : Nat} {fl gl s : Nat → Int64} {fs : List Nat} {ou inp : List Int32} {pc : Int64} {n : Int32} (hX : XMc A b mem sp L fl gl s ou inp pc n 0) (hM : MMc B b mem sp L fl gl s ou inp pc n 0) (hO : mcOK b mem sp L fl fs ou inp) (hx : x < 256) (hy : y < 256) (hz : z < 256) (ha : a < 65536) (h30 : gI B 167 30 = nI x) (h31 : gI B 167 31 = nI y) (h32 : gI B 167 32 = nI z) (h33 : gI B 167 33 = nI a) (hx32 : x < 32) : StR A B n (XE 64 x y z a A) (ME 64 a B) := by
  have hxe : X5_orderElse (nI 64) (nI x) (nI (wd 64 x y z)) (lN a) A = rt (if rGet sp L fl gl x = 0 then lN a + 4 else tg a y z) A := by
    unfold X5_orderElse X5_isTaken
    rw [vl_e, vl_e, tg_e a hy hz, if_neg (show ¬ (65 : Int32) < nI 64 by decide), x_rget hX.2.2.1 hx32 hO.2.2.1 hO.2.2.2.1, bd_rt]
    generalize rGet sp L fl gl x = v
    rw [if_neg (by decide), if_neg (by decide), if_neg (by decide), if_neg (by decide), if_pos (by decide)]
    by_cases h : v = 0
    · rw [if_pos h, if_pos h, bd_rt]; rfl
    · rw [if_neg h, if_neg h, bd_rt]; rfl
  have hme : X12_other (nI 64) (lN a + 4) B = rt (if rGet sp L fl gl x = 0 then lN a + 4 else tg a y z) B := by
    rw [m_oth hM.2.2.1 hO.2.2.1 hx hy hz ha h30 h31 h32 h33 (by decide) (by decide) (by decide), Nat.mod_eq_of_lt hx32]
    unfold X12_other_61
    rw [vl_e]
    generalize rGet sp L fl gl x = v
    rw [if_neg (by decide), if_neg (by decide), if_neg (by decide), if_neg (by decide), if_pos (show nI 64 = 64 by rfl)]
    by_cases h : v = 0
    · rw [if_pos h, if_pos h]
    · rw [if_neg h, if_neg h]
  unfold XE ME
  rw [hxe, hme]
  exact st_go _ hX hM hO (by decide)
theorem st_65 {A B : Sx} {b : Pb} {mem : Nat → Nat} {sp L x y z a : Nat} {fl gl s : Nat → Int64} {fs : List Nat} {ou inp : List Int32} {pc : Int64} {n : Int32} (hX : XMc A b mem sp L fl gl s ou inp pc n 0) (hM : MMc B b mem sp L fl gl s ou inp pc n 0) (hO : mcOK b mem sp L fl fs ou inp) (hx : x < 256) (hy : y < 256) (hz : z < 256) (ha : a < 65536) (h30 : gI B 167 30 = nI x) (h31 : gI B 167 31 = nI y) (h32 : gI B 167 32 = nI z) (h33 : gI B 167 33 = nI a) (hx32 : x < 32) : StR A B n (XE 65 x y z a A) (ME 65 a B) := by
  have hxe : X5_orderElse (nI 65) (nI x) (nI (wd 65 x y z)) (lN a) A = rt (if 0 < rGet sp L fl gl x then lN a + 4 else tg a y z) A := by
    unfold X5_orderElse X5_isTaken
    rw [vl_e, vl_e, tg_e a hy hz, if_neg (show ¬ (65 : Int32) < nI 65 by decide), x_rget hX.2.2.1 hx32 hO.2.2.1 hO.2.2.2.1, bd_rt]
    generalize rGet sp L fl gl x = v
    rw [if_neg (by decide), if_neg (by decide), if_neg (by decide), if_neg (by decide), if_neg (by decide)]
    by_cases h : 0 < v
    · rw [if_pos h, if_pos h, bd_rt]; rfl
    · rw [if_neg h, if_neg h, bd_rt]; rfl
  have hme : X12_other (nI 65) (lN a + 4) B = rt (if 0 < rGet sp L fl gl x then lN a + 4 else tg a y z) B := by
    rw [m_oth hM.2.2.1 hO.2.2.1 hx hy hz ha h30 h31 h32 h33 (by decide) (by decide) (by decide), Nat.mod_eq_of_lt hx32]
    unfold X12_other_61
    rw [vl_e]
    generalize rGet sp L fl gl x = v
    rw [if_neg (by decide), if_neg (by decide), if_neg (by decide), if_neg (by decide), if_neg (by decide), if_pos (show nI 65 = 65 by rfl)]
    by_cases h : 0 < v
    · rw [if_pos h, if_pos h]
    · rw [if_neg h, if_neg h]
  unfold XE ME
  rw [hxe, hme]
  exact st_go _ hX hM hO (by decide)
end
section
set_option maxRecDepth 100000
theorem st_66 {A B : Sx} {b : Pb} {mem : Nat → Nat} {sp L x y z a : Nat} {fl gl s : Nat → Int64} {fs : List Nat} {ou inp : List Int32} {pc : Int64} {n : Int32} (hX : XMc A b mem sp L fl gl s ou inp pc n 0) (hM : MMc B b mem sp L fl gl s ou inp pc n 0) (hO : mcOK b mem sp L fl fs ou inp) (hx : x < 256) (hy : y < 256) (hz : z < 256) (ha : a < 65536) (h30 : gI B 167 30 = nI x) (h31 : gI B 167 31 = nI y) (h32 : gI B 167 32 = nI z) (h33 : gI B 167 33 = nI a) : StR A B n (XE 66 x y z a A) (ME 66 a B) := by
  have hxe : X5_orderElse (nI 66) (nI x) (nI (wd 66 x y z)) (lN a) A = rt (lN a + 4 * (((nI (wd 66 x y z) <<< ((8 : Int32) &&& 31)) >>> ((8 : Int32) &&& 31)).toInt64)) A := by
    unfold X5_orderElse
    rw [vl_e, vl_e, if_pos (show (65 : Int32) < nI 66 by decide), if_pos (show nI 66 = 66 by rfl)]
  have hme : X12_other (nI 66) (lN a + 4) B = rt (lN a + 4 * (((nI (wd 66 x y z) <<< ((8 : Int32) &&& 31)) >>> ((8 : Int32) &&& 31)).toInt64)) B := by
    rw [m_oth hM.2.2.1 hO.2.2.1 hx hy hz ha h30 h31 h32 h33 (by decide) (by decide) (by decide)]
    unfold X12_other_61 wd
    rw [vl_e, if_neg (by decide), if_neg (by decide), if_neg (by decide), if_neg (by decide), if_neg (by decide), if_neg (by decide), if_pos (show nI 66 = 66 by rfl), h30, h31, h32, h33, nI_l (by omega), jmp_e hx hy hz]
  unfold XE ME
  rw [hxe, hme]
  exact st_go _ hX hM hO (by decide)
theorem st_80 {A B : Sx} {b : Pb} {mem : Nat → Nat} {sp L x y z a : Nat} {fl gl s : Nat → Int64} {fs : List Nat} {ou inp : List Int32} {pc : Int64} {n : Int32} (hX : XMc A b mem sp L fl gl s ou inp pc n 0) (hM : MMc B b mem sp L fl gl s ou inp pc n 0) (hO : mcOK b mem sp L fl fs ou inp) (hx : x < 256) (hy : y < 256) (hz : z < 256) (ha : a < 65536) (h30 : gI B 167 30 = nI x) (h31 : gI B 167 31 = nI y) (h32 : gI B 167 32 = nI z) (h33 : gI B 167 33 = nI a) : StR A B n (XE 80 x y z a A) (ME 80 a B) := by
  have hxe : X5_orderElse (nI 80) (nI x) (nI (wd 80 x y z)) (lN a) A = rt (lN a + 4) A := by
    unfold X5_orderElse X5_orderElse_264
    rw [vl_e, vl_e, if_pos (show (65 : Int32) < nI 80 by decide), if_neg (by decide), if_neg (by decide), if_neg (by decide), if_neg (by decide), if_pos (show (74 : Int32) ≤ nI 80 by decide), if_pos (show (77 : Int32) < nI 80 by decide), if_neg (by decide), if_neg (by decide)]
  have hme : X12_other (nI 80) (lN a + 4) B = rt (lN a + 4) B := by
    rw [m_oth hM.2.2.1 hO.2.2.1 hx hy hz ha h30 h31 h32 h33 (by decide) (by decide) (by decide)]
    unfold X12_other_61
    rw [vl_e, if_neg (by decide), if_neg (by decide), if_neg (by decide), if_neg (by decide), if_neg (by decide), if_neg (by decide), if_neg (by decide), if_neg (by decide), if_neg (by decide), if_neg (by decide), if_neg (by decide), if_neg (by decide), if_neg (by decide), if_neg (by decide), if_neg (by decide), if_neg (by decide), if_neg (by decide), if_neg (by decide), if_neg (by decide), if_neg (by decide)]
  unfold XE ME
  rw [hxe, hme]
  exact st_go _ hX hM hO (by decide)
/-- both set register x to v -/
theorem st_v {A B : Sx} {b : Pb} {mem : Nat → Nat} {sp L op x y z a : Nat} {fl gl s : Nat → Int64} {fs : List Nat} {ou inp : List Int32} {pc : Int64} {n : Int32} (v q : Int64) (hX : XMc A b mem sp L fl gl s ou inp pc n 0) (hM : MMc B b mem sp L fl gl s ou inp pc n 0) (hO : mcOK b mem sp L fl fs ou inp) (hop : 0 < op ∧ op < 256) (hx : x < 32) (hs : sp + rL L x ≤ 600) (hxe : X5_orderElse (nI op) (nI x) (nI (wd op x y z)) (lN a) A = bd (X6_set (nI x) v A) (fun _ S1 => rt q S1)) (hme : X12_other (nI op) (lN a + 4) B = bd (X12_set (nI x) v B) (fun _ S1 => rt q S1)) : StR A B n (XE op x y z a A) (ME op a B) := by
  unfold XE ME
  rw [hxe, hme, bd_bd, bd_bd]
  exact st_set v q hX hM hO hop hx hs
theorem st_69 {A B : Sx} {b : Pb} {mem : Nat → Nat} {sp L x y z a : Nat} {fl gl s : Nat → Int64} {fs : List Nat} {ou inp : List Int32} {pc : Int64} {n : Int32} (hX : XMc A b mem sp L fl gl s ou inp pc n 0) (hM : MMc B b mem sp L fl gl s ou inp pc n 0) (hO : mcOK b mem sp L fl fs ou inp) (hx : x < 256) (hy : y < 256) (hz : z < 256) (ha : a < 65536) (h30 : gI B 167 30 = nI x) (h31 : gI B 167 31 = nI y) (h32 : gI B 167 32 = nI z) (h33 : gI B 167 33 = nI a) (hx32 : x < 32) (hs : sp + rL L x ≤ 600) : StR A B n (XE 69 x y z a A) (ME 69 a B) := by
  refine st_v (tg a y z) (lN a + 4) hX hM hO (by decide) hx32 hs ?_ ?_
  · unfold X5_orderElse X5_orderElse_264
    rw [vl_e, vl_e, if_pos (show (65 : Int32) < nI 69 by decide), if_neg (by decide), if_neg (by decide), if_neg (by decide), if_pos (show nI 69 = 69 by rfl), tg_e a hy hz]
  · rw [m_oth hM.2.2.1 hO.2.2.1 hx hy hz ha h30 h31 h32 h33 (by decide) (by decide) (by decide)]
    unfold X12_other_61
    rw [vl_e, if_neg (by decide), if_neg (by decide), if_neg (by decide), if_neg (by decide), if_neg (by decide), if_neg (by decide), if_neg (by decide), if_neg (by decide), if_neg (by decide), if_pos (show nI 69 = 69 by rfl), h30]
theorem st_70 {A B : Sx} {b : Pb} {mem : Nat → Nat} {sp L x y z a : Nat} {fl gl s : Nat → Int64} {fs : List Nat} {ou inp : List Int32} {pc : Int64} {n : Int32} (hX : XMc A b mem sp L fl gl s ou inp pc n 0) (hM : MMc B b mem sp L fl gl s ou inp pc n 0) (hO : mcOK b mem sp L fl fs ou inp) (hx : x < 256) (hy : y < 256) (hz : z < 256) (ha : a < 65536) (h30 : gI B 167 30 = nI x) (h31 : gI B 167 31 = nI y) (h32 : gI B 167 32 = nI z) (h33 : gI B 167 33 = nI a) (hx32 : x < 32) (hs : sp + rL L x ≤ 600) : StR A B n (XE 70 x y z a A) (ME 70 a B) := by
  refine st_v (lN (y * 256 + z) <<< ((16 * (nI 70 - 70)).toInt64 &&& 63)) (lN a + 4) hX hM hO (by decide) hx32 hs ?_ ?_
  · unfold X5_orderElse X5_orderElse_264
    rw [vl_e, vl_e, if_pos (show (65 : Int32) < nI 70 by decide), if_neg (by decide), if_neg (by decide), if_neg (by decide), if_neg (by decide), if_neg (show ¬ (74 : Int32) ≤ nI 70 by decide), show nI (wd 70 x y z) &&& 65535 = nI (y * 256 + z) from low_e hy hz, nI_l (by omega)]
  · rw [m_oth hM.2.2.1 hO.2.2.1 hx hy hz ha h30 h31 h32 h33 (by decide) (by decide) (by decide)]
    unfold X12_other_61 X12_other_335
    rw [vl_e, if_neg (by decide), if_neg (by decide), if_neg (by decide), if_neg (by decide), if_neg (by decide), if_neg (by decide), if_neg (by decide), if_neg (by decide), if_neg (by decide), if_neg (by decide), if_pos (show nI 70 = 70 by rfl), h30]
theorem st_71 {A B : Sx} {b : Pb} {mem : Nat → Nat} {sp L x y z a : Nat} {fl gl s : Nat → Int64} {fs : List Nat} {ou inp : List Int32} {pc : Int64} {n : Int32} (hX : XMc A b mem sp L fl gl s ou inp pc n 0) (hM : MMc B b mem sp L fl gl s ou inp pc n 0) (hO : mcOK b mem sp L fl fs ou inp) (hx : x < 256) (hy : y < 256) (hz : z < 256) (ha : a < 65536) (h30 : gI B 167 30 = nI x) (h31 : gI B 167 31 = nI y) (h32 : gI B 167 32 = nI z) (h33 : gI B 167 33 = nI a) (hx32 : x < 32) (hs : sp + rL L x ≤ 600) : StR A B n (XE 71 x y z a A) (ME 71 a B) := by
  refine st_v (lN (y * 256 + z) <<< ((16 * (nI 71 - 70)).toInt64 &&& 63)) (lN a + 4) hX hM hO (by decide) hx32 hs ?_ ?_
  · unfold X5_orderElse X5_orderElse_264
    rw [vl_e, vl_e, if_pos (show (65 : Int32) < nI 71 by decide), if_neg (by decide), if_neg (by decide), if_neg (by decide), if_neg (by decide), if_neg (show ¬ (74 : Int32) ≤ nI 71 by decide), show nI (wd 71 x y z) &&& 65535 = nI (y * 256 + z) from low_e hy hz, nI_l (by omega)]
  · rw [m_oth hM.2.2.1 hO.2.2.1 hx hy hz ha h30 h31 h32 h33 (by decide) (by decide) (by decide)]
    unfold X12_other_61 X12_other_335
    rw [vl_e, if_neg (by decide), if_neg (by decide), if_neg (by decide), if_neg (by decide), if_neg (by decide), if_neg (by decide), if_neg (by decide), if_neg (by decide), if_neg (by decide), if_neg (by decide), if_neg (by decide), if_pos (show nI 71 = 71 by rfl), h30]
theorem st_72 {A B : Sx} {b : Pb} {mem : Nat → Nat} {sp L x y z a : Nat} {fl gl s : Nat → Int64} {fs : List Nat} {ou inp : List Int32} {pc : Int64} {n : Int32} (hX : XMc A b mem sp L fl gl s ou inp pc n 0) (hM : MMc B b mem sp L fl gl s ou inp pc n 0) (hO : mcOK b mem sp L fl fs ou inp) (hx : x < 256) (hy : y < 256) (hz : z < 256) (ha : a < 65536) (h30 : gI B 167 30 = nI x) (h31 : gI B 167 31 = nI y) (h32 : gI B 167 32 = nI z) (h33 : gI B 167 33 = nI a) (hx32 : x < 32) (hs : sp + rL L x ≤ 600) : StR A B n (XE 72 x y z a A) (ME 72 a B) := by
  refine st_v (lN (y * 256 + z) <<< ((16 * (nI 72 - 70)).toInt64 &&& 63)) (lN a + 4) hX hM hO (by decide) hx32 hs ?_ ?_
  · unfold X5_orderElse X5_orderElse_264
    rw [vl_e, vl_e, if_pos (show (65 : Int32) < nI 72 by decide), if_neg (by decide), if_neg (by decide), if_neg (by decide), if_neg (by decide), if_neg (show ¬ (74 : Int32) ≤ nI 72 by decide), show nI (wd 72 x y z) &&& 65535 = nI (y * 256 + z) from low_e hy hz, nI_l (by omega)]
  · rw [m_oth hM.2.2.1 hO.2.2.1 hx hy hz ha h30 h31 h32 h33 (by decide) (by decide) (by decide)]
    unfold X12_other_61 X12_other_335
    rw [vl_e, if_neg (by decide), if_neg (by decide), if_neg (by decide), if_neg (by decide), if_neg (by decide), if_neg (by decide), if_neg (by decide), if_neg (by decide), if_neg (by decide), if_neg (by decide), if_neg (by decide), if_neg (by decide), if_pos (show nI 72 = 72 by rfl), h30]
theorem st_73 {A B : Sx} {b : Pb} {mem : Nat → Nat} {sp L x y z a : Nat} {fl gl s : Nat → Int64} {fs : List Nat} {ou inp : List Int32} {pc : Int64} {n : Int32} (hX : XMc A b mem sp L fl gl s ou inp pc n 0) (hM : MMc B b mem sp L fl gl s ou inp pc n 0) (hO : mcOK b mem sp L fl fs ou inp) (hx : x < 256) (hy : y < 256) (hz : z < 256) (ha : a < 65536) (h30 : gI B 167 30 = nI x) (h31 : gI B 167 31 = nI y) (h32 : gI B 167 32 = nI z) (h33 : gI B 167 33 = nI a) (hx32 : x < 32) (hs : sp + rL L x ≤ 600) : StR A B n (XE 73 x y z a A) (ME 73 a B) := by
  refine st_v (lN (y * 256 + z) <<< ((16 * (nI 73 - 70)).toInt64 &&& 63)) (lN a + 4) hX hM hO (by decide) hx32 hs ?_ ?_
  · unfold X5_orderElse X5_orderElse_264
    rw [vl_e, vl_e, if_pos (show (65 : Int32) < nI 73 by decide), if_neg (by decide), if_neg (by decide), if_neg (by decide), if_neg (by decide), if_neg (show ¬ (74 : Int32) ≤ nI 73 by decide), show nI (wd 73 x y z) &&& 65535 = nI (y * 256 + z) from low_e hy hz, nI_l (by omega)]
  · rw [m_oth hM.2.2.1 hO.2.2.1 hx hy hz ha h30 h31 h32 h33 (by decide) (by decide) (by decide)]
    unfold X12_other_61 X12_other_335
    rw [vl_e, if_neg (by decide), if_neg (by decide), if_neg (by decide), if_neg (by decide), if_neg (by decide), if_neg (by decide), if_neg (by decide), if_neg (by decide), if_neg (by decide), if_neg (by decide), if_neg (by decide), if_neg (by decide), if_neg (by decide), if_pos (show nI 73 = 73 by rfl), h30]
theorem st_74 {A B : Sx} {b : Pb} {mem : Nat → Nat} {sp L x y z a : Nat} {fl gl s : Nat → Int64} {fs : List Nat} {ou inp : List Int32} {pc : Int64} {n : Int32} (hX : XMc A b mem sp L fl gl s ou inp pc n 0) (hM : MMc B b mem sp L fl gl s ou inp pc n 0) (hO : mcOK b mem sp L fl fs ou inp) (hx : x < 256) (hy : y < 256) (hz : z < 256) (ha : a < 65536) (h30 : gI B 167 30 = nI x) (h31 : gI B 167 31 = nI y) (h32 : gI B 167 32 = nI z) (h33 : gI B 167 33 = nI a) (hx32 : x < 32) (hs : sp + rL L x ≤ 600) : StR A B n (XE 74 x y z a A) (ME 74 a B) := by
  refine st_v (rGet sp L fl gl x + (lN (y * 256 + z) <<< ((16 * (nI 74 - 74)).toInt64 &&& 63))) (lN a + 4) hX hM hO (by decide) hx32 hs ?_ ?_
  · unfold X5_orderElse X5_orderElse_264
    rw [vl_e, vl_e, if_pos (show (65 : Int32) < nI 74 by decide), if_neg (by decide), if_neg (by decide), if_neg (by decide), if_neg (by decide), if_pos (show (74 : Int32) ≤ nI 74 by decide), if_neg (show ¬ (77 : Int32) < nI 74 by decide), x_rget hX.2.2.1 hx32 hO.2.2.1 hO.2.2.2.1, bd_rt, show nI (wd 74 x y z) &&& 65535 = nI (y * 256 + z) from low_e hy hz, nI_l (by omega)]
  · rw [m_oth hM.2.2.1 hO.2.2.1 hx hy hz ha h30 h31 h32 h33 (by decide) (by decide) (by decide), Nat.mod_eq_of_lt hx32]
    unfold X12_other_61 X12_other_356
    rw [vl_e, if_neg (by decide), if_neg (by decide), if_neg (by decide), if_neg (by decide), if_neg (by decide), if_neg (by decide), if_neg (by decide), if_neg (by decide), if_neg (by decide), if_neg (by decide), if_neg (by decide), if_neg (by decide), if_neg (by decide), if_neg (by decide), if_pos (show nI 74 = 74 by rfl), h30]
theorem st_75 {A B : Sx} {b : Pb} {mem : Nat → Nat} {sp L x y z a : Nat} {fl gl s : Nat → Int64} {fs : List Nat} {ou inp : List Int32} {pc : Int64} {n : Int32} (hX : XMc A b mem sp L fl gl s ou inp pc n 0) (hM : MMc B b mem sp L fl gl s ou inp pc n 0) (hO : mcOK b mem sp L fl fs ou inp) (hx : x < 256) (hy : y < 256) (hz : z < 256) (ha : a < 65536) (h30 : gI B 167 30 = nI x) (h31 : gI B 167 31 = nI y) (h32 : gI B 167 32 = nI z) (h33 : gI B 167 33 = nI a) (hx32 : x < 32) (hs : sp + rL L x ≤ 600) : StR A B n (XE 75 x y z a A) (ME 75 a B) := by
  refine st_v (rGet sp L fl gl x + (lN (y * 256 + z) <<< ((16 * (nI 75 - 74)).toInt64 &&& 63))) (lN a + 4) hX hM hO (by decide) hx32 hs ?_ ?_
  · unfold X5_orderElse X5_orderElse_264
    rw [vl_e, vl_e, if_pos (show (65 : Int32) < nI 75 by decide), if_neg (by decide), if_neg (by decide), if_neg (by decide), if_neg (by decide), if_pos (show (74 : Int32) ≤ nI 75 by decide), if_neg (show ¬ (77 : Int32) < nI 75 by decide), x_rget hX.2.2.1 hx32 hO.2.2.1 hO.2.2.2.1, bd_rt, show nI (wd 75 x y z) &&& 65535 = nI (y * 256 + z) from low_e hy hz, nI_l (by omega)]
  · rw [m_oth hM.2.2.1 hO.2.2.1 hx hy hz ha h30 h31 h32 h33 (by decide) (by decide) (by decide), Nat.mod_eq_of_lt hx32]
    unfold X12_other_61 X12_other_356
    rw [vl_e, if_neg (by decide), if_neg (by decide), if_neg (by decide), if_neg (by decide), if_neg (by decide), if_neg (by decide), if_neg (by decide), if_neg (by decide), if_neg (by decide), if_neg (by decide), if_neg (by decide), if_neg (by decide), if_neg (by decide), if_neg (by decide), if_neg (by decide), if_pos (show nI 75 = 75 by rfl), h30]
theorem st_76 {A B : Sx} {b : Pb} {mem : Nat → Nat} {sp L x y z a : Nat} {fl gl s : Nat → Int64} {fs : List Nat} {ou inp : List Int32} {pc : Int64} {n : Int32} (hX : XMc A b mem sp L fl gl s ou inp pc n 0) (hM : MMc B b mem sp L fl gl s ou inp pc n 0) (hO : mcOK b mem sp L fl fs ou inp) (hx : x < 256) (hy : y < 256) (hz : z < 256) (ha : a < 65536) (h30 : gI B 167 30 = nI x) (h31 : gI B 167 31 = nI y) (h32 : gI B 167 32 = nI z) (h33 : gI B 167 33 = nI a) (hx32 : x < 32) (hs : sp + rL L x ≤ 600) : StR A B n (XE 76 x y z a A) (ME 76 a B) := by
  refine st_v (rGet sp L fl gl x + (lN (y * 256 + z) <<< ((16 * (nI 76 - 74)).toInt64 &&& 63))) (lN a + 4) hX hM hO (by decide) hx32 hs ?_ ?_
  · unfold X5_orderElse X5_orderElse_264
    rw [vl_e, vl_e, if_pos (show (65 : Int32) < nI 76 by decide), if_neg (by decide), if_neg (by decide), if_neg (by decide), if_neg (by decide), if_pos (show (74 : Int32) ≤ nI 76 by decide), if_neg (show ¬ (77 : Int32) < nI 76 by decide), x_rget hX.2.2.1 hx32 hO.2.2.1 hO.2.2.2.1, bd_rt, show nI (wd 76 x y z) &&& 65535 = nI (y * 256 + z) from low_e hy hz, nI_l (by omega)]
  · rw [m_oth hM.2.2.1 hO.2.2.1 hx hy hz ha h30 h31 h32 h33 (by decide) (by decide) (by decide), Nat.mod_eq_of_lt hx32]
    unfold X12_other_61 X12_other_356
    rw [vl_e, if_neg (by decide), if_neg (by decide), if_neg (by decide), if_neg (by decide), if_neg (by decide), if_neg (by decide), if_neg (by decide), if_neg (by decide), if_neg (by decide), if_neg (by decide), if_neg (by decide), if_neg (by decide), if_neg (by decide), if_neg (by decide), if_neg (by decide), if_neg (by decide), if_pos (show nI 76 = 76 by rfl), h30]
theorem st_77 {A B : Sx} {b : Pb} {mem : Nat → Nat} {sp L x y z a : Nat} {fl gl s : Nat → Int64} {fs : List Nat} {ou inp : List Int32} {pc : Int64} {n : Int32} (hX : XMc A b mem sp L fl gl s ou inp pc n 0) (hM : MMc B b mem sp L fl gl s ou inp pc n 0) (hO : mcOK b mem sp L fl fs ou inp) (hx : x < 256) (hy : y < 256) (hz : z < 256) (ha : a < 65536) (h30 : gI B 167 30 = nI x) (h31 : gI B 167 31 = nI y) (h32 : gI B 167 32 = nI z) (h33 : gI B 167 33 = nI a) (hx32 : x < 32) (hs : sp + rL L x ≤ 600) : StR A B n (XE 77 x y z a A) (ME 77 a B) := by
  refine st_v (rGet sp L fl gl x + (lN (y * 256 + z) <<< ((16 * (nI 77 - 74)).toInt64 &&& 63))) (lN a + 4) hX hM hO (by decide) hx32 hs ?_ ?_
  · unfold X5_orderElse X5_orderElse_264
    rw [vl_e, vl_e, if_pos (show (65 : Int32) < nI 77 by decide), if_neg (by decide), if_neg (by decide), if_neg (by decide), if_neg (by decide), if_pos (show (74 : Int32) ≤ nI 77 by decide), if_neg (show ¬ (77 : Int32) < nI 77 by decide), x_rget hX.2.2.1 hx32 hO.2.2.1 hO.2.2.2.1, bd_rt, show nI (wd 77 x y z) &&& 65535 = nI (y * 256 + z) from low_e hy hz, nI_l (by omega)]
  · rw [m_oth hM.2.2.1 hO.2.2.1 hx hy hz ha h30 h31 h32 h33 (by decide) (by decide) (by decide), Nat.mod_eq_of_lt hx32]
    unfold X12_other_61 X12_other_356
    rw [vl_e, if_neg (by decide), if_neg (by decide), if_neg (by decide), if_neg (by decide), if_neg (by decide), if_neg (by decide), if_neg (by decide), if_neg (by decide), if_neg (by decide), if_neg (by decide), if_neg (by decide), if_neg (by decide), if_neg (by decide), if_neg (by decide), if_neg (by decide), if_neg (by decide), if_neg (by decide), if_pos (show nI 77 = 77 by rfl), h30]
theorem st_78 {A B : Sx} {b : Pb} {mem : Nat → Nat} {sp L x y z a : Nat} {fl gl s : Nat → Int64} {fs : List Nat} {ou inp : List Int32} {pc : Int64} {n : Int32} (hX : XMc A b mem sp L fl gl s ou inp pc n 0) (hM : MMc B b mem sp L fl gl s ou inp pc n 0) (hO : mcOK b mem sp L fl fs ou inp) (hx : x < 256) (hy : y < 256) (hz : z < 256) (ha : a < 65536) (h30 : gI B 167 30 = nI x) (h31 : gI B 167 31 = nI y) (h32 : gI B 167 32 = nI z) (h33 : gI B 167 33 = nI a) (hx32 : x < 32) (hs : sp + rL L x ≤ 600) (hz4 : z ≤ 4) : StR A B n (XE 78 x y z a A) (ME 78 a B) := by
  refine st_v (if z = 4 then lN L else s z) (lN a + 4) hX hM hO (by decide) hx32 hs ?_ ?_
  · unfold X5_orderElse X5_orderElse_264 X5_special
    rw [vl_e, vl_e, if_pos (show (65 : Int32) < nI 78 by decide), if_neg (by decide), if_neg (by decide), if_neg (by decide), if_neg (by decide), if_pos (show (74 : Int32) ≤ nI 78 by decide), if_pos (show (77 : Int32) < nI 78 by decide), if_pos (show nI 78 = 78 by rfl), show nI (wd 78 x y z) &&& 255 = nI z from z_e hz]
    by_cases q : z = 4
    · rw [if_pos (show nI z = 4 by rw [q]; rfl), if_pos q, hX.2.2.1.2.1, nI_l (by have := hO.2.2.1; omega), bd_rt]
    · rw [if_neg (show ¬ nI z = 4 from fun e => q ((nI_eq (a := z) (b := 4) (by omega) (by omega)).mp e)), if_neg q, lL_n (by omega) (by omega), hX.2.2.2.1 z (by omega), bd_rt]
  · rw [m_oth hM.2.2.1 hO.2.2.1 hx hy hz ha h30 h31 h32 h33 (by decide) (by decide) (by decide)]
    unfold X12_other_61
    rw [vl_e, if_neg (by decide), if_neg (by decide), if_neg (by decide), if_neg (by decide), if_neg (by decide), if_neg (by decide), if_neg (by decide), if_neg (by decide), if_neg (by decide), if_neg (by decide), if_neg (by decide), if_neg (by decide), if_neg (by decide), if_neg (by decide), if_neg (by decide), if_neg (by decide), if_neg (by decide), if_neg (by decide), if_pos (show nI 78 = 78 by rfl), h30, h32, lL_n (by omega) (by omega)]
    by_cases q : z = 4
    · rw [if_pos q, q, hM.2.2.1.2.1]
    · rw [if_neg q, hM.2.2.2.1 z (by omega)]
end
section
set_option maxRecDepth 100000
theorem call_OK {b : Pb} {mem : Nat → Nat} {sp L x : Nat} {fl : Nat → Int64} {fs : List Nat} {ou inp : List Int32} (h : mcOK b mem sp L fl fs ou inp) (hs : sp + (dK x L + 1) ≤ 600) : mcOK b mem (sp + (dK x L + 1)) (L - (dK x L + 1)) (dFl sp L fl (dK x L)) (dK x L :: fs) ou inp := by
  obtain ⟨h1, h2, h3, h4, h5, h6⟩ := h
  have hk : dK x L ≤ 16 := by unfold dK; split <;> omega
  refine ⟨h1, h2, by omega, by omega, ⟨?_, hk, by omega, ?_⟩, h6⟩
  · unfold dFl
    rw [show sp + (dK x L + 1) - 1 = sp + dK x L by omega, up_s]
  · rw [show sp + (dK x L + 1) - (dK x L + 1) = sp by omega]
    refine h5.congr (fun i hi => ?_)
    unfold dFl
    rw [up_n _ _ (by omega)]
    exact if_neg (by omega)
theorem give_OK {b : Pb} {mem : Nat → Nat} {sp L x c : Nat} {fl : Nat → Int64} {fs : List Nat} {ou inp : List Int32} (h : mcOK b mem sp L fl (c :: fs) ou inp) : mcOK b mem (sp - (c + 1)) (min 16 (c + upC x L)) (uFl sp x L fl) fs ou inp := by
  obtain ⟨h1, h2, h3, h4, ⟨f1, f2, f3, f4⟩, h6⟩ := h
  have hu : upC x L ≤ L + 1 := by unfold upC; split; omega; split <;> omega
  refine ⟨h1, h2, by omega, by omega, f4.congr (fun i hi => ?_), h6⟩
  unfold uFl
  split
  · rfl
  · rw [up_n _ _ (by omega)]
theorem st_67 {A B : Sx} {b : Pb} {mem : Nat → Nat} {sp L x y z a : Nat} {fl gl s : Nat → Int64} {fs : List Nat} {ou inp : List Int32} {pc : Int64} {n : Int32} (hX : XMc A b mem sp L fl gl s ou inp pc n 0) (hM : MMc B b mem sp L fl gl s ou inp pc n 0) (hO : mcOK b mem sp L fl fs ou inp) (hx : x < 256) (hy : y < 256) (hz : z < 256) (ha : a < 65536) (h30 : gI B 167 30 = nI x) (h31 : gI B 167 31 = nI y) (h32 : gI B 167 32 = nI z) (h33 : gI B 167 33 = nI a) (hs : sp + (dK x L + 1) ≤ 600) : StR A B n (XE 67 x y z a A) (ME 67 a B) := by
  obtain ⟨A1, e1, e2, e3⟩ := xm_down hX hO.1 hx hO.2.2.1 hs
  obtain ⟨B1, f1, f2, f3⟩ := mm_call hM hO.2.2.1 hx hs hO.2.2.2.1
  obtain ⟨g1, g2⟩ := xm_spc (k := 3) (lN a + 4) e2 hO.1
  obtain ⟨k1, k2⟩ := mm_spc (k := 3) (lN a + 4) (by omega) f2
  have hxe : X5_orderElse (nI 67) (nI x) (nI (wd 67 x y z)) (lN a) A = rt (tg a y z) (pL A1 144 3 (lN a + 4)) := by
    unfold X5_orderElse
    rw [vl_e, vl_e, tg_e a hy hz, if_pos (show (65 : Int32) < nI 67 by decide), if_neg (by decide), if_pos (show nI 67 = 67 by rfl), e1, bd_rt, show (3 : Int32) = nI 3 from rfl, sL_n (by omega) (by omega)]
  have hme : X12_other (nI 67) (lN a + 4) B = rt (tg a y z) (pL B1 172 3 (lN a + 4)) := by
    rw [m_oth' hy hz ha h31 h32 h33 (Or.inl rfl)]
    unfold X12_other_61
    rw [vl_e, if_neg (by decide), if_neg (by decide), if_neg (by decide), if_neg (by decide), if_neg (by decide), if_neg (by decide), if_neg (by decide), if_pos (show nI 67 = 67 by rfl), h30, f1, bd_rt, show (3 : Int32) = nI 3 from rfl, sL_n (by omega) (by omega)]
  unfold XE ME
  rw [hxe, hme]
  exact StR.pre (st_go _ g1 k1 (call_OK hO hs) (by decide)) (e3.trans g2) (mSt_S2 ((f3.mono (by unfold mRl mSt; intro c k; omega)).trans (k2.mono (by unfold mRk mSt; intro c k; omega))))
theorem st_68 {A B : Sx} {b : Pb} {mem : Nat → Nat} {sp L x y z a : Nat} {fl gl s : Nat → Int64} {fs : List Nat} {ou inp : List Int32} {pc : Int64} {n : Int32} (hX : XMc A b mem sp L fl gl s ou inp pc n 0) (hM : MMc B b mem sp L fl gl s ou inp pc n 0) (hO : mcOK b mem sp L fl fs ou inp) (hx : x < 256) (hy : y < 256) (hz : z < 256) (ha : a < 65536) (h30 : gI B 167 30 = nI x) (h31 : gI B 167 31 = nI y) (h32 : gI B 167 32 = nI z) (h33 : gI B 167 33 = nI a) (hs : 0 < sp) : StR A B n (XE 68 x y z a A) (ME 68 a B) := by
  obtain ⟨c, l, rfl⟩ : ∃ c l, fs = c :: l := by
    cases fs with
    | nil => exact absurd hO.2.2.2.2.1 (by show ¬ sp = 0; omega)
    | cons c l => exact ⟨c, l, rfl⟩
  obtain ⟨A1, e1, e2, e3⟩ := xm_up (x := x) hX hO.1 hx hO.2.2.1 hO.2.2.2.1 hO.2.2.2.2.1
  obtain ⟨B1, f1, f2, f3⟩ := mm_give (x := x) hM hO.2.2.1 hx hO.2.2.2.1 hO.2.2.2.2.1
  have hxe : X5_orderElse (nI 68) (nI x) (nI (wd 68 x y z)) (lN a) A = rt (s 3 + 4 * lN (y * 256 + z)) A1 := by
    unfold X5_orderElse
    rw [vl_e, vl_e, if_pos (show (65 : Int32) < nI 68 by decide), if_neg (by decide), if_neg (by decide), if_pos (show nI 68 = 68 by rfl), e1, bd_rt, show (3 : Int32) = nI 3 from rfl, lL_n (by omega) (by omega), e2.2.2.2.1 3 (by omega), show nI (wd 68 x y z) &&& 65535 = nI (y * 256 + z) from low_e hy hz, nI_l (by omega)]
  have hme : X12_other (nI 68) (lN a + 4) B = rt (s 3 + 4 * lN (y * 256 + z)) B1 := by
    rw [m_oth' hy hz ha h31 h32 h33 (Or.inr rfl)]
    unfold X12_other_61
    rw [vl_e, if_neg (by decide), if_neg (by decide), if_neg (by decide), if_neg (by decide), if_neg (by decide), if_neg (by decide), if_neg (by decide), if_neg (by decide), if_pos (show nI 68 = 68 by rfl), h30, f1, bd_rt, show (3 : Int32) = nI 3 from rfl, lL_n (by omega) (by omega), f2.2.2.2.1 3 (by omega)]
  unfold XE ME
  rw [hxe, hme]
  exact StR.pre (st_go _ e2 f2 (give_OK hO) (by decide)) e3 (mSt_S2 (f3.mono (by unfold mRl mSt; intro c k; omega)))
end
section
set_option maxRecDepth 100000
theorem XR.less {A : Sx} {sp L k : Nat} {fl gl : Nat → Int64} (h : XR A sp L fl gl) (hk : k ≤ L) : XR (pI A 139 5 (nI k)) sp k fl gl := by
  obtain ⟨a, b, ⟨sv, c1, c2, c3, c4, c5⟩, d⟩ := h
  refine ⟨?_, ?_, ⟨sv, ?_, c2, by omega, c4, fun i hi hi2 => c5 i hi (by omega)⟩, d⟩
  · rw [gI_pI, if_neg (by omega)]; exact a
  · rw [gI_pI, if_pos ⟨rfl, rfl⟩]
  · rw [gI_pI, if_neg (by omega)]; exact c1
theorem MR.less {B : Sx} {sp L k : Nat} {fl gl : Nat → Int64} (h : MR B sp L fl gl) (hk : k ≤ L) : MR (pL B 172 4 (lN k)) sp k fl gl := by
  obtain ⟨a, b, c, d, e⟩ := h
  refine ⟨a, by rw [gL_pL, if_pos ⟨rfl, rfl⟩], fun i hi => ?_, fun i hi => ?_, fun i hi hi2 => ?_⟩
  · rw [gL_pL, if_neg (by omega)]; exact c i hi
  · rw [gL_pL, if_neg (by omega)]; exact d i (by omega)
  · rw [gL_pL, if_neg (by omega)]; exact e i hi hi2
theorem uL_lt {v : Int64} {L : Nat} (hL : L ≤ 16) : uN v < L ↔ ¬ v < 0 ∧ v < lN L := by
  have h := uN_lt v
  rw [l_lt, l_lt, uN_int, lN_toInt (by omega), show (0 : Int64).toInt = 0 from rfl]
  split <;> omega
theorem st_79 {A B : Sx} {b : Pb} {mem : Nat → Nat} {sp L x y z a : Nat} {fl gl s : Nat → Int64} {fs : List Nat} {ou inp : List Int32} {pc : Int64} {n : Int32} (hX : XMc A b mem sp L fl gl s ou inp pc n 0) (hM : MMc B b mem sp L fl gl s ou inp pc n 0) (hO : mcOK b mem sp L fl fs ou inp) (hx : x < 256) (hy : y < 256) (hz : z < 256) (ha : a < 65536) (h30 : gI B 167 30 = nI x) (h31 : gI B 167 31 = nI y) (h32 : gI B 167 32 = nI z) (h33 : gI B 167 33 = nI a) (hx4 : x ≤ 4) (hz32 : z < 32) : StR A B n (XE 79 x y z a A) (ME 79 a B) := by
  have hL := hO.2.2.1
  have hxe0 : X5_orderElse (nI 79) (nI x) (nI (wd 79 x y z)) (lN a) A = bd (X5_put (nI x) (rGet sp L fl gl z) A) (fun _ S2 => rt (lN a + 4) S2) := by
    unfold X5_orderElse X5_orderElse_264
    rw [vl_e, vl_e, if_pos (show (65 : Int32) < nI 79 by decide), if_neg (by decide), if_neg (by decide), if_neg (by decide), if_neg (by decide), if_pos (show (74 : Int32) ≤ nI 79 by decide), if_pos (show (77 : Int32) < nI 79 by decide), if_neg (by decide), if_pos (show nI 79 = 79 by rfl), show nI (wd 79 x y z) &&& 255 = nI z from z_e hz, x_rget hX.2.2.1 hz32 hL hO.2.2.2.1, bd_rt]
  have hme0 : X12_other (nI 79) (lN a + 4) B = if 4 ≤ nI x then (if decide (uN (rGet sp L fl gl z) < L) = true then rt (lN a + 4) (pL B 172 4 (rGet sp L fl gl z)) else rt (lN a + 4) B) else sL B 172 5 (nI x) (rGet sp L fl gl z) (fun S7 => rt (lN a + 4) S7) := by
    rw [m_oth hM.2.2.1 hL hx hy hz ha h30 h31 h32 h33 (by decide) (by decide) (by decide)]
    unfold X12_other_61
    rw [vl_e, if_neg (by decide), if_neg (by decide), if_neg (by decide), if_neg (by decide), if_neg (by decide), if_neg (by decide), if_neg (by decide), if_neg (by decide), if_neg (by decide), if_neg (by decide), if_neg (by decide), if_neg (by decide), if_neg (by decide), if_neg (by decide), if_neg (by decide), if_neg (by decide), if_neg (by decide), if_neg (by decide), if_neg (by decide), if_pos (show nI 79 = 79 by rfl), h30, h32, m_rget hM.2.2.1 hz32 hL, bd_rt, bd_rt]
    rw [show (4 : Int32) = nI 4 from rfl, lL_n (by omega) (by omega), hM.2.2.1.2.1, m_less, bd_rt, show uN (lN L) = L from by rw [uN_lN]; omega, h32, m_rget hM.2.2.1 hz32 hL, bd_rt, sL_n (k := 4) (by omega) (by omega)]
    by_cases q : uN (rGet sp L fl gl z) < L
    · rw [decide_eq_true q, if_neg (show ¬ b1 true = 0 by decide), if_pos (show true = true from rfl)]
    · rw [decide_eq_false q, if_pos (show b1 false = 0 by rfl), if_neg (show ¬ false = true by decide)]
  unfold XE ME
  rw [hxe0, hme0]
  generalize rGet sp L fl gl z = v
  unfold X5_put
  by_cases q4 : 4 ≤ x
  · rw [if_pos (lit_le q4 (by omega)), if_pos (lit_le q4 (by omega)), hX.2.2.1.2.1, nI_l (by omega)]
    by_cases q : uN v < L
    · have hv := (uL_lt hL).mp q
      have hvv : v = lN (uN v) := (lN_uN v).symm
      rw [if_neg hv.1, if_neg (fun e => by have := hv.2; rw [l_lt] at this; rw [l_le] at e; omega), decide_eq_true q, if_pos (show true = true from rfl)]
      have hcut : X6_cut v.toInt32 A = rt () (pI A 139 5 (nI (uN v))) := by
        unfold X6_cut X6_cut_17
        rw [hvv, lN_i, hX.2.2.1.2.1, uN_lN, show uN v % 18446744073709551616 = uN v by omega, if_neg (nI_ge q (by omega)), pt_e]
      rw [hcut, bd_rt, bd_rt]
      have e3 : Sm xRl A (pI A 139 5 (nI (uN v))) := Sm.pI (by unfold xRl; omega)
      have f3 : Sm mRl B (pL B 172 4 v) := Sm.pL (by unfold mRl; omega)
      have hX' : XMc (pI A 139 5 (nI (uN v))) b mem sp (uN v) fl gl s ou inp pc n 0 := by
        obtain ⟨h1, h2, h3, h4, h5, h6, h7, h8, h9⟩ := hX
        have e3 := e3
        unfold xRl at e3
        exact ⟨by rw [e3.K]; exact h1, h2.sm hO.1 e3 (by intro c k; omega), h3.less (by omega), h4.sm e3 (by intro c k; omega), h5.sm e3 (by intro c k; omega), h6.sm e3 (by intro c k; omega), by rw [e3.L (by omega)]; exact h7, by rw [e3.I (by omega)]; exact h8, by rw [e3.I (by omega)]; exact h9⟩
      have hM' : MMc (pL B 172 4 v) b mem sp (uN v) fl gl s ou inp pc n 0 := by
        obtain ⟨h2, h1, h3, h4, h5, h6, h7, h8, h9⟩ := hM
        have e4 : Sm (fun c k => c = 172 ∧ k = 4) B (pL B 172 4 v) := Sm.pL ⟨rfl, rfl⟩
        exact ⟨MP_back h2 e4 (by intro c k; omega), h1.sm e4 (by intro c k; omega), by have := h3.less (k := uN v) (by omega); rw [lN_uN] at this; exact this, h4.sm e4 (by intro c k; omega), h5.sm e4 (by intro c k; omega), h6.sm e4 (by intro c k; omega), by rw [e4.L (by omega)]; exact h7, by rw [e4.I (by omega)]; exact h8, by rw [e4.I (by omega)]; exact h9⟩
      exact StR.pre (st_go _ hX' hM' ⟨hO.1, hO.2.1, by omega, by have := hO.2.2.2.1; omega, hO.2.2.2.2⟩ (by decide)) (e3.mono (by unfold xRl xSt; intro c k; omega)) (mSt_S2 (f3.mono (by unfold mRl mSt; intro c k; omega)))
    · rw [decide_eq_false q, if_neg (show ¬ false = true by decide)]
      have hx1 : (if v < 0 then rt () A else if lN L ≤ v then rt () A else bd (X6_cut v.toInt32 A) (fun _ S1 => rt () S1)) = rt () A := by
        by_cases q1 : v < 0
        · rw [if_pos q1]
        · rw [if_neg q1, if_pos (by
            have : ¬ v < lN L := fun e => q ((uL_lt hL).mpr ⟨q1, e⟩)
            rw [l_lt] at this
            rw [l_le]; omega)]
      rw [hx1, bd_rt]
      exact st_go _ hX hM hO (by decide)
  · rw [if_neg (lit_ge (N := 4) (by omega) (by omega)), if_neg (lit_ge (N := 4) (by omega) (by omega)), sL_n (by omega) (by omega), sL_n (by omega) (by omega), bd_rt]
    obtain ⟨g1, g2⟩ := xm_spc (k := x) v hX hO.1
    obtain ⟨k1, k2⟩ := mm_spc (k := x) v (by omega) hM
    exact StR.pre (st_go _ g1 k1 hO (by decide)) g2 (mSt_S2 (k2.mono (by unfold mRk mSt; intro c k; omega)))
end
section
set_option maxRecDepth 100000
/-! ===== the step ===== -/
theorem m_call5 {B : Sx} {sp L x : Nat} {fl gl : Nat → Int64} (h : MR B sp L fl gl) (hr : roomM B) (hL : L ≤ 16) (hx : x < 256) (hsp : sp ≤ 600) (hs : ¬ (dK x L + 1 ≤ L ∨ sp + (dK x L + 1) ≤ 600)) : X12_call (nI x) B = th (gn B) (mE B 5) := by
  have hst : X12_call (nI x) B = X12_call_14 (nI x) (nI (dK x L)) B := by
    unfold X12_call dK
    by_cases hx16 : x < 16
    · rw [if_pos (lit_lt hx16 (by omega)), if_pos hx16]
    · rw [if_neg (lit_gt (N := 16) (by omega) (by omega)), if_neg hx16, m_rL h, bd_rt]
  have hk : dK x L ≤ 16 := by unfold dK; split <;> omega
  rw [hst]
  unfold X12_call_14 J7_max
  rw [vl_e, m_rL h, bd_rt, nI_1, if_neg (nI_nlt (by omega) (by omega)), bd_rt, h.1, nI_add, if_neg (show ¬ nI (sp + (dK x L + 1)) ≤ 600 from nI_ge (a := 600) (b := sp + (dK x L + 1)) (by omega) (by omega)), m_end hr]
theorem m_give8 {B : Sx} {L x : Nat} {fl gl : Nat → Int64} (h : MR B 0 L fl gl) (hr : roomM B) : X12_giveBack (nI x) B = th (gn B) (mE B 8) := by
  unfold X12_giveBack
  rw [h.1, if_pos nI_0, m_end hr]
theorem isA_u (x : Int64) : isA x = decide (uN x < 65536) := by
  unfold isA
  have h := uN_lt x
  apply decide_eq_decide.mpr
  rw [l_lt, l_lt, uN_int, show (0 : Int64).toInt = 0 from rfl, show (65536 : Int64).toInt = 65536 from rfl]
  split <;> omega
theorem and4 (x : Int64) : uN (x &&& (-4)) = uN x / 4 * 4 := by
  have e : uN (x &&& (-4)) = uN x &&& uN (-4 : Int64) := UInt64.toNat_and _ _
  rw [e, show uN (-4 : Int64) = 18446744073709551612 from rfl]
  apply Nat.eq_of_testBit_eq
  intro i
  rw [Nat.testBit_and, show (4 : Nat) = 2 ^ 2 from rfl, Nat.testBit_mul_two_pow, Nat.testBit_div_two_pow]
  have h := uN_lt x
  by_cases hi : i < 64
  · have e3 : ∀ i, i < 64 → (18446744073709551612 : Nat).testBit i = decide (2 ≤ i) := by decide +kernel
    rw [e3 i hi]
    by_cases q : 2 ≤ i
    · simp [q, show i - 2 + 2 = i by omega]
    · simp [q]
  · have : 2 ^ 64 ≤ 2 ^ i := Nat.pow_le_pow_right (by omega) (by omega)
    rw [Nat.testBit_lt_two_pow (x := uN x) (i := i) (by omega), show i - 2 + 2 = i by omega, Nat.testBit_lt_two_pow (x := uN x) (i := i) (by omega)]
    simp
theorem pc4 {x : Int64} : isA (x &&& (-4)) = isA x := by
  rw [isA_u, isA_u, and4]
  apply decide_eq_decide.mpr
  omega
theorem pcA {p : Nat} (h : p < 65536) : lN p &&& (-4) = lN (p / 4 * 4) := by
  apply uN_inj
  rw [and4, uN_lN, uN_lN]
  omega
theorem chk_t (op x y z sp L t : Nat) : chk op x y z sp L t = if chk op x y z sp L 0 = 0 then t else chk op x y z sp L 0 := by
  unfold chk ckR ck78 ck79 ckW
  by_cases h0 : opO op = true
  · rw [if_pos h0, if_pos h0]
    by_cases h1 : (opX op = true ∧ 31 < x) ∨ (opY op = true ∧ 31 < y) ∨ (opZ op = true ∧ 31 < z)
    · rw [if_pos h1, if_pos h1]; rfl
    · rw [if_neg h1, if_neg h1]
      by_cases h2 : op = 78 ∧ 4 < z
      · rw [if_pos h2, if_pos h2]; rfl
      · rw [if_neg h2, if_neg h2]
        by_cases h3 : op = 79 ∧ 4 < x
        · rw [if_pos h3, if_pos h3]; rfl
        · rw [if_neg h3, if_neg h3]
          by_cases h4 : opW op = true ∧ x < 16 ∧ ¬ x < L ∧ ¬ sp + (x + 1) ≤ 600
          · rw [if_pos h4, if_pos h4]; rfl
          · rw [if_neg h4, if_neg h4]; rfl
  · rw [if_neg h0, if_neg h0]; rfl
theorem chk_lt (op x y z sp L t : Nat) (ht : t < 9) : chk op x y z sp L t < 9 := by
  unfold chk ckR ck78 ck79 ckW
  repeat' split
  all_goals omega
end
section
set_option maxRecDepth 100000
noncomputable def XX (op x y z a : Nat) (A : Sx) : Rs Unit := if nI op < 36 then X5_step_125 (lN a) (nI (wd op x y z)) (nI op) (nI x) (nI y) (nI z) (lN a + 4) A else if 50 ≤ nI op then X5_step_125 (lN a) (nI (wd op x y z)) (nI op) (nI x) (nI y) (nI z) (lN a + 4) A else bd (X6_get (nI y) A) (fun v10 S5 => bd (X5_right (nI op) (nI z) S5) (fun v11 S6 => bd (X5_access (nI op) (nI x) (v10 + v11) S6) (fun _ S7 => X5_step_256 (lN a + 4) S7)))
theorem XX_125 {op x y z a : Nat} {A : Sx} (h : op < 36 ∨ 50 ≤ op) (hop : op < 256) : XX op x y z a A = X5_step_125 (lN a) (nI (wd op x y z)) (nI op) (nI x) (nI y) (nI z) (lN a + 4) A := by
  unfold XX
  by_cases q : op < 36
  · rw [if_pos (lit_lt q (by omega))]
  · rw [if_neg (lit_gt (N := 36) (by omega) (by omega)), if_pos (lit_le (N := 50) (by omega) (by omega))]
theorem XX_oth {op x y z a : Nat} {A : Sx} (h : 60 ≤ op ∧ op ≤ 80) : XX op x y z a A = XE op x y z a A := by
  rw [XX_125 (by omega) (by omega)]
  unfold X5_step_125 XE
  rw [x_T (by omega), bd_rt, show opT op = false from decide_eq_false (by omega), if_pos (show b1 false = 0 by rfl), if_neg (nI_ne0 (by omega) (by omega))]
theorem MX_oth {op a : Nat} {B : Sx} (h33 : gI B 167 33 = nI a) (ha : a < 65536) (h : 60 ≤ op ∧ op ≤ 80) : X12_step_241 (nI op) B = ME op a B := by
  unfold X12_step_241 ME
  rw [vl_e, if_neg (nI_ne0 (by omega) (by omega)), if_pos (lit_le (N := 36) (by omega) (by omega)), if_pos (lit_le (N := 60) (by omega) (by omega)), h33, nI_l (n := a) (by omega)]
theorem st_trap {A B : Sx} {b : Pb} {mem : Nat → Nat} {sp L x y z a : Nat} {fl gl s : Nat → Int64} {fs : List Nat} {ou inp : List Int32} {pc : Int64} {n : Int32} (hX : XMc A b mem sp L fl gl s ou inp pc n 0) (hM : MMc B b mem sp L fl gl s ou inp pc n 0) (hO : mcOK b mem sp L fl fs ou inp) (hr : roomM B) (hz : z < 256) (ha : a < 65536) (h32 : gI B 167 32 = nI z) (h33 : gI B 167 33 = nI a) : StR A B n (XX 0 x y z a A) (X12_step_241 (nI 0) B) := by
  rw [XX_125 (by omega) (by omega)]
  unfold X5_step_125 X12_step_241
  rw [x_T (by omega), bd_rt, show opT 0 = false from rfl, if_pos (show b1 false = 0 by rfl), if_pos nI_0, vl_e, if_pos nI_0, h33, nI_l (n := a) (by omega)]
  by_cases h0 : z = 0
  · subst h0
    have e1 : X5_trap (nI 0) A = rt () (pI A 138 7 1) := by
      unfold X5_trap X5_trap_11
      rw [if_neg (by decide), x_want1, bd_rt, if_pos nI_0, pt_e]
    have e2 : X12_trap B = rt () B := by
      unfold X12_trap X12_trap_100
      rw [h32, if_pos (by decide), show (31 : Int32) = nI 31 from rfl, lL_n (by omega) (by omega), vl_e, if_neg (by decide), if_neg (by decide)]
    rw [e1, bd_rt, e2, bd_rt]
    exact st_halt _ ⟨b, mem, sp, L, fl, gl, fs, s, ou, inp, hX, hM, hO⟩ hr (by rw [h32]; rfl)
  · rcases tr_trap hX hM hO hr (by omega) hz h32 with ⟨A', B', e1, e2, e3⟩ | ⟨A', B', c, e1, e2, e3, e4⟩
    · rw [e1, bd_rt, e2, bd_rt]
      refine st_end _ e3 (by omega) (Or.inr ?_)
      rw [e3.2.2.I (by unfold mSt; omega), h32]
      exact nI_ne0 (by omega) (by omega)
    · rw [e1, bd_th, e2, bd_th]
      exact st_fault e4 e3
theorem st_exec {A B : Sx} {b : Pb} {mem : Nat → Nat} {sp L op x y z a : Nat} {fl gl s : Nat → Int64} {fs : List Nat} {ou inp : List Int32} {pc : Int64} {n : Int32} (hX : XMc A b mem sp L fl gl s ou inp pc n 0) (hM : MMc B b mem sp L fl gl s ou inp pc n 0) (hO : mcOK b mem sp L fl fs ou inp) (hr : roomM B) (hop : op < 256) (hx : x < 256) (hy : y < 256) (hz : z < 256) (ha : a < 65536) (h30 : gI B 167 30 = nI x) (h31 : gI B 167 31 = nI y) (h32 : gI B 167 32 = nI z) (h33 : gI B 167 33 = nI a) (hc : chk op x y z sp L (ck67 op x sp L) = 0) : StR A B n (XX op x y z a A) (X12_step_241 (nI op) B) := by
  obtain ⟨c0, cX, cY, cZ, c78, c79, cW, c67⟩ := chk_ok hc
  have hO0 : op = 0 ∨ (2 ≤ op ∧ op ≤ 33) ∨ (36 ≤ op ∧ op ≤ 49) ∨ (50 ≤ op ∧ op ≤ 53) ∨ (60 ≤ op ∧ op ≤ 80) := by
    have : ∀ op, op < 256 → opO op = true → op = 0 ∨ (2 ≤ op ∧ op ≤ 33) ∨ (36 ≤ op ∧ op ≤ 49) ∨ (50 ≤ op ∧ op ≤ 53) ∨ (60 ≤ op ∧ op ≤ 80) := by decide +kernel
    exact this op hop c0
  rcases hO0 with rfl | h | h | h | h
  · exact st_trap hX hM hO hr hz ha h32 h33
  · have hT : opT op = true := decide_eq_true (by omega)
    have hx32 : x < 32 := cX (by unfold opX; rw [hT]; rfl)
    have hzz : op % 2 = 0 → z < 32 := fun q => cZ (by unfold opZ; rw [hT, decide_eq_true q]; rfl)
    have hs : sp + rL L x ≤ 600 := rL_ok (cW (by unfold opW opS; rw [hT, decide_eq_false (by omega)]; rfl)) hO.2.2.2.1
    rw [XX_125 (by omega) hop]
    unfold X5_step_125 X12_step_241 X5_step_160
    rw [x_T hop, bd_rt, hT, if_neg (show ¬ b1 true = 0 by decide), if_pos (lit_lt (N := 52) (by omega) (by omega)), if_pos (lit_lt (N := 52) (by omega) (by omega)), vl_e, if_neg (nI_ne0 (by omega) (by omega)), if_neg (lit_ge (N := 36) (by omega) (by omega)), h33, nI_l (n := a) (by omega), h30, h31]
    by_cases h2 : 32 ≤ op
    · have e32 : (if nI op = 32 then X5_step_213 (nI op) (nI z) (lN a + 4) (nI y).toInt64 (nI op) (nI x) A else if nI op = 33 then X5_step_213 (nI op) (nI z) (lN a + 4) (nI y).toInt64 (nI op) (nI x) A else bd (X6_get (nI y) A) (fun v1 S1 => X5_step_213 (nI op) (nI z) (lN a + 4) v1 (nI op) (nI x) S1)) = X5_step_213 (nI op) (nI z) (lN a + 4) (nI y).toInt64 (nI op) (nI x) A := by
        have : op = 32 ∨ op = 33 := by omega
        rcases this with rfl | rfl
        · rw [if_pos (by rfl)]
        · rw [if_neg (by decide), if_pos (by rfl)]
      rw [e32, if_pos (lit_le (N := 32) (by omega) (by omega))]
      exact st_reckon hX hM hO h hx32 hzz hz hs h32 h30
    · have hy32 : y < 32 := cY (by unfold opY; rw [hT, decide_eq_true (by omega)]; rfl)
      rw [if_neg (show ¬ nI op = 32 from fun e => by have := (nI_eq (a := op) (b := 32) (by omega) (by omega)).mp e; omega), if_neg (show ¬ nI op = 33 from fun e => by have := (nI_eq (a := op) (b := 33) (by omega) (by omega)).mp e; omega), if_neg (lit_ge (N := 32) (by omega) (by omega)), x_rget hX.2.2.1 hy32 hO.2.2.1 hO.2.2.2.1, bd_rt, m_rget hM.2.2.1 hy32 hO.2.2.1, bd_rt]
      exact st_reckon hX hM hO h hx32 hzz hz hs h32 h30
  · have hT : opT op = true := decide_eq_true (by omega)
    have hx32 : x < 32 := cX (by unfold opX; rw [hT]; rfl)
    have hy32 : y < 32 := cY (by unfold opY; rw [hT, decide_eq_true (by omega)]; rfl)
    have hzz : op % 2 = 0 → z < 32 := fun q => cZ (by unfold opZ; rw [hT, decide_eq_true q]; rfl)
    have hs : op < 44 → sp + rL L x ≤ 600 := fun q => rL_ok (cW (by unfold opW opS; rw [hT, decide_eq_false (by omega)]; rfl)) hO.2.2.2.1
    unfold XX X12_step_241
    rw [if_neg (lit_gt (N := 36) (by omega) (by omega)), if_neg (lit_ge (N := 50) (by omega) (by omega)), vl_e, if_neg (nI_ne0 (by omega) (by omega)), if_pos (lit_le (N := 36) (by omega) (by omega)), if_neg (lit_ge (N := 60) (by omega) (by omega)), h33, nI_l (n := a) (by omega)]
    exact st_acc hX hM hO hr (by omega) hx32 hy32 hzz hz hs h32 h31 h30
  · have hT : opT op = true := decide_eq_true (by omega)
    have hx32 : x < 32 := cX (by unfold opX; rw [hT]; rfl)
    have hy32 : y < 32 := cY (by unfold opY; rw [hT, decide_eq_true (by omega)]; rfl)
    have hzz : op % 2 = 0 → z < 32 := fun q => cZ (by unfold opZ; rw [hT, decide_eq_true q]; rfl)
    have hs : sp + rL L x ≤ 600 := rL_ok (cW (by unfold opW opS; rw [hT, decide_eq_false (by omega)]; rfl)) hO.2.2.2.1
    rw [XX_125 (by omega) hop]
    unfold X12_step_241
    rw [vl_e, if_neg (nI_ne0 (by omega) (by omega)), if_pos (lit_le (N := 36) (by omega) (by omega)), if_neg (lit_ge (N := 60) (by omega) (by omega)), h33, nI_l (n := a) (by omega)]
    exact st_50 hX hM hO (by omega) hx32 hy32 hzz hz hs h32 h31 h30 rfl _
  · rw [XX_oth h, MX_oth h33 ha h]
    have hk : op = 60 ∨ op = 61 ∨ op = 62 ∨ op = 63 ∨ op = 64 ∨ op = 65 ∨ op = 66 ∨ op = 67 ∨ op = 68 ∨ op = 69 ∨ op = 70 ∨ op = 71 ∨ op = 72 ∨ op = 73 ∨ op = 74 ∨ op = 75 ∨ op = 76 ∨ op = 77 ∨ op = 78 ∨ op = 79 ∨ op = 80 := by omega
    have hxx : (60 ≤ op ∧ op ≤ 65) ∨ (69 ≤ op ∧ op ≤ 78) → x < 32 := fun q => cX (by unfold opX; rcases q with q | q <;> simp [q])
    have hss : 69 ≤ op ∧ op ≤ 78 → sp + rL L x ≤ 600 := fun q => rL_ok (cW (by unfold opW; simp [q])) hO.2.2.2.1
    rcases hk with rfl | rfl | rfl | rfl | rfl | rfl | rfl | rfl | rfl | rfl | rfl | rfl | rfl | rfl | rfl | rfl | rfl | rfl | rfl | rfl | rfl
    · exact st_60 hX hM hO hx hy hz ha h30 h31 h32 h33 (hxx (by omega))
    · exact st_61 hX hM hO hx hy hz ha h30 h31 h32 h33 (hxx (by omega))
    · exact st_62 hX hM hO hx hy hz ha h30 h31 h32 h33 (hxx (by omega))
    · exact st_63 hX hM hO hx hy hz ha h30 h31 h32 h33 (hxx (by omega))
    · exact st_64 hX hM hO hx hy hz ha h30 h31 h32 h33 (hxx (by omega))
    · exact st_65 hX hM hO hx hy hz ha h30 h31 h32 h33 (hxx (by omega))
    · exact st_66 hX hM hO hx hy hz ha h30 h31 h32 h33
    · exact st_67 hX hM hO hx hy hz ha h30 h31 h32 h33 (by unfold ck67 at c67; rw [if_pos rfl] at c67; split at c67; rename_i q; have := hO.2.2.2.1; omega; exact absurd c67 (by decide))
    · exact st_68 hX hM hO hx hy hz ha h30 h31 h32 h33 (by unfold ck67 ck8 at c67; rw [if_neg (by decide)] at c67; split at c67; exact absurd c67 (by decide); rename_i q; omega)
    · exact st_69 hX hM hO hx hy hz ha h30 h31 h32 h33 (hxx (by omega)) (hss (by omega))
    · exact st_70 hX hM hO hx hy hz ha h30 h31 h32 h33 (hxx (by omega)) (hss (by omega))
    · exact st_71 hX hM hO hx hy hz ha h30 h31 h32 h33 (hxx (by omega)) (hss (by omega))
    · exact st_72 hX hM hO hx hy hz ha h30 h31 h32 h33 (hxx (by omega)) (hss (by omega))
    · exact st_73 hX hM hO hx hy hz ha h30 h31 h32 h33 (hxx (by omega)) (hss (by omega))
    · exact st_74 hX hM hO hx hy hz ha h30 h31 h32 h33 (hxx (by omega)) (hss (by omega))
    · exact st_75 hX hM hO hx hy hz ha h30 h31 h32 h33 (hxx (by omega)) (hss (by omega))
    · exact st_76 hX hM hO hx hy hz ha h30 h31 h32 h33 (hxx (by omega)) (hss (by omega))
    · exact st_77 hX hM hO hx hy hz ha h30 h31 h32 h33 (hxx (by omega)) (hss (by omega))
    · exact st_78 hX hM hO hx hy hz ha h30 h31 h32 h33 (hxx (by omega)) (hss (by omega)) (c78 rfl)
    · exact st_79 hX hM hO hx hy hz ha h30 h31 h32 h33 (c79 rfl) (cZ (by rfl))
    · exact st_80 hX hM hO hx hy hz ha h30 h31 h32 h33
end
section
set_option maxRecDepth 100000
theorem st_checked {A B : Sx} {b : Pb} {mem : Nat → Nat} {sp L op x y z a : Nat} {fl gl s : Nat → Int64} {fs : List Nat} {ou inp : List Int32} {pc : Int64} {n : Int32} (hX : XMc A b mem sp L fl gl s ou inp pc n 0) (hM : MMc B b mem sp L fl gl s ou inp pc n 0) (hO : mcOK b mem sp L fl fs ou inp) (hr : roomM B) (hop : op < 256) (hx : x < 256) (hy : y < 256) (hz : z < 256) (ha : a < 65536) (h30 : gI B 167 30 = nI x) (h31 : gI B 167 31 = nI y) (h32 : gI B 167 32 = nI z) (h33 : gI B 167 33 = nI a) :
    StR A B n (bd (X5_look (nI op) (nI x) (nI y) (nI z) A) (fun _ S4 => XX op x y z a S4)) (mk B (chk op x y z sp L 0) (X12_step_241 (nI op) B)) := by
  have hsp : sp ≤ 600 := by have := hO.2.2.2.1; omega
  have hok : OkR A B A B pc n 0 := ⟨⟨b, mem, sp, L, fl, gl, fs, s, ou, inp, hX, hM, hO⟩, Sm.rfl' A, Sm.rfl' B⟩
  rw [x_look hX.1 hop hx hy hz hX.2.2.1.1 hX.2.2.1.2.1 hsp hO.2.2.1]
  unfold lk mk
  by_cases h0 : chk op x y z sp L 0 = 0
  · rw [if_pos h0]
    have ht : chk op x y z sp L (ck67 op x sp L) = ck67 op x sp L := by rw [chk_t, if_pos h0]
    by_cases h1 : ck67 op x sp L = 0
    · rw [ht, if_pos h1, bd_rt]
      exact st_exec hX hM hO hr hop hx hy hz ha h30 h31 h32 h33 (ht.trans h1)
    · rw [ht, if_neg h1, bd_th]
      by_cases q : op = 67
      · subst q
        unfold ck67 at h1 ⊢
        rw [if_pos rfl] at h1 ⊢
        have q2 : ¬ (dK x L + 1 ≤ L ∨ sp + (dK x L + 1) ≤ 600) := fun e => h1 (if_pos e)
        rw [if_neg q2, MX_oth h33 ha (by omega)]
        unfold ME
        rw [m_oth' hy hz ha h31 h32 h33 (Or.inl rfl)]
        unfold X12_other_61
        rw [vl_e, if_neg (by decide), if_neg (by decide), if_neg (by decide), if_neg (by decide), if_neg (by decide), if_neg (by decide), if_neg (by decide), if_pos (show nI 67 = 67 by rfl), h30, m_call5 hM.2.2.1 hr hO.2.2.1 hx hsp q2, bd_th, bd_th]
        exact st_fault hok (by decide)
      · unfold ck67 ck8 at h1 ⊢
        rw [if_neg q] at h1 ⊢
        have q2 : op = 68 ∧ sp = 0 := Classical.byContradiction fun e => h1 (if_neg e)
        rw [if_pos q2]
        obtain ⟨rfl, rfl⟩ := q2
        rw [MX_oth h33 ha (by omega)]
        unfold ME
        rw [m_oth' hy hz ha h31 h32 h33 (Or.inr rfl)]
        unfold X12_other_61
        rw [vl_e, if_neg (by decide), if_neg (by decide), if_neg (by decide), if_neg (by decide), if_neg (by decide), if_neg (by decide), if_neg (by decide), if_neg (by decide), if_pos (show nI 68 = 68 by rfl), h30, m_give8 hM.2.2.1 hr, bd_th, bd_th]
        exact st_fault hok (by decide)
  · have ht : chk op x y z sp L (ck67 op x sp L) = chk op x y z sp L 0 := by rw [chk_t, if_neg h0]
    rw [ht, if_neg h0, if_neg h0, bd_th]
    have := chk_lt op x y z sp L 0 (by omega)
    exact st_fault hok (nI_ne0 (by omega) (by omega))
theorem step_pair {A B : Sx} {pc : Int64} {n : Int32} (h : RMp A B pc n 0) (hr : roomM B) : StR A B n (X5_step A) (X12_step B) := by
  obtain ⟨b, mem, sp, L, fl, gl, fs, s, ou, inp, hX, hM, hO⟩ := h
  unfold X5_step X12_step
  rw [vl_e, hX.2.2.2.2.2.2.1, hM.2.2.2.2.2.2.1, x_isA, bd_rt, pc4, x_wantb hX.1]
  by_cases q : isA pc = true
  · obtain ⟨p, hp, rfl⟩ := isA_of q
    have ha : p / 4 * 4 < 65536 := by omega
    have hal : al8 p 4 = p / 4 * 4 := rfl
    rw [if_pos q, bd_rt, pcA hp, lN_i, show (4 : Int32) = nI 4 from rfl, m_addr (m := 4) (Or.inr (Or.inl rfl)) hp, bd_rt, hal]
    generalize hgA : p / 4 * 4 = a at ha ⊢
    have ha4 : a % 4 = 0 := by omega
    obtain ⟨f, b', hT⟩ := bTouch_ex b (a / 64) false hO.1
    have hb' := (bTouch_OK hO.1 (by omega) hT).1
    obtain ⟨A1, e1, e2, e3⟩ := xm_get (m := 4) hX hO.1 hO.2.1 ha hT (by omega)
    have s0 : Sm (fun c k => c = 167 ∧ 30 ≤ k ∧ k ≤ 33) B (pI B 167 33 (nI a)) := Sm.pI (by omega)
    have hM0 := mm_scr hM s0 (fun c k x => x)
    obtain ⟨B1, f1, f2, f3⟩ := mm_touch (w := false) hM0 hO.1 ha hT
    have h33 : gI B1 167 33 = nI a := by rw [f3.I (by unfold mPl; omega), gI_pI, if_pos ⟨rfl, rfl⟩]
    obtain ⟨d1, d2, d3, d4, d5⟩ := decode hO.2.1 a
    have hMM := f2.2.1
    have hO' : mcOK b' mem sp L fl fs ou inp := ⟨hb', hO.2⟩
    have k0 : gI B1 169 a = nI (mem a) := hMM a ha
    have k1 : gI B1 169 (a + 1) = nI (mem (a + 1)) := hMM (a + 1) (by omega)
    have k2 : gI B1 169 (a + 2) = nI (mem (a + 2)) := hMM (a + 2) (by omega)
    have k3 : gI B1 169 (a + 3) = nI (mem (a + 3)) := hMM (a + 3) (by omega)
    have s1 : Sm (fun c k => c = 167 ∧ 30 ≤ k ∧ k ≤ 33) B1 (pI (pI (pI B1 167 30 (nI (mem (a + 1)))) 167 31 (nI (mem (a + 2)))) 167 32 (nI (mem (a + 3)))) := Sm.trans (Sm.trans (Sm.pI (by omega)) (Sm.pI (by omega))) (Sm.pI (by omega))
    have hM2 := mm_scr f2 s1 (fun c k x => x)
    have hr2 : roomM (pI (pI (pI B1 167 30 (nI (mem (a + 1)))) 167 31 (nI (mem (a + 2)))) 167 32 (nI (mem (a + 3)))) := ((hr.sm s0).sm f3).sm s1
    have hBB : Sm mS2 B (pI (pI (pI B1 167 30 (nI (mem (a + 1)))) 167 31 (nI (mem (a + 2)))) 167 32 (nI (mem (a + 3)))) := ((s0.mono fun c k x => Or.inr x).trans (f3.mono fun c k x => Or.inl (by unfold mPl at x; unfold mSt; omega))).trans (s1.mono fun c k x => Or.inr x)
    replace f1 : X12_touch (nI a) 0 (pI B 167 33 (nI a)) = rt () B1 := f1
    rw [e1, bd_rt, vl_e, d1, vl_e, d2, vl_e, d3, vl_e, d4, vl_e, d5, pt_e, gI_pI, if_pos ⟨rfl, rfl⟩, f1, bd_rt, h33, lI_n ha (by omega), k0, vl_e, nI_1, lI_n (k := a + 1) (by omega) (by omega), k1, pt_e, gI_pI, if_neg (by omega), h33]
    rw [show nI a + 2 = nI (a + 2) from nI_add a 2, lI_n (k := a + 2) (by omega) (by omega), gI_pI, if_neg (by omega), k2, pt_e, gI_pI, if_neg (by omega), gI_pI, if_neg (by omega), h33, show nI a + 3 = nI (a + 3) from nI_add a 3, lI_n (k := a + 3) (by omega) (by omega), gI_pI, if_neg (by omega), gI_pI, if_neg (by omega), k3, pt_e]
    have g30 : gI (pI (pI (pI B1 167 30 (nI (mem (a + 1)))) 167 31 (nI (mem (a + 2)))) 167 32 (nI (mem (a + 3)))) 167 30 = nI (mem (a + 1)) := by rw [gI_pI, if_neg (by omega), gI_pI, if_neg (by omega), gI_pI, if_pos ⟨rfl, rfl⟩]
    have g31 : gI (pI (pI (pI B1 167 30 (nI (mem (a + 1)))) 167 31 (nI (mem (a + 2)))) 167 32 (nI (mem (a + 3)))) 167 31 = nI (mem (a + 2)) := by rw [gI_pI, if_neg (by omega), gI_pI, if_pos ⟨rfl, rfl⟩]
    have g32 : gI (pI (pI (pI B1 167 30 (nI (mem (a + 1)))) 167 31 (nI (mem (a + 2)))) 167 32 (nI (mem (a + 3)))) 167 32 = nI (mem (a + 3)) := by rw [gI_pI, if_pos ⟨rfl, rfl⟩]
    have g33 : gI (pI (pI (pI B1 167 30 (nI (mem (a + 1)))) 167 31 (nI (mem (a + 2)))) 167 32 (nI (mem (a + 3)))) 167 33 = nI a := by rw [gI_pI, if_neg (by omega), gI_pI, if_neg (by omega), gI_pI, if_neg (by omega)]; exact h33
    rw [m_look hM2.2.2.1 hr2 (hO.2.1 _) (hO.2.1 _) (hO.2.1 _) (hO.2.1 _) g30 g31 g32 (by have := hO.2.2.2.1; omega) hO.2.2.1]
    have hw : numN mem a 4 = wd (mem a) (mem (a + 1)) (mem (a + 2)) (mem (a + 3)) := by
      show (((0 * 256 + mem (a + 0)) * 256 + mem (a + 1)) * 256 + mem (a + 2)) * 256 + mem (a + 3) = _
      rw [Nat.zero_mul, Nat.zero_add, Nat.add_zero]
      rfl
    rw [hw]
    exact StR.pre (st_checked e2 hM2 hO' hr2 (hO.2.1 _) (hO.2.1 _) (hO.2.1 _) (hO.2.1 _) ha g30 g31 g32 g33) e3 hBB
  · rw [if_neg q, bd_th, m_addr0 hr (Bool.eq_false_iff.mpr q), bd_th]
    exact st_fault (pc := pc) ⟨⟨b, mem, sp, L, fl, gl, fs, s, ou, inp, hX, hM, hO⟩, Sm.rfl' A, Sm.rfl' B⟩ (by decide)
end
section
set_option maxRecDepth 100000
/-! ===== new cells ===== -/
/-- cells may come; of the old ones nothing but the places P has changed -/
def Sg (P : Nat → Nat → Prop) (S S' : Sx) : Prop := gn S ≤ gn S' ∧ ∀ c, c < gn S → gK S' c = gK S c ∧ gN S' c = gN S c ∧ ∀ k, ¬ P c k → gI S' c k = gI S c k ∧ gL S' c k = gL S c k ∧ gR S' c k = gR S c k
theorem Sg.rfl' {P : Nat → Nat → Prop} (S : Sx) : Sg P S S := ⟨Nat.le_refl _, fun _ _ => ⟨rfl, rfl, fun _ _ => ⟨rfl, rfl, rfl⟩⟩⟩
theorem Sm.sg {P : Nat → Nat → Prop} {S S' : Sx} (h : Sm P S S') : Sg P S S' := ⟨Nat.le_of_eq h.1.symm, fun c _ => ⟨h.2.2.1 c, h.2.2.2.1 c, fun k q => h.2.2.2.2 c k q⟩⟩
theorem Sg.trans {P : Nat → Nat → Prop} {S S' S'' : Sx} (h : Sg P S S') (h' : Sg P S' S'') : Sg P S S'' := by
  obtain ⟨a1, a2⟩ := h
  obtain ⟨b1, b2⟩ := h'
  refine ⟨Nat.le_trans a1 b1, fun c hc => ?_⟩
  obtain ⟨x1, x2, x3⟩ := a2 c hc
  obtain ⟨y1, y2, y3⟩ := b2 c (by omega)
  refine ⟨y1.trans x1, y2.trans x2, fun k q => ?_⟩
  obtain ⟨u1, u2, u3⟩ := x3 k q
  obtain ⟨v1, v2, v3⟩ := y3 k q
  exact ⟨v1.trans u1, v2.trans u2, v3.trans u3⟩
theorem Sg.mono {P P' : Nat → Nat → Prop} {S S' : Sx} (h : Sg P S S') (hp : ∀ c k, P c k → P' c k) : Sg P' S S' := ⟨h.1, fun c hc => ⟨(h.2 c hc).1, (h.2 c hc).2.1, fun k q => (h.2 c hc).2.2 k (fun x => q (hp c k x))⟩⟩
theorem Sg.K {P : Nat → Nat → Prop} {S S' : Sx} (h : Sg P S S') {c : Nat} (hc : c < gn S) : gK S' c = gK S c := (h.2 c hc).1
theorem Sg.N {P : Nat → Nat → Prop} {S S' : Sx} (h : Sg P S S') {c : Nat} (hc : c < gn S) : gN S' c = gN S c := (h.2 c hc).2.1
theorem Sg.I {P : Nat → Nat → Prop} {S S' : Sx} (h : Sg P S S') {c k : Nat} (hc : c < gn S) (q : ¬ P c k) : gI S' c k = gI S c k := ((h.2 c hc).2.2 k q).1
theorem Sg.L {P : Nat → Nat → Prop} {S S' : Sx} (h : Sg P S S') {c k : Nat} (hc : c < gn S) (q : ¬ P c k) : gL S' c k = gL S c k := ((h.2 c hc).2.2 k q).2.1
theorem Sg.R {P : Nat → Nat → Prop} {S S' : Sx} (h : Sg P S S') {c k : Nat} (hc : c < gn S) (q : ¬ P c k) : gR S' c k = gR S c k := ((h.2 c hc).2.2 k q).2.2
theorem Sg.nw {P : Nat → Nat → Prop} {S : Sx} {K N u : Nat} : Sg P S (nw S K N u) := by
  refine ⟨Nat.le_succ _, fun c hc => ?_⟩
  have h : ¬ c = gn S := by omega
  exact ⟨by rw [gK_nw, if_neg h], by rw [gN_nw, if_neg h], fun k _ => ⟨by rw [gI_nw, if_neg h], by rw [gL_nw, if_neg h], by rw [gR_nw, if_neg h]⟩⟩
/-- in a new cell anything may change -/
theorem Sg.new {P : Nat → Nat → Prop} {S S' : Sx} (hn : gn S ≤ gn S') (hK : ∀ c, ¬ c = gn S → gK S' c = gK S c) (hN : ∀ c, ¬ c = gn S → gN S' c = gN S c) (hI : ∀ c k, ¬ c = gn S → gI S' c k = gI S c k) (hL : ∀ c k, ¬ c = gn S → gL S' c k = gL S c k) (hR : ∀ c k, ¬ c = gn S → gR S' c k = gR S c k) : Sg P S S' :=
  ⟨hn, fun c hc => ⟨hK c (by omega), hN c (by omega), fun k _ => ⟨hI c k (by omega), hL c k (by omega), hR c k (by omega)⟩⟩⟩
theorem mE_sg {P : Nat → Nat → Prop} (S : Sx) (c : Int32) : Sg P S (mE S c) := by
  unfold mE
  refine Sg.new ?_ (fun x h => ?_) (fun x h => ?_) (fun x k h => ?_) (fun x k h => ?_) (fun x k h => ?_)
  · exact Nat.le_succ _
  · rw [gK_pI, gK_xs, if_neg h, gK_nw, if_neg h]
  · rw [gN_pI, gN_xs, gN_nw, if_neg h]
  · rw [gI_pI, if_neg (fun e => h e.1), gI_xs, if_neg h, gI_nw, if_neg h]
  · rw [gL_pI, gL_xs, gL_nw, if_neg h]
  · rw [gR_pI, gR_xs, gR_nw, if_neg h]
theorem mE_gn (S : Sx) (c : Int32) : gn (mE S c) = gn S + 1 := rfl
theorem mE_gu (S : Sx) (c : Int32) : gu (mE S c) = gu S + 7 := rfl
theorem mE_K (S : Sx) (c : Int32) : gK (mE S c) (gn S) = 20 := by unfold mE; rw [gK_pI, gK_xs, if_pos rfl]
theorem mE_6 (S : Sx) (c : Int32) : gI (mE S c) (gn S) 6 = c := by unfold mE; rw [gI_pI, if_pos ⟨rfl, rfl⟩]
/-- M's machine lies in the cells below 188 -/
theorem MMc.eo {B B' : Sx} {b : Pb} {mem : Nat → Nat} {sp L : Nat} {fl gl s : Nat → Int64} {ou inp : List Int32} {pc : Int64} {n st : Int32} (h : MMc B b mem sp L fl gl s ou inp pc n st) (hI : ∀ c k, c < 188 → gI B' c k = gI B c k) (hL : ∀ c k, c < 188 → gL B' c k = gL B c k) : MMc B' b mem sp L fl gl s ou inp pc n st := by
  have e4 : Sm (fun c _ => 188 ≤ c) B (B.1, B.2.1, B.2.2.1, B.2.2.2.1, B'.2.2.2.2.1, B'.2.2.2.2.2.1, B.2.2.2.2.2.2) := ⟨rfl, rfl, fun _ => rfl, fun _ => rfl, fun c k q => ⟨hI c k (by omega), hL c k (by omega), rfl⟩⟩
  obtain ⟨h2, h1, h3, h4, h5, h6, h7, h8, h9⟩ := h
  have : MMc (B.1, B.2.1, B.2.2.1, B.2.2.2.1, B'.2.2.2.2.1, B'.2.2.2.2.2.1, B.2.2.2.2.2.2) b mem sp L fl gl s ou inp pc n st := ⟨MP_back h2 e4 (by intro c k; omega), h1.sm e4 (by intro c k; omega), h3.sm e4 (by intro c k; omega), h4.sm e4 (by intro c k; omega), h5.sm e4 (by intro c k; omega), h6.sm e4 (by intro c k; omega), by rw [e4.L (by omega)]; exact h7, by rw [e4.I (by omega)]; exact h8, by rw [e4.I (by omega)]; exact h9⟩
  exact this
theorem mm_E {B : Sx} {b : Pb} {mem : Nat → Nat} {sp L : Nat} {fl gl s : Nat → Int64} {ou inp : List Int32} {pc : Int64} {n st : Int32} (c : Int32) (h : MMc B b mem sp L fl gl s ou inp pc n st) (hg : 188 ≤ gn B) : MMc (mE B c) b mem sp L fl gl s ou inp pc n st :=
  h.eo (fun x k hx => (mE_sg (P := fun _ _ => False) B c).I (by omega) id) (fun x k hx => (mE_sg (P := fun _ _ => False) B c).L (by omega) id)
theorem xm_st {A : Sx} {b : Pb} {mem : Nat → Nat} {sp L : Nat} {fl gl s : Nat → Int64} {ou inp : List Int32} {pc : Int64} {n st : Int32} (q : Int32) (h : XMc A b mem sp L fl gl s ou inp pc n st) (hb : bOK b) : XMc (pI A 138 7 q) b mem sp L fl gl s ou inp pc n q ∧ Sm xSt A (pI A 138 7 q) := by
  obtain ⟨h1, h2, h3, h4, h5, h6, h7, h8, h9⟩ := h
  have e3 : Sm (fun c k => c = 138 ∧ k = 7) A (pI A 138 7 q) := Sm.pI (by omega)
  exact ⟨⟨by rw [e3.K]; exact h1, h2.sm hb e3 (by intro c k; omega), h3.sm e3 (by intro c k; omega), h4.sm e3 (by intro c k; omega), h5.sm e3 (by intro c k; omega), h6.sm e3 (by intro c k; omega), by rw [e3.L (by omega)]; exact h7, by rw [e3.I (by omega)]; exact h8, by rw [gI_pI, if_pos ⟨rfl, rfl⟩]⟩, e3.mono (by unfold xSt; intro c k; omega)⟩
/-- X's stop is no part of the machine -/
theorem xm_F {A : Sx} {b : Pb} {mem : Nat → Nat} {sp L : Nat} {fl gl s : Nat → Int64} {ou inp : List Int32} {pc : Int64} {n st : Int32} (c p : Int32) (h : XMc A b mem sp L fl gl s ou inp pc n st) (hb : bOK b) : XMc (xF A c p) b mem sp L fl gl s ou inp pc n st ∧ Sm xSt A (xF A c p) := by
  obtain ⟨h1, h2, h3, h4, h5, h6, h7, h8, h9⟩ := h
  have e3 : Sm (fun c _ => c = 1) A (xF A c p) := (Sm.pI (P := fun c _ => c = 1) rfl).trans (Sm.pI (P := fun c _ => c = 1) rfl)
  exact ⟨⟨by rw [e3.K]; exact h1, h2.sm hb e3 (by intro c k; omega), h3.sm e3 (by intro c k; omega), h4.sm e3 (by intro c k; omega), h5.sm e3 (by intro c k; omega), h6.sm e3 (by intro c k; omega), by rw [e3.L (by omega)]; exact h7, by rw [e3.I (by omega)]; exact h8, by rw [e3.I (by omega)]; exact h9⟩, e3.mono (by unfold xSt; intro c k; omega)⟩
theorem xF_6 (A : Sx) (c p : Int32) : gI (xF A c p) 1 6 = c := by unfold xF; rw [gI_pI, if_neg (by omega), gI_pI, if_pos ⟨rfl, rfl⟩]
theorem xF_7 (A : Sx) (c p : Int32) : gI (xF A c p) 1 7 = p := by unfold xF; rw [gI_pI, if_pos ⟨rfl, rfl⟩]
/-! ===== a run ===== -/
def RunR (A B : Sx) (r r' : Rs Int32) : Prop := ∃ A' B' pc n st, r = rt st A' ∧ r' = rt st B' ∧ RMp A' B' pc n st ∧ Sm xSt A A' ∧ Sg mS2 B B' ∧ gn B' ≤ gn B + 1 ∧ gu B ≤ gu B' ∧ gu B' ≤ gu B + 8
theorem RMp.st0 {A B : Sx} {pc : Int64} {n st : Int32} (h : RMp A B pc n st) : gI A 138 7 = st ∧ gI B 167 13 = st := by
  obtain ⟨b, mem, sp, L, fl, gl, fs, s, ou, inp, hX, hM, hO⟩ := h
  exact ⟨hX.2.2.2.2.2.2.2.2, hM.2.2.2.2.2.2.2.2⟩
theorem run_stop {A B : Sx} {pc : Int64} {n st : Int32} {nX nM m i : Nat} (h : RMp A B pc n st) (hs : ¬ st = 0) : X5_run_2 (nX + 1) (nI m) (nI i) A = rt st A ∧ X12_run_22 (nM + 1) (nI m) (nI i) B = rt st B := by
  obtain ⟨e1, e2⟩ := h.st0
  constructor
  · show X5_run_2b (X5_run_2 nX) (nI m) (nI i) A = _
    unfold X5_run_2b
    rw [e1, if_neg hs]
    split <;> rfl
  · show X12_run_22b (X12_run_22 nM) (nI m) (nI i) B = _
    unfold X12_run_22b
    rw [e2, if_neg hs]
    split <;> rfl
theorem run_loop {m : Nat} (hm : m ≤ 20000) : ∀ (d nX nM i : Nat) (A B : Sx) (pc : Int64) (n st : Int32), i + d = m → d < nX → d < nM → RMp A B pc n st → roomM B → 188 ≤ gn B → RunR A B (X5_run_2 nX (nI m) (nI i) A) (X12_run_22 nM (nI m) (nI i) B) := by
  intro d
  induction d with
  | zero =>
    intro nX nM i A B pc n st hi hnX hnM h hr hg
    obtain ⟨nX, rfl⟩ : ∃ j, nX = j + 1 := ⟨nX - 1, by omega⟩
    obtain ⟨nM, rfl⟩ : ∃ j, nM = j + 1 := ⟨nM - 1, by omega⟩
    obtain ⟨e1, e2⟩ := h.st0
    refine ⟨A, B, pc, n, st, ?_, ?_, h, Sm.rfl' A, Sg.rfl' B, by omega, by omega, by omega⟩
    · show X5_run_2b (X5_run_2 nX) (nI m) (nI i) A = _
      unfold X5_run_2b
      rw [if_pos (nI_le (by omega) (by omega)), e1]
    · show X12_run_22b (X12_run_22 nM) (nI m) (nI i) B = _
      unfold X12_run_22b
      rw [if_pos (nI_le (by omega) (by omega)), e2]
  | succ d ih =>
    intro nX nM i A B pc n st hi hnX hnM h hr hg
    obtain ⟨nX, rfl⟩ : ∃ j, nX = j + 1 := ⟨nX - 1, by omega⟩
    obtain ⟨nM, rfl⟩ : ∃ j, nM = j + 1 := ⟨nM - 1, by omega⟩
    obtain ⟨e1, e2⟩ := h.st0
    by_cases hs : st = 0
    · subst hs
      have hX : X5_run_2 (nX + 1) (nI m) (nI i) A = ct (X5_step A) (fun _ S1 => vl (nI i + 1) (fun v2 => X5_run_2 nX (nI m) v2 S1)) (fun c1 S1 => kd S1 (1 + 6) c1 (X5_run_27 c1 S1)) := by
        show X5_run_2b (X5_run_2 nX) (nI m) (nI i) A = _
        unfold X5_run_2b
        rw [if_neg (nI_ge (by omega) (by omega)), e1, if_pos rfl]
      have hM : X12_run_22 (nM + 1) (nI m) (nI i) B = ct (X12_step B) (fun _ S1 => pt (pI S1 167 14 ((gI S1 167 14) + 1)) (fun S2 => vl (nI i + 1) (fun v2 => X12_run_22 nM (nI m) v2 S2))) (fun c1 S1 => kd S1 (14 + 6) c1 (X12_run_51 (X12_run_22 nM) (nI m) (nI i) c1 S1)) := by
        show X12_run_22b (X12_run_22 nM) (nI m) (nI i) B = _
        unfold X12_run_22b
        rw [if_neg (nI_ge (by omega) (by omega)), e2, if_pos rfl]
      have hM51 : ∀ B1 c, 188 ≤ gn B1 → X12_run_51 (X12_run_22 nM) (nI m) (nI i) (gn B1) (mE B1 c) = X12_run_22 nM (nI m) (nI (i + 1)) (pI (mE B1 c) 167 13 c) := by
        intro B1 c hB
        unfold X12_run_51
        rw [kd_e (mE_K B1 c), pt_e, vl_e, nI_1, mE_6]
      rcases step_pair h hr with ⟨A', B', pc', a1, a2, a3, a4, a5⟩ | ⟨A', B', pc', a1, a2, a3, a4, a5⟩ | ⟨A', B', pc', c, a1, a2, a0, a3, a4, a5⟩
      · obtain ⟨b, mem, sp, L, fl, gl, fs, s, ou, inp, hX', hM', hO⟩ := a3
        obtain ⟨f1, f2⟩ := mm_n (n + 1) hM'
        have hs2 : Sm mS2 B (pI B' 167 14 (n + 1)) := a5.trans (mSt_S2 f2)
        obtain ⟨A2, B2, pc2, n2, st2, g1, g2, g3, g4, g5, g6, g7, g8⟩ := ih nX nM (i + 1) A' (pI B' 167 14 (n + 1)) pc' (n + 1) 0 (by omega) (by omega) (by omega) ⟨b, mem, sp, L, fl, gl, fs, s, ou, inp, hX', f1, hO⟩ (hr.sm hs2) (by rw [hs2.1]; exact hg)
        refine ⟨A2, B2, pc2, n2, st2, ?_, ?_, g3, a4.trans g4, hs2.sg.trans g5, ?_, ?_, ?_⟩
        · rw [hX, a1, ct_rt, vl_e, nI_1]; exact g1
        · rw [hM, a2, ct_rt, pt_e, vl_e, nI_1, hM'.2.2.2.2.2.2.2.1]; exact g2
        · rw [hs2.1] at g6; exact g6
        · rw [hs2.2.1] at g7; exact g7
        · rw [hs2.2.1] at g8; exact g8
      · obtain ⟨b, mem, sp, L, fl, gl, fs, s, ou, inp, hX', hM', hO⟩ := a3
        have hgB : 188 ≤ gn B' := by rw [a5.1]; exact hg
        obtain ⟨f1, f2⟩ := mm_st 1 (mm_E 1 hM' hgB)
        have hR : RMp A' (pI (mE B' 1) 167 13 1) pc' (n + 1) 1 := ⟨b, mem, sp, L, fl, gl, fs, s, ou, inp, hX', f1, hO⟩
        obtain ⟨nX', rfl⟩ : ∃ j, nX = j + 1 := ⟨nX - 1, by omega⟩
        obtain ⟨nM', rfl⟩ : ∃ j, nM = j + 1 := ⟨nM - 1, by omega⟩
        obtain ⟨k1, k2⟩ := run_stop (nX := nX') (nM := nM') (m := m) (i := i + 1) hR (by decide)
        refine ⟨A', _, pc', n + 1, 1, ?_, ?_, hR, a4, (a5.sg.trans (mE_sg B' 1)).trans (mSt_S2 f2).sg, ?_, ?_, ?_⟩
        · rw [hX, a1, ct_rt, vl_e, nI_1]; exact k1
        · rw [hM, a2, ct_th, kd_e (mE_K B' 1), hM51 B' 1 hgB]; exact k2
        · rw [gn_pI, mE_gn, a5.1]; omega
        · rw [gu_pI, mE_gu, a5.2.1]; omega
        · rw [gu_pI, mE_gu, a5.2.1]; omega
      · obtain ⟨b, mem, sp, L, fl, gl, fs, s, ou, inp, hX', hM', hO⟩ := a3
        have hgB : 188 ≤ gn B' := by rw [a5.1]; exact hg
        obtain ⟨f1, f2⟩ := mm_st c (mm_E c hM' hgB)
        obtain ⟨x1, x2⟩ := xm_F c 0 hX' hO.1
        obtain ⟨x3, x4⟩ := xm_st c x1 hO.1
        have hR : RMp (pI (xF A' c 0) 138 7 c) (pI (mE B' c) 167 13 c) pc' n c := ⟨b, mem, sp, L, fl, gl, fs, s, ou, inp, x3, f1, hO⟩
        obtain ⟨nM', rfl⟩ : ∃ j, nM = j + 1 := ⟨nM - 1, by omega⟩
        obtain ⟨_, k2⟩ := run_stop (nX := 0) (nM := nM') (m := m) (i := i + 1) hR a0
        refine ⟨_, _, pc', n, c, ?_, ?_, hR, (a4.trans x2).trans x4, (a5.sg.trans (mE_sg B' c)).trans (mSt_S2 f2).sg, ?_, ?_, ?_⟩
        · rw [hX, a1, ct_th, kd_e (show gK (xF A' c 0) 1 = 1 + 6 from x1.1)]
          unfold X5_run_27
          rw [kd_e (show gK (xF A' c 0) 1 = 1 + 6 from x1.1), pt_e, xF_6, gI_pI, if_pos ⟨rfl, rfl⟩]
        · rw [hM, a2, ct_th, kd_e (mE_K B' c), hM51 B' c hgB]; exact k2
        · rw [gn_pI, mE_gn, a5.1]; omega
        · rw [gu_pI, mE_gu, a5.2.1]; omega
        · rw [gu_pI, mE_gu, a5.2.1]; omega
    · obtain ⟨k1, k2⟩ := run_stop (nX := nX) (nM := nM) (m := m) (i := i) h hs
      exact ⟨A, B, pc, n, st, k1, k2, h, Sm.rfl' A, Sg.rfl' B, by omega, by omega, by omega⟩
end
section
set_option maxRecDepth 100000
/-! ===== numbers by 4 ===== -/
theorem bmod64 {x : Int} (h1 : -9223372036854775808 ≤ x) (h2 : x < 9223372036854775808) : x.bmod (2 ^ 64) = x := by
  simp [Int.bmod]
  omega
theorem l_rng (w : Int64) : -9223372036854775808 ≤ w.toInt ∧ w.toInt < 9223372036854775808 := by
  have h1 := Int64.le_toInt w
  have h2 := Int64.toInt_lt w
  omega
theorem l_and3 (w : Int64) : (w &&& 3) = 0 ↔ w.toInt % 4 = 0 := by
  have h1 : (w &&& 3).toBitVec.toNat = w.toBitVec.toNat % 4 := by
    rw [Int64.toBitVec_and, BitVec.toNat_and]
    exact Nat.and_two_pow_sub_one_eq_mod _ 2
  have h2 : w.toInt = w.toBitVec.toInt := rfl
  rw [h2, BitVec.toInt_eq_toNat_cond]
  have h3 : (w &&& 3) = 0 ↔ w.toBitVec.toNat % 4 = 0 := by
    rw [← h1]
    constructor
    · intro e; rw [e]; rfl
    · intro e
      apply Int64.toBitVec_inj.mp
      apply BitVec.eq_of_toNat_eq
      rw [e]; rfl
  rw [h3]
  split <;> omega
theorem l_shr2 (w : Int64) : (w >>> (((2 : Int32)).toInt64 &&& 63)).toInt = w.toInt / 4 := by
  have h : (w >>> (((2 : Int32)).toInt64 &&& 63)).toBitVec = w.toBitVec.sshiftRight 2 := by
    rw [Int64.toBitVec_shiftRight]
    rfl
  show (w >>> (((2 : Int32)).toInt64 &&& 63)).toBitVec.toInt = _
  rw [h, BitVec.toInt_sshiftRight, Int.shiftRight_eq_div_pow]
  rfl
theorem l_div4 (w : Int64) : (w / 4).toInt = if 0 ≤ w.toInt ∨ w.toInt % 4 = 0 then w.toInt / 4 else w.toInt / 4 + 1 := by
  obtain ⟨h1, h2⟩ := l_rng w
  have e : w.toInt.tdiv 4 = if 0 ≤ w.toInt ∨ w.toInt % 4 = 0 then w.toInt / 4 else w.toInt / 4 + 1 := by
    rw [Int.tdiv_eq_ediv]
    by_cases h : 0 ≤ w.toInt ∨ w.toInt % 4 = 0
    · rw [if_pos h, if_pos (h.imp id Int.dvd_of_emod_eq_zero)]; omega
    · rw [if_neg h, if_neg (by rintro (h' | h'); exact h (Or.inl h'); exact h (Or.inr (Int.emod_eq_zero_of_dvd h')))]
      rfl
  rw [Int64.toInt_div, show (4 : Int64).toInt = 4 from rfl, e]
  apply bmod64
  · split <;> omega
  · split <;> omega
theorem l_rem4 (w : Int64) : (w - w / 4 * 4) = 0 ↔ (w &&& 3) = 0 := by
  obtain ⟨h1, h2⟩ := l_rng w
  rw [l_and3, l_eq, Int64.toInt_sub, Int64.toInt_mul, l_div4, show (4 : Int64).toInt = 4 from rfl, show (0 : Int64).toInt = 0 from rfl, bmod64 (x := _ * 4) (by split <;> omega) (by split <;> omega), bmod64 (by split <;> omega) (by split <;> omega)]
  split <;> omega
theorem l_q4 {w : Int64} (h : (w &&& 3) = 0) : w / 4 = w >>> (((2 : Int32)).toInt64 &&& 63) := by
  rw [l_eq, l_shr2, l_div4, if_pos (Or.inr ((l_and3 w).mp h))]
/-! ===== what is laid ===== -/
def layL (laid : Nat → Bool) (a : Nat) : Nat → Nat → Bool
  | 0 => laid
  | n + 1 => up (layL laid a n) ((a + n) / 64) true
theorem layL_1 (laid : Nat → Bool) (a : Nat) : layL laid a 1 = up laid (a / 64) true := rfl
theorem layL_p {laid : Nat → Bool} {a : Nat} : ∀ {m : Nat}, 0 < m → a % 64 + m ≤ 64 → layL laid a m = up laid (a / 64) true := by
  intro m
  induction m with
  | zero => intro h; omega
  | succ m ih =>
    intro _ h
    show up (layL laid a m) ((a + m) / 64) true = _
    rw [show (a + m) / 64 = a / 64 by omega]
    by_cases h0 : m = 0
    · subst h0; rfl
    · rw [ih (by omega) (by omega)]
      funext q
      unfold up
      split <;> rfl
def rowM (mem : Nat → Nat) (a : Nat) (g : Nat → Nat) : Nat → Nat → Nat
  | 0 => mem
  | n + 1 => up (rowM mem a g n) (a + n) (g n)
theorem rowM_OK {mem g : Nat → Nat} {a : Nat} (h : memOK mem) (hg : ∀ i, g i < 256) : ∀ n, memOK (rowM mem a g n) := by
  intro n
  induction n with
  | zero => exact h
  | succ n ih =>
    intro j
    show up (rowM mem a g n) (a + n) (g n) j < 256
    unfold up
    split
    · exact hg n
    · exact ih j
theorem putB_1 (mem : Nat → Nat) (a : Nat) (v : Int64) : putB mem a 1 v = up mem a (bN v 1 0) := by
  rw [← putI_m, putI_s, putI_0]
  rfl
theorem bN_one : ∀ g, g < 256 → bN ((nI g).toInt64) 1 0 = g := by decide +kernel
theorem bO_iff {b : Pb} {q : Nat} : bO b q = true ↔ (∃ f, pin b f = some q) ∨ ot b q = true := by
  by_cases h : ∃ f, pin b f = some q
  · obtain ⟨f, hf⟩ := h
    rw [bO_in hf]
    simp only [true_iff]
    exact Or.inl ⟨f, hf⟩
  · rw [bO_out (fun f e => h ⟨f, e⟩)]
    exact ⟨fun x => Or.inr x, fun x => x.resolve_left h⟩
theorem bO_touch {b b' : Pb} {p f : Nat} {w : Bool} (hO : bOK b) (hT : bTouch b p w f b') (q : Nat) : bO b' q = up (bO b) p true q := by
  have key : bO b' q = true ↔ (q = p ∨ bO b q = true) := by
    rw [bO_iff, bO_iff]
    rcases hT with ⟨h1, h2, rfl⟩ | ⟨h1, ⟨h2, h3, h4⟩, rfl⟩ | ⟨h1, h2, h3, rfl⟩
    · show (∃ g, pin b g = some q) ∨ ot b q = true ↔ _
      constructor
      · exact Or.inr
      · rintro (rfl | h)
        · exact Or.inl ⟨f, h1⟩
        · exact h
    · show (∃ g, up (pin b) f (some p) g = some q) ∨ up (ot b) p false q = true ↔ _
      by_cases hq : q = p
      · subst hq
        simp only [true_or, iff_true]
        exact Or.inl ⟨f, up_s _ _ _⟩
      · rw [up_n _ _ hq]
        constructor
        · rintro (⟨g, hg⟩ | h)
          · by_cases hgf : g = f
            · rw [hgf, up_s] at hg; exact absurd (Option.some.inj hg).symm hq
            · rw [up_n _ _ hgf] at hg; exact Or.inr (Or.inl ⟨g, hg⟩)
          · exact Or.inr (Or.inr h)
        · rintro (h | ⟨g, hg⟩ | h)
          · exact absurd h hq
          · refine Or.inl ⟨g, ?_⟩
            rw [up_n _ _ (fun e => by rw [e, h3] at hg; cases hg)]
            exact hg
          · exact Or.inr h
    · obtain ⟨e1, e2, e3, e4, -⟩ := bAdv_fr 65 (bFa b)
      have e2' : pin (bAdv 65 (bFa b)) = pin b := e2
      have e4' : ot (bAdv 65 (bFa b)) = ot b := e4
      have hh : hd (bAdv 65 (bFa b)) < fr b := bAdv_hd 65 (bFa b) hO.2.2.1
      rw [← h3] at hh
      show (∃ g, up (up (pin (bAdv 65 (bFa b))) (hd (bAdv 65 (bFa b))) none) f (some p) g = some q) ∨ up (up (ot (bAdv 65 (bFa b))) ((pin (bAdv 65 (bFa b)) (hd (bAdv 65 (bFa b)))).getD 0) true) p false q = true ↔ _
      rw [e2', e4', ← h3]
      obtain ⟨z, hz⟩ : ∃ z, pin b f = some z := Option.ne_none_iff_exists'.mp (h2 f hh)
      rw [hz]
      by_cases hq : q = p
      · subst hq
        simp only [true_or, iff_true]
        exact Or.inl ⟨f, up_s _ _ _⟩
      · rw [up_n _ _ hq]
        show (∃ g, up (up (pin b) f none) f (some p) g = some q) ∨ up (ot b) z true q = true ↔ _
        constructor
        · rintro (⟨g, hg⟩ | h)
          · by_cases hgf : g = f
            · rw [hgf, up_s] at hg; exact absurd (Option.some.inj hg).symm hq
            · rw [up_n _ _ hgf, up_n _ _ hgf] at hg; exact Or.inr (Or.inl ⟨g, hg⟩)
          · by_cases hqz : q = z
            · exact Or.inr (Or.inl ⟨f, by rw [hz, hqz]⟩)
            · rw [up_n _ _ hqz] at h; exact Or.inr (Or.inr h)
        · rintro (h | ⟨g, hg⟩ | h)
          · exact absurd h hq
          · by_cases hgf : g = f
            · rw [hgf, hz] at hg
              rw [← Option.some.inj hg]
              exact Or.inr (up_s _ _ _)
            · refine Or.inl ⟨g, ?_⟩
              rw [up_n _ _ hgf, up_n _ _ hgf]
              exact hg
          · refine Or.inr ?_
            unfold up
            split
            · rfl
            · exact h
  have k2 : up (bO b) p true q = true ↔ (q = p ∨ bO b q = true) := by
    unfold up
    split
    · simp_all
    · rename_i h; simp [h]
  exact Bool.eq_iff_iff.mpr (key.trans k2.symm)
/-! ===== a file, record by record ===== -/
/-- memory, what is laid, the address -/
abbrev Ls : Type := (Nat → Nat) × (Nat → Bool) × Nat
def fixA (s : Ls) (a m : Nat) (v : Int64) : Ls := (putB s.1 a m v, layL s.2.1 a m, s.2.2)
def q4 (w : Int64) : Int64 := w >>> (((2 : Int32)).toInt64 &&& 63)
def wayOK (bits : Int32) (w : Int64) : Bool := decide ((w &&& 3) = 0 ∧ ¬ q4 w < (-(((1 : Int64)) <<< ((bits - 1).toInt64 &&& 63))) ∧ q4 w < (((1 : Int64)) <<< ((bits - 1).toInt64 &&& 63)))
/-- a record of kind r with a number: a fault and its place, or kind, the next place, number, state -/
def ldW (r k : Nat) (s : Ls) (v : Int64) : (Nat × Nat) ⊕ (Nat × Nat × Int64 × Ls) :=
  if r = 1 ∨ r = 6 then (if v < 0 ∨ 65536 < v then .inl (13, k) else .inr (r, k + 9, v, if r = 1 then (s.1, s.2.1, v.toInt.toNat) else s))
  else if isA v = true ∧ v.toInt.toNat % (if r = 3 then 8 else 4) = 0 then
    (if r = 3 then .inr (3, k + 9, v, fixA s v.toInt.toNat 8 (lN s.2.2))
    else if r = 4 then (if wayOK 16 (lN s.2.2 - v) then .inr (4, k + 9, v, fixA s (v.toInt.toNat + 2) 2 (q4 (lN s.2.2 - v))) else .inl (14, k))
    else (if wayOK 24 (lN s.2.2 - v) then .inr (r, k + 9, v, fixA s (v.toInt.toNat + 1) 3 (q4 (lN s.2.2 - v))) else .inl (14, k)))
  else .inl (13, k)
def fG (f : List Nat) (i : Nat) : Nat := f.getD i 0
def ldS (f : List Nat) (k : Nat) (s : Ls) : (Nat × Nat) ⊕ (Nat × Nat × Int64 × Ls) :=
  if f.length ≤ k then .inl (11, k)
  else if fG f k = 2 then
    (if f.length ≤ k + 1 then .inl (11, k)
    else if fG f (k + 1) = 0 then .inl (12, k)
    else if f.length < k + 2 + fG f (k + 1) then .inl (11, k)
    else if 65536 < s.2.2 + fG f (k + 1) then .inl (13, k)
    else .inr (2, k + 2 + fG f (k + 1), 0, (rowM s.1 s.2.2 (fun i => fG f (k + 2 + i)) (fG f (k + 1)), layL s.2.1 s.2.2 (fG f (k + 1)), s.2.2 + fG f (k + 1))))
  else if fG f k < 1 ∨ 6 < fG f k then .inl (12, k)
  else if f.length < k + 9 then .inl (11, k)
  else ldW (fG f k) k s (numL (fG f) (k + 1) 8)
def fOK (f : List Nat) : Prop := f.length < 1073741824 ∧ ∀ i, fG f i < 256
end
section
set_option maxRecDepth 100000
/-! ===== X's loader ===== -/
def XL (A : Sx) (r0 : Nat) (f : List Nat) (k : Nat) (s : Ls) : Prop := ∃ r b, gR A 164 2 = some r ∧ 146 ≤ r ∧ r ≠ 164 ∧ gK A r = 1 ∧ f.length ≤ gN A r ∧ gN A r < 2 ^ 30 ∧ (∀ i, i < f.length → gI A r i = nI (fG f i)) ∧ gI A 164 3 = nI f.length ∧ gI A 164 4 = nI k ∧ gL A 164 5 = lN s.2.2 ∧ gK A 1 = 7 ∧ bOK b ∧ fr b = r0 ∧ XP A b s.1 ∧ ∀ p, p < 1024 → s.2.1 p = bO b p
def xLd (c _ : Nat) : Prop := (1 ≤ c ∧ c ≤ 137) ∨ c = 164
theorem xl_want0 {S : Sx} (h : gK S 1 = 7) (c p : Int32) : X11_want 0 c p S = th 1 (xF S c p) := by
  unfold X11_want X1_of
  rw [if_pos rfl, pt_e, pt_e, bd_rt, dO_s (show gK (pI (pI S 1 6 c) 1 7 p) 1 = 7 from h)]
  rfl
theorem xl_want1 (S : Sx) (c p : Int32) : X11_want 1 c p S = rt () S := if_neg (by decide)
theorem XL.K {A : Sx} {r0 k : Nat} {f : List Nat} {s : Ls} (h : XL A r0 f k s) : gK A 1 = 7 := by
  obtain ⟨r, b, h1, h2, h3, h4, h5, h6, h7, h8, h9, h10, h11, h12⟩ := h
  exact h11
theorem XL.a {A : Sx} {r0 k : Nat} {f : List Nat} {s : Ls} (h : XL A r0 f k s) : gI A 164 3 = nI f.length ∧ gI A 164 4 = nI k ∧ gL A 164 5 = lN s.2.2 := by
  obtain ⟨r, b, h1, h2, h3, h4, h5, h6, h7, h8, h9, h10, h11, h12⟩ := h
  exact ⟨h8, h9, h10⟩
theorem XL.chg {A A' : Sx} {r0 k k' a : Nat} {f : List Nat} {s : Ls} (h : XL A r0 f k s) (hs : Sm (fun c _ => c = 164 ∨ c = 1) A A') (hR : gR A' 164 2 = gR A 164 2) (h3' : gI A' 164 3 = gI A 164 3) (h4' : gI A' 164 4 = nI k') (h5' : gL A' 164 5 = lN a) : XL A' r0 f k' (s.1, s.2.1, a) := by
  obtain ⟨r, b, h1, h2, h3, h4, h5, h6, h7, h8, h9, h10, h11, h12, h13, h14, h15⟩ := h
  refine ⟨r, b, by rw [hR]; exact h1, h2, h3, by rw [hs.K]; exact h4, by rw [hs.N]; exact h5, by rw [hs.N]; exact h6, fun i hi => by rw [hs.I (by omega)]; exact h7 i hi, by rw [h3']; exact h8, h4', h5', by rw [hs.K]; exact h11, h12, h13, h14.sm h12 hs (by intro c k; omega), h15⟩
theorem XL.at {A : Sx} {r0 k : Nat} {f : List Nat} {s : Ls} (h : XL A r0 f k s) (k' : Nat) : XL (pI A 164 4 (nI k')) r0 f k' s ∧ Sm xLd A (pI A 164 4 (nI k')) :=
  ⟨h.chg (a := s.2.2) (Sm.pI (Or.inl rfl)) rfl (by rw [gI_pI, if_neg (by omega)]) (by rw [gI_pI, if_pos ⟨rfl, rfl⟩]) h.a.2.2, Sm.pI (Or.inr rfl)⟩
theorem XL.ad {A : Sx} {r0 k : Nat} {f : List Nat} {s : Ls} (h : XL A r0 f k s) (a : Nat) : XL (pL A 164 5 (lN a)) r0 f k (s.1, s.2.1, a) ∧ Sm xLd A (pL A 164 5 (lN a)) :=
  ⟨h.chg (Sm.pL (Or.inl rfl)) rfl rfl h.a.2.1 (by rw [gL_pL, if_pos ⟨rfl, rfl⟩]), Sm.pL (Or.inr rfl)⟩
theorem XL.F {A : Sx} {r0 k : Nat} {f : List Nat} {s : Ls} (h : XL A r0 f k s) (c p : Int32) : XL (xF A c p) r0 f k s ∧ Sm xLd A (xF A c p) :=
  ⟨h.chg (a := s.2.2) ((Sm.pI (Or.inr rfl)).trans (Sm.pI (Or.inr rfl))) rfl (by unfold xF; rw [gI_pI, if_neg (by omega), gI_pI, if_neg (by omega)]) (by unfold xF; rw [gI_pI, if_neg (by omega), gI_pI, if_neg (by omega)]; exact h.a.2.1) h.a.2.2, (Sm.pI (by unfold xLd; omega)).trans (Sm.pI (by unfold xLd; omega))⟩
theorem xl_get {A : Sx} {r0 k : Nat} {f : List Nat} {s : Ls} {β : Type} {g : Int32 → Rs β} (h : XL A r0 f k s) (hk : k < f.length) : dO A 1 (gR A 164 2) (fun c2 => lI A c2 (gN A c2) (gI A 164 4) g) = g (nI (fG f k)) := by
  obtain ⟨r, b, h1, h2, h3, h4, h5, h6, h7, h8, h9, h10, h11, h12⟩ := h
  rw [h1, dO_s h4, h9, lI_n (by omega) (by omega), h7 k hk]
theorem xl_set {A : Sx} {r0 k a m : Nat} {f : List Nat} {s : Ls} (v : Int64) (h : XL A r0 f k s) (ha : a < 65536) (hm : 0 < m) (ham : a % 64 + m ≤ 64) : ∃ A', X2_set (nI a) (nI m) v A = rt () A' ∧ XL A' r0 f k (fixA s a m v) ∧ Sm xLd A A' := by
  obtain ⟨r, b, h1, h2, h3, h4, h5, h6, h7, h8, h9, h10, h11, h12, h13, h14, h15⟩ := h
  obtain ⟨fm, b', hT⟩ := bTouch_ex b (a / 64) true h12
  obtain ⟨A', e1, e2, e3⟩ := x_set (v := v) h14 h12 ha hT ham
  obtain ⟨o1, o2, o3, o4⟩ := bTouch_OK h12 (by omega) hT
  unfold xPl at e3
  refine ⟨A', e1, ⟨r, b', by rw [e3.R (by omega)]; exact h1, h2, h3, by rw [e3.K]; exact h4, by rw [e3.N]; exact h5, by rw [e3.N]; exact h6, fun i hi => by rw [e3.I (by omega)]; exact h7 i hi, by rw [e3.I (by omega)]; exact h8, by rw [e3.I (by omega)]; exact h9, by rw [e3.L (by omega)]; exact h10, by rw [e3.K]; exact h11, o1, by rw [o4]; exact h13, e2, fun p hp => ?_⟩, e3.mono (by unfold xLd; intro c k; omega)⟩
  show layL s.2.1 a m p = _
  rw [layL_p hm ham, bO_touch h12 hT]
  unfold up
  split
  · rfl
  · exact h15 p hp
theorem i255 : ∀ x, x < 256 → (nI x).toInt64 &&& 255 = lN x := by decide +kernel
theorem x_octa_loop {r0 k : Nat} {f : List Nat} {s : Ls} (hf : fOK f) (hk : k + 8 ≤ f.length) : ∀ (d i n : Nat) (A : Sx), i + d = 8 → d < n → XL A r0 f (k + i) s → ∃ A', X11_octa_31 n (numL (fG f) k i) (nI i) A = rt (numL (fG f) k 8) A' ∧ XL A' r0 f (k + 8) s ∧ Sm xLd A A' := by
  intro d
  induction d with
  | zero =>
    intro i n A hi hn h
    obtain ⟨n, rfl⟩ : ∃ j, n = j + 1 := ⟨n - 1, by omega⟩
    obtain rfl : i = 8 := by omega
    refine ⟨A, ?_, h, Sm.rfl' A⟩
    show X11_octa_31b (X11_octa_31 n) (numL (fG f) k 8) (nI 8) A = _
    unfold X11_octa_31b
    rw [if_pos (lit_le (N := 8) (Nat.le_refl _) (by omega))]
  | succ d ih =>
    intro i n A hi hn h
    obtain ⟨n, rfl⟩ : ∃ j, n = j + 1 := ⟨n - 1, by omega⟩
    obtain ⟨g1, g2⟩ := h.at (k + i + 1)
    obtain ⟨A', e1, e2, e3⟩ := ih (i + 1) n _ (by omega) (by omega) g1
    refine ⟨A', ?_, e2, g2.trans e3⟩
    show X11_octa_31b (X11_octa_31 n) (numL (fG f) k i) (nI i) A = _
    unfold X11_octa_31b
    rw [if_neg (lit_ge (N := 8) (by omega) (by omega)), xl_get h (by omega), i255 _ (hf.2 _), vl_e, pt_e, vl_e, h.a.2.1, nI_1, nI_1]
    exact e1
theorem x_octa {A : Sx} {r0 k : Nat} {f : List Nat} {s : Ls} (p : Int32) (hf : fOK f) (h : XL A r0 f k s) (hk : k ≤ f.length) : (k + 8 ≤ f.length → ∃ A', X11_octa p A = rt (numL (fG f) k 8) A' ∧ XL A' r0 f (k + 8) s ∧ Sm xLd A A') ∧ (¬ k + 8 ≤ f.length → X11_octa p A = th 1 (xF A 11 p)) := by
  have hl := hf.1
  constructor
  · intro h8
    obtain ⟨A', e1, e2, e3⟩ := x_octa_loop hf h8 8 0 FU A (by omega) (by have := FU_ge; omega) h
    refine ⟨A', ?_, e2, e3⟩
    unfold X11_octa X11_octa_20
    rw [h.a.1, h.a.2.1, pk_sub (by omega), if_neg (lit_gt (N := 8) (by omega) (by omega)), xl_want1, bd_rt]
    exact e1
  · intro h8
    unfold X11_octa X11_octa_20
    rw [h.a.1, h.a.2.1, pk_sub (by omega), if_pos (lit_lt (N := 8) (by omega) (by omega)), xl_want0 h.K, bd_th]
theorem x_row_loop {r0 k n adr : Nat} {f : List Nat} {mem : Nat → Nat} {laid : Nat → Bool} (hf : fOK f) (hk : k + n ≤ f.length) (ha : adr + n ≤ 65536) : ∀ (d i N : Nat) (A : Sx), i + d = n → d < N → XL A r0 f (k + i) (rowM mem adr (fun j => fG f (k + j)) i, layL laid adr i, adr + i) → ∃ A', X11_row_112 N (nI n) (nI i) A = rt () A' ∧ XL A' r0 f (k + n) (rowM mem adr (fun j => fG f (k + j)) n, layL laid adr n, adr + n) ∧ Sm xLd A A' := by
  intro d
  induction d with
  | zero =>
    intro i N A hi hN h
    obtain ⟨N, rfl⟩ : ∃ j, N = j + 1 := ⟨N - 1, by omega⟩
    obtain rfl : i = n := by omega
    refine ⟨A, ?_, h, Sm.rfl' A⟩
    show X11_row_112b (X11_row_112 N) (nI i) (nI i) A = _
    unfold X11_row_112b
    rw [if_pos (nI_le (Nat.le_refl _) (by omega))]
  | succ d ih =>
    intro i N A hi hN h
    obtain ⟨N, rfl⟩ : ∃ j, N = j + 1 := ⟨N - 1, by omega⟩
    obtain ⟨A1, c1, c2, c3⟩ := xl_set (a := adr + i) (m := 1) ((nI (fG f (k + i))).toInt64) h (by omega) (by omega) (by omega)
    have h2 : fixA (rowM mem adr (fun j => fG f (k + j)) i, layL laid adr i, adr + i) (adr + i) 1 ((nI (fG f (k + i))).toInt64) = (rowM mem adr (fun j => fG f (k + j)) (i + 1), layL laid adr (i + 1), adr + i) := by
      unfold fixA
      rw [putB_1, bN_one _ (hf.2 _)]
      rfl
    rw [h2] at c2
    obtain ⟨d1, d2⟩ := c2.ad (adr + (i + 1))
    obtain ⟨g1, g2⟩ := d1.at (k + (i + 1))
    obtain ⟨A', e1, e2, e3⟩ := ih (i + 1) N _ (by omega) (by omega) g1
    refine ⟨A', ?_, e2, ((c3.trans d2).trans g2).trans e3⟩
    show X11_row_112b (X11_row_112 N) (nI n) (nI i) A = _
    unfold X11_row_112b
    have e5 : (gL A 164 5) = lN (adr + i) := h.a.2.2
    rw [if_neg (nI_ge (by omega) (by omega)), xl_get h (by omega), e5, lN_i]
    replace c1 : X2_set (nI (adr + i)) 1 ((nI (fG f (k + i))).toInt64) A = rt () A1 := c1
    rw [c1, bd_rt, pt_e, show gL A1 164 5 = lN (adr + i) from c2.a.2.2, lN_1, pt_e, gI_pL, c2.a.2.1, nI_1, vl_e, nI_1]
    exact e1
/-- the row of bytes behind its kind -/
theorem x_row {A : Sx} {r0 k : Nat} {f : List Nat} {s : Ls} (p : Int32) (hf : fOK f) (h : XL A r0 f k s) (hk : k ≤ f.length) (ha : s.2.2 ≤ 65536) :
    (f.length ≤ k → X11_row p A = th 1 (xF A 11 p)) ∧
    (¬ f.length ≤ k → ∃ A1, XL A1 r0 f (k + 1) s ∧ Sm xLd A A1 ∧
      (fG f k = 0 → X11_row p A = th 1 (xF A1 12 p)) ∧
      (¬ fG f k = 0 → f.length < k + 1 + fG f k → X11_row p A = th 1 (xF A1 11 p)) ∧
      (¬ fG f k = 0 → ¬ f.length < k + 1 + fG f k → 65536 < s.2.2 + fG f k → X11_row p A = th 1 (xF A1 13 p)) ∧
      (¬ fG f k = 0 → ¬ f.length < k + 1 + fG f k → ¬ 65536 < s.2.2 + fG f k → ∃ A', X11_row p A = rt () A' ∧ XL A' r0 f (k + 1 + fG f k) (rowM s.1 s.2.2 (fun i => fG f (k + 1 + i)) (fG f k), layL s.2.1 s.2.2 (fG f k), s.2.2 + fG f k) ∧ Sm xLd A A')) := by
  have hl := hf.1
  constructor
  · intro hc
    unfold X11_row X11_row_17
    rw [h.a.1, h.a.2.1, if_pos (nI_le hc (by omega)), xl_want0 h.K, bd_th]
  · intro hc
    obtain ⟨g1, g2⟩ := h.at (k + 1)
    have hx := hf.2 k
    have e0 : X11_row p A = if (nI (fG f k)) ≤ 0 then X11_row_53 p (nI (fG f k)) 0 (pI A 164 4 (nI (k + 1))) else X11_row_53 p (nI (fG f k)) 1 (pI A 164 4 (nI (k + 1))) := by
      unfold X11_row X11_row_17
      have q : ¬ gI A 164 3 ≤ gI A 164 4 := by rw [h.a.1, h.a.2.1]; exact nI_ge (by omega) (by omega)
      rw [if_neg q, xl_want1, bd_rt, xl_get h (by omega), vl_e, pt_e, h.a.2.1, nI_1]
    have e1 : ∀ y, X11_row_53 p (nI (fG f k)) y (pI A 164 4 (nI (k + 1))) = bd (X11_want y 12 p (pI A 164 4 (nI (k + 1)))) (fun _ S1 => if ((gI S1 164 3) - (gI S1 164 4)) < (nI (fG f k)) then X11_row_78 p (nI (fG f k)) 0 S1 else X11_row_78 p (nI (fG f k)) 1 S1) := fun _ => rfl
    refine ⟨pI A 164 4 (nI (k + 1)), g1, g2, fun h0 => ?_, fun h0 h1 => ?_, fun h0 h1 h2 => ?_, fun h0 h1 h2 => ?_⟩
    · rw [e0, h0, if_pos (show nI 0 ≤ 0 by decide), ← h0, e1, xl_want0 g1.K, bd_th]
    all_goals rw [e0, if_neg (nI_nle (by omega) (by omega)), e1, xl_want1, bd_rt, g1.a.1, g1.a.2.1, pk_sub (by omega)]
    · rw [if_pos (nI_lt (by omega) (by omega))]
      unfold X11_row_78
      rw [xl_want0 g1.K, bd_th]
    all_goals rw [if_neg (nI_nlt (by omega) (by omega))]
    all_goals unfold X11_row_78 X11_row_104
    all_goals rw [xl_want1, bd_rt, g1.a.2.2, nI_l (by omega), lN_add]
    · rw [if_pos (show (65536 : Int64) < lN (s.2.2 + fG f k) from (pk_lLT (a := 65536) (by omega) (by omega)).mpr h2), xl_want0 g1.K, bd_th]
    · obtain ⟨A', c1, c2, c3⟩ := x_row_loop (r0 := r0) (k := k + 1) (n := fG f k) (adr := s.2.2) (mem := s.1) (laid := s.2.1) hf (by omega) (by omega) (fG f k) 0 FU (pI A 164 4 (nI (k + 1))) (by omega) (by have := FU_ge; omega) g1
      refine ⟨A', ?_, c2, g2.trans c3⟩
      rw [if_neg (show ¬ (65536 : Int64) < lN (s.2.2 + fG f k) from fun e => h2 ((pk_lLT (a := 65536) (by omega) (by omega)).mp e)), xl_want1, bd_rt]
      exact c1
theorem fix_b {q : Int64} {w i : Nat} (hw : w ≤ 4) (hi : i < w) : bN (q >>> ((8 * (3 - nI (4 - w + i))).toInt64 &&& 63)) 1 0 = bN q w i := by
  have e1 : (3 : Int32) - nI (4 - w + i) = nI (w - 1 - i) := by
    rw [show (3 : Int32) = nI 3 from rfl, pk_sub (by omega)]
    congr 1; omega
  have e2 : (nI w - 1) - nI i = nI (w - 1 - i) := by
    obtain ⟨w, rfl⟩ : ∃ j, w = j + 1 := ⟨w - 1, by omega⟩
    rw [nI_pred, pk_sub (by omega)]
    rfl
  have e3 : ∀ v : Int64, bN v 1 0 = v.toInt32.toBitVec.toNat % 256 := by
    intro v
    unfold bN
    rw [show (8 * ((nI 1 - 1) - nI 0)).toInt64 &&& 63 = 0 by decide, show v >>> (0 : Int64) = v from Int64.toBitVec_inj.mp (by rw [Int64.toBitVec_shiftRight]; exact BitVec.sshiftRight_zero)]
  rw [e3, e1]
  unfold bN
  rw [e2]
theorem x_fix_loop {r0 k a w : Nat} {f : List Nat} {s : Ls} {x7 : Int64} (ha : a + 4 ≤ 65536) (ha4 : a % 4 = 0) (hw : w ≤ 4) : ∀ (d i n : Nat) (A : Sx), i + d = w → d < n → XL A r0 f k (putI s.1 (a + (4 - w)) w i (x7 / 4), layL s.2.1 (a + (4 - w)) i, s.2.2) → ∃ A', X11_fix_159 n (lN a) x7 (nI (4 - w + i)) A = rt () A' ∧ XL A' r0 f k (fixA s (a + (4 - w)) w (x7 / 4)) ∧ Sm xLd A A' := by
  intro d
  induction d with
  | zero =>
    intro i n A hi hn h
    obtain ⟨n, rfl⟩ : ∃ j, n = j + 1 := ⟨n - 1, by omega⟩
    obtain rfl : i = w := by omega
    refine ⟨A, ?_, h, Sm.rfl' A⟩
    show X11_fix_159b (X11_fix_159 n) (lN a) x7 (nI (4 - i + i)) A = _
    unfold X11_fix_159b
    rw [if_pos (lit_le (N := 4) (by omega) (by omega))]
  | succ d ih =>
    intro i n A hi hn h
    obtain ⟨n, rfl⟩ : ∃ j, n = j + 1 := ⟨n - 1, by omega⟩
    obtain ⟨A1, c1, c2, c3⟩ := xl_set (a := a + (4 - w + i)) (m := 1) ((x7 / 4) >>> ((8 * (3 - nI (4 - w + i))).toInt64 &&& 63)) h (by omega) (by omega) (by omega)
    have h2 : fixA (putI s.1 (a + (4 - w)) w i (x7 / 4), layL s.2.1 (a + (4 - w)) i, s.2.2) (a + (4 - w + i)) 1 ((x7 / 4) >>> ((8 * (3 - nI (4 - w + i))).toInt64 &&& 63)) = (putI s.1 (a + (4 - w)) w (i + 1) (x7 / 4), layL s.2.1 (a + (4 - w)) (i + 1), s.2.2) := by
      unfold fixA
      rw [putB_1, fix_b hw (by omega), putI_s, ← Nat.add_assoc]
      rfl
    rw [h2] at c2
    obtain ⟨A', e1, e2, e3⟩ := ih (i + 1) n A1 (by omega) (by omega) c2
    refine ⟨A', ?_, e2, c3.trans e3⟩
    show X11_fix_159b (X11_fix_159 n) (lN a) x7 (nI (4 - w + i)) A = _
    unfold X11_fix_159b
    replace c1 : X2_set (nI (a + (4 - w + i))) 1 ((x7 / 4) >>> ((8 * (3 - nI (4 - w + i))).toInt64 &&& 63)) A = rt () A1 := c1
    rw [if_neg (lit_ge (N := 4) (by omega) (by omega)), lN_i, nI_add, c1, bd_rt, vl_e, nI_1]
    exact e1
end
section
set_option maxRecDepth 100000
theorem wayOK_x {bits : Int32} {w : Int64} {α : Type} (P0 P1 : α) : (if (w - w / 4 * 4) = 0 then (if (w / 4) < (-(((1 : Int64)) <<< ((bits - 1).toInt64 &&& 63))) then P0 else if (((1 : Int64)) <<< ((bits - 1).toInt64 &&& 63)) ≤ (w / 4) then P0 else P1) else P0) = if wayOK bits w = true then P1 else P0 := by
  unfold wayOK
  by_cases h : (w &&& 3) = 0
  · have hq : w / 4 = q4 w := l_q4 h
    rw [if_pos ((l_rem4 w).mpr h), hq]
    by_cases h1 : q4 w < (-(((1 : Int64)) <<< ((bits - 1).toInt64 &&& 63)))
    · rw [if_pos h1, if_neg]
      rw [decide_eq_true_iff]
      exact fun x => x.2.1 h1
    · rw [if_neg h1]
      by_cases h2 : (((1 : Int64)) <<< ((bits - 1).toInt64 &&& 63)) ≤ q4 w
      · rw [if_pos h2, if_neg]
        rw [decide_eq_true_iff]
        exact fun x => (Int64.not_lt.mpr h2) x.2.2
      · rw [if_neg h2, if_pos]
        rw [decide_eq_true_iff]
        exact ⟨h, h1, Int64.not_le.mp h2⟩
  · rw [if_neg (fun x => h ((l_rem4 w).mp x)), if_neg]
    rw [decide_eq_true_iff]
    exact fun x => h x.1
theorem wayOK_q {bits : Int32} {w : Int64} (h : wayOK bits w = true) : w / 4 = q4 w := by
  unfold wayOK at h
  rw [decide_eq_true_iff] at h
  exact l_q4 h.1
theorem lN_tn {a : Nat} (h : a < 65537) : (lN a).toInt.toNat = a := by
  rw [pk_lT (by omega)]
  rfl
theorem lN_0 {a : Nat} (h : a < 65537) : lN a = 0 ↔ a = 0 := pk_lEQ (b := 0) (by omega) (by omega)
/-- X's fix at the address a: the fault, or what comes of it -/
theorem x_fix3 {A : Sx} {r0 k a : Nat} {f : List Nat} {s : Ls} (p : Int32) (h : XL A r0 f k s) (ha : a < 65536) : (¬ a % 8 = 0 → X11_fix 3 (lN a) p A = th 1 (xF A 13 p)) ∧ (a % 8 = 0 → ∃ A', X11_fix 3 (lN a) p A = rt () A' ∧ XL A' r0 f k (fixA s a 8 (lN s.2.2)) ∧ Sm xLd A A') := by
  have hA : isA (lN a) = true := by
    unfold isA
    rw [decide_eq_true_iff]
    exact ⟨fun e => by have := (pk_lLT (a := a) (b := 0) (by omega) (by omega)).mp e; omega, (pk_lLT (b := 65536) (by omega) (by omega)).mpr ha⟩
  have e0 : X11_fix 3 (lN a) p A = if lN (a % 8) = 0 then X11_fix_36 3 (lN a) p 1 A else X11_fix_36 3 (lN a) p 0 A := by
    unfold X11_fix X11_fix_11
    rw [if_pos rfl, vl_e, x_isA, bd_rt, hA, if_neg (by decide), if_neg (by decide), show ((8 : Int32)).toInt64 = lN 8 from rfl, pk_lRem (by omega) (by omega) (by omega)]
  constructor
  · intro h8
    rw [e0, if_neg (fun e => h8 ((lN_0 (by omega)).mp e))]
    unfold X11_fix_36
    rw [xl_want0 h.K, bd_th]
  · intro h8
    obtain ⟨A', c1, c2, c3⟩ := xl_set (m := 8) (lN s.2.2) h ha (by omega) (by omega)
    refine ⟨A', ?_, c2, c3⟩
    rw [e0, if_pos ((lN_0 (by omega)).mpr h8)]
    unfold X11_fix_36
    replace c1 : X2_set (nI a) 8 (lN s.2.2) A = rt () A' := c1
    rw [xl_want1, bd_rt, if_pos rfl, lN_i, h.a.2.2, c1, bd_rt]
theorem x_fix76 {A : Sx} {r0 k a w : Nat} {f : List Nat} {s : Ls} {x1 bits : Int32} (p : Int32) (h : XL A r0 f k s) (ha : a + 4 ≤ 65536) (ha4 : a % 4 = 0) (hw : (w = 2 ∧ x1 = 4 ∧ bits = 16) ∨ (w = 3 ∧ x1 = 5 ∧ bits = 24)) : (¬ wayOK bits (lN s.2.2 - lN a) = true → X11_fix_76 x1 (lN a) p bits A = th 1 (xF A 14 p)) ∧ (wayOK bits (lN s.2.2 - lN a) = true → ∃ A', X11_fix_76 x1 (lN a) p bits A = rt () A' ∧ XL A' r0 f k (fixA s (a + (4 - w)) w (q4 (lN s.2.2 - lN a))) ∧ Sm xLd A A') := by
  have e0 : X11_fix_76 x1 (lN a) p bits A = if wayOK bits (lN s.2.2 - lN a) = true then X11_fix_136 x1 (lN a) p (lN s.2.2 - lN a) 1 A else X11_fix_136 x1 (lN a) p (lN s.2.2 - lN a) 0 A := by
    unfold X11_fix_76
    rw [vl_e, vl_e, h.a.2.2, wayOK_x]
  constructor
  · intro hc
    rw [e0, if_neg hc]
    unfold X11_fix_136
    rw [xl_want0 h.K, bd_th]
  · intro hc
    obtain ⟨A', c1, c2, c3⟩ := x_fix_loop (r0 := r0) (k := k) (f := f) (s := s) (x7 := lN s.2.2 - lN a) (w := w) ha ha4 (by omega) w 0 FU A (by omega) (by have := FU_ge; omega) (by rw [putI_0]; exact h)
    rw [wayOK_q hc] at c2
    refine ⟨A', ?_, c2, c3⟩
    rw [e0, if_pos hc]
    unfold X11_fix_136
    rw [xl_want1, bd_rt]
    rcases hw with ⟨rfl, rfl, rfl⟩ | ⟨rfl, rfl, rfl⟩
    · rw [if_pos rfl]; exact c1
    · rw [if_neg (by decide)]; exact c1
theorem x_fix45 {A : Sx} {r0 k a w : Nat} {f : List Nat} {s : Ls} {x1 bits : Int32} (p : Int32) (h : XL A r0 f k s) (ha : a < 65536) (hw : (w = 2 ∧ x1 = 4 ∧ bits = 16) ∨ (w = 3 ∧ x1 = 5 ∧ bits = 24)) : (¬ a % 4 = 0 → X11_fix x1 (lN a) p A = th 1 (xF A 13 p)) ∧ (a % 4 = 0 → (¬ wayOK bits (lN s.2.2 - lN a) = true → X11_fix x1 (lN a) p A = th 1 (xF A 14 p)) ∧ (wayOK bits (lN s.2.2 - lN a) = true → ∃ A', X11_fix x1 (lN a) p A = rt () A' ∧ XL A' r0 f k (fixA s (a + (4 - w)) w (q4 (lN s.2.2 - lN a))) ∧ Sm xLd A A')) := by
  have hA : isA (lN a) = true := by
    unfold isA
    rw [decide_eq_true_iff]
    exact ⟨fun e => by have := (pk_lLT (a := a) (b := 0) (by omega) (by omega)).mp e; omega, (pk_lLT (b := 65536) (by omega) (by omega)).mpr ha⟩
  have h3 : ¬ x1 = 3 := by rcases hw with ⟨_, rfl, _⟩ | ⟨_, rfl, _⟩ <;> decide
  have e0 : X11_fix x1 (lN a) p A = if lN (a % 4) = 0 then X11_fix_36 x1 (lN a) p 1 A else X11_fix_36 x1 (lN a) p 0 A := by
    unfold X11_fix X11_fix_11
    rw [if_neg h3, vl_e, x_isA, bd_rt, hA, if_neg (by decide), if_neg (by decide), show ((4 : Int32)).toInt64 = lN 4 from rfl, pk_lRem (by omega) (by omega) (by omega)]
  constructor
  · intro h4
    rw [e0, if_neg (fun e => h4 ((lN_0 (by omega)).mp e))]
    unfold X11_fix_36
    rw [xl_want0 h.K, bd_th]
  · intro h4
    have e1 : X11_fix x1 (lN a) p A = X11_fix_76 x1 (lN a) p bits A := by
      rw [e0, if_pos ((lN_0 (by omega)).mpr h4)]
      unfold X11_fix_36
      rw [xl_want1, bd_rt, if_neg h3]
      rcases hw with ⟨_, rfl, rfl⟩ | ⟨_, rfl, rfl⟩
      · rw [if_pos rfl]
      · rw [if_neg (by decide)]
    rw [e1]
    exact x_fix76 p h (by omega) h4 hw
/-- what a record comes to, in X -/
def XLo (A : Sx) (r0 : Nat) (f : List Nat) (s : Ls) (n : Nat) (r : Rs Int64) (o : (Nat × Nat) ⊕ (Nat × Nat × Int64 × Ls)) : Prop := match o with
  | .inl (c, p) => ∃ A' k', r = th 1 (xF A' (nI c) (nI p)) ∧ XL A' r0 f k' s ∧ Sm xLd A A'
  | .inr (q, k', v, s') => ∃ A' v', r = X11_load_32 n (nI q) v' A' ∧ (¬ q = 2 → v' = v) ∧ XL A' r0 f k' s' ∧ Sm xLd A A'
theorem xlo_f {A A' : Sx} {r0 : Nat} {f : List Nat} {s : Ls} {n k' c p : Nat} {r : Rs Int64} (h : r = th 1 (xF A' (nI c) (nI p))) (hx : XL A' r0 f k' s) (hs : Sm xLd A A') : XLo A r0 f s n r (.inl (c, p)) := ⟨A', k', h, hx, hs⟩
theorem xlo_g {A A' : Sx} {r0 : Nat} {f : List Nat} {s s' : Ls} {n k' q : Nat} {v v' : Int64} {r : Rs Int64} (h : r = X11_load_32 n (nI q) v' A') (hv : ¬ q = 2 → v' = v) (hx : XL A' r0 f k' s') (hs : Sm xLd A A') : XLo A r0 f s n r (.inr (q, k', v, s')) := ⟨A', v', h, hv, hx, hs⟩
theorem x_load_r {A A0 : Sx} {r0 n k k0 : Nat} {r : Nat} {f : List Nat} {s : Ls} {x4 v : Int64} (h : XL A r0 f k s) (h0 : Sm xLd A0 A) (hr : 1 ≤ r ∧ r ≤ 6) (hr2 : ¬ r = 2) (hk : k = k0 + 9) (ha : s.2.2 ≤ 65536) : XLo A0 r0 f s n (if nI r = 1 then X11_load_147 (X11_load_32 n) (nI r) (nI k0) v A else if nI r = 6 then X11_load_147 (X11_load_32 n) (nI r) (nI k0) v A else bd (X11_fix (nI r) v (nI k0) A) (fun _ S3 => X11_load_188 (X11_load_32 n) (nI r) v S3)) (ldW r k0 s v) := by
  subst hk
  have e1 : nI r = 1 ↔ r = 1 := nI_eq (b := 1) (by omega) (by omega)
  have e6 : nI r = 6 ↔ r = 6 := nI_eq (b := 6) (by omega) (by omega)
  unfold ldW
  by_cases hc : r = 1 ∨ r = 6
  · have e : (if nI r = 1 then X11_load_147 (X11_load_32 n) (nI r) (nI k0) v A else if nI r = 6 then X11_load_147 (X11_load_32 n) (nI r) (nI k0) v A else bd (X11_fix (nI r) v (nI k0) A) (fun _ S3 => X11_load_188 (X11_load_32 n) (nI r) v S3)) = X11_load_147 (X11_load_32 n) (nI r) (nI k0) v A := by
      rcases hc with hc | hc
      · rw [if_pos (e1.mpr hc)]
      · rw [if_neg (fun x => by have := e1.mp x; omega), if_pos (e6.mpr hc)]
    rw [e, if_pos hc]
    unfold X11_load_147
    by_cases hv : v < 0 ∨ 65536 < v
    · rw [if_pos hv]
      have e2 : (if v < 0 then X11_load_169 (X11_load_32 n) (nI r) (nI k0) v 0 A else if 65536 < v then X11_load_169 (X11_load_32 n) (nI r) (nI k0) v 0 A else X11_load_169 (X11_load_32 n) (nI r) (nI k0) v 1 A) = X11_load_169 (X11_load_32 n) (nI r) (nI k0) v 0 A := by
        by_cases h1 : v < 0
        · rw [if_pos h1]
        · rw [if_neg h1, if_pos (hv.resolve_left h1)]
      rw [e2]
      unfold X11_load_169
      rw [xl_want0 h.K, bd_th]
      exact xlo_f (c := 13) rfl h h0
    · rw [if_neg hv, if_neg (fun x => hv (Or.inl x)), if_neg (fun x => hv (Or.inr x))]
      unfold X11_load_169
      rw [xl_want1, bd_rt]
      unfold X11_load_188 X11_load_203
      obtain ⟨a, ha2, rfl⟩ := pk_lOf (fun x => hv (Or.inl x))
      have ha3 : ¬ 65536 < a := fun x => hv (Or.inr ((pk_lLT (a := 65536) (by omega) (by omega)).mpr x))
      by_cases h1 : r = 1
      · rw [if_pos (e1.mpr h1), if_pos h1, pt_e, vl_e, lN_tn (by omega)]
        obtain ⟨g1, g2⟩ := h.ad a
        exact xlo_g rfl (fun _ => rfl) g1 (h0.trans g2)
      · rw [if_neg (fun x => h1 (e1.mp x)), if_neg h1, pt_e, vl_e, h.a.2.2]
        obtain ⟨g1, g2⟩ := h.ad s.2.2
        exact xlo_g rfl (fun _ => rfl) g1 (h0.trans g2)
  · have h1 : ¬ r = 1 := fun x => hc (Or.inl x)
    have h6 : ¬ r = 6 := fun x => hc (Or.inr x)
    rw [if_neg (fun x => h1 (e1.mp x)), if_neg (fun x => h6 (e6.mp x)), if_neg hc]
    by_cases hA : isA v = true
    · obtain ⟨a, ha2, rfl⟩ := isA_of hA
      rw [lN_tn (by omega)]
      have fin : ∀ (A' : Sx) (s' : Ls), X11_fix (nI r) (lN a) (nI k0) A = rt () A' → XL A' r0 f (k0 + 9) s' → Sm xLd A A' → XLo A0 r0 f s n (bd (X11_fix (nI r) (lN a) (nI k0) A) (fun _ S3 => X11_load_188 (X11_load_32 n) (nI r) (lN a) S3)) (.inr (r, k0 + 9, lN a, s')) := by
        intro A' s' c1 c2 c3
        rw [c1, bd_rt]
        unfold X11_load_188 X11_load_203
        rw [if_neg (fun x => h1 (e1.mp x)), pt_e, vl_e, c2.a.2.2]
        obtain ⟨g1, g2⟩ := c2.ad s'.2.2
        exact xlo_g rfl (fun _ => rfl) g1 ((h0.trans c3).trans g2)
      by_cases h3 : r = 3
      · subst h3
        obtain ⟨f1, f2⟩ := x_fix3 (nI k0) h ha2
        rw [if_pos (rfl : (3 : Nat) = 3)]
        by_cases h8 : a % 8 = 0
        · obtain ⟨A', c1, c2, c3⟩ := f2 h8
          rw [if_pos ⟨hA, h8⟩, if_pos rfl]
          exact fin A' _ c1 c2 c3
        · rw [if_neg (fun x => h8 x.2), show nI 3 = 3 from rfl, f1 h8, bd_th]
          exact xlo_f (c := 13) rfl h h0
      · rw [if_neg h3]
        by_cases h4 : a % 4 = 0
        · rw [if_pos ⟨hA, h4⟩, if_neg h3]
          by_cases q4' : r = 4
          · subst q4'
            obtain ⟨f1, f2⟩ := x_fix45 (x1 := 4) (bits := 16) (nI k0) h ha2 (Or.inl ⟨rfl, rfl, rfl⟩)
            obtain ⟨f3, f4⟩ := f2 h4
            rw [if_pos (rfl : (4 : Nat) = 4)]
            by_cases hw : wayOK 16 (lN s.2.2 - lN a) = true
            · rw [if_pos hw]
              obtain ⟨A', c1, c2, c3⟩ := f4 hw
              exact fin A' _ c1 c2 c3
            · rw [if_neg hw, show nI 4 = 4 from rfl, f3 hw, bd_th]
              exact xlo_f (c := 14) rfl h h0
          · obtain rfl : r = 5 := by omega
            obtain ⟨f1, f2⟩ := x_fix45 (x1 := 5) (bits := 24) (nI k0) h ha2 (Or.inr ⟨rfl, rfl, rfl⟩)
            obtain ⟨f3, f4⟩ := f2 h4
            rw [if_neg q4']
            by_cases hw : wayOK 24 (lN s.2.2 - lN a) = true
            · rw [if_pos hw]
              obtain ⟨A', c1, c2, c3⟩ := f4 hw
              exact fin A' _ c1 c2 c3
            · rw [if_neg hw, show nI 5 = 5 from rfl, f3 hw, bd_th]
              exact xlo_f (c := 14) rfl h h0
        · rw [if_neg (fun x => h4 x.2)]
          have : X11_fix (nI r) (lN a) (nI k0) A = th 1 (xF A 13 (nI k0)) := by
            by_cases q4' : r = 4
            · subst q4'
              exact (x_fix45 (x1 := 4) (bits := 16) (nI k0) h ha2 (Or.inl ⟨rfl, rfl, rfl⟩)).1 h4
            · obtain rfl : r = 5 := by omega
              exact (x_fix45 (x1 := 5) (bits := 24) (nI k0) h ha2 (Or.inr ⟨rfl, rfl, rfl⟩)).1 h4
          rw [this, bd_th]
          exact xlo_f (c := 13) rfl h h0
    · rw [if_neg (fun x => hA x.1)]
      have : X11_fix (nI r) v (nI k0) A = th 1 (xF A 13 (nI k0)) := by
        have hA' : isA v = false := by cases hh : isA v <;> simp_all
        have e36 : X11_fix_36 (nI r) v (nI k0) 0 A = th 1 (xF A 13 (nI k0)) := by
          unfold X11_fix_36
          rw [xl_want0 h.K, bd_th]
        unfold X11_fix X11_fix_11
        by_cases h3 : nI r = 3
        · rw [if_pos h3, vl_e, x_isA, bd_rt, hA', if_pos (show b1 false = 0 from rfl), e36]
        · rw [if_neg h3, vl_e, x_isA, bd_rt, hA', if_pos (show b1 false = 0 from rfl), e36]
      rw [this, bd_th]
      exact xlo_f (c := 13) rfl h h0
/-- one record, in X -/
theorem x_ld {A : Sx} {r0 n k r1 : Nat} {f : List Nat} {s : Ls} {x4 : Int64} (h : XL A r0 f k s) (hf : fOK f) (hk : k ≤ f.length) (ha : s.2.2 ≤ 65536) (h6 : ¬ r1 = 6) (h256 : r1 < 256) : XLo A r0 f s n (X11_load_32 (n + 1) (nI r1) x4 A) (ldS f k s) := by
  have hl := hf.1
  show XLo A r0 f s n (X11_load_32b (X11_load_32 n) (nI r1) x4 A) (ldS f k s)
  unfold X11_load_32b ldS X11_load_55
  rw [if_neg (show ¬ nI r1 = 6 from fun e => h6 ((nI_eq (b := 6) (by omega) (by omega)).mp e))]
  by_cases c0 : f.length ≤ k
  · rw [if_pos c0, if_pos (by rw [h.a.1, h.a.2.1]; exact nI_le c0 (by omega)), xl_want0 h.K, bd_th, h.a.2.1]
    exact xlo_f (c := 11) rfl h (Sm.rfl' A)
  · obtain ⟨g1, g2⟩ := h.at (k + 1)
    have hx := hf.2 k
    rw [if_neg c0, if_neg (by rw [h.a.1, h.a.2.1]; exact nI_ge (by omega) (by omega)), xl_want1, bd_rt, vl_e, xl_get h (by omega), vl_e, pt_e, h.a.2.1, nI_1]
    have e2 : nI (fG f k) = 2 ↔ fG f k = 2 := nI_eq (b := 2) (by omega) (by omega)
    have eA : ∀ y, X11_load_107 (X11_load_32 n) (nI (fG f k)) x4 (nI k) y (pI A 164 4 (nI (k + 1))) = bd (X11_want y 12 (nI k) (pI A 164 4 (nI (k + 1)))) (fun _ S1 => if nI (fG f k) = 2 then bd (X11_row (nI k) S1) (fun _ S2 => X11_load_32 n (nI (fG f k)) x4 S2) else bd (X11_octa (nI k) S1) (fun v1 S2 => vl v1 (fun v2 => if nI (fG f k) = 1 then X11_load_147 (X11_load_32 n) (nI (fG f k)) (nI k) v2 S2 else if nI (fG f k) = 6 then X11_load_147 (X11_load_32 n) (nI (fG f k)) (nI k) v2 S2 else bd (X11_fix (nI (fG f k)) v2 (nI k) S2) (fun _ S3 => X11_load_188 (X11_load_32 n) (nI (fG f k)) v2 S3)))) := fun _ => rfl
    by_cases c12 : fG f k < 1 ∨ 6 < fG f k
    · have e : (if nI (fG f k) < 1 then X11_load_107 (X11_load_32 n) (nI (fG f k)) x4 (nI k) 0 (pI A 164 4 (nI (k + 1))) else if 6 < nI (fG f k) then X11_load_107 (X11_load_32 n) (nI (fG f k)) x4 (nI k) 0 (pI A 164 4 (nI (k + 1))) else X11_load_107 (X11_load_32 n) (nI (fG f k)) x4 (nI k) 1 (pI A 164 4 (nI (k + 1)))) = X11_load_107 (X11_load_32 n) (nI (fG f k)) x4 (nI k) 0 (pI A 164 4 (nI (k + 1))) := by
        by_cases h1 : fG f k < 1
        · rw [if_pos (lit_lt (N := 1) h1 (by omega))]
        · rw [if_neg (lit_gt (N := 1) (by omega) (by omega)), if_pos ((n_lt (N := 6) (by omega) (by omega)).mpr (c12.resolve_left h1))]
      rw [e, eA, if_neg (by omega), if_pos c12, xl_want0 g1.K, bd_th]
      exact xlo_f (c := 12) rfl g1 g2
    · rw [if_neg (lit_gt (N := 1) (by omega) (by omega)), if_neg (fun x => c12 (Or.inr ((n_lt (N := 6) (by omega) (by omega)).mp x))), eA, xl_want1, bd_rt]
      by_cases c2 : fG f k = 2
      · rw [if_pos (e2.mpr c2), if_pos c2]
        obtain ⟨r1, r2⟩ := x_row (nI k) hf g1 (by omega) ha
        by_cases d0 : f.length ≤ k + 1
        · rw [if_pos d0, r1 d0, bd_th]
          exact xlo_f (c := 11) rfl g1 g2
        · rw [if_neg d0]
          obtain ⟨A1, x1, x2, x3, x4', x5, x6⟩ := r2 d0
          have hx1 := hf.2 (k + 1)
          by_cases d1 : fG f (k + 1) = 0
          · rw [if_pos d1, x3 d1, bd_th]
            exact xlo_f (c := 12) rfl x1 (g2.trans x2)
          · rw [if_neg d1]
            by_cases d2 : f.length < k + 2 + fG f (k + 1)
            · rw [if_pos d2, x4' d1 (by omega), bd_th]
              exact xlo_f (c := 11) rfl x1 (g2.trans x2)
            · rw [if_neg d2]
              by_cases d3 : 65536 < s.2.2 + fG f (k + 1)
              · rw [if_pos d3, x5 d1 (by omega) d3, bd_th]
                exact xlo_f (c := 13) rfl x1 (g2.trans x2)
              · rw [if_neg d3]
                obtain ⟨A', y1, y2, y3⟩ := x6 d1 (by omega) d3
                rw [y1, bd_rt, e2.mpr c2]
                exact xlo_g (q := 2) rfl (fun x => absurd rfl x) y2 (g2.trans y3)
      · rw [if_neg (fun x => c2 (e2.mp x)), if_neg c2, if_neg c12]
        obtain ⟨o1, o2⟩ := x_octa (nI k) hf g1 (by omega)
        by_cases d0 : f.length < k + 9
        · rw [if_pos d0, o2 (by omega), bd_th]
          exact xlo_f (c := 11) rfl g1 g2
        · rw [if_neg d0]
          obtain ⟨A', y1, y2, y3⟩ := o1 (by omega)
          rw [y1, bd_rt, vl_e]
          exact x_load_r (x4 := x4) y2 (g2.trans y3) (by omega) c2 (by omega) ha
end
section
set_option maxRecDepth 100000
/-! ===== M's loader ===== -/
/-- M's fault and its place -/
def mF (S : Sx) (c p : Int32) : Sx := pI (pI (xs (nw S 69 0 8) (gn S) 19) (gn S) 6 c) (gn S) 7 p
theorem m_must0 {S : Sx} (h : roomM S) (c p : Int32) : X12_must 0 c p S = th (gn S) (mF S c p) := by
  unfold X12_must
  rw [if_pos rfl, al_e h.1 h.2]
  unfold X13_init xi
  rw [if_pos (show gK (nw S (13 + 50 + 6) 0 8) (gn S) = 13 + 50 + 6 by rw [gK_nw, if_pos rfl])]
  dsimp only
  rw [kd_e (by rw [gK_xs, if_pos rfl]), pt_e, kd_e (by rw [gK_pI, gK_xs, if_pos rfl]), pt_e, bd_rt]
  rfl
theorem m_must1 (S : Sx) (c p : Int32) : X12_must 1 c p S = rt () S := if_neg (by decide)
theorem mF_sg {P : Nat → Nat → Prop} (S : Sx) (c p : Int32) : Sg P S (mF S c p) := by
  unfold mF
  refine Sg.new ?_ (fun x h => ?_) (fun x h => ?_) (fun x k h => ?_) (fun x k h => ?_) (fun x k h => ?_)
  · exact Nat.le_succ _
  · rw [gK_pI, gK_pI, gK_xs, if_neg h, gK_nw, if_neg h]
  · rw [gN_pI, gN_pI, gN_xs, gN_nw, if_neg h]
  · rw [gI_pI, if_neg (fun e => h e.1), gI_pI, if_neg (fun e => h e.1), gI_xs, if_neg h, gI_nw, if_neg h]
  · rw [gL_pI, gL_pI, gL_xs, gL_nw, if_neg h]
  · rw [gR_pI, gR_pI, gR_xs, gR_nw, if_neg h]
theorem mF_gn (S : Sx) (c p : Int32) : gn (mF S c p) = gn S + 1 := rfl
theorem mF_gu (S : Sx) (c p : Int32) : gu (mF S c p) = gu S + 8 := rfl
theorem mF_K (S : Sx) (c p : Int32) : gK (mF S c p) (gn S) = 19 := by unfold mF; rw [gK_pI, gK_pI, gK_xs, if_pos rfl]
theorem mF_6 (S : Sx) (c p : Int32) : gI (mF S c p) (gn S) 6 = c := by unfold mF; rw [gI_pI, if_neg (by omega), gI_pI, if_pos ⟨rfl, rfl⟩]
theorem mF_7 (S : Sx) (c p : Int32) : gI (mF S c p) (gn S) 7 = p := by unfold mF; rw [gI_pI, if_pos ⟨rfl, rfl⟩]
def ML (B : Sx) (tg : Nat) (f : List Nat) (s : Ls) : Prop := gR B 167 37 = some tg ∧ gK B tg = 1 ∧ gN B tg = 65536 ∧ (tg = 169 ∨ tg = 183) ∧ (∀ a, a < 65536 → gI B tg a = nI (s.1 a)) ∧ (∀ p, p < 1024 → gI B 182 p = b1 (s.2.1 p)) ∧ gL B 167 38 = lN s.2.2 ∧ gI B 167 1 = nI f.length ∧ ∀ i, i < f.length → gI B 168 i = nI (fG f i)
def mLd (tg c k : Nat) : Prop := (c = 167 ∧ k = 38) ∨ c = tg ∨ c = 182
theorem ML.ad {B : Sx} {tg : Nat} {f : List Nat} {s : Ls} (h : ML B tg f s) (a : Nat) : ML (pL B 167 38 (lN a)) tg f (s.1, s.2.1, a) ∧ Sm (mLd tg) B (pL B 167 38 (lN a)) := by
  obtain ⟨h1, h2, h3, h4, h5, h6, h7, h8, h9⟩ := h
  exact ⟨⟨h1, h2, h3, h4, h5, h6, by rw [gL_pL, if_pos ⟨rfl, rfl⟩], h8, h9⟩, Sm.pL (Or.inl ⟨rfl, rfl⟩)⟩
theorem m_put_loop {tg a m : Nat} {f : List Nat} {s : Ls} {v : Int64} (ham : a + m ≤ 65536) : ∀ (d i n : Nat) (B : Sx), i + d = m → d < n → ML B tg f (putI s.1 a m i v, layL s.2.1 a i, s.2.2) → ∃ B', X12_put_3 n (nI a) (nI m) v (nI i) B = rt () B' ∧ ML B' tg f (fixA s a m v) ∧ Sm (mLd tg) B B' := by
  intro d
  induction d with
  | zero =>
    intro i n B hi hn h
    obtain ⟨n, rfl⟩ : ∃ j, n = j + 1 := ⟨n - 1, by omega⟩
    obtain rfl : i = m := by omega
    refine ⟨B, ?_, h, Sm.rfl' B⟩
    show X12_put_3b (X12_put_3 n) (nI a) (nI i) v (nI i) B = _
    unfold X12_put_3b
    rw [if_pos (nI_le (Nat.le_refl _) (by omega))]
  | succ d ih =>
    intro i n B hi hn h
    obtain ⟨n, rfl⟩ : ∃ j, n = j + 1 := ⟨n - 1, by omega⟩
    obtain ⟨h1, h2, h3, h4, h5, h6, h7, h8, h9⟩ := h
    have hs : Sm (mLd tg) B (pI (pI B tg (a + i) (nI (bN v m i))) 182 ((a + i) / 64) 1) := (Sm.pI (Or.inr (Or.inl rfl))).trans (Sm.pI (Or.inr (Or.inr rfl)))
    have hI : ML (pI (pI B tg (a + i) (nI (bN v m i))) 182 ((a + i) / 64) 1) tg f (putI s.1 a m (i + 1) v, layL s.2.1 a (i + 1), s.2.2) := by
      refine ⟨h1, h2, h3, h4, fun x hx => ?_, fun p hp => ?_, h7, ?_, fun j hj => ?_⟩
      · rw [gI_pI, if_neg (by omega), gI_pI]
        show _ = nI (putI s.1 a m (i + 1) v x)
        rw [putI_s]
        unfold up
        split
        · rename_i q; rw [if_pos q.2]
        · rename_i q; rw [if_neg (fun e => q ⟨rfl, e⟩)]; exact h5 x hx
      · rw [gI_pI]
        show _ = b1 (up (layL s.2.1 a i) ((a + i) / 64) true p)
        unfold up
        split
        · rename_i q; rw [if_pos q.2]; rfl
        · rename_i q; rw [if_neg (fun e => q ⟨rfl, e⟩), gI_pI, if_neg (by omega)]; exact h6 p hp
      · rw [gI_pI, if_neg (by omega), gI_pI, if_neg (by omega)]; exact h8
      · rw [gI_pI, if_neg (by omega), gI_pI, if_neg (by omega)]; exact h9 j hj
    obtain ⟨B', e1, e2, e3⟩ := ih (i + 1) n _ (by omega) (by omega) hI
    refine ⟨B', ?_, e2, hs.trans e3⟩
    show X12_put_3b (X12_put_3 n) (nI a) (nI m) v (nI i) B = _
    unfold X12_put_3b
    rw [if_neg (nI_ge (by omega) (by omega)), h1, dO_s h2, h3, nI_add, sI_n (by omega) (by omega), bN_i, show nI (a + i) / 64 = nI ((a + i) / 64) from pk_div (d := 64) (by omega) (by omega) (by omega), sI_n (by omega) (by omega), nz_1, vl_e, nI_1]
    exact e1
theorem m_put {B : Sx} {tg a m : Nat} {f : List Nat} {s : Ls} (v : Int64) (h : ML B tg f s) (ham : a + m ≤ 65536) : ∃ B', X12_put (nI a) (nI m) v B = rt () B' ∧ ML B' tg f (fixA s a m v) ∧ Sm (mLd tg) B B' :=
  m_put_loop (s := s) ham m 0 FU B (by omega) (by have := FU_ge; omega) (by rw [putI_0]; exact h)
theorem m_goes {B : Sx} {tg a w : Nat} {f : List Nat} {s : Ls} {bits : Int32} (to : Int64) (h : ML B tg f s) (ha : a + 4 ≤ 65536) (hw : (w = 2 ∧ bits = 16) ∨ (w = 3 ∧ bits = 24)) : (¬ wayOK bits (to - lN a) = true → X12_goesTo (nI a) bits to B = rt 0 B) ∧ (wayOK bits (to - lN a) = true → ∃ B', X12_goesTo (nI a) bits to B = rt 1 B' ∧ ML B' tg f (fixA s (a + (4 - w)) w (q4 (to - lN a))) ∧ Sm (mLd tg) B B') := by
  have e0 : X12_goesTo (nI a) bits to B = if wayOK bits (to - lN a) = true then bd (X12_put (nI (a + (4 - w))) (nI w) (q4 (to - lN a)) B) (fun _ S1 => rt 1 S1) else rt 0 B := by
    have eP : ((nI a + 4) - (bits / 8)) = nI (a + (4 - w)) ∧ bits / 8 = nI w := by
      have e8 : bits / 8 = nI w := by rcases hw with ⟨rfl, rfl⟩ | ⟨rfl, rfl⟩ <;> decide
      refine ⟨?_, e8⟩
      rw [e8, show (4 : Int32) = nI 4 from rfl, nI_add, pk_sub (by omega)]
      congr 1; omega
    unfold X12_goesTo
    rw [vl_e, vl_e, nI_l (by omega), eP.1, eP.2]
    unfold wayOK
    show (if ((to - lN a) &&& 3) = 0 then (if q4 (to - lN a) < _ then _ else if q4 (to - lN a) < _ then _ else _) else _) = _
    by_cases h1 : ((to - lN a) &&& 3) = 0
    · rw [if_pos h1]
      by_cases h2 : q4 (to - lN a) < (-(((1 : Int64)) <<< ((bits - 1).toInt64 &&& 63)))
      · rw [if_pos h2, if_neg]
        rw [decide_eq_true_iff]
        exact fun x => x.2.1 h2
      · rw [if_neg h2]
        by_cases h3 : q4 (to - lN a) < (((1 : Int64)) <<< ((bits - 1).toInt64 &&& 63))
        · rw [if_pos h3, if_pos]
          · rfl
          · rw [decide_eq_true_iff]; exact ⟨h1, h2, h3⟩
        · rw [if_neg h3, if_neg]
          rw [decide_eq_true_iff]
          exact fun x => h3 x.2.2
    · rw [if_neg h1, if_neg]
      rw [decide_eq_true_iff]
      exact fun x => h1 x.1
  constructor
  · intro hc
    rw [e0, if_neg hc]
  · intro hc
    obtain ⟨B', c1, c2, c3⟩ := m_put (a := a + (4 - w)) (m := w) (q4 (to - lN a)) h (by omega)
    exact ⟨B', by rw [e0, if_pos hc, c1, bd_rt], c2, c3⟩
theorem m_eight {B : Sx} {tg k : Nat} {f : List Nat} {s : Ls} (hf : fOK f) (h : ML B tg f s) (hl : f.length ≤ 20000) (hk : k + 8 ≤ f.length) : X12_eight (nI k) B = rt (numL (fG f) k 8) B := by
  have : ∀ d i n, i + d = 8 → d < n → X12_eight_5 n (nI k) (numL (fG f) k i) (nI i) B = rt (numL (fG f) k 8) B := by
    intro d
    induction d with
    | zero =>
      intro i n hi hn
      obtain ⟨n, rfl⟩ : ∃ j, n = j + 1 := ⟨n - 1, by omega⟩
      obtain rfl : i = 8 := by omega
      show X12_eight_5b (X12_eight_5 n) _ _ _ B = _
      unfold X12_eight_5b
      rw [if_pos (lit_le (N := 8) (Nat.le_refl _) (by omega))]
    | succ d ih =>
      intro i n hi hn
      obtain ⟨n, rfl⟩ : ∃ j, n = j + 1 := ⟨n - 1, by omega⟩
      show X12_eight_5b (X12_eight_5 n) _ _ _ B = _
      unfold X12_eight_5b
      have hx := hf.2 (k + i)
      rw [if_neg (lit_ge (N := 8) (by omega) (by omega)), nI_add, lI_n (by omega) (by omega), h.2.2.2.2.2.2.2.2 _ (by omega), nI_l (by omega), vl_e, vl_e, nI_1]
      exact ih (i + 1) n (by omega) (by omega)
  exact this 8 0 FU (by omega) (by have := FU_ge; omega)
theorem m_row_loop {k2 : Int32 → Sx → Rs Int64} {tg k n adr : Nat} {f : List Nat} {mem : Nat → Nat} {laid : Nat → Bool} (hf : fOK f) (hl : f.length ≤ 20000) (hk : k + 2 + n ≤ f.length) (ha : adr + n ≤ 65536) : ∀ (d i N : Nat) (B : Sx), i + d = n → d < N → ML B tg f (rowM mem adr (fun j => fG f (k + 2 + j)) i, layL laid adr i, adr) → ∃ B', X12_records_129 k2 N (nI k) (nI n) (nI i) B = k2 (nI (k + 2 + n)) B' ∧ ML B' tg f (rowM mem adr (fun j => fG f (k + 2 + j)) n, layL laid adr n, adr + n) ∧ Sm (mLd tg) B B' := by
  intro d
  induction d with
  | zero =>
    intro i N B hi hN h
    obtain ⟨N, rfl⟩ : ∃ j, N = j + 1 := ⟨N - 1, by omega⟩
    obtain rfl : i = n := by omega
    obtain ⟨g1, g2⟩ := h.ad (adr + i)
    refine ⟨_, ?_, g1, g2⟩
    show X12_records_129b k2 (X12_records_129 k2 N) _ _ _ B = _
    unfold X12_records_129b
    rw [if_pos (nI_le (Nat.le_refl _) (by omega)), pt_e, show gL B 167 38 = lN adr from h.2.2.2.2.2.2.1, nI_l (by omega), lN_add, vl_e, show (2 : Int32) = nI 2 from rfl, nI_add, nI_add, Nat.add_assoc k 2 i]
  | succ d ih =>
    intro i N B hi hN h
    obtain ⟨N, rfl⟩ : ∃ j, N = j + 1 := ⟨N - 1, by omega⟩
    obtain ⟨B1, c1, c2, c3⟩ := m_put (a := adr + i) (m := 1) ((nI (fG f (k + 2 + i))).toInt64) h (by omega)
    have h2 : fixA (rowM mem adr (fun j => fG f (k + 2 + j)) i, layL laid adr i, adr) (adr + i) 1 ((nI (fG f (k + 2 + i))).toInt64) = (rowM mem adr (fun j => fG f (k + 2 + j)) (i + 1), layL laid adr (i + 1), adr) := by
      unfold fixA
      rw [putB_1, bN_one _ (hf.2 _)]
      rfl
    rw [h2] at c2
    obtain ⟨B', e1, e2, e3⟩ := ih (i + 1) N B1 (by omega) (by omega) c2
    refine ⟨B', ?_, e2, c3.trans e3⟩
    show X12_records_129b k2 (X12_records_129 k2 N) _ _ _ B = _
    unfold X12_records_129b
    replace c1 : X12_put (nI (adr + i)) 1 ((nI (fG f (k + 2 + i))).toInt64) B = rt () B1 := c1
    rw [if_neg (nI_ge (by omega) (by omega)), show (nI k + 2) = nI (k + 2) from nI_add k 2, nI_add, lI_n (by omega) (by omega), h.2.2.2.2.2.2.2.2 _ (by omega), show gL B 167 38 = lN adr from h.2.2.2.2.2.2.1, lN_i, nI_add, c1, bd_rt, vl_e, nI_1]
    exact e1
def MLo (B : Sx) (tg : Nat) (f : List Nat) (s : Ls) (n : Nat) (r : Rs Int64) (o : (Nat × Nat) ⊕ (Nat × Nat × Int64 × Ls)) : Prop := match o with
  | .inl (c, p) => ∃ B', r = th (gn B') (mF B' (nI c) (nI p)) ∧ ML B' tg f s ∧ Sm (mLd tg) B B'
  | .inr (q, k', v, s') => ∃ B', (¬ q = 6 → r = X12_records_2 n (nI k') B') ∧ (q = 6 → r = if k' = f.length then rt v B' else th (gn B') (mF B' 12 (nI k'))) ∧ ML B' tg f s' ∧ Sm (mLd tg) B B'
theorem mlo_f {B B' : Sx} {tg : Nat} {f : List Nat} {s : Ls} {n c p : Nat} {r : Rs Int64} (h : r = th (gn B') (mF B' (nI c) (nI p))) (hx : ML B' tg f s) (hs : Sm (mLd tg) B B') : MLo B tg f s n r (.inl (c, p)) := ⟨B', h, hx, hs⟩
theorem m_376 {B B0 : Sx} {tg n k q : Nat} {f : List Nat} {s s' : Ls} {v : Int64} (h : ML B tg f s') (h0 : Sm (mLd tg) B0 B) (hr : roomM B0) (hl : f.length ≤ 20000) (hk : k + 9 ≤ f.length) (hq : q < 256) : MLo B0 tg f s n (X12_records_376 (X12_records_2 n) (nI k) (nI q) v B) (.inr (q, k + 9, v, s')) := by
  have e6 : nI q = 6 ↔ q = 6 := nI_eq (b := 6) (by omega) (by omega)
  have e9 : nI k + 9 = nI (k + 9) := nI_add k 9
  refine ⟨B, fun h6 => ?_, fun h6 => ?_, h, h0⟩
  · unfold X12_records_376
    rw [vl_e, if_neg (fun x => h6 (e6.mp x)), e9]
  · unfold X12_records_376 X12_records_401
    rw [vl_e, if_pos (e6.mpr h6), e9, h.2.2.2.2.2.2.2.1]
    by_cases hc : k + 9 = f.length
    · rw [if_pos hc, if_pos (by rw [hc]), m_must1, bd_rt]
    · rw [if_neg hc, if_neg (fun x => hc ((nI_eq (by omega) (by omega)).mp x)), m_must0 (hr.sm h0), bd_th]
theorem m_303 {B B0 : Sx} {tg n k r : Nat} {f : List Nat} {s : Ls} {v : Int64} (h : ML B tg f s) (h0 : Sm (mLd tg) B0 B) (hr : roomM B0) (hl : f.length ≤ 20000) (hk : k + 9 ≤ f.length) (hq : 1 ≤ r ∧ r ≤ 6) (hq2 : ¬ r = 2) (ha : s.2.2 ≤ 65536) :
    MLo B0 tg f s n (if nI r = 1 then X12_records_260 (X12_records_2 n) (nI k) (nI r) v 65536 0 v B else if nI r = 6 then X12_records_260 (X12_records_2 n) (nI k) (nI r) v 65536 0 v B else X12_records_260 (X12_records_2 n) (nI k) (nI r) v 65535 0 v B) (ldW r k s v) := by
  have e1 : nI r = 1 ↔ r = 1 := nI_eq (b := 1) (by omega) (by omega)
  have e3 : nI r = 3 ↔ r = 3 := nI_eq (b := 3) (by omega) (by omega)
  have e4 : nI r = 4 ↔ r = 4 := nI_eq (b := 4) (by omega) (by omega)
  have e6 : nI r = 6 ↔ r = 6 := nI_eq (b := 6) (by omega) (by omega)
  have hr1 : roomM B := hr.sm h0
  have f13 : X12_records_303 (X12_records_2 n) (nI k) (nI r) v 0 B = th (gn B) (mF B 13 (nI k)) := by
    unfold X12_records_303
    rw [m_must0 hr1, bd_th]
  have t1 : X12_records_303 (X12_records_2 n) (nI k) (nI r) v 1 B = if nI r = 1 then pt (pL B 167 38 v) (fun S2 => X12_records_376 (X12_records_2 n) (nI k) (nI r) v S2) else if nI r = 3 then bd (X12_put v.toInt32 8 (gL B 167 38) B) (fun _ S2 => X12_records_376 (X12_records_2 n) (nI k) (nI r) v S2) else if 6 ≤ nI r then X12_records_376 (X12_records_2 n) (nI k) (nI r) v B else if nI r = 4 then X12_records_363 (X12_records_2 n) (nI k) (nI r) v 16 v.toInt32 B else X12_records_363 (X12_records_2 n) (nI k) (nI r) v 24 v.toInt32 B := by
    unfold X12_records_303
    rw [m_must1, bd_rt]
  unfold ldW
  by_cases hc : r = 1 ∨ r = 6
  · have e : (if nI r = 1 then X12_records_260 (X12_records_2 n) (nI k) (nI r) v 65536 0 v B else if nI r = 6 then X12_records_260 (X12_records_2 n) (nI k) (nI r) v 65536 0 v B else X12_records_260 (X12_records_2 n) (nI k) (nI r) v 65535 0 v B) = X12_records_260 (X12_records_2 n) (nI k) (nI r) v 65536 0 v B := by
      rcases hc with hc | hc
      · rw [if_pos (e1.mpr hc)]
      · rw [if_neg (fun x => by have := e1.mp x; omega), if_pos (e6.mpr hc)]
    rw [e, if_pos hc]
    unfold X12_records_260 X12_isIn
    by_cases hv : v < 0 ∨ 65536 < v
    · rw [if_pos hv]
      have e2 : (if v < 0 then (rt 0 B : Rs Int32) else if 65536 < v then rt 0 B else rt 1 B) = rt 0 B := by
        by_cases h1 : v < 0
        · rw [if_pos h1]
        · rw [if_neg h1, if_pos (hv.resolve_left h1)]
      rw [e2, bd_rt, if_pos rfl, f13]
      exact mlo_f (c := 13) rfl h h0
    · rw [if_neg hv, if_neg (fun x => hv (Or.inl x)), if_neg (fun x => hv (Or.inr x)), bd_rt, if_neg (by decide)]
      have e2 : (if nI r = 1 then X12_records_303 (X12_records_2 n) (nI k) (nI r) v 1 B else if nI r = 6 then X12_records_303 (X12_records_2 n) (nI k) (nI r) v 1 B else if nI r = 3 then X12_records_292 (X12_records_2 n) (nI k) (nI r) v 8 v B else X12_records_292 (X12_records_2 n) (nI k) (nI r) v 4 v B) = X12_records_303 (X12_records_2 n) (nI k) (nI r) v 1 B := by
        rcases hc with hc | hc
        · rw [if_pos (e1.mpr hc)]
        · rw [if_neg (fun x => by have := e1.mp x; omega), if_pos (e6.mpr hc)]
      rw [e2, t1]
      obtain ⟨a, ha2, rfl⟩ := pk_lOf (fun x => hv (Or.inl x))
      have ha3 : ¬ 65536 < a := fun x => hv (Or.inr ((pk_lLT (a := 65536) (by omega) (by omega)).mpr x))
      by_cases h1 : r = 1
      · rw [if_pos (e1.mpr h1), if_pos h1, pt_e, lN_tn (by omega)]
        obtain ⟨g1, g2⟩ := h.ad a
        exact m_376 g1 (h0.trans g2) hr hl hk (by omega)
      · obtain rfl : r = 6 := by omega
        rw [if_neg (fun x => h1 (e1.mp x)), if_neg h1, if_neg (by decide), if_pos (by decide)]
        exact m_376 h h0 hr hl hk (by omega)
  · have h1 : ¬ r = 1 := fun x => hc (Or.inl x)
    have h6 : ¬ r = 6 := fun x => hc (Or.inr x)
    rw [if_neg (fun x => h1 (e1.mp x)), if_neg (fun x => h6 (e6.mp x)), if_neg hc]
    unfold X12_records_260 X12_isIn
    by_cases hA : isA v = true
    · obtain ⟨a, ha2, rfl⟩ := isA_of hA
      rw [lN_tn (by omega), if_neg (fun x => by have := (pk_lLT (b := 0) (by omega) (by omega)).mp x; omega), if_neg (fun x => by have := (pk_lLT (a := 65535) (by omega) (by omega)).mp x; omega), bd_rt, if_neg (by decide), if_neg (fun x => h1 (e1.mp x)), if_neg (fun x => h6 (e6.mp x))]
      have u6 : ¬ (6 : Int32) ≤ nI r := lit_ge (N := 6) (by omega) (by omega)
      by_cases h3 : r = 3
      · subst h3
        rw [if_pos (rfl : (3 : Nat) = 3), if_pos (show nI 3 = 3 from rfl)]
        unfold X12_records_292
        rw [if_neg (by decide), show (8 : Int64) = lN 8 from rfl, pk_lRem (by omega) (by omega) (by omega)]
        by_cases h8 : a % 8 = 0
        · rw [if_pos ((lN_0 (by omega)).mpr h8), if_pos ⟨hA, h8⟩, if_pos rfl, t1, if_neg (by decide), if_pos (by decide), lN_i, show gL B 167 38 = lN s.2.2 from h.2.2.2.2.2.2.1]
          obtain ⟨B', c1, c2, c3⟩ := m_put (a := a) (m := 8) (lN s.2.2) h (by omega)
          replace c1 : X12_put (nI a) 8 (lN s.2.2) B = rt () B' := c1
          rw [c1, bd_rt]
          exact m_376 c2 (h0.trans c3) hr hl hk (by omega)
        · rw [if_neg (fun x => h8 ((lN_0 (by omega)).mp x)), if_neg (fun x => h8 x.2), f13]
          exact mlo_f (c := 13) rfl h h0
      · rw [if_neg (fun x => h3 (e3.mp x)), if_neg h3]
        unfold X12_records_292
        rw [if_neg (by decide), show (4 : Int64) = lN 4 from rfl, pk_lRem (by omega) (by omega) (by omega)]
        by_cases h4 : a % 4 = 0
        · rw [if_pos ((lN_0 (by omega)).mpr h4), if_pos ⟨hA, h4⟩, if_neg h3, t1, if_neg (fun x => h1 (e1.mp x)), if_neg (fun x => h3 (e3.mp x)), if_neg u6, lN_i]
          unfold X12_records_363
          rw [show gL B 167 38 = lN s.2.2 from h.2.2.2.2.2.2.1]
          by_cases q4' : r = 4
          · subst q4'
            obtain ⟨f3, f4⟩ := m_goes (w := 2) (bits := 16) (lN s.2.2) h (show a + 4 ≤ 65536 by omega) (Or.inl ⟨rfl, rfl⟩)
            rw [if_pos (rfl : (4 : Nat) = 4), if_pos (show nI 4 = 4 from rfl)]
            by_cases hw : wayOK 16 (lN s.2.2 - lN a) = true
            · rw [if_pos hw]
              obtain ⟨B', c1, c2, c3⟩ := f4 hw
              rw [c1, bd_rt, m_must1, bd_rt]
              exact m_376 c2 (h0.trans c3) hr hl hk (by omega)
            · rw [if_neg hw, f3 hw, bd_rt, m_must0 hr1, bd_th]
              exact mlo_f (c := 14) rfl h h0
          · obtain rfl : r = 5 := by omega
            obtain ⟨f3, f4⟩ := m_goes (w := 3) (bits := 24) (lN s.2.2) h (show a + 4 ≤ 65536 by omega) (Or.inr ⟨rfl, rfl⟩)
            rw [if_neg q4', if_neg (fun x => q4' (e4.mp x))]
            by_cases hw : wayOK 24 (lN s.2.2 - lN a) = true
            · rw [if_pos hw]
              obtain ⟨B', c1, c2, c3⟩ := f4 hw
              rw [c1, bd_rt, m_must1, bd_rt]
              exact m_376 c2 (h0.trans c3) hr hl hk (by omega)
            · rw [if_neg hw, f3 hw, bd_rt, m_must0 hr1, bd_th]
              exact mlo_f (c := 14) rfl h h0
        · rw [if_neg (fun x => h4 ((lN_0 (by omega)).mp x)), if_neg (fun x => h4 x.2), f13]
          exact mlo_f (c := 13) rfl h h0
    · rw [if_neg (show ¬ (isA v = true ∧ v.toInt.toNat % (if r = 3 then 8 else 4) = 0) from fun x => hA x.1)]
      have e2 : (if v < 0 then (rt 0 B : Rs Int32) else if 65535 < v then rt 0 B else rt 1 B) = rt 0 B := by
        by_cases h1 : v < 0
        · rw [if_pos h1]
        · rw [if_neg h1]
          by_cases h2 : 65535 < v
          · rw [if_pos h2]
          · exfalso
            apply hA
            unfold isA
            rw [decide_eq_true_iff]
            obtain ⟨a, ha2, rfl⟩ := pk_lOf h1
            refine ⟨h1, (pk_lLT (b := 65536) (by omega) (by omega)).mpr ?_⟩
            have : ¬ 65535 < a := fun x => h2 ((pk_lLT (a := 65535) (by omega) (by omega)).mpr x)
            omega
      rw [e2, bd_rt, if_pos rfl, f13]
      exact mlo_f (c := 13) rfl h h0
/-- one record, in M -/
theorem m_ld {B : Sx} {tg n k : Nat} {f : List Nat} {s : Ls} (h : ML B tg f s) (hf : fOK f) (hl : f.length ≤ 20000) (hr : roomM B) (hk : k ≤ f.length) (ha : s.2.2 ≤ 65536) : MLo B tg f s n (X12_records_2 (n + 1) (nI k) B) (ldS f k s) := by
  have h8 := h.2.2.2.2.2.2.2.1
  have h9 := h.2.2.2.2.2.2.2.2
  show MLo B tg f s n (X12_records_2b (X12_records_2 n) (nI k) B) (ldS f k s)
  unfold X12_records_2b ldS X12_records_15
  rw [h8]
  by_cases c0 : f.length ≤ k
  · rw [if_pos c0, if_pos (nI_le c0 (by omega)), m_must0 hr, bd_th]
    exact mlo_f (c := 11) rfl h (Sm.rfl' B)
  · have hx := hf.2 k
    rw [if_neg c0, if_neg (nI_ge (by omega) (by omega)), m_must1, bd_rt, lI_n (by omega) (by omega), h9 k (by omega), vl_e]
    have e2 : nI (fG f k) = 2 ↔ fG f k = 2 := nI_eq (b := 2) (by omega) (by omega)
    by_cases c2 : fG f k = 2
    · rw [if_pos (e2.mpr c2), if_pos c2, show nI k + 1 = nI (k + 1) from nI_1 k, h8]
      unfold X12_records_48
      by_cases d0 : f.length ≤ k + 1
      · rw [if_pos d0, if_pos (nI_le d0 (by omega)), m_must0 hr, bd_th]
        exact mlo_f (c := 11) rfl h (Sm.rfl' B)
      · have hx1 := hf.2 (k + 1)
        rw [if_neg d0, if_neg (nI_ge (by omega) (by omega)), m_must1, bd_rt, show nI k + 1 = nI (k + 1) from nI_1 k, lI_n (by omega) (by omega), h9 _ (by omega), vl_e]
        unfold X12_records_72
        by_cases d1 : fG f (k + 1) = 0
        · rw [if_pos d1, d1, if_pos (show nI 0 ≤ 0 by decide), m_must0 hr, bd_th]
          exact mlo_f (c := 12) rfl h (Sm.rfl' B)
        · rw [if_neg d1, if_neg (nI_nle (by omega) (by omega)), m_must1, bd_rt, h8, show nI k + 2 = nI (k + 2) from nI_add k 2, nI_add]
          unfold X12_records_95
          by_cases d2 : f.length < k + 2 + fG f (k + 1)
          · rw [if_pos d2, if_pos (nI_lt d2 (by omega)), m_must0 hr, bd_th]
            exact mlo_f (c := 11) rfl h (Sm.rfl' B)
          · rw [if_neg d2, if_neg (nI_nlt (by omega) (by omega)), m_must1, bd_rt, show gL B 167 38 = lN s.2.2 from h.2.2.2.2.2.2.1, nI_l (by omega), lN_add]
            unfold X12_records_120
            by_cases d3 : 65536 < s.2.2 + fG f (k + 1)
            · rw [if_pos d3, if_pos (show (65536 : Int64) < lN _ from (pk_lLT (a := 65536) (by omega) (by omega)).mpr d3), m_must0 hr, bd_th]
              exact mlo_f (c := 13) rfl h (Sm.rfl' B)
            · rw [if_neg d3, if_neg (show ¬ (65536 : Int64) < lN _ from fun x => d3 ((pk_lLT (a := 65536) (by omega) (by omega)).mp x)), m_must1, bd_rt]
              obtain ⟨B', c1, c2', c3⟩ := m_row_loop (k2 := X12_records_2 n) (tg := tg) (k := k) (n := fG f (k + 1)) (adr := s.2.2) (mem := s.1) (laid := s.2.1) hf hl (by omega) (by omega) (fG f (k + 1)) 0 FU B (by omega) (by have := FU_ge; omega) h
              exact ⟨B', fun _ => c1, fun x => absurd x (by decide), c2', c3⟩
    · rw [if_neg (fun x => c2 (e2.mp x)), if_neg c2]
      unfold X12_records_202
      by_cases c12 : fG f k < 1 ∨ 6 < fG f k
      · have f12 : (bd (X12_must 0 12 (nI k) B) (fun _ S1 => if (gI S1 167 1) < (nI k + 9) then X12_records_224 (X12_records_2 n) (nI k) (nI (fG f k)) 0 S1 else X12_records_224 (X12_records_2 n) (nI k) (nI (fG f k)) 1 S1)) = th (gn B) (mF B 12 (nI k)) := by rw [m_must0 hr, bd_th]
        rw [if_pos c12, f12]
        by_cases h1 : fG f k < 1
        · rw [if_pos (lit_lt (N := 1) h1 (by omega))]
          exact mlo_f (c := 12) rfl h (Sm.rfl' B)
        · rw [if_neg (lit_gt (N := 1) (by omega) (by omega)), if_pos ((n_lt (N := 6) (by omega) (by omega)).mpr (c12.resolve_left h1))]
          exact mlo_f (c := 12) rfl h (Sm.rfl' B)
      · rw [if_neg (lit_gt (N := 1) (by omega) (by omega)), if_neg (fun x => c12 (Or.inr ((n_lt (N := 6) (by omega) (by omega)).mp x))), if_neg c12, m_must1, bd_rt, h8, show nI k + 9 = nI (k + 9) from nI_add k 9]
        unfold X12_records_224
        by_cases d0 : f.length < k + 9
        · rw [if_pos d0, if_pos (nI_lt d0 (by omega)), m_must0 hr, bd_th]
          exact mlo_f (c := 11) rfl h (Sm.rfl' B)
        · rw [if_neg d0, if_neg (nI_nlt (by omega) (by omega)), m_must1, bd_rt, show nI k + 1 = nI (k + 1) from nI_1 k, m_eight hf h hl (by omega), bd_rt, vl_e]
          exact m_303 h (Sm.rfl' B) hr hl (by omega) (by omega) c2 ha
end
section
set_option maxRecDepth 100000
/-! ===== X's rows that grow ===== -/
def isI (c : Nat) : Prop := c = 146 ∨ c = 150 ∨ c = 156 ∨ c = 158 ∨ c = 160 ∨ c = 162 ∨ c = 165
def rowOf (A : Sx) (c : Nat) : Nat := (gR A c 0).getD 0
/-- the length of its row -/
def wOf (A : Sx) (c : Nat) : Nat := gN A (rowOf A c)
def IO (A : Sx) (c : Nat) : Prop := gR A c 0 = some (rowOf A c) ∧ gK A (rowOf A c) = 1 ∧ 64 ≤ wOf A c ∧ (rowOf A c = c + 1 ∨ 192 ≤ rowOf A c) ∧ rowOf A c < gn A
/-- how much it has at most -/
def capI (c : Nat) : Nat := if c = 150 then 90000 else 1280
def wX (A : Sx) : Nat := wOf A 146 + wOf A 150 + wOf A 156 + wOf A 158 + wOf A 160 + wOf A 162 + wOf A 165
def XG (A : Sx) (U V : Nat) : Prop := (∀ c, isI c → IO A c) ∧ (∀ c c', isI c → isI c' → rowOf A c = rowOf A c' → c = c') ∧ (∀ c, isI c → wOf A c ≤ 2 * capI c) ∧ gu A ≤ U + 2 * wX A ∧ 64 * gn A ≤ V + wX A ∧ U ≤ 6000000 ∧ V ≤ 30000000 ∧ 192 ≤ gn A
/-- what it has -/
def XI (A : Sx) (c : Nat) (l : List Nat) : Prop := gI A c 1 = nI l.length ∧ l.length ≤ wOf A c ∧ ∀ i, i < l.length → gI A (rowOf A c) i = nI (fG l i)
theorem XG.w {A : Sx} {U V : Nat} (h : XG A U V) : wX A ≤ 195360 := by
  have h3 := h.2.2.1
  have a1 := h3 146 (by unfold isI; omega)
  have a2 := h3 150 (by unfold isI; omega)
  have a3 := h3 156 (by unfold isI; omega)
  have a4 := h3 158 (by unfold isI; omega)
  have a5 := h3 160 (by unfold isI; omega)
  have a6 := h3 162 (by unfold isI; omega)
  have a7 := h3 165 (by unfold isI; omega)
  unfold capI at a1 a2 a3 a4 a5 a6 a7
  unfold wX
  simp at a1 a2 a3 a4 a5 a6 a7
  omega
theorem XG.cap {A : Sx} {U V c : Nat} (h : XG A U V) (hc : isI c) : wOf A c ≤ 180000 := by
  have := h.2.2.1 c hc
  unfold capI at this
  split at this <;> omega
/-- where an Ints changes -/
def pI8 (A : Sx) (c x k : Nat) : Prop := x = rowOf A c ∨ (x = c ∧ k ≤ 1)
theorem isI_row {A : Sx} {c c' : Nat} (h : IO A c) (hc : isI c) (hc' : isI c') : ¬ c' = rowOf A c := by
  have := h.2.2.2.1
  unfold isI at hc hc'
  omega
/-- an Ints that has n gets one more -/
theorem x_add8 {A : Sx} {c n : Nat} (v : Int32) (h : IO A c) (hc : isI c) (hK : gK A c = 14) (hn : gI A c 1 = nI n) (hw : n ≤ wOf A c) (hn2 : n < 90000) (hg : gn A + 1 ≤ CAPC) (hu : gu A + 2 * n ≤ CAPS) (hgn : 192 ≤ gn A) (hcap : wOf A c ≤ 180000) :
    ∃ A', X8_add c v A = rt (nI n) A' ∧ IO A' c ∧ gI A' c 1 = nI (n + 1) ∧ n + 1 ≤ wOf A' c ∧ gI A' (rowOf A' c) n = v ∧ (∀ i, i < n → gI A' (rowOf A' c) i = gI A (rowOf A c) i) ∧ Sg (pI8 A c) A A' ∧ (rowOf A' c = rowOf A c ∨ rowOf A' c = gn A) ∧
      ((gn A' = gn A ∧ gu A' = gu A ∧ wOf A' c = wOf A c) ∨ (gn A' = gn A + 1 ∧ gu A' = gu A + 2 * n ∧ wOf A' c = 2 * n ∧ wOf A c = n)) := by
  obtain ⟨h1, h2, h3, h4, h5⟩ := id h
  have hcr : ¬ c = rowOf A c := isI_row h hc hc
  have e40 : ∀ (T : Sx) (r : Nat), gR T c 0 = some r → gK T r = 1 → n < gN T r → gN T r < 2 ^ 30 → gI T c 1 = nI n → ¬ c = r → X8_add_40 c v T = rt (nI n) (pI (pI T r n v) c 1 (nI (n + 1))) := by
    intro T r t1 t2 t3 t4 t5 t6
    unfold X8_add_40
    have t7 : gI (pI T r n v) c 1 = nI n := by rw [gI_pI, if_neg (fun e => t6 e.1)]; exact t5
    rw [t1, dO_s t2, t5, sI_n t3 (by omega), pt_e, t7, nI_1, gI_pI, if_pos ⟨rfl, rfl⟩, nI_pred]
  by_cases hcase : n = wOf A c
  · have e0 : X8_add c v A = X8_add_40 c v (pR (cpI (nw A 1 (2 * n) (2 * n)) (rowOf A c) 0 (gn A) 0 n) c 0 (some (gn A))) := by
      unfold X8_add
      rw [h1, dO_s h2, hn, if_pos (show nI n = Int32.ofNat (gN A (rowOf A c)) by rw [hcase]; rfl), show (2 : Int32) * nI n = nI (2 * n) from pk_mul 2 n, alI_e (by omega) hg hu]
      have c1 : gI (nw A 1 (2 * n) (2 * n)) c 1 = nI n := by rw [gI_nw, if_neg (by unfold isI at hc; omega)]; exact hn
      have c2 : gR (nw A 1 (2 * n) (2 * n)) c 0 = some (rowOf A c) := by rw [gR_nw, if_neg (by unfold isI at hc; omega)]; exact h1
      have c3 : gK (nw A 1 (2 * n) (2 * n)) (rowOf A c) = 1 := by rw [gK_nw, if_neg (by omega)]; exact h2
      have c4 : gN (nw A 1 (2 * n) (2 * n)) (rowOf A c) = n := by rw [gN_nw, if_neg (by omega)]; exact hcase.symm
      rw [c1, c2, show (0 : Int32) = nI 0 from rfl, cpy_e c3 (by rw [gK_nw, if_pos rfl]) (by omega) (by omega) (by omega) (by rw [c4]; omega) (by rw [gN_nw, if_pos rfl]; omega) (by omega), pt_e]
    have hcg : ¬ c = gn A := by unfold isI at hc; omega
    have q1 : gR (pR (cpI (nw A 1 (2 * n) (2 * n)) (rowOf A c) 0 (gn A) 0 n) c 0 (some (gn A))) c 0 = some (gn A) := by rw [gR_pR, if_pos ⟨rfl, rfl⟩]
    have q2 : gK (pR (cpI (nw A 1 (2 * n) (2 * n)) (rowOf A c) 0 (gn A) 0 n) c 0 (some (gn A))) (gn A) = 1 := by rw [gK_pR, gK_cpI, gK_nw, if_pos rfl]
    have q3 : gN (pR (cpI (nw A 1 (2 * n) (2 * n)) (rowOf A c) 0 (gn A) 0 n) c 0 (some (gn A))) (gn A) = 2 * n := by rw [gN_pR, gN_cpI, gN_nw, if_pos rfl]
    have q4 : gI (pR (cpI (nw A 1 (2 * n) (2 * n)) (rowOf A c) 0 (gn A) 0 n) c 0 (some (gn A))) c 1 = nI n := by rw [gI_pR, gI_cpI, if_neg (by omega), gI_nw, if_neg hcg]; exact hn
    have e1 := e40 _ (gn A) q1 q2 (by rw [q3]; omega) (by rw [q3]; omega) q4 hcg
    generalize hT : pR (cpI (nw A 1 (2 * n) (2 * n)) (rowOf A c) 0 (gn A) 0 n) c 0 (some (gn A)) = T at *
    have hr' : rowOf (pI (pI T (gn A) n v) c 1 (nI (n + 1))) c = gn A := by
      unfold rowOf
      rw [gR_pI, gR_pI, q1]
      rfl
    have hgT : gn T = gn A + 1 := by rw [← hT]; rfl
    have huT : gu T = gu A + 2 * n := by rw [← hT]; rfl
    have hw' : wOf (pI (pI T (gn A) n v) c 1 (nI (n + 1))) c = 2 * n := by
      unfold wOf
      rw [hr', gN_pI, gN_pI, q3]
    refine ⟨_, by rw [e0, e1], ⟨?_, ?_, ?_, ?_, ?_⟩, ?_, ?_, ?_, fun i hi => ?_, ?_, Or.inr hr', Or.inr ⟨?_, ?_, hw', hcase.symm⟩⟩
    · rw [hr', gR_pI, gR_pI, q1]
    · rw [hr', gK_pI, gK_pI, q2]
    · rw [hw']; omega
    · rw [hr']; exact Or.inr hgn
    · rw [hr', gn_pI, gn_pI, hgT]; omega
    · rw [gI_pI, if_pos ⟨rfl, rfl⟩]
    · rw [hw']; omega
    · rw [hr', gI_pI, if_neg (by omega), gI_pI, if_pos ⟨rfl, rfl⟩]
    · rw [hr', gI_pI, if_neg (by omega), gI_pI, if_neg (by omega), ← hT, gI_pR, gI_cpI, if_pos ⟨rfl, by omega, by omega⟩, gI_nw, if_neg (by omega)]
      congr 1; omega
    · refine ⟨by rw [gn_pI, gn_pI, hgT]; omega, fun x hx => ⟨?_, ?_, fun k hk => ⟨?_, ?_, ?_⟩⟩⟩
      · rw [gK_pI, gK_pI, ← hT, gK_pR, gK_cpI, gK_nw, if_neg (by omega)]
      · rw [gN_pI, gN_pI, ← hT, gN_pR, gN_cpI, gN_nw, if_neg (by omega)]
      · unfold pI8 at hk
        rw [gI_pI, if_neg (by omega), gI_pI, if_neg (by omega), ← hT, gI_pR, gI_cpI, if_neg (by omega), gI_nw, if_neg (by omega)]
      · rw [gL_pI, gL_pI, ← hT, gL_pR, gL_cpI, gL_nw, if_neg (by omega)]
      · unfold pI8 at hk
        rw [gR_pI, gR_pI, ← hT, gR_pR, if_neg (by omega), gR_cpI, gR_nw, if_neg (by omega)]
    · rw [gn_pI, gn_pI, hgT]
    · rw [gu_pI, gu_pI, huT]
  · have e0 : X8_add c v A = X8_add_40 c v A := by
      unfold X8_add
      rw [h1, dO_s h2, hn, if_neg (show ¬ nI n = Int32.ofNat (gN A (rowOf A c)) from fun e => hcase ((nI_eq (by omega) (show wOf A c < 2 ^ 31 by omega)).mp e))]
    have e1 := e40 A (rowOf A c) h1 h2 (by unfold wOf at *; omega) (by unfold wOf at *; omega) hn hcr
    have hr' : rowOf (pI (pI A (rowOf A c) n v) c 1 (nI (n + 1))) c = rowOf A c := rfl
    refine ⟨pI (pI A (rowOf A c) n v) c 1 (nI (n + 1)), by rw [e0, e1], ⟨h1, h2, h3, h4, h5⟩, ?_, ?_, ?_, fun i hi => ?_, ?_, Or.inl hr', Or.inl ⟨rfl, rfl, rfl⟩⟩
    · rw [gI_pI, if_pos ⟨rfl, rfl⟩]
    · show n + 1 ≤ wOf A c; omega
    · rw [hr', gI_pI, if_neg (fun e => hcr e.1.symm), gI_pI, if_pos ⟨rfl, rfl⟩]
    · rw [hr', gI_pI, if_neg (fun e => hcr e.1.symm), gI_pI, if_neg (by omega)]
    · exact ((Sm.pI (P := pI8 A c) (Or.inl rfl)).trans (Sm.pI (P := pI8 A c) (Or.inr ⟨rfl, by omega⟩))).sg
theorem fG_app (l : List Nat) (v i : Nat) (hi : i < l.length + 1) : fG (l ++ [v]) i = if i = l.length then v else fG l i := by
  unfold fG
  by_cases h : i = l.length
  · rw [if_pos h, h]; simp
  · rw [if_neg h]
    simp only [List.getD]
    rw [List.getElem?_append_left (by omega)]
/-- an Ints gets one more: the whole -/
theorem x_addG {A : Sx} {U V c : Nat} {l : List Nat} (v : Nat) (h : XG A U V) (hc : isI c) (hK : gK A c = 14) (hl : XI A c l) (hcap : l.length < capI c) :
    ∃ A', X8_add c (nI v) A = rt (nI l.length) A' ∧ XG A' U V ∧ XI A' c (l ++ [v]) ∧ Sg (pI8 A c) A A' ∧ (∀ c', isI c' → ¬ c' = c → rowOf A' c' = rowOf A c' ∧ wOf A' c' = wOf A c' ∧ ∀ l', XI A c' l' → XI A' c' l') := by
  obtain ⟨h1, h2, h3, h4, h5, h6, h7, h8⟩ := id h
  have hw := h.w
  have hl9 : l.length < 90000 := by unfold capI at hcap; split at hcap <;> omega
  have hgc : gn A + 1 ≤ CAPC := by unfold CAPC; omega
  have hguc : gu A + 2 * l.length ≤ CAPS := by unfold CAPS; omega
  obtain ⟨A', e1, e2, e3, e4, e5, e6, e7, e8, e9⟩ := x_add8 (nI v) (h1 c hc) hc hK hl.1 hl.2.1 hl9 hgc hguc h8 (h.cap hc)
  have hoth : ∀ c', isI c' → ¬ c' = c → rowOf A' c' = rowOf A c' ∧ wOf A' c' = wOf A c' := by
    intro c' hc' hne
    have hr : rowOf A' c' = rowOf A c' := by
      unfold rowOf
      rw [e7.R (by unfold isI at hc'; omega)]
      unfold pI8
      have := isI_row (h1 c hc) hc hc'
      omega
    refine ⟨hr, ?_⟩
    unfold wOf
    rw [hr, e7.N (h1 c' hc').2.2.2.2]
  have hrow : ∀ c', isI c' → ¬ c' = c → ¬ rowOf A c' = rowOf A c := fun c' hc' hne e => hne (h2 c' c hc' hc e)
  refine ⟨A', e1, ⟨fun c' hc' => ?_, fun a b ha hb hab => ?_, fun c' hc' => ?_, ?_, ?_, h6, h7, Nat.le_trans h8 e7.1⟩, ⟨?_, ?_, fun i hi => ?_⟩, e7, fun c' hc' hne => ?_⟩
  · by_cases hne : c' = c
    · subst hne; exact e2
    · obtain ⟨o1, o2⟩ := hoth c' hc' hne
      obtain ⟨i1, i2, i3, i4, i5⟩ := h1 c' hc'
      have hR : gR A' c' 0 = gR A c' 0 := by
        rw [e7.R (by unfold isI at hc'; omega)]
        unfold pI8
        have := isI_row (h1 c hc) hc hc'
        omega
      refine ⟨by rw [hR, o1]; exact i1, by rw [o1, e7.K i5]; exact i2, by rw [o2]; exact i3, by rw [o1]; exact i4, by rw [o1]; exact Nat.lt_of_lt_of_le i5 e7.1⟩
  · by_cases hac : a = c
    · by_cases hbc : b = c
      · rw [hac, hbc]
      · exfalso
        obtain ⟨o1, o2⟩ := hoth b hb hbc
        rw [hac, o1] at hab
        rcases e8 with e8 | e8
        · rw [e8] at hab; exact hrow b hb hbc hab.symm
        · have := (h1 b hb).2.2.2.2; omega
    · obtain ⟨o1, o2⟩ := hoth a ha hac
      by_cases hbc : b = c
      · exfalso
        rw [hbc, o1] at hab
        rcases e8 with e8 | e8
        · rw [e8] at hab; exact hrow a ha hac hab
        · have := (h1 a ha).2.2.2.2; omega
      · rw [o1, (hoth b hb hbc).1] at hab
        exact h2 a b ha hb hab
  · by_cases hne : c' = c
    · subst hne
      rcases e9 with ⟨-, -, g⟩ | ⟨-, -, g, -⟩
      · rw [g]; exact h3 c' hc'
      · rw [g]; omega
    · rw [(hoth c' hc' hne).2]; exact h3 c' hc'
  · have hx : wX A' + wOf A c = wX A + wOf A' c := by
      unfold wX
      have hh : ∀ c', isI c' → c' = c ∨ wOf A' c' = wOf A c' := fun c' hc' => by
        by_cases hne : c' = c
        · exact Or.inl hne
        · exact Or.inr (hoth c' hc' hne).2
      rcases hc with rfl | rfl | rfl | rfl | rfl | rfl | rfl
      all_goals
        have a1 := hh 146 (by unfold isI; omega)
        have a2 := hh 150 (by unfold isI; omega)
        have a3 := hh 156 (by unfold isI; omega)
        have a4 := hh 158 (by unfold isI; omega)
        have a5 := hh 160 (by unfold isI; omega)
        have a6 := hh 162 (by unfold isI; omega)
        have a7 := hh 165 (by unfold isI; omega)
        omega
    rcases e9 with ⟨g1, g2, g3⟩ | ⟨g1, g2, g3, g4⟩
    · omega
    · omega
  · have hx : wX A' + wOf A c = wX A + wOf A' c := by
      unfold wX
      have hh : ∀ c', isI c' → c' = c ∨ wOf A' c' = wOf A c' := fun c' hc' => by
        by_cases hne : c' = c
        · exact Or.inl hne
        · exact Or.inr (hoth c' hc' hne).2
      rcases hc with rfl | rfl | rfl | rfl | rfl | rfl | rfl
      all_goals
        have a1 := hh 146 (by unfold isI; omega)
        have a2 := hh 150 (by unfold isI; omega)
        have a3 := hh 156 (by unfold isI; omega)
        have a4 := hh 158 (by unfold isI; omega)
        have a5 := hh 160 (by unfold isI; omega)
        have a6 := hh 162 (by unfold isI; omega)
        have a7 := hh 165 (by unfold isI; omega)
        omega
    have := (h1 c hc).2.2.1
    rcases e9 with ⟨g1, g2, g3⟩ | ⟨g1, g2, g3, g4⟩
    · omega
    · omega
  · rw [e3, List.length_append]; rfl
  · rw [List.length_append]; exact e4
  · rw [List.length_append] at hi
    rw [fG_app l v i hi]
    by_cases hil : i = l.length
    · rw [if_pos hil, hil]; exact e5
    · rw [if_neg hil, e6 i (by have : i < l.length + 1 := hi; omega)]
      exact hl.2.2 i (by have : i < l.length + 1 := hi; omega)
  · obtain ⟨o1, o2⟩ := hoth c' hc' hne
    refine ⟨o1, o2, fun l' hl' => ⟨?_, by rw [o2]; exact hl'.2.1, fun i hi => ?_⟩⟩
    · rw [e7.I (by unfold isI at hc'; omega)]
      · exact hl'.1
      · unfold pI8
        have := isI_row (h1 c hc) hc hc'
        omega
    · rw [o1, e7.I (h1 c' hc').2.2.2.2]
      · exact hl'.2.2 i hi
      · unfold pI8
        have := hrow c' hc' hne
        have := isI_row (h1 c' hc') hc' hc
        omega
/-! XG and XI stay -/
theorem XG.sm {P : Nat → Nat → Prop} {A A' : Sx} {U V : Nat} (h : XG A U V) (hs : Sm P A A') (hp : ∀ c, isI c → ¬ P c 0) : XG A' U V := by
  obtain ⟨h1, h2, h3, h4, h5, h6, h7, h8⟩ := h
  have hr : ∀ c, isI c → rowOf A' c = rowOf A c := fun c hc => by unfold rowOf; rw [hs.R (hp c hc)]
  have hw : ∀ c, isI c → wOf A' c = wOf A c := fun c hc => by unfold wOf; rw [hr c hc, hs.N]
  have hx : wX A' = wX A := by
    unfold wX
    rw [hw 146 (by unfold isI; omega), hw 150 (by unfold isI; omega), hw 156 (by unfold isI; omega), hw 158 (by unfold isI; omega), hw 160 (by unfold isI; omega), hw 162 (by unfold isI; omega), hw 165 (by unfold isI; omega)]
  refine ⟨fun c hc => ?_, fun a b ha hb hab => ?_, fun c hc => by rw [hw c hc]; exact h3 c hc, by rw [hs.2.1, hx]; exact h4, by rw [hs.1, hx]; exact h5, h6, h7, by rw [hs.1]; exact h8⟩
  · obtain ⟨i1, i2, i3, i4, i5⟩ := h1 c hc
    exact ⟨by rw [hs.R (hp c hc), hr c hc]; exact i1, by rw [hr c hc, hs.K]; exact i2, by rw [hw c hc]; exact i3, by rw [hr c hc]; exact i4, by rw [hr c hc, hs.1]; exact i5⟩
  · rw [hr a ha, hr b hb] at hab
    exact h2 a b ha hb hab
theorem XI.sm {P : Nat → Nat → Prop} {A A' : Sx} {c : Nat} {l : List Nat} (h : XI A c l) (hs : Sm P A A') (hp : ¬ P c 0 ∧ ¬ P c 1 ∧ ∀ k, ¬ P (rowOf A c) k) : XI A' c l := by
  have hr : rowOf A' c = rowOf A c := by unfold rowOf; rw [hs.R hp.1]
  have hw : wOf A' c = wOf A c := by unfold wOf; rw [hr, hs.N]
  exact ⟨by rw [hs.I hp.2.1]; exact h.1, by rw [hw]; exact h.2.1, fun i hi => by rw [hr, hs.I (hp.2.2 i)]; exact h.2.2 i hi⟩
/-- an Ints is cut -/
theorem XI.cut {A : Sx} {c n : Nat} {l : List Nat} (h : XI A c l) (hI : IO A c) (hc : isI c) (hn : n ≤ l.length) : XI (pI A c 1 (nI n)) c (l.take n) := by
  have hcr : ¬ c = rowOf A c := isI_row hI hc hc
  have hl : (l.take n).length = n := by rw [List.length_take]; omega
  refine ⟨by rw [gI_pI, if_pos ⟨rfl, rfl⟩, hl], by rw [hl]; exact Nat.le_trans hn h.2.1, fun i hi => ?_⟩
  rw [hl] at hi
  show gI (pI A c 1 (nI n)) (rowOf A c) i = _
  rw [gI_pI, if_neg (fun e => hcr e.1.symm), h.2.2 i (by omega)]
  unfold fG
  simp [List.getD, List.getElem?_take, hi]
end
section
set_option maxRecDepth 100000
/-! ===== the whole relation ===== -/
def E0 : Sx := (0, 0, fun _ => 0, fun _ => 0, fun _ _ => 0, fun _ _ => 0, fun _ _ => none)
def adopt (S S' : Sx) : Sx := (S'.1, S'.2.1, S.2.2)
theorem adopt_e {S S' : Sx} (h1 : gn S' = gn S) (h2 : gu S' = gu S) : adopt S S' = S := by
  unfold adopt
  have e1 : S'.1 = S.1 := h1
  have e2 : S'.2.1 = S.2.1 := h2
  rw [e1, e2]
/-- the machine of both -/
abbrev Ma : Type := Pb × (Nat → Nat) × Nat × Nat × (Nat → Int64) × (Nat → Int64) × (Nat → Int64) × List Int32 × List Int32 × Int64 × Int32 × Int32
def mMem (m : Ma) : Nat → Nat := m.2.1
def mInp (m : Ma) : List Int32 := m.2.2.2.2.2.2.2.2.1
def XMa (A : Sx) (m : Ma) : Prop := XMc A m.1 m.2.1 m.2.2.1 m.2.2.2.1 m.2.2.2.2.1 m.2.2.2.2.2.1 m.2.2.2.2.2.2.1 m.2.2.2.2.2.2.2.1 m.2.2.2.2.2.2.2.2.1 m.2.2.2.2.2.2.2.2.2.1 m.2.2.2.2.2.2.2.2.2.2.1 m.2.2.2.2.2.2.2.2.2.2.2
def MMa (B : Sx) (m : Ma) : Prop := MMc B m.1 m.2.1 m.2.2.1 m.2.2.2.1 m.2.2.2.2.1 m.2.2.2.2.2.1 m.2.2.2.2.2.2.1 m.2.2.2.2.2.2.2.1 m.2.2.2.2.2.2.2.2.1 m.2.2.2.2.2.2.2.2.2.1 m.2.2.2.2.2.2.2.2.2.2.1 m.2.2.2.2.2.2.2.2.2.2.2
def OKa (m : Ma) : Prop := ∃ fs, mcOK m.1 m.2.1 m.2.2.1 m.2.2.2.1 m.2.2.2.2.1 fs m.2.2.2.2.2.2.2.1 m.2.2.2.2.2.2.2.2.1
theorem RMp_ma {A B : Sx} {pc : Int64} {n st : Int32} (h : RMp A B pc n st) : ∃ m, XMa A m ∧ MMa B m ∧ OKa m := by
  obtain ⟨b, mem, sp, L, fl, gl, fs, s, ou, inp, hX, hM, hO⟩ := h
  exact ⟨(b, mem, sp, L, fl, gl, s, ou, inp, pc, n, st), hX, hM, fs, hO⟩
theorem ma_RMp {A B : Sx} {m : Ma} (hX : XMa A m) (hM : MMa B m) (hO : OKa m) : RMp A B m.2.2.2.2.2.2.2.2.2.1 m.2.2.2.2.2.2.2.2.2.2.1 m.2.2.2.2.2.2.2.2.2.2.2 := by
  obtain ⟨fs, hO⟩ := hO
  exact ⟨m.1, m.2.1, m.2.2.1, m.2.2.2.1, m.2.2.2.2.1, m.2.2.2.2.2.1, fs, m.2.2.2.2.2.2.1, m.2.2.2.2.2.2.2.1, m.2.2.2.2.2.2.2.2.1, hX, hM, hO⟩
/-- X's machine lies in the cells below 146; and the input -/
theorem XF.eo {S S' : Sx} (h : XF S) (hK : ∀ c, c < 138 → gK S' c = gK S c ∧ gN S' c = gN S c) (hR : ∀ c k, c < 138 → gR S' c k = gR S c k) : XF S' := by
  obtain ⟨h1, h2, h3⟩ := h
  refine ⟨by rw [(hK 4 (by omega)).1]; exact h1, by rw [(hK 4 (by omega)).2]; exact h2, fun f hf => ?_⟩
  rw [hR _ _ (by omega), hR _ _ (by omega), (hK _ (by omega)).1, (hK _ (by omega)).1, (hK _ (by omega)).2]
  exact h3 f hf
theorem XMa.eo {A A' : Sx} {m : Ma} (h : XMa A m) (hO : OKa m) (hK : ∀ c, c < 146 → gK A' c = gK A c ∧ gN A' c = gN A c) (hE : ∀ c k, c < 146 → gI A' c k = gI A c k ∧ gL A' c k = gL A c k ∧ gR A' c k = gR A c k) (hN : XN A' (mInp m)) : XMa A' m := by
  obtain ⟨fs, hb, -⟩ := hO
  have e4 : Sm (fun c _ => 146 ≤ c) A (A.1, A.2.1, A.2.2.1, A.2.2.2.1, A'.2.2.2.2.1, A'.2.2.2.2.2.1, A'.2.2.2.2.2.2) := ⟨rfl, rfl, fun _ => rfl, fun _ => rfl, fun c k q => hE c k (by omega)⟩
  obtain ⟨h1, h2, h3, h4, h5, h6, h7, h8, h9⟩ := h
  have p := h2.sm hb e4 (by intro c k; omega)
  have q3 := h3.sm e4 (by intro c k; omega)
  have q4 := h4.sm e4 (by intro c k; omega)
  have q5 := h5.sm e4 (by intro c k; omega)
  obtain ⟨p1, p2, p3, p4⟩ := p
  exact ⟨by rw [(hK 1 (by omega)).1]; exact h1, ⟨XF.eo h2.1 (fun c hc => hK c (by omega)) (fun c k hc => (hE c k (by omega)).2.2), p2, p3, p4⟩, q3, q4, q5, hN, by rw [(hE _ _ (by omega)).2.1]; exact h7, by rw [(hE _ _ (by omega)).1]; exact h8, by rw [(hE _ _ (by omega)).1]; exact h9⟩
/-! the rest of X -/
def XQ (A : Sx) (U V : Nat) (m : Ma) (f6 f7 f8 : Int32) : Prop := XMa A m ∧ (gI A 0 6 = f6 ∧ gI A 0 7 = f7 ∧ gI A 0 8 = f8) ∧ (∀ c, isI c → gK A c = 14) ∧ XG A U V
theorem XQ.sg {P : Nat → Nat → Prop} {A A' : Sx} {U V U' V' : Nat} {m : Ma} {f6 f7 f8 : Int32} (h : XQ A U V m f6 f7 f8) (hO : OKa m) (hs : Sg P A A') (hG : XG A' U' V') (hp : ∀ c k, P c k → 147 ≤ c ∧ c ≠ rowOf A 146) : XQ A' U' V' m f6 f7 f8 := by
  obtain ⟨h1, ⟨h2, h3, h4⟩, h5, h6⟩ := h
  have hg := h6.2.2.2.2.2.2.2
  have hI := h6.1 146 (by unfold isI; omega)
  refine ⟨h1.eo hO (fun c hc => ⟨hs.K (by omega), hs.N (by omega)⟩) (fun c k hc => ⟨hs.I (by omega) (fun x => by have := hp _ _ x; omega), hs.L (by omega) (fun x => by have := hp _ _ x; omega), hs.R (by omega) (fun x => by have := hp _ _ x; omega)⟩) ?_, ⟨by rw [hs.I (by omega) (fun x => by have := hp _ _ x; omega)]; exact h2, by rw [hs.I (by omega) (fun x => by have := hp _ _ x; omega)]; exact h3, by rw [hs.I (by omega) (fun x => by have := hp _ _ x; omega)]; exact h4⟩, fun c hc => by rw [hs.K (by unfold isI at hc; omega)]; exact h5 c hc, hG⟩
  obtain ⟨r, tot, tk, a1, a2, a3, a4, a5, a6, a7, a8, a9⟩ := h1.2.2.2.2.2.1
  have hr : rowOf A 146 = r := by unfold rowOf; rw [a1]; rfl
  have hrg : r < gn A := by rw [← hr]; exact hI.2.2.2.2
  refine ⟨r, tot, tk, ?_, a2, ?_, ?_, ?_, a6, ?_, ?_, fun i hi => ?_⟩
  · rw [hs.R (by omega) (fun x => by have := hp _ _ x; omega)]; exact a1
  · rw [hs.K hrg]; exact a3
  · rw [hs.I (by omega) (fun x => by have := hp _ _ x; omega)]; exact a4
  · rw [hs.I (by omega) (fun x => by have := hp _ _ x; omega)]; exact a5
  · rw [hs.N hrg]; exact a7
  · rw [hs.N hrg]; exact a8
  · rw [hs.I hrg (fun x => by have := hp _ _ x; omega)]; exact a9 i hi
theorem XG.adopt {A B : Sx} {U V U' V' : Nat} (h : XG A U V) (hn : gn A ≤ gn B) (hu : gu B + U ≤ gu A + U') (hv : 64 * gn B + V ≤ 64 * gn A + V') (hU : U' ≤ 6000000) (hV : V' ≤ 30000000) : XG (adopt A B) U' V' := by
  obtain ⟨h1, h2, h3, h4, h5, h6, h7, h8⟩ := h
  refine ⟨fun c hc => ?_, h2, h3, ?_, ?_, hU, hV, Nat.le_trans h8 hn⟩
  · obtain ⟨i1, i2, i3, i4, i5⟩ := h1 c hc
    exact ⟨i1, i2, i3, i4, Nat.lt_of_lt_of_le i5 hn⟩
  · show gu B ≤ U' + 2 * wX A
    omega
  · show 64 * gn B ≤ V' + wX A
    omega
/-! the rest of M -/
def rowU (B : Sx) (k : Nat) : Nat := (gR B 167 k).getD 0
def MU (B : Sx) (w : Nat) : Prop := (∀ k, 44 ≤ k → k ≤ 47 → gR B 167 k = some (rowU B k) ∧ gK B (rowU B k) = 1 ∧ gN B (rowU B k) = w ∧ 188 ≤ rowU B k ∧ rowU B k < gn B) ∧ (∀ k k', 44 ≤ k → k ≤ 47 → 44 ≤ k' → k' ≤ 47 → rowU B k = rowU B k' → k = k') ∧ 64 ≤ w ∧ w ≤ 2560
def MK (B : Sx) : Prop := gK B 169 = 1 ∧ gN B 169 = 65536 ∧ gK B 183 = 1 ∧ gN B 183 = 65536
def MQq (B : Sx) (w : Nat) (m : Ma) (f6 f7 f8 : Int32) : Prop := MMa B m ∧ (gI B 167 7 = f6 ∧ gI B 167 5 = f7 ∧ gI B 167 6 = f8) ∧ MK B ∧ MU B w ∧ 192 ≤ gn B
def MT (B : Sx) (tp : List Nat) : Prop := gI B 167 1 = nI tp.length ∧ ∀ i, i < tp.length → gI B 168 i = nI (fG tp i)
theorem MU.sg {P : Nat → Nat → Prop} {B B' : Sx} {w : Nat} (h : MU B w) (hs : Sg P B B') (hg : 192 ≤ gn B) (hp : ∀ k, 44 ≤ k → k ≤ 47 → ¬ P 167 k) : MU B' w := by
  obtain ⟨h1, h2, h3⟩ := h
  have hR : ∀ k, 44 ≤ k → k ≤ 47 → gR B' 167 k = gR B 167 k := fun k ha hb => hs.R (by omega) (hp k ha hb)
  have hr : ∀ k, 44 ≤ k → k ≤ 47 → rowU B' k = rowU B k := fun k ha hb => by unfold rowU; rw [hR k ha hb]
  refine ⟨fun k ha hb => ?_, fun k k' ha hb hc hd e => ?_, h3⟩
  · obtain ⟨a1, a2, a3, a4, a5⟩ := h1 k ha hb
    rw [hR k ha hb, hr k ha hb, hs.K a5, hs.N a5]
    exact ⟨a1, a2, a3, a4, Nat.lt_of_lt_of_le a5 hs.1⟩
  · rw [hr k ha hb, hr k' hc hd] at e
    exact h2 k k' ha hb hc hd e
theorem MK.sg {P : Nat → Nat → Prop} {B B' : Sx} (h : MK B) (hs : Sg P B B') (hg : 192 ≤ gn B) : MK B' := by
  obtain ⟨h1, h2, h3, h4⟩ := h
  exact ⟨by rw [hs.K (by omega)]; exact h1, by rw [hs.N (by omega)]; exact h2, by rw [hs.K (by omega)]; exact h3, by rw [hs.N (by omega)]; exact h4⟩
theorem MT.sg {P : Nat → Nat → Prop} {B B' : Sx} {tp : List Nat} (h : MT B tp) (hs : Sg P B B') (hg : 192 ≤ gn B) (hp : ¬ P 167 1 ∧ ∀ k, ¬ P 168 k) : MT B' tp :=
  ⟨by rw [hs.I (by omega) hp.1]; exact h.1, fun i hi => by rw [hs.I (by omega) (hp.2 i)]; exact h.2 i hi⟩
/-! the relation -/
def U0 : Nat := 2000000
def V0 : Nat := 100000
def Rtop (j : Nat) (A B : Sx) : Prop := ∃ m tp tot w f6 f7 f8, XQ A (U0 + 8 * j + 8 * w) (V0 + 64 * j + 4 * w) m f6 f7 f8 ∧ XI A 165 tp ∧ gI A 146 1 = nI tot ∧ tot + tp.length ≤ 20 * j ∧ MQq B w m f6 f7 f8 ∧ MT B tp ∧ OKa m ∧ (∀ i, fG tp i < 256) ∧ (f6 = 0 ∨ f6 = 1) ∧ gn A = gn B ∧ gu A = gu B
theorem XQ.up {A : Sx} {U V U' V' : Nat} {m : Ma} {f6 f7 f8 : Int32} (h : XQ A U V m f6 f7 f8) (h1 : U ≤ U') (h2 : U' ≤ 6000000) (h3 : V ≤ V') (h4 : V' ≤ 30000000) : XQ A U' V' m f6 f7 f8 := by
  obtain ⟨a, b, c, d1, d2, d3, d4, d5, d6, d7, d8⟩ := h
  exact ⟨a, b, c, d1, d2, d3, by omega, by omega, h2, h4, d8⟩
theorem Rtop.up {j : Nat} {A B : Sx} (h : Rtop j A B) (hj : j < 64) : Rtop (j + 1) A B := by
  obtain ⟨m, tp, tot, w, f6, f7, f8, h1, h2, h3, h4, h5, h6⟩ := h
  have hw := h5.2.2.2.1.2.2.2
  refine ⟨m, tp, tot, w, f6, f7, f8, h1.up ?_ ?_ ?_ ?_, h2, h3, by omega, h5, h6⟩
  all_goals unfold U0 V0 at *
  all_goals omega
/-- a call that changes nothing -/
theorem top_same {β : Type} {j : Nat} {A B : Sx} {v : β} {rX : Sx → Rs β} {rM : Sx → Rs β} (R : Rtop j A B) (hj : j < 64) (hx : rX A = rt v A) (hm : rM B = rt v B) : ∃ v A1 B1, rX A = rt v A1 ∧ rM (adopt B A1) = rt v B1 ∧ Rtop (j + 1) (adopt A1 B1) B1 := by
  have hc : gn A = gn B ∧ gu A = gu B := by
    obtain ⟨m, tp, tot, w, f6, f7, f8, h1, h2, h3, h4, h5, h6, h7, h8, h9, h10, h11⟩ := R
    exact ⟨h10, h11⟩
  refine ⟨v, A, B, hx, by rw [adopt_e hc.1 hc.2]; exact hm, ?_⟩
  rw [adopt_e hc.1.symm hc.2.symm]
  exact R.up hj
theorem top_fault {j : Nat} {A B : Sx} (R : Rtop j A B) (hj : j < 64) (a : Int32) : ∃ v A1 B1, X0_fault a A = rt v A1 ∧ X12_fault a (adopt B A1) = rt v B1 ∧ Rtop (j + 1) (adopt A1 B1) B1 := by
  obtain ⟨m, tp, tot, w, f6, f7, f8, h1, h2, h3, h4, h5, h6⟩ := id R
  refine top_same (rX := X0_fault a) (rM := X12_fault a) (v := if a = 0 then f7 else if a = 1 then f8 else 0) R hj ?_ ?_
  · unfold X0_fault
    rw [h1.2.1.2.1, h1.2.1.2.2]
    split
    · rfl
    · split <;> rfl
  · unfold X12_fault
    rw [h5.2.1.2.1, h5.2.1.2.2]
    split
    · rfl
    · split <;> rfl
theorem top_steps {j : Nat} {A B : Sx} (R : Rtop j A B) (hj : j < 64) : ∃ v A1 B1, X0_steps A = rt v A1 ∧ X12_steps (adopt B A1) = rt v B1 ∧ Rtop (j + 1) (adopt A1 B1) B1 := by
  obtain ⟨m, tp, tot, w, f6, f7, f8, h1, h2, h3, h4, h5, h6⟩ := id R
  refine top_same (rX := X0_steps) (rM := X12_steps) (v := m.2.2.2.2.2.2.2.2.2.2.1) R hj ?_ ?_
  · unfold X0_steps
    rw [h1.1.2.2.2.2.2.2.2.1]
  · unfold X12_steps
    rw [h5.1.2.2.2.2.2.2.2.1]
theorem top_outs {j : Nat} {A B : Sx} (R : Rtop j A B) (hj : j < 64) : ∃ v A1 B1, X0_outs A = rt v A1 ∧ X12_outs (adopt B A1) = rt v B1 ∧ Rtop (j + 1) (adopt A1 B1) B1 := by
  obtain ⟨m, tp, tot, w, f6, f7, f8, h1, h2, h3, h4, h5, h6⟩ := id R
  refine top_same (rX := X0_outs) (rM := X12_outs) (v := nI m.2.2.2.2.2.2.2.1.length) R hj ?_ ?_
  · unfold X0_outs
    rw [h1.1.2.2.2.2.1.1]
  · unfold X12_outs
    rw [h5.1.2.2.2.2.1.1]
/-! the answers, as pairs -/
theorem q_out {A B : Sx} {m : Ma} (hX : XMa A m) (hM : MMa B m) (hO : OKa m) (a : Int32) : ∃ v, X0_out a A = rt v A ∧ X12_out a B = rt v B := by
  obtain ⟨fs, o1, o2, o3, o4, o5, o6, o7⟩ := hO
  unfold X0_out X12_out
  rw [hX.2.2.2.2.1.1, hM.2.2.2.2.1.1]
  by_cases h0 : a < 0
  · rw [if_pos h0, if_pos h0]; exact ⟨_, rfl, rfl⟩
  · rw [if_neg h0, if_neg h0]
    obtain ⟨k, hk, rfl⟩ := nI_of h0
    by_cases h1 : k < m.2.2.2.2.2.2.2.1.length
    · rw [if_pos (nI_lt h1 (by omega)), if_pos (nI_lt h1 (by omega)), lI_n (by omega) (by omega), lI_n (by omega) (by omega), hX.2.2.2.2.1.2 k h1, hM.2.2.2.2.1.2 k h1]
      exact ⟨_, rfl, rfl⟩
    · rw [if_neg (nI_nlt (by omega) hk), if_neg (nI_nlt (by omega) hk)]
      exact ⟨_, rfl, rfl⟩
theorem q_page {A B : Sx} {m : Ma} (hX : XMa A m) (hM : MMa B m) (hO : OKa m) (a : Int32) : ∃ v, X0_page a A = rt v A ∧ X12_page a B = rt v B := by
  obtain ⟨fs, o1, o2, o3, o4, o5, o6, o7⟩ := hO
  obtain ⟨hF, hB, hC, hMm⟩ := hX.2.1
  have hP := hM.1
  unfold X0_page X12_page
  rw [hB.1, hP.1]
  by_cases h0 : a < 0
  · rw [if_pos h0, if_pos h0]; exact ⟨_, rfl, rfl⟩
  · rw [if_neg h0, if_neg h0]
    obtain ⟨k, hk, rfl⟩ := nI_of h0
    have := o1.2.1
    by_cases h1 : k < fr m.1
    · obtain ⟨q1, q2, q3, q4, q5⟩ := hF.2.2 k (by omega)
      rw [if_pos (nI_lt h1 (by omega)), if_pos (nI_lt h1 (by omega)), lI_n (by omega) (by omega), lR_n (by omega) (by omega), q1, dO_s q2, (hP.2.2.2.2.2.2.2.1 k (by omega)).1, (hB.2.2.2.2.2.2.1 k (by omega)).1]
      exact ⟨_, rfl, rfl⟩
    · rw [if_neg (nI_nlt (by omega) hk), if_neg (nI_nlt (by omega) hk)]
      exact ⟨_, rfl, rfl⟩
theorem q_told {A B : Sx} {U V w : Nat} {m : Ma} {f6 f7 f8 : Int32} (hX : XQ A U V m f6 f7 f8) (hM : MQq B w m f6 f7 f8) (hO : OKa m) (a : Int32) : ∃ v, X0_told a A = rt v A ∧ X12_told a B = rt v B := by
  obtain ⟨hF, hB, hC, hMm⟩ := hX.1.2.1
  have hP := hM.1.1
  unfold X0_told X12_told X5_left
  obtain ⟨r, tot, tk, a1, a2, a3, a4, a5, a6, a7, a8, a9⟩ := hX.1.2.2.2.2.2.1
  have hin := hM.1.2.2.2.2.2.1.1
  rw [hB.2.1, hB.2.2.1, hB.2.2.2.1, hB.2.2.2.2.1, hB.2.2.2.2.2.1, hP.2.1, hP.2.2.2.1, hP.2.2.2.2.1, hP.2.2.2.2.2.1, hP.2.2.2.2.2.2.1, hX.2.1.1, hM.2.1.1, hX.1.2.2.2.2.2.2.2.2, hM.1.2.2.2.2.2.2.2.2, a4, a5, hin, pk_sub (by omega), show tot - tk = m.2.2.2.2.2.2.2.2.1.length by omega, bd_rt]
  refine ⟨if a = 0 then fa m.1 else if a = 1 then re m.1 else if a = 2 then wr m.1 else if a = 3 then mi m.1 else if a = 4 then nI (hd m.1) else if a = 5 then m.2.2.2.2.2.2.2.2.2.2.2 else if a = 6 then (if f6 = 0 then 0 else 1) else if a = 7 then nI m.2.2.2.2.2.2.2.2.1.length else 0, ?_, ?_⟩
  all_goals repeat' split
  all_goals rfl
theorem q_register {A B : Sx} {m : Ma} (hX : XMa A m) (hM : MMa B m) (hO : OKa m) (a : Int32) : ∃ v, X0_register a A = rt v A ∧ X12_register a B = rt v B := by
  obtain ⟨fs, o1, o2, o3, o4, o5, o6, o7⟩ := hO
  obtain ⟨h1, h2, h3, h4, h5, h6, h7, h8, h9⟩ := hX
  obtain ⟨k2, k1, k3, k4, k5, k6, k7, k8, k9⟩ := hM
  unfold X0_register X12_register
  by_cases h0 : a < 0
  · rw [if_pos h0, if_pos h0]; exact ⟨_, rfl, rfl⟩
  · rw [if_neg h0, if_neg h0]
    obtain ⟨k, hk, rfl⟩ := nI_of h0
    by_cases h38 : k ≤ 38
    · rw [if_pos (show nI k ≤ 38 from nI_le (a := k) (b := 38) h38 (by omega)), if_pos (show nI k ≤ 38 from nI_le (a := k) (b := 38) h38 (by omega))]
      by_cases h32 : 32 ≤ k
      · rw [if_pos (lit_le (N := 32) h32 (by omega)), if_pos (lit_le (N := 32) h32 (by omega))]
        by_cases h37 : 37 ≤ k
        · rw [if_pos (lit_le (N := 37) h37 (by omega)), if_pos (lit_le (N := 37) h37 (by omega)), h7, k7, h3.1, k3.1]
          split
          · exact ⟨_, rfl, rfl⟩
          · exact ⟨_, rfl, rfl⟩
        · rw [if_neg (lit_ge (N := 37) (by omega) (by omega)), if_neg (lit_ge (N := 37) (by omega) (by omega)), show nI k - 32 = nI (k - 32) from pk_sub (b := 32) h32, lL_n (by omega) (by omega)]
          unfold X5_special
          by_cases h4' : k - 32 = 4
          · rw [h4', if_pos (show nI 4 = 4 from rfl), bd_rt, h3.2.1, nI_l (by omega), k3.2.1]
            exact ⟨_, rfl, rfl⟩
          · rw [if_neg (show ¬ nI (k - 32) = 4 from fun e => h4' ((nI_eq (b := 4) (by omega) (by omega)).mp e)), lL_n (by omega) (by omega), bd_rt, h4 _ (by omega), k4 _ (by omega)]
            exact ⟨_, rfl, rfl⟩
      · rw [if_neg (lit_ge (N := 32) (by omega) (by omega)), if_neg (lit_ge (N := 32) (by omega) (by omega)), x_rget h3 (by omega) o3 o4, bd_rt, m_rget k3 (by omega) o3, bd_rt]
        exact ⟨_, rfl, rfl⟩
    · rw [if_neg (show ¬ nI k ≤ 38 from nI_ge (a := 38) (b := k) (by omega) (by omega)), if_neg (show ¬ nI k ≤ 38 from nI_ge (a := 38) (b := k) (by omega) (by omega))]
      exact ⟨_, rfl, rfl⟩
theorem and8N {k : Nat} (hk : k < 65536) : k &&& 4294967288 = k / 8 * 8 := by
  apply Nat.eq_of_testBit_eq
  intro i
  rw [Nat.testBit_and, show (4294967288 : Nat) = (2 ^ 29 - 1) <<< 3 from by decide, Nat.testBit_shiftLeft, Nat.testBit_two_pow_sub_one, show k / 8 * 8 = (k >>> 3) <<< 3 from by rw [Nat.shiftLeft_eq, Nat.shiftRight_eq_div_pow], Nat.testBit_shiftLeft, Nat.testBit_shiftRight]
  by_cases h : 3 ≤ i
  · rw [show 3 + (i - 3) = i by omega]
    by_cases h2 : i < 32
    · simp [h, show i - 3 < 29 by omega]
    · rw [Nat.testBit_lt_two_pow (Nat.lt_of_lt_of_le hk (Nat.le_trans (by decide : 65536 ≤ 2 ^ 32) (Nat.pow_le_pow_right (by omega) (by omega))))]
      simp
  · simp [h]
theorem and8 {k : Nat} (hk : k < 65536) : nI k &&& (-8) = nI (k / 8 * 8) := by
  apply Int32.toBitVec_inj.mp
  apply BitVec.eq_of_toNat_eq
  rw [Int32.toBitVec_and, BitVec.toNat_and, pk_tn (by omega), pk_tn (by omega)]
  exact and8N hk
theorem q_octa {A B : Sx} {m : Ma} (hX : XMa A m) (hM : MMa B m) (hO : OKa m) (a : Int32) : ∃ v, X0_octa a A = rt v A ∧ X12_octa a B = rt v B := by
  obtain ⟨fs, o1, o2, o3, o4, o5, o6, o7⟩ := hO
  unfold X0_octa X12_octa
  rw [x_isA, bd_rt]
  by_cases h0 : a < 0
  · have : isA a.toInt64 = false := by
      unfold isA
      rw [decide_eq_false_iff_not]
      intro h
      apply h.1
      rw [l_lt, Int32.toInt_toInt64]
      exact i_lt.mp h0
    rw [this, if_pos (show b1 false = 0 from rfl), if_pos h0]
    exact ⟨_, rfl, rfl⟩
  · obtain ⟨k, hk, rfl⟩ := nI_of h0
    rw [if_neg h0, nI_l hk]
    by_cases h1 : k < 65536
    · have : isA (lN k) = true := by
        unfold isA
        rw [decide_eq_true_iff]
        exact ⟨fun e => by have := (pk_lLT (a := k) (b := 0) (by omega) (by omega)).mp e; omega, (pk_lLT (b := 65536) (by omega) (by omega)).mpr h1⟩
      rw [this, if_neg (show ¬ b1 true = 0 by decide), if_pos (show nI k < 65536 from lit_lt (N := 65536) h1 (by omega)), show nI k / 8 = nI (k / 8) from pk_div (d := 8) (by omega) (by omega) (by omega), show nI (k / 8) * 8 = nI (k / 8 * 8) from pk_mul _ 8]
      have e8 : X12_number (nI (k / 8 * 8)) 8 B = rt (numL m.2.1 (k / 8 * 8) 8) B := m_number (m := 8) hM.2.1 o2 (by omega) (by omega)
      rw [e8, bd_rt]
      refine ⟨_, ?_, rfl⟩
      have : ∀ d i n, i + d = 8 → d < n → X0_octa_15 n (nI k) (numL m.2.1 (k / 8 * 8) i) (nI i) A = rt (numL m.2.1 (k / 8 * 8) 8) A := by
        intro d
        induction d with
        | zero =>
          intro i n hi hn
          obtain ⟨n, rfl⟩ : ∃ j, n = j + 1 := ⟨n - 1, by omega⟩
          obtain rfl : i = 8 := by omega
          show X0_octa_15b (X0_octa_15 n) _ _ _ A = _
          unfold X0_octa_15b
          rw [if_pos (lit_le (N := 8) (Nat.le_refl _) (by omega))]
        | succ d ih =>
          intro i n hi hn
          obtain ⟨n, rfl⟩ : ∃ j, n = j + 1 := ⟨n - 1, by omega⟩
          show X0_octa_15b (X0_octa_15 n) _ _ _ A = _
          unfold X0_octa_15b
          have hx := o2 (k / 8 * 8 + i)
          rw [if_neg (lit_ge (N := 8) (by omega) (by omega)), and8 h1, nI_add, x_peek hX.2.1 o1 o2 (by omega), bd_rt, nI_l (by omega), vl_e, vl_e, nI_1]
          exact ih (i + 1) n (by omega) (by omega)
      exact this 8 0 FU (by omega) (by have := FU_ge; omega)
    · have : isA (lN k) = false := by
        unfold isA
        rw [decide_eq_false_iff_not]
        exact fun h => h1 ((pk_lLT (b := 65536) (by omega) (by omega)).mp h.2)
      rw [this, if_pos (show b1 false = 0 from rfl), if_neg (show ¬ nI k < 65536 from lit_gt (N := 65536) (by omega) hk)]
      exact ⟨_, rfl, rfl⟩
theorem top_out {j : Nat} {A B : Sx} (R : Rtop j A B) (hj : j < 64) (a : Int32) : ∃ v A1 B1, X0_out a A = rt v A1 ∧ X12_out a (adopt B A1) = rt v B1 ∧ Rtop (j + 1) (adopt A1 B1) B1 := by
  obtain ⟨m, tp, tot, w, f6, f7, f8, h1, h2, h3, h4, h5, h6, h7, h8⟩ := id R
  obtain ⟨v, e1, e2⟩ := q_out h1.1 h5.1 h7 a
  exact top_same (rX := X0_out a) (rM := X12_out a) R hj e1 e2
theorem top_page {j : Nat} {A B : Sx} (R : Rtop j A B) (hj : j < 64) (a : Int32) : ∃ v A1 B1, X0_page a A = rt v A1 ∧ X12_page a (adopt B A1) = rt v B1 ∧ Rtop (j + 1) (adopt A1 B1) B1 := by
  obtain ⟨m, tp, tot, w, f6, f7, f8, h1, h2, h3, h4, h5, h6, h7, h8⟩ := id R
  obtain ⟨v, e1, e2⟩ := q_page h1.1 h5.1 h7 a
  exact top_same (rX := X0_page a) (rM := X12_page a) R hj e1 e2
theorem top_told {j : Nat} {A B : Sx} (R : Rtop j A B) (hj : j < 64) (a : Int32) : ∃ v A1 B1, X0_told a A = rt v A1 ∧ X12_told a (adopt B A1) = rt v B1 ∧ Rtop (j + 1) (adopt A1 B1) B1 := by
  obtain ⟨m, tp, tot, w, f6, f7, f8, h1, h2, h3, h4, h5, h6, h7, h8⟩ := id R
  obtain ⟨v, e1, e2⟩ := q_told h1 h5 h7 a
  exact top_same (rX := X0_told a) (rM := X12_told a) R hj e1 e2
theorem top_register {j : Nat} {A B : Sx} (R : Rtop j A B) (hj : j < 64) (a : Int32) : ∃ v A1 B1, X0_register a A = rt v A1 ∧ X12_register a (adopt B A1) = rt v B1 ∧ Rtop (j + 1) (adopt A1 B1) B1 := by
  obtain ⟨m, tp, tot, w, f6, f7, f8, h1, h2, h3, h4, h5, h6, h7, h8⟩ := id R
  obtain ⟨v, e1, e2⟩ := q_register h1.1 h5.1 h7 a
  exact top_same (rX := X0_register a) (rM := X12_register a) R hj e1 e2
theorem top_octa {j : Nat} {A B : Sx} (R : Rtop j A B) (hj : j < 64) (a : Int32) : ∃ v A1 B1, X0_octa a A = rt v A1 ∧ X12_octa a (adopt B A1) = rt v B1 ∧ Rtop (j + 1) (adopt A1 B1) B1 := by
  obtain ⟨m, tp, tot, w, f6, f7, f8, h1, h2, h3, h4, h5, h6, h7, h8⟩ := id R
  obtain ⟨v, e1, e2⟩ := q_octa h1.1 h5.1 h7 a
  exact top_same (rX := X0_octa a) (rM := X12_octa a) R hj e1 e2
end
section
set_option maxRecDepth 100000
theorem dg_loop {FX FM : Nat → Int64 → Int32 → Rs Int64} {g : Nat → Int32} {N : Nat} {P : Rs Int64 → Rs Int64 → Prop} (hs : ∀ i x nX nM, i < N → ∃ x', FX (nX + 1) x (g i) = FX nX x' (g (i + 1)) ∧ FM (nM + 1) x (g i) = FM nM x' (g (i + 1))) (he : ∀ x nX nM, P (FX (nX + 1) x (g N)) (FM (nM + 1) x (g N))) : ∀ d i x nX nM, i + d = N → d < nX → d < nM → P (FX nX x (g i)) (FM nM x (g i)) := by
  intro d
  induction d with
  | zero =>
    intro i x nX nM hi h1 h2
    obtain ⟨nX, rfl⟩ : ∃ j, nX = j + 1 := ⟨nX - 1, by omega⟩
    obtain ⟨nM, rfl⟩ : ∃ j, nM = j + 1 := ⟨nM - 1, by omega⟩
    obtain rfl : i = N := by omega
    exact he x nX nM
  | succ d ih =>
    intro i x nX nM hi h1 h2
    obtain ⟨nX, rfl⟩ : ∃ j, nX = j + 1 := ⟨nX - 1, by omega⟩
    obtain ⟨nM, rfl⟩ : ∃ j, nM = j + 1 := ⟨nM - 1, by omega⟩
    obtain ⟨x', e1, e2⟩ := hs i x nX nM (by omega)
    rw [e1, e2]
    exact ih (i + 1) x' nX nM (by omega) (by omega) (by omega)
def Eqv (A B : Sx) (r r' : Rs Int64) : Prop := ∃ v, r = rt v A ∧ r' = rt v B
theorem q_digest {A B : Sx} {U V w : Nat} {m : Ma} {f6 f7 f8 : Int32} (hX : XQ A U V m f6 f7 f8) (hM : MQq B w m f6 f7 f8) (hO : OKa m) : Eqv A B (X0_digest A) (X12_digest B) := by
  have hF := FU_ge
  obtain ⟨fs, o1, o2, o3, o4, o5, o6, o7⟩ := id hO
  have d5 : ∀ x, Eqv A B (X0_digest_144 FU x 0 A) (X12_digest_142 FU x 0 B) := by
    intro x
    exact dg_loop (FX := fun n x i => X0_digest_144 n x i A) (FM := fun n x i => X12_digest_142 n x i B) (g := fun i => nI (8 * i)) (N := 8192) (P := Eqv A B) (fun i x nX nM hi => by
      obtain ⟨v, e1, e2⟩ := q_octa hX.1 hM.1 hO (nI (8 * i))
      refine ⟨x * 31 + v, ?_, ?_⟩
      · show X0_digest_144b (X0_digest_144 nX) x (nI (8 * i)) A = _
        unfold X0_digest_144b
        rw [if_neg (lit_ge (N := 65536) (by omega) (by omega)), e1, bd_rt, vl_e, vl_e, show nI (8 * i) + 8 = nI (8 * (i + 1)) from nI_add _ 8]
      · show X12_digest_142b (X12_digest_142 nM) x (nI (8 * i)) B = _
        unfold X12_digest_142b
        rw [if_neg (lit_ge (N := 65536) (by omega) (by omega)), e2, bd_rt, vl_e, vl_e, show nI (8 * i) + 8 = nI (8 * (i + 1)) from nI_add _ 8]) (fun x nX nM => ⟨x, by
        show X0_digest_144b (X0_digest_144 nX) x (nI (8 * 8192)) A = _
        unfold X0_digest_144b
        rw [if_pos (by decide)], by
        show X12_digest_142b (X12_digest_142 nM) x (nI (8 * 8192)) B = _
        unfold X12_digest_142b
        rw [if_pos (by decide)]⟩) 8192 0 x FU FU (by omega) (by omega) (by omega)
  have d4 : ∀ x, Eqv A B (X0_digest_112 FU x 0 A) (X12_digest_113 FU x 0 B) := by
    intro x
    have g1 : gI A 2 1 = nI (fr m.1) := hX.1.2.1.2.1.1
    have g2 : gI B 167 17 = nI (fr m.1) := hM.1.1.1
    have := o1.2.1
    exact dg_loop (FX := fun n x i => X0_digest_112 n x i A) (FM := fun n x i => X12_digest_113 n x i B) (g := nI) (N := fr m.1) (P := Eqv A B) (fun i x nX nM hi => by
      obtain ⟨v, e1, e2⟩ := q_page hX.1 hM.1 hO (nI i)
      refine ⟨x * 31 + v.toInt64, ?_, ?_⟩
      · show X0_digest_112b (X0_digest_112 nX) x (nI i) A = _
        unfold X0_digest_112b
        rw [g1, if_neg (nI_ge hi (by omega)), e1, bd_rt, vl_e, vl_e, nI_1]
      · show X12_digest_113b (X12_digest_113 nM) x (nI i) B = _
        unfold X12_digest_113b
        rw [g2, if_neg (nI_ge hi (by omega)), e2, bd_rt, vl_e, vl_e, nI_1]) (fun x nX nM => by
        show Eqv A B (X0_digest_112b (X0_digest_112 nX) x (nI (fr m.1)) A) (X12_digest_113b (X12_digest_113 nM) x (nI (fr m.1)) B)
        unfold X0_digest_112b X12_digest_113b
        rw [g1, g2, if_pos (nI_le (Nat.le_refl _) (by omega)), if_pos (nI_le (Nat.le_refl _) (by omega))]
        exact d5 x) (fr m.1) 0 x FU FU (by omega) (by omega) (by omega)
  have g1 : gI A 138 9 = nI m.2.2.2.2.2.2.2.1.length := hX.1.2.2.2.2.1.1
  have g2 : gI B 167 16 = nI m.2.2.2.2.2.2.2.1.length := hM.1.2.2.2.2.1.1
  have d3 : ∀ x, Eqv A B (X0_digest_83 FU x 0 A) (X12_digest_83 FU x 0 B) := by
    intro x
    exact dg_loop (FX := fun n x i => X0_digest_83 n x i A) (FM := fun n x i => X12_digest_83 n x i B) (g := nI) (N := m.2.2.2.2.2.2.2.1.length) (P := Eqv A B) (fun i x nX nM hi => by
      refine ⟨x * 31 + (m.2.2.2.2.2.2.2.1.getD i 0).toInt64, ?_, ?_⟩
      · show X0_digest_83b (X0_digest_83 nX) x (nI i) A = _
        unfold X0_digest_83b X0_outs X0_out
        rw [bd_rt, g1, if_neg (nI_ge hi (by omega)), if_neg (nI_pos (by omega)), if_pos (nI_lt hi (by omega)), lI_n (by omega) (by omega), hX.1.2.2.2.2.1.2 i hi, bd_rt, vl_e, vl_e, nI_1]
      · show X12_digest_83b (X12_digest_83 nM) x (nI i) B = _
        unfold X12_digest_83b
        rw [g2, if_neg (nI_ge hi (by omega)), lI_n (by omega) (by omega), hM.1.2.2.2.2.1.2 i hi, vl_e, vl_e, nI_1]) (fun x nX nM => by
        show Eqv A B (X0_digest_83b (X0_digest_83 nX) x (nI _) A) (X12_digest_83b (X12_digest_83 nM) x (nI _) B)
        unfold X0_digest_83b X12_digest_83b X0_outs
        rw [bd_rt, g1, g2, if_pos (nI_le (Nat.le_refl _) (by omega)), if_pos (nI_le (Nat.le_refl _) (by omega))]
        exact d4 x) m.2.2.2.2.2.2.2.1.length 0 x FU FU (by omega) (by omega) (by omega)
  have d2 : ∀ x, Eqv A B (X0_digest_44 FU x 0 A) (X12_digest_44 FU x 0 B) := by
    intro x
    exact dg_loop (FX := fun n x i => X0_digest_44 n x i A) (FM := fun n x i => X12_digest_44 n x i B) (g := nI) (N := 8) (P := Eqv A B) (fun i x nX nM hi => by
      obtain ⟨v, e1, e2⟩ := q_told hX hM hO (nI i)
      refine ⟨x * 31 + v.toInt64, ?_, ?_⟩
      · show X0_digest_44b (X0_digest_44 nX) x (nI i) A = _
        unfold X0_digest_44b
        rw [if_neg (fun e => by have := (n_lt (N := 7) (by omega) (by omega)).mp e; omega), e1, bd_rt, vl_e, vl_e, nI_1]
      · show X12_digest_44b (X12_digest_44 nM) x (nI i) B = _
        unfold X12_digest_44b
        rw [if_neg (lit_ge (N := 8) hi (by omega)), e2, bd_rt, vl_e, vl_e, nI_1]) (fun x nX nM => by
        show Eqv A B (X0_digest_44b (X0_digest_44 nX) x (nI 8) A) (X12_digest_44b (X12_digest_44 nM) x (nI 8) B)
        unfold X0_digest_44b X12_digest_44b X0_outs
        rw [if_pos (by decide), if_pos (by decide), bd_rt, vl_e, vl_e, g1, g2]
        exact d3 _) 8 0 x FU FU (by omega) (by omega) (by omega)
  have g3 : gI A 138 6 = m.2.2.2.2.2.2.2.2.2.2.1 := hX.1.2.2.2.2.2.2.2.1
  have g4 : gI B 167 14 = m.2.2.2.2.2.2.2.2.2.2.1 := hM.1.2.2.2.2.2.2.2.1
  exact dg_loop (FX := fun n x i => X0_digest_6 n x i A) (FM := fun n x i => X12_digest_6 n x i B) (g := nI) (N := 39) (P := Eqv A B) (fun i x nX nM hi => by
      obtain ⟨v, e1, e2⟩ := q_register hX.1 hM.1 hO (nI i)
      refine ⟨x * 31 + v, ?_, ?_⟩
      · show X0_digest_6b (X0_digest_6 nX) x (nI i) A = _
        unfold X0_digest_6b
        rw [if_neg (fun e => by have := (n_lt (N := 38) (by omega) (by omega)).mp e; omega), e1, bd_rt, vl_e, vl_e, nI_1]
      · show X12_digest_6b (X12_digest_6 nM) x (nI i) B = _
        unfold X12_digest_6b
        rw [if_neg (lit_ge (N := 39) hi (by omega)), e2, bd_rt, vl_e, vl_e, nI_1]) (fun x nX nM => by
        show Eqv A B (X0_digest_6b (X0_digest_6 nX) x (nI 39) A) (X12_digest_6b (X12_digest_6 nM) x (nI 39) B)
        unfold X0_digest_6b X12_digest_6b X0_steps
        rw [if_pos (by decide), if_pos (by decide), bd_rt, vl_e, vl_e, g3, g4]
        exact d2 _) 39 0 7 FU FU (by omega) (by omega) (by omega)
theorem top_digest {j : Nat} {A B : Sx} (R : Rtop j A B) (hj : j < 64) : ∃ v A1 B1, X0_digest A = rt v A1 ∧ X12_digest (adopt B A1) = rt v B1 ∧ Rtop (j + 1) (adopt A1 B1) B1 := by
  obtain ⟨m, tp, tot, w, f6, f7, f8, h1, h2, h3, h4, h5, h6, h7, h8⟩ := id R
  obtain ⟨v, e1, e2⟩ := q_digest h1 h5 h7
  exact top_same (rX := X0_digest) (rM := X12_digest) R hj e1 e2
/-! ===== M stays ===== -/
def mOut (c k : Nat) : Prop := (c = 167 ∧ (k = 1 ∨ (30 ≤ k ∧ ¬ (44 ≤ k ∧ k ≤ 47)))) ∨ c = 168 ∨ 182 ≤ c
theorem MMa.sm {P : Nat → Nat → Prop} {B B' : Sx} {m : Ma} (h : MMa B m) (hs : Sm P B B') (hp : ∀ c k, P c k → (c = 167 ∧ (k = 1 ∨ (5 ≤ k ∧ k ≤ 7) ∨ 30 ≤ k)) ∨ c = 168 ∨ 182 ≤ c) : MMa B' m := by
  have e5 := hs.mono hp
  obtain ⟨h2, h1, h3, h4, h5, h6, h7, h8, h9⟩ := h
  exact ⟨MP_back h2 e5 (by intro c k; omega), h1.sm e5 (by intro c k; omega), h3.sm e5 (by intro c k; omega), h4.sm e5 (by intro c k; omega), h5.sm e5 (by intro c k; omega), h6.sm e5 (by intro c k; omega), by rw [e5.L (by omega)]; exact h7, by rw [e5.I (by omega)]; exact h8, by rw [e5.I (by omega)]; exact h9⟩
theorem MMa.eo {P : Nat → Nat → Prop} {B B' : Sx} {m : Ma} (h : MMa B m) (hg : 192 ≤ gn B) (hs : Sg P B B') (hp : ∀ c k, P c k → (c = 167 ∧ (k = 1 ∨ (5 ≤ k ∧ k ≤ 7) ∨ 30 ≤ k)) ∨ c = 168 ∨ 182 ≤ c) : MMa B' m := by
  have e4 : Sm (fun c k => P c k ∨ 182 ≤ c) B (B.1, B.2.1, B.2.2.1, B.2.2.2.1, (fun c k => gI B' c k), (fun c k => gL B' c k), B.2.2.2.2.2.2) := by
    refine ⟨rfl, rfl, fun _ => rfl, fun _ => rfl, fun c k q => ?_⟩
    have hc : c < 182 := Nat.lt_of_not_le (fun x => q (Or.inr x))
    have hP : ¬ P c k := fun x => q (Or.inl x)
    exact ⟨hs.I (by omega) hP, hs.L (by omega) hP, rfl⟩
  have fin := h.sm e4 (fun c k x => x.elim (hp c k) (fun y => Or.inr (Or.inr y)))
  exact fin
theorem MQq.sg {P : Nat → Nat → Prop} {B B' : Sx} {w : Nat} {m : Ma} {f6 f7 f8 : Int32} (h : MQq B w m f6 f7 f8) (hs : Sg P B B') (hp : ∀ c k, P c k → mOut c k) : MQq B' w m f6 f7 f8 := by
  obtain ⟨h1, ⟨h2, h3, h4⟩, h5, h6, h7⟩ := h
  unfold mOut at hp
  exact ⟨h1.eo h7 hs (fun c k x => by have := hp c k x; omega), ⟨by rw [hs.I (by omega) (fun x => by have := hp _ _ x; omega)]; exact h2, by rw [hs.I (by omega) (fun x => by have := hp _ _ x; omega)]; exact h3, by rw [hs.I (by omega) (fun x => by have := hp _ _ x; omega)]; exact h4⟩, h5.sg hs h7, h6.sg hs h7 (fun k ha hb x => by have := hp _ _ x; omega), Nat.le_trans h7 hs.1⟩
theorem top_end {j : Nat} {A B : Sx} (R : Rtop j A B) (hj : j < 64) (a : Int32) : ∃ v A1 B1, X0_end a A = rt v A1 ∧ X12_end a (adopt B A1) = rt v B1 ∧ Rtop (j + 1) (adopt A1 B1) B1 := by
  obtain ⟨m, tp, tot, w, f6, f7, f8, h1, h2, h3, h4, h5, h6, h7, h8, h9, h10, h11⟩ := id R
  have eX : X0_end a A = if a < 0 then rt (-1) A else if a ≤ nI tp.length then rt a (pI A 165 1 a) else rt (-1) A := by
    unfold X0_end
    rw [h2.1]
    rfl
  have eM : X12_end a B = if a < 0 then rt (-1) B else if a ≤ nI tp.length then rt a (pI B 167 1 a) else rt (-1) B := by
    unfold X12_end
    rw [h6.1]
    rfl
  by_cases h0 : a < 0
  · exact top_same (rX := X0_end a) (rM := X12_end a) (v := -1) R hj (by rw [eX, if_pos h0]) (by rw [eM, if_pos h0])
  · obtain ⟨k, hk, rfl⟩ := nI_of h0
    by_cases hc : nI k ≤ nI tp.length
    · have hk2 : k ≤ tp.length := (nI_leI hk (by omega)).mp hc
      refine ⟨nI k, pI A 165 1 (nI k), pI B 167 1 (nI k), by rw [eX, if_neg h0, if_pos hc], ?_, ?_⟩
      · rw [adopt_e (show gn (pI A 165 1 (nI k)) = gn B from h10) (show gu (pI A 165 1 (nI k)) = gu B from h11), eM, if_neg h0, if_pos hc]
      · rw [adopt_e (S := pI A 165 1 (nI k)) (S' := pI B 167 1 (nI k)) h10.symm h11.symm]
        refine Rtop.up ?_ hj
        have sA : Sm (fun c k => c = 165 ∧ k = 1) A (pI A 165 1 (nI k)) := Sm.pI ⟨rfl, rfl⟩
        have sB : Sm (fun c k => c = 167 ∧ k = 1) B (pI B 167 1 (nI k)) := Sm.pI ⟨rfl, rfl⟩
        have hI := h1.2.2.2.1 146 (by unfold isI; omega)
        have hl : (tp.take k).length = k := by rw [List.length_take]; omega
        refine ⟨m, tp.take k, tot, w, f6, f7, f8, h1.sg h7 sA.sg (h1.2.2.2.sm sA (fun c hc x => by omega)) (fun c k x => ⟨by omega, ?_⟩), h2.cut (h1.2.2.2.1 165 (by unfold isI; omega)) (by unfold isI; omega) hk2, ?_, by rw [hl]; omega, h5.sg sB.sg (fun c k x => by unfold mOut; omega), ⟨?_, fun i hi => ?_⟩, h7, fun i => ?_, h9, h10, h11⟩
        · have := isI_row hI (by unfold isI; omega) (show isI 165 by unfold isI; omega)
          omega
        · rw [sA.I (by omega)]; exact h3
        · rw [gI_pI, if_pos ⟨rfl, rfl⟩, hl]
        · rw [hl] at hi
          rw [gI_pI, if_neg (by omega), h6.2 i (by omega)]
          unfold fG
          simp [List.getD, List.getElem?_take, hi]
        · have := h8 i
          unfold fG at this ⊢
          by_cases hik : i < k
          · simp [List.getD, List.getElem?_take, hik] at this ⊢; exact this
          · simp [List.getD, List.getElem?_take, hik]
    · exact top_same (rX := X0_end (nI k)) (rM := X12_end (nI k)) (v := -1) R hj (by rw [eX, if_neg h0, if_neg hc]) (by rw [eM, if_neg h0, if_neg hc])
theorem XG.room {A : Sx} {U V : Nat} (h : XG A U V) : roomM A := by
  have := h.w
  obtain ⟨h1, h2, h3, h4, h5, h6, h7, h8⟩ := h
  unfold roomM CAPC CAPS
  omega
theorem top_run {j : Nat} {A B : Sx} (R : Rtop j A B) (hj : j < 64) (a : Int32) : ∃ v A1 B1, X0_run a A = rt v A1 ∧ X12_run a (adopt B A1) = rt v B1 ∧ Rtop (j + 1) (adopt A1 B1) B1 := by
  obtain ⟨m, tp, tot, w, f6, f7, f8, h1, h2, h3, h4, h5, h6, h7, h8, h9, h10, h11⟩ := id R
  have eX : X0_run a A = if f6 = 0 then rt (-1) A else if a < 0 then rt (-1) A else if 20000 < a then rt (-1) A else X5_run a A := by
    unfold X0_run
    rw [h1.2.1.1]
    have : ∀ r : Rs Int32, bd r (fun v1 S1 => rt v1 S1) = r := by
      intro r
      cases r with
      | none => rfl
      | some q => obtain ⟨q, S⟩ := q; cases q <;> rfl
    rw [this]
  have eM : X12_run a B = if f6 = 0 then rt (-1) B else if a < 0 then rt (-1) B else if a ≤ 20000 then X12_run_22 FU a 0 B else rt (-1) B := by
    unfold X12_run
    rw [h5.2.1.1]
  by_cases c0 : f6 = 0
  · exact top_same (rX := X0_run a) (rM := X12_run a) (v := -1) R hj (by rw [eX, if_pos c0]) (by rw [eM, if_pos c0])
  by_cases c1 : a < 0
  · exact top_same (rX := X0_run a) (rM := X12_run a) (v := -1) R hj (by rw [eX, if_neg c0, if_pos c1]) (by rw [eM, if_neg c0, if_pos c1])
  obtain ⟨k, hk, rfl⟩ := nI_of c1
  by_cases c2 : k ≤ 20000
  · have q1 : ¬ (20000 : Int32) < nI k := fun e => by have := (n_lt (N := 20000) (by omega) (by omega)).mp e; omega
    have q2 : nI k ≤ 20000 := nI_le (a := k) (b := 20000) c2 (by omega)
    have hF := FU_ge
    have hrB : roomM B := by
      have := h1.2.2.2.room
      unfold roomM at this ⊢
      omega
    obtain ⟨A', B', pc, n, st, g1, g2, g3, g4, g5, g6, g7, g8⟩ := run_loop c2 k FU FU 0 A B _ _ _ (by omega) (by omega) (by omega) (ma_RMp h1.1 h5.1 h7) hrB (by have := h5.2.2.2.2; omega)
    obtain ⟨m', k1, k2, k3⟩ := RMp_ma g3
    refine ⟨st, A', B', by rw [eX, if_neg c0, if_neg c1, if_neg q1]; exact g1, ?_, ?_⟩
    · rw [adopt_e (g4.1.trans h10) (g4.2.1.trans h11), eM, if_neg c0, if_neg c1, if_pos q2]; exact g2
    · unfold xSt at g4
      have hG := h1.2.2.2.sm g4 (fun c hc x => by unfold isI at hc; omega)
      have hw := h5.2.2.2.1.2.2.2
      have e1 := g4.1
      have e2 := g4.2.1
      have hgn : gn B ≤ gn B' := g5.1
      have hI5 := h1.2.2.2.1 165 (by unfold isI; omega)
      refine ⟨m', tp, tot, w, f6, f7, f8, ⟨k1, ⟨?_, ?_, ?_⟩, fun c hc => ?_, hG.adopt ?_ ?_ ?_ ?_ ?_⟩, ?_, ?_, by omega, ⟨k2, ⟨?_, ?_, ?_⟩, h5.2.2.1.sg g5 h5.2.2.2.2, h5.2.2.2.1.sg g5 h5.2.2.2.2 ?_, Nat.le_trans h5.2.2.2.2 hgn⟩, h6.sg g5 h5.2.2.2.2 ?_, k3, h8, h9, rfl, rfl⟩
      · show gI A' 0 6 = _; rw [g4.I (by omega)]; exact h1.2.1.1
      · show gI A' 0 7 = _; rw [g4.I (by omega)]; exact h1.2.1.2.1
      · show gI A' 0 8 = _; rw [g4.I (by omega)]; exact h1.2.1.2.2
      · show gK A' c = _; rw [g4.K]; exact h1.2.2.1 c hc
      · omega
      · omega
      · omega
      · unfold U0; omega
      · unfold V0; omega
      · have := h2.sm g4 (by have := hI5.2.2.2.1; exact ⟨by omega, by omega, fun k => by omega⟩)
        exact this
      · show gI A' 146 1 = _; rw [g4.I (by omega)]; exact h3
      · rw [g5.I (by have := h5.2.2.2.2; omega) (by unfold mS2 mSt; omega)]; exact h5.2.1.1
      · rw [g5.I (by have := h5.2.2.2.2; omega) (by unfold mS2 mSt; omega)]; exact h5.2.1.2.1
      · rw [g5.I (by have := h5.2.2.2.2; omega) (by unfold mS2 mSt; omega)]; exact h5.2.1.2.2
      · intro k a b; unfold mS2 mSt; omega
      · exact ⟨by unfold mS2 mSt; omega, fun k => by unfold mS2 mSt; omega⟩
  · have q1 : (20000 : Int32) < nI k := (n_lt (N := 20000) (by omega) (by omega)).mpr (by omega)
    have q2 : ¬ nI k ≤ 20000 := nI_ge (a := 20000) (b := k) (by omega) (by omega)
    exact top_same (rX := X0_run (nI k)) (rM := X12_run (nI k)) (v := -1) R hj (by rw [eX, if_neg c0, if_neg c1, if_pos q1]) (by rw [eM, if_neg c0, if_neg c1, if_neg q2])
end
section
set_option maxRecDepth 100000
/-! ===== frames ===== -/
theorem top_frames {j : Nat} {A B : Sx} (R : Rtop j A B) (hj : j < 64) (a : Int32) : ∃ v A1 B1, X0_frames a A = rt v A1 ∧ X12_frames a (adopt B A1) = rt v B1 ∧ Rtop (j + 1) (adopt A1 B1) B1 := by
  obtain ⟨m, tp, tot, w, f6, f7, f8, h1, h2, h3, h4, h5, h6, h7, h8, h9, h10, h11⟩ := id R
  by_cases c0 : a < 2
  · exact top_same (rX := X0_frames a) (rM := X12_frames a) (v := -1) R hj (by unfold X0_frames; rw [if_pos c0]) (by unfold X12_frames; rw [if_pos c0])
  by_cases c1 : a ≤ 64
  · have h0 : ¬ a < 0 := fun e => c0 (by rw [i_lt] at e ⊢; have : (0 : Int32).toInt = 0 := rfl; have : (2 : Int32).toInt = 2 := rfl; omega)
    obtain ⟨k, hk, rfl⟩ := nI_of h0
    have k2 : 2 ≤ k := Nat.le_of_not_lt (fun e => c0 (lit_lt (N := 2) e (by omega)))
    have k64 : k ≤ 64 := (nI_leI (b := 64) hk (by omega)).mp c1
    -- X
    have s1 : Sm (fun c k => c = 2 ∧ k = 1) A (pI A 2 1 (nI k)) := Sm.pI ⟨rfl, rfl⟩
    obtain ⟨x1, x2, x3, x4, x5, x6, x7, x8, x9⟩ := id h1.1
    obtain ⟨A2, a1, a2, a3⟩ := x_clear (S := pI A 2 1 (nI k)) (r := k) (x2.1.sm s1 (fun f hf => by omega)) (by rw [gI_pI, if_pos ⟨rfl, rfl⟩])
    unfold xPl at a3
    have s2 : Sm (fun c k => c = 0 ∧ k = 6) A2 (pI A2 0 6 0) := Sm.pI ⟨rfl, rfl⟩
    have s3 : Sm (fun c k => (2 ≤ c ∧ c ≤ 137) ∨ (c = 0 ∧ k = 6)) A (pI A2 0 6 0) := ((s1.mono (fun c k x => by omega)).trans (a3.mono (fun c k x => by omega))).trans (s2.mono (fun c k x => by omega))
    have hb : bOK (b00 k (fun _ => false)) := b00_OK k2 k64
    have eX : X0_frames (nI k) A = rt (nI k) (pI A2 0 6 0) := by
      unfold X0_frames
      rw [if_neg c0, if_pos c1, pt_e, a1, bd_rt, pt_e]
    -- M
    obtain ⟨y2, y1, y3, y4, y5, y6, y7, y8, y9⟩ := id h5.1
    have t1 : Sm (fun c k => c = 167 ∧ k = 17) B (pI B 167 17 (nI k)) := Sm.pI ⟨rfl, rfl⟩
    obtain ⟨B2, b1', b2, b3⟩ := m_freePages (S := pI B 167 17 (nI k)) (r := k) (by rw [gI_pI, if_pos ⟨rfl, rfl⟩])
    unfold fPl at b3
    obtain ⟨kk, B3, d1, d2, d3⟩ := loopN (F := fun n i S => X12_frames_24 n (nI k) i S) (B := fun f i S => X12_frames_24b (fun _ i S => f i S) (nI k) i S) (N := 65536) (Inv := fun i T => (∀ p, p < i → gI T 169 p = 0) ∧ Sm (fun c _ => c = 169) B2 T) (by omega) (fun _ _ _ => rfl) (fun f i T hi ⟨p, q⟩ => by
      refine ⟨pI T 169 i 0, ?_, fun x hx => ?_, q.trans (Sm.pI rfl)⟩
      · show X12_frames_24b (fun _ i S => f i S) (nI k) (nI i) T = _
        unfold X12_frames_24b
        rw [if_neg (lit_ge hi (by omega)), sI_n hi (by omega), vl_e, nI_1]
      · rw [gI_pI]
        split
        · rfl
        · exact p x (by omega)) (S := B2) ⟨(fun p hp => by omega), Sm.rfl' B2⟩
    have eM : X12_frames (nI k) B = rt (nI k) (pI B3 167 7 0) := by
      unfold X12_frames
      rw [if_neg c0, if_pos c1, pt_e, b1', bd_rt]
      rw [d1]
      show X12_frames_24b (fun _ i S => kk i S) (nI k) (nI 65536) B3 = _
      unfold X12_frames_24b
      rw [if_pos (by decide), pt_e]
    have t4 : Sm (fun c k => c = 167 ∧ k = 7) B3 (pI B3 167 7 0) := Sm.pI ⟨rfl, rfl⟩
    have t5 : Sm (fun c k => (c = 167 ∧ (k = 17 ∨ k = 7 ∨ k = 23 ∨ (25 ≤ k ∧ k ≤ 29))) ∨ c = 169 ∨ (175 ≤ c ∧ c ≤ 179)) B (pI B3 167 7 0) := (((t1.mono (fun c k x => by omega)).trans (b3.mono (fun c k x => by omega))).trans (d3.mono (fun c k x => by omega))).trans (t4.mono (fun c k x => by omega))
    have t6 : Sm (fun c k => (c = 167 ∧ k = 7) ∨ c = 169) B2 (pI B3 167 7 0) := (d3.mono (fun c k x => Or.inr x)).trans (t4.mono (fun c k x => Or.inl x))
    refine ⟨nI k, _, pI B3 167 7 0, eX, ?_, ?_⟩
    · rw [adopt_e (s3.1.trans h10) (s3.2.1.trans h11)]; exact eM
    · have hI5 := h1.2.2.2.1 165 (by unfold isI; omega)
      rw [adopt_e (by rw [s3.1, t5.1]; exact h10.symm) (by rw [s3.2.1, t5.2.1]; exact h11.symm)]
      refine Rtop.up ?_ hj
      have g5 := t5.sg
      obtain ⟨fs, o1, o2, o3, o4, o5, o6, o7⟩ := id h7
      refine ⟨(b00 k (fun _ => false), fun _ => 0, m.2.2), tp, tot, w, 0, f7, f8, ⟨⟨by rw [s3.K]; exact x1, a2.sm hb s2 (by intro c k; omega), x3.sm s3 (by intro c k; omega), x4.sm s3 (by intro c k; omega), x5.sm s3 (by intro c k; omega), x6.sm s3 (by intro c k; omega), by rw [s3.L (by omega)]; exact x7, by rw [s3.I (by omega)]; exact x8, by rw [s3.I (by omega)]; exact x9⟩, ⟨by rw [gI_pI, if_pos ⟨rfl, rfl⟩], by rw [s3.I (by omega)]; exact h1.2.1.2.1, by rw [s3.I (by omega)]; exact h1.2.1.2.2⟩, fun c hc => by rw [s3.K]; exact h1.2.2.1 c hc, h1.2.2.2.sm s3 (fun c hc x => by unfold isI at hc; omega)⟩, h2.sm s3 (by have := hI5.2.2.2.1; exact ⟨by omega, by omega, fun k => by omega⟩), by rw [s3.I (by omega)]; exact h3, h4, ⟨⟨MP_back b2 t6 (by intro c k; omega), fun x hx => ?_, y3.sm t5 (by intro c k; omega), y4.sm t5 (by intro c k; omega), y5.sm t5 (by intro c k; omega), y6.sm t5 (by intro c k; omega), by rw [t5.L (by omega)]; exact y7, by rw [t5.I (by omega)]; exact y8, by rw [t5.I (by omega)]; exact y9⟩, ⟨by rw [gI_pI, if_pos ⟨rfl, rfl⟩], by rw [t5.I (by omega)]; exact h5.2.1.2.1, by rw [t5.I (by omega)]; exact h5.2.1.2.2⟩, h5.2.2.1.sg g5 h5.2.2.2.2, h5.2.2.2.1.sg g5 h5.2.2.2.2 (by intro k a b; omega), by rw [t5.1]; exact h5.2.2.2.2⟩, h6.sg g5 h5.2.2.2.2 ⟨by omega, fun k => by omega⟩, ⟨fs, hb, fun _ => Nat.zero_lt_succ 255, o3, o4, o5, o6, o7⟩, h8, Or.inl rfl, by rw [s3.1, t5.1]; exact h10, by rw [s3.2.1, t5.2.1]; exact h11⟩
      rw [gI_pI, if_neg (by omega)]
      exact d2 x hx
  · exact top_same (rX := X0_frames a) (rM := X12_frames a) (v := -1) R hj (by unfold X0_frames; rw [if_neg c0, if_neg c1]) (by unfold X12_frames; rw [if_neg c0, if_neg c1])
/-! ===== feed ===== -/
theorem xq_add {A : Sx} {U V c : Nat} {m : Ma} {f6 f7 f8 : Int32} {l : List Nat} (v : Nat) (h : XQ A U V m f6 f7 f8) (hO : OKa m) (hc : isI c) (h146 : ¬ c = 146) (hl : XI A c l) (hcap : l.length < capI c) :
    ∃ A', X8_add c (nI v) A = rt (nI l.length) A' ∧ XQ A' U V m f6 f7 f8 ∧ XI A' c (l ++ [v]) ∧ Sg (pI8 A c) A A' ∧ (∀ c', isI c' → ¬ c' = c → rowOf A' c' = rowOf A c' ∧ wOf A' c' = wOf A c' ∧ ∀ l', XI A c' l' → XI A' c' l') := by
  obtain ⟨A', e1, e2, e3, e4, e5⟩ := x_addG v h.2.2.2 hc (h.2.2.1 c hc) hl hcap
  have hI := h.2.2.2.1 c hc
  have h2 := h.2.2.2.2.1
  refine ⟨A', e1, h.sg hO e4 e2 (fun x k hx => ?_), e3, e4, e5⟩
  have i4 := hI.2.2.2.1
  have h6 := isI_row (h.2.2.2.1 146 (by unfold isI; omega)) (by unfold isI; omega) hc
  have hd : ¬ rowOf A c = rowOf A 146 := fun e => h146 (h2 c 146 hc (by unfold isI; omega) e)
  unfold pI8 at hx
  unfold isI at hc
  rcases hx with rfl | ⟨rfl, -⟩
  · exact ⟨by omega, hd⟩
  · exact ⟨by omega, h6⟩
def bq (v k : Int32) : Nat := (v >>> (k &&& 31)).toBitVec.toNat % 256
theorem bq_i (v k : Int32) : (v >>> (k &&& 31)) &&& 255 = nI (bq v k) := pk_and _ 8 (by decide)
theorem bq_lt (v k : Int32) : bq v k < 256 := Nat.mod_lt _ (by decide)
theorem x_lay1 {A : Sx} {U V n : Nat} {m : Ma} {f6 f7 f8 v x2 : Int32} {l : List Nat} {tt : Int32} (h : XQ A U V m f6 f7 f8) (hO : OKa m) (hl : XI A 165 l) (hcap : l.length < 1280) (ht : gI A 146 1 = tt) (hx : ¬ x2 < 0) : ∃ A', X0_lay_3 (n + 1) v x2 A = X0_lay_3 n v (x2 + (-8)) A' ∧ XQ A' U V m f6 f7 f8 ∧ XI A' 165 (l ++ [bq v x2]) ∧ gI A' 146 1 = tt ∧ gn A ≤ gn A' := by
  obtain ⟨A', e1, e2, e3, e4, e5⟩ := xq_add (bq v x2) h hO (show isI 165 by unfold isI; omega) (by omega) hl hcap
  refine ⟨A', ?_, e2, e3, ?_, e4.1⟩
  · show X0_lay_3b (X0_lay_3 n) v x2 A = _
    unfold X0_lay_3b
    rw [if_neg hx, bq_i, e1, bd_rt, vl_e]
  · have := isI_row (h.2.2.2.1 165 (by unfold isI; omega)) (by unfold isI; omega) (show isI 146 by unfold isI; omega)
    rw [e4.I (by have := h.2.2.2.2.2.2.2.2.2.2; omega) (by unfold pI8; omega)]
    exact ht
def by4 (v : Int32) : List Nat := [bq v 24, bq v 16, bq v 8, bq v 0]
theorem x_lay {A : Sx} {U V : Nat} {m : Ma} {f6 f7 f8 : Int32} {l : List Nat} {tt : Int32} (v : Int32) (h : XQ A U V m f6 f7 f8) (hO : OKa m) (hl : XI A 165 l) (hcap : l.length + 4 ≤ 1280) (ht : gI A 146 1 = tt) : ∃ A', X0_lay v A = rt () A' ∧ XQ A' U V m f6 f7 f8 ∧ XI A' 165 (l ++ by4 v) ∧ gI A' 146 1 = tt ∧ gn A ≤ gn A' := by
  obtain ⟨n, hn⟩ : ∃ n, FU = n + 5 := ⟨FU - 5, by have := FU_ge; omega⟩
  obtain ⟨A1, e1, e2, e3, e4, e5⟩ := x_lay1 (n := n + 4) (v := v) (x2 := 24) h hO hl (by omega) ht (by decide)
  obtain ⟨A2, g1, g2, g3, g4, g5⟩ := x_lay1 (n := n + 3) (v := v) (x2 := 16) e2 hO e3 (by rw [List.length_append]; show l.length + 1 < _; omega) e4 (by decide)
  obtain ⟨A3, k1, k2, k3, k4, k5⟩ := x_lay1 (n := n + 2) (v := v) (x2 := 8) g2 hO g3 (by rw [List.length_append, List.length_append]; show l.length + 1 + 1 < _; omega) g4 (by decide)
  obtain ⟨A4, p1, p2, p3, p4, p5⟩ := x_lay1 (n := n + 1) (v := v) (x2 := 0) k2 hO k3 (by rw [List.length_append, List.length_append, List.length_append]; show l.length + 1 + 1 + 1 < _; omega) k4 (by decide)
  refine ⟨A4, ?_, p2, ?_, p4, by omega⟩
  · unfold X0_lay
    rw [hn, e1, show (24 : Int32) + (-8) = 16 from by decide, g1, show (16 : Int32) + (-8) = 8 from by decide, k1, show (8 : Int32) + (-8) = 0 from by decide, p1]
    show X0_lay_3b (X0_lay_3 n) v _ A4 = _
    unfold X0_lay_3b
    rw [if_pos (by decide)]
  · have e : l ++ by4 v = l ++ [bq v 24] ++ [bq v 16] ++ [bq v 8] ++ [bq v 0] := by unfold by4; simp
    rw [e]; exact p3
def mTl (c k : Nat) : Prop := c = 168 ∨ (c = 167 ∧ k = 1)
theorem m_four1 {B : Sx} {n : Nat} {v x2 : Int32} {l : List Nat} (hl : MT B l) (hcap : l.length < 20000) (hx : ¬ x2 < 0) : ∃ B', X12_four_3 (n + 1) v x2 B = X12_four_3 n v (x2 + (-8)) B' ∧ MT B' (l ++ [bq v x2]) ∧ Sm mTl B B' := by
  refine ⟨pI (pI B 168 l.length (nI (bq v x2))) 167 1 (nI (l.length + 1)), ?_, ⟨?_, fun i hi => ?_⟩, (Sm.pI (Or.inl rfl)).trans (Sm.pI (Or.inr ⟨rfl, rfl⟩))⟩
  · show X12_four_3b (X12_four_3 n) v x2 B = _
    unfold X12_four_3b
    rw [if_neg hx, bq_i, hl.1, sI_n hcap (by omega), pt_e, gI_pI, if_neg (by omega), hl.1, nI_1, vl_e]
  · rw [gI_pI, if_pos ⟨rfl, rfl⟩, List.length_append]; rfl
  · rw [List.length_append] at hi
    rw [fG_app l _ i hi, gI_pI, if_neg (by omega), gI_pI]
    by_cases h : i = l.length
    · rw [if_pos ⟨rfl, h⟩, if_pos h]
    · rw [if_neg (fun e => h e.2), if_neg h]
      exact hl.2 i (by have : i < l.length + 1 := hi; omega)
theorem m_four {B : Sx} {l : List Nat} (v : Int32) (hl : MT B l) (hcap : l.length + 4 ≤ 20000) : ∃ B', X12_four v B = rt () B' ∧ MT B' (l ++ by4 v) ∧ Sm mTl B B' := by
  obtain ⟨n, hn⟩ : ∃ n, FU = n + 5 := ⟨FU - 5, by have := FU_ge; omega⟩
  obtain ⟨A1, e1, e2, e3⟩ := m_four1 (n := n + 4) (v := v) (x2 := 24) hl (by omega) (by decide)
  obtain ⟨A2, g1, g2, g3⟩ := m_four1 (n := n + 3) (v := v) (x2 := 16) e2 (by rw [List.length_append]; show l.length + 1 < _; omega) (by decide)
  obtain ⟨A3, k1, k2, k3⟩ := m_four1 (n := n + 2) (v := v) (x2 := 8) g2 (by rw [List.length_append, List.length_append]; show l.length + 1 + 1 < _; omega) (by decide)
  obtain ⟨A4, p1, p2, p3⟩ := m_four1 (n := n + 1) (v := v) (x2 := 0) k2 (by rw [List.length_append, List.length_append, List.length_append]; show l.length + 1 + 1 + 1 < _; omega) (by decide)
  refine ⟨A4, ?_, ?_, ((e3.trans g3).trans k3).trans p3⟩
  · unfold X12_four
    rw [hn, e1, show (24 : Int32) + (-8) = 16 from by decide, g1, show (16 : Int32) + (-8) = 8 from by decide, k1, show (8 : Int32) + (-8) = 0 from by decide, p1]
    show X12_four_3b (X12_four_3 n) v _ A4 = _
    unfold X12_four_3b
    rw [if_pos (by decide)]
  · have e : l ++ by4 v = l ++ [bq v 24] ++ [bq v 16] ++ [bq v 8] ++ [bq v 0] := by unfold by4; simp
    rw [e]; exact p2
theorem len4 (l : List Nat) (v : Int32) : (l ++ by4 v).length = l.length + 4 := by rw [List.length_append]; rfl
theorem fG_by {l l' : List Nat} (h : ∀ i, fG l i < 256) (h' : ∀ x ∈ l', x < 256) : ∀ i, fG (l ++ l') i < 256 := by
  intro i
  unfold fG at h ⊢
  simp only [List.getD] at h ⊢
  by_cases hi : i < l.length
  · rw [List.getElem?_append_left hi]; exact h i
  · rw [List.getElem?_append_right (by omega)]
    by_cases h2 : i - l.length < l'.length
    · rw [List.getElem?_eq_getElem h2]; exact h' _ (List.getElem_mem h2)
    · rw [List.getElem?_eq_none (by omega)]; decide
theorem by4_b (v : Int32) : ∀ x ∈ by4 v, x < 256 := by
  intro x hx
  unfold by4 at hx
  simp at hx
  rcases hx with rfl | rfl | rfl | rfl <;> exact bq_lt _ _
/-- M behind X -/
theorem adopt_sg {P : Nat → Nat → Prop} {A B A' : Sx} (h : gn A = gn B) (hs : gn A ≤ gn A') : Sg P B (adopt B A') := ⟨by show gn B ≤ gn A'; omega, fun _ _ => ⟨rfl, rfl, fun _ _ => ⟨rfl, rfl, rfl⟩⟩⟩
theorem top_feed {j : Nat} {A B : Sx} (R : Rtop j A B) (hj : j < 64) (a b c d e : Int32) : ∃ v A1 B1, X0_feed a b c d e A = rt v A1 ∧ X12_feed a b c d e (adopt B A1) = rt v B1 ∧ Rtop (j + 1) (adopt A1 B1) B1 := by
  obtain ⟨m, tp, tot, w, f6, f7, f8, h1, h2, h3, h4, h5, h6, h7, h8, h9, h10, h11⟩ := id R
  obtain ⟨A1, p1, p2, p3, p4, p5⟩ := x_lay a h1 h7 h2 (by omega) h3
  obtain ⟨A2, q1, q2, q3, q4, q5⟩ := x_lay b p2 h7 p3 (by rw [len4]; omega) p4
  obtain ⟨A3, r1, r2, r3, r4, r5⟩ := x_lay c q2 h7 q3 (by rw [len4, len4]; omega) q4
  obtain ⟨A4, s1, s2, s3, s4, s5⟩ := x_lay d r2 h7 r3 (by rw [len4, len4, len4]; omega) r4
  obtain ⟨A5, t1, t2, t3, t4, t5⟩ := x_lay e s2 h7 s3 (by rw [len4, len4, len4, len4]; omega) s4
  have hMT : MT (adopt B A5) tp := h6
  obtain ⟨B1, u1, u2, u3⟩ := m_four a hMT (by omega)
  obtain ⟨B2, v1, v2, v3⟩ := m_four b u2 (by rw [len4]; omega)
  obtain ⟨B3, w1, w2, w3⟩ := m_four c v2 (by rw [len4, len4]; omega)
  obtain ⟨B4, y1, y2, y3⟩ := m_four d w2 (by rw [len4, len4, len4]; omega)
  obtain ⟨B5, z1, z2, z3⟩ := m_four e y2 (by rw [len4, len4, len4, len4]; omega)
  have hT8 : ∀ i, fG (tp ++ by4 a ++ by4 b ++ by4 c ++ by4 d ++ by4 e) i < 256 := fG_by (fG_by (fG_by (fG_by (fG_by h8 (by4_b a)) (by4_b b)) (by4_b c)) (by4_b d)) (by4_b e)
  generalize hT : tp ++ by4 a ++ by4 b ++ by4 c ++ by4 d ++ by4 e = T at t3 z2 hT8
  have hTl : T.length = tp.length + 20 := by rw [← hT, len4, len4, len4, len4, len4]
  have hS : Sm mTl (adopt B A5) B5 := (((u3.trans v3).trans w3).trans y3).trans z3
  have hw := h5.2.2.2.1.2.2.2
  have hc : nI tp.length + 20 ≤ 20000 := by
    rw [show nI tp.length + 20 = nI (tp.length + 20) from nI_add _ 20]
    exact nI_le (a := tp.length + 20) (b := 20000) (by omega) (by omega)
  refine ⟨nI T.length, A5, B5, ?_, ?_, ?_⟩
  · unfold X0_feed
    rw [h2.1, if_pos hc, p1, bd_rt, q1, bd_rt, r1, bd_rt, s1, bd_rt, t1, bd_rt, t3.1]
  · unfold X12_feed
    rw [hMT.1, if_pos hc, u1, bd_rt, v1, bd_rt, w1, bd_rt, y1, bd_rt, z1, bd_rt, z2.1]
  · rw [adopt_e (show gn B5 = gn A5 from hS.1) (show gu B5 = gu A5 from hS.2.1)]
    have hQ : MQq (adopt B A5) w m f6 f7 f8 := h5.sg (adopt_sg (P := fun _ _ => False) h10 (by omega)) (fun c k x => x.elim)
    refine ⟨m, T, tot, w, f6, f7, f8, t2.up ?_ ?_ ?_ ?_, t3, t4, by omega, hQ.sg hS.sg (fun c k x => by unfold mTl at x; unfold mOut; omega), z2, h7, hT8, h9, hS.1.symm, hS.2.1.symm⟩
    all_goals unfold U0 V0 at *
    all_goals omega
end
section
set_option maxRecDepth 100000
/-! ===== input ===== -/
def mIn (m : Ma) (inp : List Int32) : Ma := (m.1, m.2.1, m.2.2.1, m.2.2.2.1, m.2.2.2.2.1, m.2.2.2.2.2.1, m.2.2.2.2.2.2.1, m.2.2.2.2.2.2.2.1, inp, m.2.2.2.2.2.2.2.2.2)
theorem nI_bv (x : Int32) : nI x.toBitVec.toNat = x := by
  apply Int32.toBitVec_inj.mp
  apply BitVec.eq_of_toNat_eq
  rw [pk_tn x.toBitVec.isLt]
theorem gD_map (l : List Nat) (i : Nat) (h : i < l.length) : (l.map nI).getD i 0 = nI (fG l i) := by
  unfold fG
  simp [List.getD, h]
theorem XN_of {A : Sx} {l : List Nat} {tk : Nat} (h : XI A 146 l) (hI : IO A 146) (hw : wOf A 146 ≤ 180000) (ht : gI A 138 11 = nI tk) (hk : tk ≤ l.length) : XN A ((l.drop tk).map nI) := by
  obtain ⟨i1, i2, i3, i4, i5⟩ := hI
  obtain ⟨h1, h2, h3⟩ := h
  refine ⟨rowOf A 146, l.length, tk, i1, by omega, i2, h1, ht, by rw [List.length_map, List.length_drop]; omega, h2, by unfold wOf at hw; omega, fun i hi => ?_⟩
  rw [List.length_map, List.length_drop] at hi
  rw [gD_map _ _ (by rw [List.length_drop]; omega), h3 _ (by omega)]
  unfold fG
  simp [List.getD, List.getElem?_drop]
/-- all that the input had -/
theorem XN_li {A : Sx} {inp : List Int32} {tot : Nat} (h : XN A inp) (hI : IO A 146) (ht : gI A 146 1 = nI tot) (htot : tot < 2 ^ 31) : ∃ li tk, XI A 146 li ∧ li.length = tot ∧ tk ≤ tot ∧ gI A 138 11 = nI tk ∧ inp = (li.drop tk).map nI := by
  obtain ⟨r, tot', tk, a1, a2, a3, a4, a5, a6, a7, a8, a9⟩ := h
  have hr : rowOf A 146 = r := by unfold rowOf; rw [a1]; rfl
  have e : tot' = tot := (nI_eq (by omega) htot).mp (by rw [← a4, ht])
  subst e
  have hl : ((List.range tot').map (fun i => (gI A r i).toBitVec.toNat)).length = tot' := by simp
  have hg : ∀ i, i < tot' → nI (fG ((List.range tot').map (fun i => (gI A r i).toBitVec.toNat)) i) = gI A r i := by
    intro i hi
    unfold fG
    simp only [List.getD, List.getElem?_map, List.getElem?_range hi, Option.map_some, Option.getD_some]
    exact nI_bv _
  refine ⟨(List.range tot').map (fun i => (gI A r i).toBitVec.toNat), tk, ⟨by rw [hl]; exact ht, by rw [hl]; unfold wOf; rw [hr]; exact a7, fun i hi => ?_⟩, hl, by omega, a5, ?_⟩
  · rw [hl] at hi
    rw [hg i hi, hr]
  · apply List.ext_getElem
    · rw [List.length_map, List.length_drop, hl]; omega
    · intro i h1 h2
      have q := a9 i h1
      rw [List.getElem_map, List.getElem_drop]
      have q2 := hg (tk + i) (by omega)
      unfold fG at q2
      simp only [List.getD] at q q2
      rw [List.getElem?_eq_getElem (by rw [hl]; omega), Option.getD_some] at q2
      rw [List.getElem?_eq_getElem h1, Option.getD_some] at q
      rw [q2, q]
theorem XMa.inp {A : Sx} {m : Ma} {inp : List Int32} (h : XMa A m) (hN : XN A inp) : XMa A (mIn m inp) := by
  obtain ⟨h1, h2, h3, h4, h5, h6, h7, h8, h9⟩ := h
  exact ⟨h1, h2, h3, h4, h5, hN, h7, h8, h9⟩
def XQi (A : Sx) (U V : Nat) (m : Ma) (f6 f7 f8 : Int32) (tp l : List Nat) (tk : Nat) : Prop := XQ A U V (mIn m ((l.drop tk).map nI)) f6 f7 f8 ∧ XI A 165 tp ∧ XI A 146 l ∧ gI A 138 11 = nI tk ∧ tk ≤ l.length
theorem xqi_add {A : Sx} {U V tk : Nat} {m : Ma} {f6 f7 f8 : Int32} {tp l : List Nat} (v : Nat) (h : XQi A U V m f6 f7 f8 tp l tk) (hO : OKa m) (hcap : l.length < 1280) : ∃ A', X8_add 146 (nI v) A = rt (nI l.length) A' ∧ XQi A' U V m f6 f7 f8 tp (l ++ [v]) tk ∧ gn A ≤ gn A' := by
  obtain ⟨h1, h2, h3, h4, h5⟩ := h
  have i6 : isI 146 := by unfold isI; omega
  obtain ⟨A', e1, e2, e3, e4, e5⟩ := x_addG v h1.2.2.2 i6 (h1.2.2.1 146 i6) h3 hcap
  have hI := h1.2.2.2.1 146 i6
  have hg := h1.2.2.2.2.2.2.2.2.2.2
  have i4 := hI.2.2.2.1
  have hk : ∀ x k, x < 146 → ¬ pI8 A 146 x k := fun x k hx => by unfold pI8; omega
  have ht' : gI A' 138 11 = nI tk := by rw [e4.I (by omega) (hk _ _ (by omega))]; exact h4
  have hlen : tk ≤ (l ++ [v]).length := by rw [List.length_append]; exact Nat.le_trans h5 (Nat.le_add_right _ _)
  have hN := XN_of e3 (e2.1 146 i6) (e2.cap i6) ht' hlen
  refine ⟨A', e1, ⟨⟨?_, ⟨?_, ?_, ?_⟩, fun c hc => ?_, e2⟩, (e5 165 (by unfold isI; omega) (by omega)).2.2 tp h2, e3, ht', hlen⟩, e4.1⟩
  · have hO' : OKa (mIn m []) := by
      obtain ⟨fs, o1, o2, o3, o4, o5, o6, o7⟩ := hO
      exact ⟨fs, o1, o2, o3, o4, o5, o6, Nat.zero_le _⟩
    obtain ⟨fs, o1, o2, o3, o4, o5, o6, o7⟩ := hO
    have hm := h1.1
    obtain ⟨x1, x2, x3, x4, x5, x6, x7, x8, x9⟩ := hm
    -- all but the input
    have hE : ∀ c k, c < 146 → gI A' c k = gI A c k ∧ gL A' c k = gL A c k ∧ gR A' c k = gR A c k := fun c k hc => ⟨e4.I (by omega) (hk _ _ hc), e4.L (by omega) (hk _ _ hc), e4.R (by omega) (hk _ _ hc)⟩
    have s4 : Sm (fun c _ => 146 ≤ c) A (A.1, A.2.1, A.2.2.1, A.2.2.2.1, A'.2.2.2.2.1, A'.2.2.2.2.2.1, A'.2.2.2.2.2.2) := ⟨rfl, rfl, fun _ => rfl, fun _ => rfl, fun c k q => hE c k (by omega)⟩
    have p := x2.sm o1 s4 (by intro c k; omega)
    have q3 := x3.sm s4 (by intro c k; omega)
    have q4 := x4.sm s4 (by intro c k; omega)
    have q5 := x5.sm s4 (by intro c k; omega)
    obtain ⟨p1, p2, p3, p4⟩ := p
    exact ⟨by rw [e4.K (by omega)]; exact x1, ⟨XF.eo x2.1 (fun c hc => ⟨e4.K (by omega), e4.N (by omega)⟩) (fun c k hc => (hE c k (by omega)).2.2), p2, p3, p4⟩, q3, q4, q5, hN, by rw [(hE _ _ (by omega)).2.1]; exact x7, by rw [(hE _ _ (by omega)).1]; exact x8, by rw [(hE _ _ (by omega)).1]; exact x9⟩
  · rw [e4.I (by omega) (hk _ _ (by omega))]; exact h1.2.1.1
  · rw [e4.I (by omega) (hk _ _ (by omega))]; exact h1.2.1.2.1
  · rw [e4.I (by omega) (hk _ _ (by omega))]; exact h1.2.1.2.2
  · rw [e4.K (by unfold isI at hc; omega)]; exact h1.2.2.1 c hc
theorem take_s (l : List Nat) (i : Nat) (h : i < l.length) : l.take (i + 1) = l.take i ++ [fG l i] := by
  rw [List.take_succ]
  unfold fG
  simp [List.getD, h]
theorem x_input_loop {U V tk : Nat} {m : Ma} {f6 f7 f8 : Int32} {tp li : List Nat} (hO : OKa m) (hcap : li.length + tp.length ≤ 1280) : ∀ (d i n : Nat) (A : Sx), i + d = tp.length → d < n → XQi A U V m f6 f7 f8 tp (li ++ tp.take i) tk → ∃ A', X0_input_25 n (nI i) A = rt (nI (li.length + tp.length - tk)) (pI A' 165 1 0) ∧ XQi A' U V m f6 f7 f8 tp (li ++ tp) tk ∧ gn A ≤ gn A' := by
  intro d
  induction d with
  | zero =>
    intro i n A hi hn h
    obtain ⟨n, rfl⟩ : ∃ j, n = j + 1 := ⟨n - 1, by omega⟩
    obtain rfl : i = tp.length := by omega
    rw [List.take_length] at h
    refine ⟨A, ?_, h, Nat.le_refl _⟩
    show X0_input_25b (X0_input_25 n) _ A = _
    unfold X0_input_25b X5_left
    have e1 : gI A 165 1 = nI tp.length := h.2.1.1
    have e2 : gI A 146 1 = nI (li ++ tp).length := h.2.2.1.1
    have hk := h.2.2.2.2
    rw [List.length_append] at e2 hk
    rw [e1, if_pos (nI_le (Nat.le_refl _) (by omega)), pt_e, bd_rt, gI_pI, if_neg (by omega), gI_pI, if_neg (by omega), e2, h.2.2.2.1, pk_sub hk]
  | succ d ih =>
    intro i n A hi hn h
    obtain ⟨n, rfl⟩ : ∃ j, n = j + 1 := ⟨n - 1, by omega⟩
    have hlen : (li ++ tp.take i).length = li.length + i := by rw [List.length_append, List.length_take]; omega
    obtain ⟨A1, e1, e2, e3⟩ := xqi_add (fG tp i) h hO (by rw [hlen]; omega)
    rw [List.append_assoc, ← take_s tp i (by omega)] at e2
    obtain ⟨A', g1, g2, g3⟩ := ih (i + 1) n A1 (by omega) (by omega) e2
    refine ⟨A', ?_, g2, by omega⟩
    show X0_input_25b (X0_input_25 n) _ A = _
    have hI := h.1.2.2.2.1 165 (by unfold isI; omega)
    have hc := h.1.2.2.2.cap (c := 165) (by unfold isI; omega)
    have hl2 := h.2.1.2.1
    have e8 : X8_at 165 (nI i) A = rt (nI (fG tp i)) A := by
      unfold X8_at
      rw [hI.1, dO_s hI.2.1, lI_n (show i < gN A (rowOf A 165) by unfold wOf at hl2; omega) (by unfold wOf at hc; omega), h.2.1.2.2 i (by omega)]
    unfold X0_input_25b
    rw [h.2.1.1, if_neg (nI_ge (by omega) (by omega)), e8, bd_rt, e1, bd_rt, vl_e, nI_1]
    exact g1
theorem m_input_loop {tp : List Nat} {nin : Nat} (hcap : nin + tp.length ≤ 4000) : ∀ (d i n : Nat) (B : Sx), i + d = tp.length → d < n → MT B tp → gI B 167 4 = nI nin → (∀ q, q < i → gI B 170 (nin + q) = nI (fG tp q)) → ∃ B', X12_input_19 n (nI i) B = rt (nI (nin + tp.length)) (pI (pI B' 167 4 (nI (nin + tp.length))) 167 1 0) ∧ (∀ q, q < tp.length → gI B' 170 (nin + q) = nI (fG tp q)) ∧ Sm (fun c k => c = 170 ∧ nin ≤ k) B B' := by
  intro d
  induction d with
  | zero =>
    intro i n B hi hn h1 h2 h3
    obtain ⟨n, rfl⟩ : ∃ j, n = j + 1 := ⟨n - 1, by omega⟩
    obtain rfl : i = tp.length := by omega
    refine ⟨B, ?_, h3, Sm.rfl' B⟩
    show X12_input_19b (X12_input_19 n) _ B = _
    unfold X12_input_19b
    rw [h1.1, if_pos (nI_le (Nat.le_refl _) (by omega)), pt_e, pt_e, h2, nI_add, gI_pI, if_neg (by omega), gI_pI, if_pos ⟨rfl, rfl⟩]
  | succ d ih =>
    intro i n B hi hn h1 h2 h3
    obtain ⟨n, rfl⟩ : ∃ j, n = j + 1 := ⟨n - 1, by omega⟩
    have s : Sm (fun c k => c = 170 ∧ nin ≤ k) B (pI B 170 (nin + i) (nI (fG tp i))) := Sm.pI ⟨rfl, by omega⟩
    obtain ⟨B', g1, g2, g3⟩ := ih (i + 1) n (pI B 170 (nin + i) (nI (fG tp i))) (by omega) (by omega) ⟨by rw [s.I (by omega)]; exact h1.1, fun q hq => by rw [s.I (by omega)]; exact h1.2 q hq⟩ (by rw [s.I (by omega)]; exact h2) (fun q hq => by
      rw [gI_pI]
      split
      · rename_i e; rw [show q = i by omega]
      · exact h3 q (by omega))
    refine ⟨B', ?_, g2, s.trans g3⟩
    show X12_input_19b (X12_input_19 n) _ B = _
    unfold X12_input_19b
    rw [h1.1, if_neg (nI_ge (by omega) (by omega)), lI_n (by omega) (by omega), h1.2 i (by omega), h2, nI_add, sI_n (by omega) (by omega), vl_e, nI_1]
    exact g1
theorem top_input {j : Nat} {A B : Sx} (R : Rtop j A B) (hj : j < 64) : ∃ v A1 B1, X0_input A = rt v A1 ∧ X12_input (adopt B A1) = rt v B1 ∧ Rtop (j + 1) (adopt A1 B1) B1 := by
  obtain ⟨m, tp, tot, w, f6, f7, f8, h1, h2, h3, h4, h5, h6, h7, h8, h9, h10, h11⟩ := id R
  have hF := FU_ge
  have i6 : isI 146 := by unfold isI; omega
  have i5 : isI 165 := by unfold isI; omega
  obtain ⟨li, tk, l1, l2, l3, l4, l5⟩ := XN_li h1.1.2.2.2.2.2.1 (h1.2.2.2.1 146 i6) h3 (by omega)
  have hlen : m.2.2.2.2.2.2.2.2.1.length = tot - tk := by rw [l5, List.length_map, List.length_drop, l2]
  have hXi : XQi A (U0 + 8 * j + 8 * w) (V0 + 64 * j + 4 * w) m f6 f7 f8 tp (li ++ tp.take 0) tk := by
    rw [List.take_zero, List.append_nil]
    refine ⟨?_, h2, l1, l4, by omega⟩
    rw [← l5]
    exact h1
  obtain ⟨A', e1, e2, e3⟩ := x_input_loop h7 (by omega) tp.length 0 FU A (by omega) (by omega) hXi
  have sA : Sm (fun c k => c = 165 ∧ k = 1) A' (pI A' 165 1 0) := Sm.pI ⟨rfl, rfl⟩
  have hM0 : MT (adopt B (pI A' 165 1 0)) tp := h6
  have hin : gI (adopt B (pI A' 165 1 0)) 167 4 = nI (tot - tk) := by
    show gI B 167 4 = _
    rw [← hlen]; exact h5.1.2.2.2.2.2.1.1
  obtain ⟨B', b1', b2, b3⟩ := m_input_loop (nin := tot - tk) (by omega) tp.length 0 FU (adopt B (pI A' 165 1 0)) (by omega) (by omega) hM0 hin (fun q hq => by omega)
  have sB : Sm (fun c k => (c = 170 ∧ tot - tk ≤ k) ∨ (c = 167 ∧ (k = 4 ∨ k = 1))) (adopt B (pI A' 165 1 0)) (pI (pI B' 167 4 (nI (tot - tk + tp.length))) 167 1 0) := ((b3.mono (fun c k x => Or.inl x)).trans (Sm.pI (by omega))).trans (Sm.pI (by omega))
  have hw := h5.2.2.2.1.2.2.2
  have hc : ∀ T : Sx, (nI (tot - tk) + nI tp.length ≤ 4000) := fun _ => by
    rw [nI_add]
    exact nI_le (a := tot - tk + tp.length) (b := 4000) (by omega) (by omega)
  refine ⟨nI (tot - tk + tp.length), pI A' 165 1 0, pI (pI B' 167 4 (nI (tot - tk + tp.length))) 167 1 0, ?_, ?_, ?_⟩
  · unfold X0_input X5_left
    rw [bd_rt, h3, l4, pk_sub l3, h2.1, if_pos (hc A), show (0 : Int32) = nI 0 from rfl, e1, l2, show tot + tp.length - tk = tot - tk + tp.length by omega]
    rfl
  · unfold X12_input
    rw [hin, hM0.1, if_pos (hc A)]
    exact b1'
  · have hgn : gn B ≤ gn A' := by omega
    rw [adopt_e (show gn _ = gn (pI A' 165 1 0) from sB.1) (show gu _ = gu (pI A' 165 1 0) from sB.2.1)]
    have hQ : MQq (adopt B (pI A' 165 1 0)) w m f6 f7 f8 := h5.sg (adopt_sg (P := fun _ _ => False) h10 e3) (fun c k x => x.elim)
    have hI5 := e2.1.2.2.2.1 165 i5
    have hin2 : (li ++ tp).drop tk = li.drop tk ++ tp := List.drop_append_of_le_length (by omega)
    have hOK : OKa (mIn m (((li ++ tp).drop tk).map nI)) := by
      obtain ⟨fs, o1, o2, o3, o4, o5, o6, o7⟩ := id h7
      refine ⟨fs, o1, o2, o3, o4, o5, o6, ?_⟩
      show (((li ++ tp).drop tk).map nI).length ≤ 4000
      rw [List.length_map, List.length_drop, List.length_append]
      omega
    have hcut := e2.2.1.cut (n := 0) hI5 i5 (Nat.zero_le _)
    have hsgB := sB.sg
    obtain ⟨y2, y1, y3, y4, y5, y6, y7, y8, y9⟩ := id hQ.1
    refine ⟨mIn m (((li ++ tp).drop tk).map nI), [], tot + tp.length, w, f6, f7, f8, (e2.1.sg hOK sA.sg (e2.1.2.2.2.sm sA (fun c hc x => by omega)) (fun c k x => ⟨by omega, ?_⟩)).up ?_ ?_ ?_ ?_, hcut, ?_, by simp; omega, ⟨⟨MP_back y2 sB (by intro c k; omega), y1.sm sB (by intro c k; omega), y3.sm sB (by intro c k; omega), y4.sm sB (by intro c k; omega), y5.sm sB (by intro c k; omega), ⟨?_, fun i hi => ?_⟩, by rw [sB.L (by omega)]; exact y7, by rw [sB.I (by omega)]; exact y8, by rw [sB.I (by omega)]; exact y9⟩, ⟨by rw [sB.I (by omega)]; exact hQ.2.1.1, by rw [sB.I (by omega)]; exact hQ.2.1.2.1, by rw [sB.I (by omega)]; exact hQ.2.1.2.2⟩, hQ.2.2.1.sg hsgB hQ.2.2.2.2, hQ.2.2.2.1.sg hsgB hQ.2.2.2.2 (by intro k a b; omega), by rw [sB.1]; exact hQ.2.2.2.2⟩, ⟨by rw [gI_pI, if_pos ⟨rfl, rfl⟩]; rfl, fun i hi => absurd hi (Nat.not_lt_zero _)⟩, hOK, (fun i => by unfold fG; simp), h9, sB.1.symm, sB.2.1.symm⟩
    · have := isI_row (e2.1.2.2.2.1 146 i6) i6 i5
      omega
    · omega
    · unfold U0; omega
    · omega
    · unfold V0; omega
    · rw [sA.I (by omega), e2.2.2.1.1, List.length_append, l2]
    · rw [gI_pI, if_neg (by omega), gI_pI, if_pos ⟨rfl, rfl⟩]
      show _ = nI (((li ++ tp).drop tk).map nI).length
      rw [List.length_map, List.length_drop, List.length_append, l2]
      congr 1; omega
    · have hi' : i < (((li ++ tp).drop tk).map nI).length := hi
      rw [List.length_map] at hi'
      show _ = (((li ++ tp).drop tk).map nI).getD i 0
      rw [gD_map _ _ hi', hin2]
      rw [hin2, List.length_append, List.length_drop, l2] at hi'
      rw [gI_pI, if_neg (by omega), gI_pI, if_neg (by omega)]
      by_cases hil : i < tot - tk
      · rw [b3.I (by omega)]
        have q := y6.2 i (by show i < m.2.2.2.2.2.2.2.2.1.length; omega)
        rw [q]
        have : m.2.2.2.2.2.2.2.2.1.getD i 0 = ((li.drop tk).map nI).getD i 0 := by rw [← l5]
        rw [this, gD_map _ _ (by rw [List.length_drop]; omega)]
        unfold fG
        simp only [List.getD]
        rw [List.getElem?_append_left (by rw [List.length_drop]; omega)]
      · have q := b2 (i - (tot - tk)) (by omega)
        rw [show tot - tk + (i - (tot - tk)) = i by omega] at q
        rw [q]
        unfold fG
        simp only [List.getD]
        rw [List.getElem?_append_right (by rw [List.length_drop]; omega), List.length_drop, l2]
end
section
set_option maxRecDepth 100000
/-! ===== loading ===== -/
def sOK (s : Ls) : Prop := memOK s.1 ∧ s.2.2 ≤ 65536
def s0 : Ls := (fun _ => 0, fun _ => false, 0)
theorem s0_OK : sOK s0 := ⟨fun _ => Nat.zero_lt_succ 255, Nat.zero_le _⟩
theorem inr4 {a a' b b' : Nat} {c c' : Int64} {d d' : Ls} (h : (.inr (a, b, c, d) : (Nat × Nat) ⊕ (Nat × Nat × Int64 × Ls)) = .inr (a', b', c', d')) : a = a' ∧ b = b' ∧ c = c' ∧ d = d' := by
  cases h
  exact ⟨rfl, rfl, rfl, rfl⟩
theorem ldW_ok {r k k' q : Nat} {s s' : Ls} {v v' : Int64} {n : Nat} (hs : sOK s) (hk : k + 9 ≤ n) (h : ldW r k s v = .inr (q, k', v', s')) : sOK s' ∧ k < k' ∧ k' ≤ n ∧ v' = v ∧ q = r := by
  unfold ldW at h
  by_cases c1 : r = 1 ∨ r = 6
  · rw [if_pos c1] at h
    by_cases c2 : v < 0 ∨ 65536 < v
    · rw [if_pos c2] at h; cases h
    · rw [if_neg c2] at h
      obtain ⟨e1, e2, e3, e4⟩ := inr4 h
      refine ⟨?_, by omega, by omega, e3.symm, e1.symm⟩
      rw [← e4]
      obtain ⟨a, ha, rfl⟩ := pk_lOf (fun x => c2 (Or.inl x))
      have ha3 : ¬ 65536 < a := fun x => c2 (Or.inr ((pk_lLT (a := 65536) (by omega) (by omega)).mpr x))
      rw [lN_tn (by omega)]
      split
      · exact ⟨hs.1, by show a ≤ 65536; omega⟩
      · exact hs
  · rw [if_neg c1] at h
    by_cases c2 : isA v = true ∧ v.toInt.toNat % (if r = 3 then 8 else 4) = 0
    · rw [if_pos c2] at h
      by_cases c3 : r = 3
      · rw [if_pos c3] at h
        obtain ⟨e1, e2, e3, e4⟩ := inr4 h
        exact ⟨by rw [← e4]; exact ⟨putB_OK hs.1 _ _ _, hs.2⟩, by omega, by omega, e3.symm, by omega⟩
      · rw [if_neg c3] at h
        by_cases c4 : r = 4
        · rw [if_pos c4] at h
          split at h
          · obtain ⟨e1, e2, e3, e4⟩ := inr4 h
            exact ⟨by rw [← e4]; exact ⟨putB_OK hs.1 _ _ _, hs.2⟩, by omega, by omega, e3.symm, by omega⟩
          · cases h
        · rw [if_neg c4] at h
          split at h
          · obtain ⟨e1, e2, e3, e4⟩ := inr4 h
            exact ⟨by rw [← e4]; exact ⟨putB_OK hs.1 _ _ _, hs.2⟩, by omega, by omega, e3.symm, by omega⟩
          · cases h
    · rw [if_neg c2] at h; cases h
theorem ldS_ok {f : List Nat} {k k' q : Nat} {s s' : Ls} {v' : Int64} (hf : fOK f) (hs : sOK s) (h : ldS f k s = .inr (q, k', v', s')) : sOK s' ∧ k < k' ∧ k' ≤ f.length ∧ q < 256 := by
  unfold ldS at h
  split at h
  · cases h
  · split at h
    · split at h
      · cases h
      · split at h
        · cases h
        · split at h
          · cases h
          · split at h
            · cases h
            · obtain ⟨e1, e2, e3, e4⟩ := inr4 h
              refine ⟨?_, by omega, by omega, by omega⟩
              rw [← e4]
              refine ⟨rowM_OK hs.1 (fun i => hf.2 _) _, ?_⟩
              show s.2.2 + fG f (k + 1) ≤ 65536
              omega
    · split at h
      · cases h
      · split at h
        · cases h
        · obtain ⟨a1, a2, a3, a4, a5⟩ := ldW_ok (n := f.length) hs (by omega) h
          exact ⟨a1, a2, a3, by rw [a5]; exact hf.2 k⟩
theorem ldW_f {r k c p : Nat} {s : Ls} {v : Int64} (h : ldW r k s v = .inl (c, p)) : 11 ≤ c ∧ c ≤ 14 := by
  unfold ldW at h
  by_cases c2 : isA v = true ∧ v.toInt.toNat % (if r = 3 then 8 else 4) = 0
  · rw [if_pos c2] at h
    repeat' split at h
    all_goals first
      | (cases h; omega)
      | cases h
  · rw [if_neg c2] at h
    repeat' split at h
    all_goals first
      | (cases h; omega)
      | cases h
theorem ldS_f {f : List Nat} {k c p : Nat} {s : Ls} (h : ldS f k s = .inl (c, p)) : 11 ≤ c ∧ c ≤ 14 := by
  unfold ldS at h
  repeat' split at h
  all_goals first
    | (cases h; omega)
    | cases h
    | exact ldW_f h
/-- a loading, in both -/
def LdP (A B : Sx) (r0 tg : Nat) (f : List Nat) (r r' : Rs Int64) : Prop :=
  (∃ s v A' B' k' A2, r = rt v A2 ∧ X2_settle A' = rt () A2 ∧ r' = rt v B' ∧ sOK s ∧ XL A' r0 f k' s ∧ ML B' tg f s ∧ Sm xLd A A' ∧ Sm (mLd tg) B B') ∨
  (∃ s c p A' B' k', 11 ≤ c ∧ c ≤ 14 ∧ r = th 1 (xF A' (nI c) (nI p)) ∧ r' = th (gn B') (mF B' (nI c) (nI p)) ∧ sOK s ∧ XL A' r0 f k' s ∧ ML B' tg f s ∧ Sm xLd A A' ∧ Sm (mLd tg) B B')
theorem LdP.pre {A B A1 B1 : Sx} {r0 tg : Nat} {f : List Nat} {r r' : Rs Int64} (h : LdP A1 B1 r0 tg f r r') (h1 : Sm xLd A A1) (h2 : Sm (mLd tg) B B1) : LdP A B r0 tg f r r' := by
  rcases h with ⟨s, v, A', B', k', A2, a, b, c, d, e, g, x, y⟩ | ⟨s, v, p, A', B', k', a, b, c, d, e, g, z, x, y⟩
  · exact Or.inl ⟨s, v, A', B', k', A2, a, b, c, d, e, g, h1.trans x, h2.trans y⟩
  · exact Or.inr ⟨s, v, p, A', B', k', a, b, c, d, e, g, z, h1.trans x, h2.trans y⟩
/-- X's loader behind the last record -/
theorem x_ld_end {A : Sx} {r0 n k : Nat} {f : List Nat} {s : Ls} {v : Int64} (h : XL A r0 f k s) (hf : fOK f) (hk : k ≤ f.length) : X11_load_32 (n + 1) (nI 6) v A = if k = f.length then bd (X2_settle A) (fun _ S2 => rt v S2) else th 1 (xF A 12 (nI k)) := by
  show X11_load_32b (X11_load_32 n) (nI 6) v A = _
  unfold X11_load_32b X11_load_230
  have hl := hf.1
  rw [if_pos (show nI 6 = 6 from rfl), h.a.1, h.a.2.1]
  by_cases hc : k = f.length
  · rw [if_pos hc, if_pos (by rw [hc]), xl_want1, bd_rt]
  · rw [if_neg hc, if_neg (fun x => hc ((nI_eq (by omega) (by omega)).mp x)), xl_want0 h.K, bd_th, ]
theorem x_settleL {A : Sx} {r0 k : Nat} {f : List Nat} {s : Ls} (h : XL A r0 f k s) : ∃ A2, X2_settle A = rt () A2 := by
  obtain ⟨r, b, h1, h2, h3, h4, h5, h6, h7, h8, h9, h10, h11, h12, h13, h14, h15⟩ := h
  obtain ⟨S', e, -⟩ := x_settle h14 h12
  exact ⟨S', e⟩
theorem ld_pair {r0 tg : Nat} {f : List Nat} (hf : fOK f) (hl : f.length ≤ 20000) : ∀ (d k nX nM r1 : Nat) (x4 : Int64) (A B : Sx) (s : Ls), f.length - k ≤ d → d + 1 < nX → d < nM → k ≤ f.length → ¬ r1 = 6 → r1 < 256 → XL A r0 f k s → ML B tg f s → sOK s → roomM B → LdP A B r0 tg f (X11_load_32 nX (nI r1) x4 A) (X12_records_2 nM (nI k) B) := by
  intro d
  induction d with
  | zero =>
    intro k nX nM r1 x4 A B s hd h1 h2 hk h6 h256 hX hM hs hr
    obtain ⟨nX, rfl⟩ : ∃ j, nX = j + 1 := ⟨nX - 1, by omega⟩
    obtain ⟨nM, rfl⟩ : ∃ j, nM = j + 1 := ⟨nM - 1, by omega⟩
    have a := x_ld (n := nX) (x4 := x4) hX hf hk hs.2 h6 h256
    have b := m_ld (n := nM) hM hf hl hr hk hs.2
    have e : ldS f k s = .inl (11, k) := by unfold ldS; rw [if_pos (by omega)]
    rw [e] at a b
    obtain ⟨A', k', a1, a2, a3⟩ := a
    obtain ⟨B', b1, b2, b3⟩ := b
    exact Or.inr ⟨s, 11, k, A', B', k', by omega, by omega, a1, b1, hs, a2, b2, a3, b3⟩
  | succ d ih =>
    intro k nX nM r1 x4 A B s hd h1 h2 hk h6 h256 hX hM hs hr
    obtain ⟨nX, rfl⟩ : ∃ j, nX = j + 1 := ⟨nX - 1, by omega⟩
    obtain ⟨nM, rfl⟩ : ∃ j, nM = j + 1 := ⟨nM - 1, by omega⟩
    have a := x_ld (n := nX) (x4 := x4) hX hf hk hs.2 h6 h256
    have b := m_ld (n := nM) hM hf hl hr hk hs.2
    cases e : ldS f k s with
    | inl cp =>
      obtain ⟨c, p⟩ := cp
      rw [e] at a b
      obtain ⟨A', k', a1, a2, a3⟩ := a
      obtain ⟨B', b1, b2, b3⟩ := b
      have := ldS_f e
      exact Or.inr ⟨s, c, p, A', B', k', by omega, by omega, a1, b1, hs, a2, b2, a3, b3⟩
    | inr o =>
      obtain ⟨q, k', v, s'⟩ := o
      obtain ⟨o1, o2, o3, o4⟩ := ldS_ok hf hs e
      rw [e] at a b
      obtain ⟨A', v', a1, a2, a3, a4⟩ := a
      obtain ⟨B', b1, b2, b3, b4⟩ := b
      by_cases hq : q = 6
      · subst hq
        rw [a2 (by decide)] at a1
        obtain ⟨nX, rfl⟩ : ∃ j, nX = j + 1 := ⟨nX - 1, by omega⟩
        rw [a1, b2 rfl, x_ld_end a3 hf o3]
        by_cases hc : k' = f.length
        · rw [if_pos hc, if_pos hc]
          obtain ⟨A2, e2⟩ := x_settleL a3
          rw [e2, bd_rt]
          exact Or.inl ⟨s', v, A', B', k', A2, rfl, e2, rfl, o1, a3, b3, a4, b4⟩
        · rw [if_neg hc, if_neg hc]
          exact Or.inr ⟨s', 12, k', A', B', k', by omega, by omega, rfl, rfl, o1, a3, b3, a4, b4⟩
      · rw [a1, b1 hq]
        exact (ih k' nX nM q v' A' B' s' (by omega) (by omega) (by omega) o3 hq o4 a3 b3 o1 (hr.sm b4)).pre a4 b4
end
section
set_option maxRecDepth 100000
theorem XP.b00c {S : Sx} {r : Nat} {o o' : Nat → Bool} {mem : Nat → Nat} (h : XP S (b00 r o) mem) (ho : ∀ p, p < 1024 → o p = o' p) : XP S (b00 r o') mem := by
  obtain ⟨h1, ⟨a1, a2, a3, a4, a5, a6, a7, a8⟩, h3, h4⟩ := h
  refine ⟨h1, ⟨a1, a2, a3, a4, a5, a6, a7, fun p hp => ⟨(a8 p hp).1, fun q => ?_⟩⟩, h3, h4⟩
  have := (a8 p hp).2 q
  refine ⟨this.1, ?_⟩
  show gI S 5 p = b1 (o' p)
  rw [← ho p hp]
  exact this.2
/-- the machine behind a loading; behind a failed one -/
def mLoad (m : Ma) (s : Ls) (v : Int64) : Ma := (b00 (fr m.1) s.2.1, s.1, 0, 0, fun _ => 0, fun _ => 0, fun _ => 0, [], mInp m, v, 0, 0)
def mFail (m : Ma) (s : Ls) : Ma := (b00 (fr m.1) s.2.1, s.1, m.2.2)
theorem mLoad_OK {m : Ma} {s : Ls} {v : Int64} (h : OKa m) (hs : sOK s) : OKa (mLoad m s v) := by
  obtain ⟨fs, o1, o2, o3, o4, o5, o6, o7⟩ := h
  exact ⟨[], b00_OK o1.1 o1.2.1, hs.1, Nat.zero_le _, Nat.zero_le _, rfl, Nat.zero_le _, o7⟩
theorem mFail_OK {m : Ma} {s : Ls} (h : OKa m) (hs : sOK s) : OKa (mFail m s) := by
  obtain ⟨fs, o1, o2, o3, o4, o5, o6, o7⟩ := h
  exact ⟨fs, b00_OK o1.1 o1.2.1, hs.1, o3, o4, o5, o6, o7⟩
theorem x_settleS {A : Sx} {r0 k : Nat} {f : List Nat} {s : Ls} (h : XL A r0 f k s) : ∃ A2, X2_settle A = rt () A2 ∧ XP A2 (b00 r0 s.2.1) s.1 ∧ Sm xPl A A2 := by
  obtain ⟨r, b, h1, h2, h3, h4, h5, h6, h7, h8, h9, h10, h11, h12, h13, h14, h15⟩ := h
  obtain ⟨S', e, e2, e3⟩ := x_settle h14 h12
  rw [h13] at e2
  exact ⟨S', e, e2.b00c (fun p hp => (h15 p hp).symm), e3⟩
/-- X begins a loading -/
theorem x_load_init {A : Sx} {U V c : Nat} {m : Ma} {f6 f7 f8 : Int32} {f : List Nat} (h : XQ A U V m f6 f7 f8) (hO : OKa m) (hc : isI c) (hf : XI A c f) : ∃ A5, X11_load (gR A c 0) (gI A c 1) A = X11_load_32 FU 0 0 A5 ∧ XL A5 (fr m.1) f 0 s0 ∧ Sm xLd A A5 := by
  obtain ⟨fs, o1, o2, o3, o4, o5, o6, o7⟩ := hO
  obtain ⟨i1, i2, i3, i4, i5⟩ := h.2.2.2.1 c hc
  have hcap := h.2.2.2.cap hc
  have h8 := h.2.2.2.2.2.2.2.2.2.2
  obtain ⟨x1, x2, -⟩ := id h.1
  have s1 : Sm (fun c _ => c = 164) A (pL (pI (pI (pR A 164 2 (gR A c 0)) 164 3 (gI A c 1)) 164 4 0) 164 5 0) := (((Sm.pR (P := fun c _ => c = 164) rfl).trans (Sm.pI (P := fun c _ => c = 164) rfl)).trans (Sm.pI (P := fun c _ => c = 164) rfl)).trans (Sm.pL (P := fun c _ => c = 164) rfl)
  obtain ⟨A5, a1, a2, a3⟩ := x_clear (S := pL (pI (pI (pR A 164 2 (gR A c 0)) 164 3 (gI A c 1)) 164 4 0) 164 5 0) (r := fr m.1) (x2.1.sm s1 (fun f hf => by omega)) (by rw [s1.I (by omega)]; exact x2.2.1.1)
  unfold xPl at a3
  have hr : 146 ≤ rowOf A c ∧ rowOf A c ≠ 164 := by unfold isI at hc; omega
  refine ⟨A5, ?_, ⟨rowOf A c, b00 (fr m.1) (fun _ => false), ?_, hr.1, hr.2, ?_, ?_, ?_, fun i hi => ?_, ?_, ?_, ?_, ?_, b00_OK o1.1 o1.2.1, rfl, a2, fun p hp => ?_⟩, (s1.mono (fun c k x => by unfold xLd; omega)).trans (a3.mono (fun c k x => by unfold xLd; omega))⟩
  · unfold X11_load
    rw [pt_e, pt_e, pt_e, pt_e, a1, bd_rt]
  · rw [a3.R (by omega), gR_pL, gR_pI, gR_pI, gR_pR, if_pos ⟨rfl, rfl⟩]; exact i1
  · rw [a3.K, s1.K]; exact i2
  · rw [a3.N, s1.N]; exact hf.2.1
  · rw [a3.N, s1.N]; unfold wOf at hcap; omega
  · rw [a3.I (by omega), s1.I (by omega)]; exact hf.2.2 i hi
  · rw [a3.I (by omega), gI_pL, gI_pI, if_neg (by omega), gI_pI, if_pos ⟨rfl, rfl⟩]; exact hf.1
  · rw [a3.I (by omega), gI_pL, gI_pI, if_pos ⟨rfl, rfl⟩]; rfl
  · rw [a3.L (by omega), gL_pL, if_pos ⟨rfl, rfl⟩]; rfl
  · rw [a3.K, s1.K]; exact x1
  · rw [bO_out (fun f e => by cases e)]; rfl
/-- X starts -/
theorem x_begin {A : Sx} (v : Int64) : ∃ A', X5_begin v A = rt () A' ∧ XR A' 0 0 (fun _ => 0) (fun _ => 0) ∧ XS A' (fun _ => 0) ∧ XO A' [] ∧ gL A' 138 5 = v ∧ gI A' 138 6 = 0 ∧ gI A' 138 7 = 0 ∧ Sm (fun c k => (c = 138 ∧ (k = 5 ∨ k = 6 ∨ k = 7 ∨ k = 9)) ∨ c = 139 ∨ c = 142 ∨ c = 144) A A' := by
  obtain ⟨k, S1, h1, h2, h3⟩ := loopN (F := X6_clear_2) (B := X6_clear_2b) (N := 32) (Inv := fun i T => (∀ p, p < i → gL T 142 p = 0) ∧ Sm (fun c _ => c = 142) A T) (by omega) (fun _ _ _ => rfl) (fun k i T hi ⟨a, b⟩ => by
    refine ⟨pL T 142 i 0, ?_, fun p hp => ?_, b.trans (Sm.pL rfl)⟩
    · unfold X6_clear_2b
      rw [if_neg (lit_ge hi (by omega)), sL_n hi (by omega), vl_e, nI_1]
    · rw [gL_pL]
      split
      · rfl
      · exact a p (by omega)) (S := A) ⟨(fun p hp => by omega), Sm.rfl' A⟩
  have e1 : X6_clear A = rt () (pI (pI (pI S1 139 3 0) 139 4 0) 139 5 0) := by
    unfold X6_clear
    rw [h1]
    unfold X6_clear_2b
    rw [if_pos (by decide), pt_e, pt_e, pt_e]
  have s2 : Sm (fun c _ => c = 139) S1 (pI (pI (pI S1 139 3 0) 139 4 0) 139 5 0) := ((Sm.pI (P := fun c _ => c = 139) rfl).trans (Sm.pI (P := fun c _ => c = 139) rfl)).trans (Sm.pI (P := fun c _ => c = 139) rfl)
  have k3 : gI (pI (pI (pI S1 139 3 0) 139 4 0) 139 5 0) 139 3 = 0 := by rw [gI_pI, if_neg (by omega), gI_pI, if_neg (by omega), gI_pI, if_pos ⟨rfl, rfl⟩]
  have k4 : gI (pI (pI (pI S1 139 3 0) 139 4 0) 139 5 0) 139 4 = 0 := by rw [gI_pI, if_neg (by omega), gI_pI, if_pos ⟨rfl, rfl⟩]
  have k5 : gI (pI (pI (pI S1 139 3 0) 139 4 0) 139 5 0) 139 5 = 0 := by rw [gI_pI, if_pos ⟨rfl, rfl⟩]
  generalize hS2 : pI (pI (pI S1 139 3 0) 139 4 0) 139 5 0 = S2 at *
  obtain ⟨kk, S3, g1, g2, g3⟩ := loopN (F := fun n i S => X5_begin_9 n v i S) (B := fun f i S => X5_begin_9b (fun _ i S => f i S) v i S) (N := 4) (Inv := fun i T => (∀ p, p < i → gL T 144 p = 0) ∧ Sm (fun c _ => c = 144) S2 T) (by omega) (fun _ _ _ => rfl) (fun f i T hi ⟨a, b⟩ => by
    refine ⟨pL T 144 i 0, ?_, fun p hp => ?_, b.trans (Sm.pL rfl)⟩
    · show X5_begin_9b (fun _ i S => f i S) v (nI i) T = _
      unfold X5_begin_9b
      rw [if_neg (lit_ge hi (by omega)), sL_n hi (by omega), vl_e, nI_1]
    · rw [gL_pL]
      split
      · rfl
      · exact a p (by omega)) (S := S2) ⟨(fun p hp => by omega), Sm.rfl' S2⟩
  have s4 : Sm (fun c k => c = 138 ∧ (k = 5 ∨ k = 6 ∨ k = 7 ∨ k = 9)) S3 (pI (pI (pI (pL S3 138 5 v) 138 6 0) 138 7 0) 138 9 0) := (((Sm.pL (by omega)).trans (Sm.pI (by omega))).trans (Sm.pI (by omega))).trans (Sm.pI (by omega))
  refine ⟨pI (pI (pI (pL S3 138 5 v) 138 6 0) 138 7 0) 138 9 0, ?_, ⟨?_, ?_, ⟨0, ?_, Nat.le_refl _, by omega, fun i hi => absurd hi (Nat.not_lt_zero _), fun i _ hi => by omega⟩, fun n _ hn => ?_⟩, fun k hk => ?_, ⟨?_, fun i hi => absurd hi (Nat.not_lt_zero _)⟩, ?_, ?_, ?_, ?_⟩
  · unfold X5_begin
    rw [e1, bd_rt, g1]
    show X5_begin_9b (fun _ i S => kk i S) v (nI 4) S3 = _
    unfold X5_begin_9b
    rw [if_pos (by decide), pt_e, pt_e, pt_e, pt_e]
  · rw [s4.I (by omega), g3.I (by omega), k3]; rfl
  · rw [s4.I (by omega), g3.I (by omega), k5]; rfl
  · rw [s4.I (by omega), g3.I (by omega), k4]; rfl
  · rw [s4.L (by omega), g3.L (by omega), s2.L (by omega)]; exact h2 n hn
  · rw [s4.L (by omega)]; exact g2 k hk
  · rw [gI_pI, if_pos ⟨rfl, rfl⟩]; rfl
  · rw [gL_pI, gL_pI, gL_pI, gL_pL, if_pos ⟨rfl, rfl⟩]
  · rw [gI_pI, if_neg (by omega), gI_pI, if_neg (by omega), gI_pI, if_pos ⟨rfl, rfl⟩]
  · rw [gI_pI, if_neg (by omega), gI_pI, if_pos ⟨rfl, rfl⟩]
  · exact (((h3.mono (fun c k x => by omega)).trans (s2.mono (fun c k x => by omega))).trans (g3.mono (fun c k x => by omega))).trans (s4.mono (fun c k x => by omega))
/-- X takes a file that is right -/
theorem x_take_ok {A A' A2 : Sx} {U V c k : Nat} {m : Ma} {f tp : List Nat} {s : Ls} {v : Int64} {tt : Int32} (h : XQ A U V m 0 0 (-1)) (hO : OKa m) (hc : isI c) (hT : XI A 165 tp) (ht : gI A 146 1 = tt) (hl : X11_load (gR A c 0) (gI A c 1) A = rt v A2) (hse : X2_settle A' = rt () A2) (hL : XL A' (fr m.1) f k s) (hs : Sm xLd A A') : ∃ A4, X0_take_56 (some c) A = rt 0 A4 ∧ XQ A4 U V (mLoad m s v) 1 0 (-1) ∧ XI A4 165 [] ∧ gI A4 146 1 = tt ∧ gn A4 = gn A ∧ gu A4 = gu A := by
  obtain ⟨A2', a1, a2, a3⟩ := x_settleS hL
  rw [hse] at a1
  obtain rfl : A2 = A2' := by cases a1; rfl
  obtain ⟨A3, b1', b2, b3, b4, b5, b6, b7, b8⟩ := x_begin (A := A2) v
  obtain ⟨fs, o1, o2, o3, o4, o5, o6, o7⟩ := id hO
  have hb : bOK (b00 (fr m.1) s.2.1) := b00_OK o1.1 o1.2.1
  obtain ⟨x1, x2, x3, x4, x5, x6, x7, x8, x9⟩ := id h.1
  have i5 : isI 165 := by unfold isI; omega
  have hI5 := h.2.2.2.1 165 i5
  have hI6 := h.2.2.2.1 146 (by unfold isI; omega)
  unfold xLd at hs
  unfold xPl at a3
  have s5 : Sm (fun c k => (c = 0 ∧ k = 6) ∨ (c = 165 ∧ k = 1)) A3 (pI (pI A3 0 6 1) 165 1 0) := (Sm.pI (by omega)).trans (Sm.pI (by omega))
  have sA : Sm (fun c k => (1 ≤ c ∧ c ≤ 144) ∨ c = 164 ∨ (c = 0 ∧ k = 6) ∨ (c = 165 ∧ k = 1)) A (pI (pI A3 0 6 1) 165 1 0) := (((hs.mono (fun c k x => by omega)).trans (a3.mono (fun c k x => by omega))).trans (b8.mono (fun c k x => by omega))).trans (s5.mono (fun c k x => by omega))
  have sB : Sm (fun c k => (1 ≤ c ∧ c ≤ 137) ∨ c = 164 ∨ (c = 138 ∧ (k = 5 ∨ k = 6 ∨ k = 7 ∨ k = 9)) ∨ c = 139 ∨ c = 142 ∨ c = 144 ∨ (c = 0 ∧ k = 6) ∨ (c = 165 ∧ k = 1)) A (pI (pI A3 0 6 1) 165 1 0) := (((hs.mono (fun c k x => by omega)).trans (a3.mono (fun c k x => by omega))).trans (b8.mono (fun c k x => by omega))).trans (s5.mono (fun c k x => by omega))
  have sC : Sm (fun c k => (c = 138 ∧ (k = 5 ∨ k = 6 ∨ k = 7 ∨ k = 9)) ∨ c = 139 ∨ c = 142 ∨ c = 144 ∨ (c = 0 ∧ k = 6) ∨ (c = 165 ∧ k = 1)) A2 (pI (pI A3 0 6 1) 165 1 0) := (b8.mono (fun c k x => by omega)).trans (s5.mono (fun c k x => by omega))
  refine ⟨pI (pI A3 0 6 1) 165 1 0, ?_, ⟨⟨by rw [sA.K]; exact x1, a2.sm hb sC (by intro c k; omega), b2.sm s5 (by intro c k; omega), b3.sm s5 (by intro c k; omega), b4.sm s5 (by intro c k; omega), ?_, by rw [s5.L (by omega)]; exact b5, by rw [s5.I (by omega)]; exact b6, by rw [s5.I (by omega)]; exact b7⟩, ⟨by rw [gI_pI, if_neg (by omega), gI_pI, if_pos ⟨rfl, rfl⟩], by rw [sA.I (by omega)]; exact h.2.1.2.1, by rw [sA.I (by omega)]; exact h.2.1.2.2⟩, fun c hc => by rw [sA.K]; exact h.2.2.1 c hc, h.2.2.2.sm sA (fun c hc x => by unfold isI at hc; omega)⟩, ?_, by rw [sA.I (by omega)]; exact ht, sA.1, sA.2.1⟩
  · unfold X0_take_56
    rw [dO_s (show gK A c = 8 + 6 from h.2.2.1 c hc), dO_s (show gK A c = 8 + 6 from h.2.2.1 c hc), hl, ct_rt, b1', ct_rt, pt_e]
    unfold X0_take_119
    have q : gI (pI (pI A3 0 6 1) 165 1 0) 0 6 = 1 := by rw [gI_pI, if_neg (by omega), gI_pI, if_pos ⟨rfl, rfl⟩]
    rw [pt_e, q, if_neg (by decide)]
  · -- the input
    obtain ⟨r, tot, tk, n1, n2, n3, n4, n5, n6, n7, n8, n9⟩ := x6
    have hr : rowOf A 146 = r := by unfold rowOf; rw [n1]; rfl
    have hr2 : r = 147 ∨ 192 ≤ r := by have := hI6.2.2.2.1; omega
    refine ⟨r, tot, tk, ?_, n2, ?_, ?_, ?_, n6, ?_, ?_, fun i hi => ?_⟩
    · rw [sA.R (by omega)]; exact n1
    · rw [sA.K]; exact n3
    · rw [sA.I (by omega)]; exact n4
    · rw [sB.I (by omega)]; exact n5
    · rw [sA.N]; exact n7
    · rw [sA.N]; exact n8
    · rw [sA.I (by omega)]; exact n9 i hi
  · have hT3 : XI (pI A3 0 6 1) 165 tp := by
      have s9 : Sm (fun c k => (1 ≤ c ∧ c ≤ 144) ∨ c = 164 ∨ (c = 0 ∧ k = 6)) A (pI A3 0 6 1) := (((hs.mono (fun c k x => by omega)).trans (a3.mono (fun c k x => by omega))).trans (b8.mono (fun c k x => by omega))).trans (Sm.pI (by omega))
      have := hI5.2.2.2.1
      exact hT.sm s9 ⟨by omega, by omega, fun k => by omega⟩
    have hI3 : IO (pI A3 0 6 1) 165 := by
      have s9 : Sm (fun c k => (1 ≤ c ∧ c ≤ 144) ∨ c = 164 ∨ (c = 0 ∧ k = 6)) A (pI A3 0 6 1) := (((hs.mono (fun c k x => by omega)).trans (a3.mono (fun c k x => by omega))).trans (b8.mono (fun c k x => by omega))).trans (Sm.pI (by omega))
      exact (h.2.2.2.sm s9 (fun c hc x => by unfold isI at hc; omega)).1 165 i5
    exact hT3.cut (n := 0) hI3 i5 (Nat.zero_le _)
/-- X takes a file with a fault -/
theorem x_take_f {A A' : Sx} {U V c k cc p : Nat} {m : Ma} {f tp : List Nat} {s : Ls} {tt : Int32} (h : XQ A U V m 0 0 (-1)) (hO : OKa m) (hc : isI c) (hT : XI A 165 tp) (ht : gI A 146 1 = tt) (hcc : 11 ≤ cc ∧ cc ≤ 14) (hl : X11_load (gR A c 0) (gI A c 1) A = th 1 (xF A' (nI cc) (nI p))) (hL : XL A' (fr m.1) f k s) (hs : Sm xLd A A') : ∃ A4, X0_take_56 (some c) A = rt (-1) A4 ∧ XQ A4 U V (mFail m s) 0 (nI cc) (nI p) ∧ XI A4 165 [] ∧ gI A4 146 1 = tt ∧ gn A4 = gn A ∧ gu A4 = gu A := by
  obtain ⟨g1, g2⟩ := hL.F (nI cc) (nI p)
  obtain ⟨fs, o1, o2, o3, o4, o5, o6, o7⟩ := id hO
  have hb : bOK (b00 (fr m.1) s.2.1) := b00_OK o1.1 o1.2.1
  have s1 : Sm (fun c k => c = 0 ∧ (k = 7 ∨ k = 8)) (xF A' (nI cc) (nI p)) (pI (pI (xF A' (nI cc) (nI p)) 0 7 (nI cc)) 0 8 (nI p)) := (Sm.pI (by omega)).trans (Sm.pI (by omega))
  have hL2 : XL (pI (pI (xF A' (nI cc) (nI p)) 0 7 (nI cc)) 0 8 (nI p)) (fr m.1) f k s := by
    obtain ⟨r, b, h1, h2, h3, h4, h5, h6, h7, h8, h9, h10, h11, h12, h13, h14, h15⟩ := g1
    exact ⟨r, b, by rw [s1.R (by omega)]; exact h1, h2, h3, by rw [s1.K]; exact h4, by rw [s1.N]; exact h5, by rw [s1.N]; exact h6, fun i hi => by rw [s1.I (by omega)]; exact h7 i hi, by rw [s1.I (by omega)]; exact h8, by rw [s1.I (by omega)]; exact h9, by rw [s1.L (by omega)]; exact h10, by rw [s1.K]; exact h11, h12, h13, h14.sm h12 s1 (by intro c k; omega), h15⟩
  obtain ⟨A3, a1, a2, a3⟩ := x_settleS hL2
  obtain ⟨x1, x2, x3, x4, x5, x6, x7, x8, x9⟩ := id h.1
  have i5 : isI 165 := by unfold isI; omega
  have hI5 := h.2.2.2.1 165 i5
  have hI6 := h.2.2.2.1 146 (by unfold isI; omega)
  unfold xLd at hs g2
  unfold xPl at a3
  have s9 : Sm (fun c k => (1 ≤ c ∧ c ≤ 137) ∨ c = 164 ∨ (c = 0 ∧ (k = 7 ∨ k = 8))) A A3 := (((hs.mono (fun c k x => by omega)).trans (g2.mono (fun c k x => by omega))).trans (s1.mono (fun c k x => by omega))).trans (a3.mono (fun c k x => by omega))
  have s5 : Sm (fun c k => c = 165 ∧ k = 1) A3 (pI A3 165 1 0) := Sm.pI ⟨rfl, rfl⟩
  have sA : Sm (fun c k => (1 ≤ c ∧ c ≤ 137) ∨ c = 164 ∨ (c = 0 ∧ (k = 7 ∨ k = 8)) ∨ (c = 165 ∧ k = 1)) A (pI A3 165 1 0) := (s9.mono (fun c k x => by omega)).trans (s5.mono (fun c k x => by omega))
  have q7 : gI A3 0 7 = nI cc := by rw [a3.I (by omega), gI_pI, if_neg (by omega), gI_pI, if_pos ⟨rfl, rfl⟩]
  have q8 : gI A3 0 8 = nI p := by rw [a3.I (by omega), gI_pI, if_pos ⟨rfl, rfl⟩]
  have q6 : gI A3 0 6 = 0 := by rw [s9.I (by omega)]; exact h.2.1.1
  refine ⟨pI A3 165 1 0, ?_, ⟨⟨by rw [sA.K]; exact x1, a2.sm hb s5 (by intro c k; omega), x3.sm sA (by intro c k; omega), x4.sm sA (by intro c k; omega), x5.sm sA (by intro c k; omega), ?_, by rw [sA.L (by omega)]; exact x7, by rw [sA.I (by omega)]; exact x8, by rw [sA.I (by omega)]; exact x9⟩, ⟨by rw [s5.I (by omega)]; exact q6, by rw [s5.I (by omega)]; exact q7, by rw [s5.I (by omega)]; exact q8⟩, fun c hc => by rw [sA.K]; exact h.2.2.1 c hc, h.2.2.2.sm sA (fun c hc x => by unfold isI at hc; omega)⟩, ?_, by rw [sA.I (by omega)]; exact ht, sA.1, sA.2.1⟩
  · unfold X0_take_56
    have k1 : gK (xF A' (nI cc) (nI p)) 1 = 1 + 6 := g1.K
    rw [dO_s (show gK A c = 8 + 6 from h.2.2.1 c hc), dO_s (show gK A c = 8 + 6 from h.2.2.1 c hc), hl, ct_th, kd_e k1]
    unfold X0_take_86
    have u1 : gI (pI (xF A' (nI cc) (nI p)) 0 7 (nI cc)) 1 7 = nI p := by rw [gI_pI, if_neg (by omega), xF_7]
    have u2 : gI (pI (pI (xF A' (nI cc) (nI p)) 0 7 (nI cc)) 0 8 (nI p)) 0 7 = nI cc := by rw [gI_pI, if_neg (by omega), gI_pI, if_pos ⟨rfl, rfl⟩]
    rw [kd_e k1, pt_e, xF_6, kd_e (show gK (pI (xF A' (nI cc) (nI p)) 0 7 (nI cc)) 1 = 1 + 6 from k1), pt_e, u1, u2, if_neg (show ¬ nI cc ≤ 10 from nI_ge (a := 10) (b := cc) (by omega) (by omega)), a1, bd_rt]
    unfold X0_take_119
    have u3 : gI (pI A3 165 1 0) 0 6 = 0 := by rw [gI_pI, if_neg (by omega), q6]
    rw [pt_e, u3, if_pos rfl]
  · obtain ⟨r, tot, tk, n1, n2, n3, n4, n5, n6, n7, n8, n9⟩ := x6
    have hr : rowOf A 146 = r := by unfold rowOf; rw [n1]; rfl
    have hr2 : r = 147 ∨ 192 ≤ r := by have := hI6.2.2.2.1; omega
    refine ⟨r, tot, tk, ?_, n2, ?_, ?_, ?_, n6, ?_, ?_, fun i hi => ?_⟩
    · rw [sA.R (by omega)]; exact n1
    · rw [sA.K]; exact n3
    · rw [sA.I (by omega)]; exact n4
    · rw [sA.I (by omega)]; exact n5
    · rw [sA.N]; exact n7
    · rw [sA.N]; exact n8
    · rw [sA.I (by omega)]; exact n9 i hi
  · have hT3 : XI A3 165 tp := by
      have := hI5.2.2.2.1
      exact hT.sm s9 ⟨by omega, by omega, fun k => by omega⟩
    have hI3 : IO A3 165 := (h.2.2.2.sm s9 (fun c hc x => by unfold isI at hc; omega)).1 165 i5
    exact hT3.cut (n := 0) hI3 i5 (Nat.zero_le _)
end
section
set_option maxRecDepth 100000
def mBg (tg c k : Nat) : Prop := (c = 167 ∧ (k = 37 ∨ k = 38 ∨ k = 5 ∨ k = 6)) ∨ c = tg ∨ c = 182
theorem m_begin {B : Sx} {tg : Nat} {tp : List Nat} (htg : tg = 169 ∨ tg = 183) (hK : gK B tg = 1) (hN : gN B tg = 65536) (hT : MT B tp) : ∃ B', X12_begin (some tg) B = rt () B' ∧ ML B' tg tp s0 ∧ gI B' 167 5 = 0 ∧ gI B' 167 6 = -1 ∧ Sm (mBg tg) B B' := by
  have t1 : Sm (fun c k => c = 167 ∧ k = 37) B (pR B 167 37 (some tg)) := Sm.pR ⟨rfl, rfl⟩
  obtain ⟨kk, S1, d1, d2, d3⟩ := loopN (F := fun n i S => X12_begin_7 n (some tg) i S) (B := fun f i S => X12_begin_7b (fun _ i S => f i S) (some tg) i S) (N := 65536) (Inv := fun i T => (∀ p, p < i → gI T tg p = 0) ∧ Sm (fun c _ => c = tg) (pR B 167 37 (some tg)) T) (by omega) (fun _ _ _ => rfl) (fun f i T hi ⟨p, q⟩ => by
    refine ⟨pI T tg i 0, ?_, fun x hx => ?_, q.trans (Sm.pI rfl)⟩
    · show X12_begin_7b (fun _ i S => f i S) (some tg) (nI i) T = _
      unfold X12_begin_7b
      rw [if_neg (lit_ge hi (by omega)), dO_s (show gK T tg = 1 by rw [q.K]; exact hK), show gN T tg = 65536 by rw [q.N]; exact hN, sI_n hi (by omega), vl_e, nI_1]
    · rw [gI_pI]
      split
      · rfl
      · exact p x (by omega)) (S := pR B 167 37 (some tg)) ⟨(fun p hp => by omega), Sm.rfl' _⟩
  obtain ⟨k2, S2, g1, g2, g3⟩ := loopN (F := X12_begin_25) (B := X12_begin_25b) (N := 1024) (Inv := fun i T => (∀ p, p < i → gI T 182 p = 0) ∧ Sm (fun c _ => c = 182) S1 T) (by omega) (fun _ _ _ => rfl) (fun f i T hi ⟨p, q⟩ => by
    refine ⟨pI T 182 i 0, ?_, fun x hx => ?_, q.trans (Sm.pI rfl)⟩
    · unfold X12_begin_25b
      rw [if_neg (lit_ge hi (by omega)), sI_n hi (by omega), nz_0, vl_e, nI_1]
    · rw [gI_pI]
      split
      · rfl
      · exact p x (by omega)) (S := S1) ⟨(fun p hp => by omega), Sm.rfl' _⟩
  have t4 : Sm (fun c k => c = 167 ∧ (k = 38 ∨ k = 5 ∨ k = 6)) S2 (pI (pI (pL S2 167 38 0) 167 5 0) 167 6 (-1)) := ((Sm.pL (by omega)).trans (Sm.pI (by omega))).trans (Sm.pI (by omega))
  have tA : Sm (mBg tg) B (pI (pI (pL S2 167 38 0) 167 5 0) 167 6 (-1)) := (((t1.mono (fun c k x => by unfold mBg; omega)).trans (d3.mono (fun c k x => by unfold mBg; omega))).trans (g3.mono (fun c k x => by unfold mBg; omega))).trans (t4.mono (fun c k x => by unfold mBg; omega))
  refine ⟨_, ?_, ⟨?_, ?_, ?_, htg, fun a ha => ?_, fun p hp => ?_, ?_, ?_, fun i hi => ?_⟩, ?_, ?_, tA⟩
  · unfold X12_begin
    rw [pt_e, d1]
    show X12_begin_7b (fun _ i S => kk i S) (some tg) (nI 65536) S1 = _
    unfold X12_begin_7b
    rw [if_pos (by decide), g1]
    unfold X12_begin_25b
    rw [if_pos (by decide), pt_e, pt_e, pt_e]
  · rw [t4.R (by omega), g3.R (by omega), d3.R (by omega), gR_pR, if_pos ⟨rfl, rfl⟩]
  · rw [tA.K]; exact hK
  · rw [tA.N]; exact hN
  · rw [t4.I (by omega), g3.I (by omega), d2 a ha]; rfl
  · rw [t4.I (by omega), g2 p hp]; rfl
  · rw [gL_pI, gL_pI, gL_pL, if_pos ⟨rfl, rfl⟩]; rfl
  · rw [t4.I (by omega), g3.I (by omega), d3.I (by omega), t1.I (by omega)]; exact hT.1
  · rw [t4.I (by omega), g3.I (by omega), d3.I (by omega), t1.I (by omega)]; exact hT.2 i hi
  · rw [gI_pI, if_neg (by omega), gI_pI, if_pos ⟨rfl, rfl⟩]
  · rw [gI_pI, if_pos ⟨rfl, rfl⟩]
def mSr (c k : Nat) : Prop := (c = 167 ∧ (k = 7 ∨ (11 ≤ k ∧ k ≤ 14) ∨ k = 16 ∨ k = 23 ∨ (25 ≤ k ∧ k ≤ 29))) ∨ c = 171 ∨ c = 172 ∨ (175 ≤ c ∧ c ≤ 179)
/-- M starts -/
theorem m_start {B : Sx} {m : Ma} {s : Ls} (v : Int64) (hr : gI B 167 17 = nI (fr m.1)) (ho : ∀ p, p < 1024 → gI B 182 p = b1 (s.2.1 p)) (hm : ∀ a, a < 65536 → gI B 169 a = nI (s.1 a)) (hin : MN B (mInp m)) : ∃ B', X12_start v B = rt () B' ∧ MMa B' (mLoad m s v) ∧ gI B' 167 7 = 1 ∧ Sm mSr B B' := by
  obtain ⟨S1, e1, e2, e3⟩ := m_settle (r := fr m.1) (o := s.2.1) hr ho
  unfold fPl at e3
  have t1 : Sm (fun c k => c = 167 ∧ k = 7) S1 (pI S1 167 7 1) := Sm.pI ⟨rfl, rfl⟩
  obtain ⟨kk, S2, d1, d2, d3⟩ := loopN (F := fun n i S => X12_start_11 n v i S) (B := fun f i S => X12_start_11b (fun _ i S => f i S) v i S) (N := 32) (Inv := fun i T => (∀ p, p < i → gL T 171 p = 0) ∧ Sm (fun c _ => c = 171) (pI S1 167 7 1) T) (by omega) (fun _ _ _ => rfl) (fun f i T hi ⟨p, q⟩ => by
    refine ⟨pL T 171 i 0, ?_, fun x hx => ?_, q.trans (Sm.pL rfl)⟩
    · show X12_start_11b (fun _ i S => f i S) v (nI i) T = _
      unfold X12_start_11b
      rw [if_neg (lit_ge hi (by omega)), sL_n hi (by omega), vl_e, nI_1]
    · rw [gL_pL]
      split
      · rfl
      · exact p x (by omega)) (S := pI S1 167 7 1) ⟨(fun p hp => by omega), Sm.rfl' _⟩
  obtain ⟨k2, S3, g1, g2, g3⟩ := loopN (F := fun n i S => X12_start_32 n v i S) (B := fun f i S => X12_start_32b (fun _ i S => f i S) v i S) (N := 5) (Inv := fun i T => (∀ p, p < i → gL T 172 p = 0) ∧ Sm (fun c _ => c = 172) S2 T) (by omega) (fun _ _ _ => rfl) (fun f i T hi ⟨p, q⟩ => by
    refine ⟨pL T 172 i 0, ?_, fun x hx => ?_, q.trans (Sm.pL rfl)⟩
    · show X12_start_32b (fun _ i S => f i S) v (nI i) T = _
      unfold X12_start_32b
      rw [if_neg (lit_ge hi (by omega)), sL_n hi (by omega), vl_e, nI_1]
    · rw [gL_pL]
      split
      · rfl
      · exact p x (by omega)) (S := S2) ⟨(fun p hp => by omega), Sm.rfl' _⟩
  have t4 : Sm (fun c k => c = 167 ∧ ((11 ≤ k ∧ k ≤ 14) ∨ k = 16)) S3 (pI (pI (pI (pL (pI S3 167 11 0) 167 12 v) 167 13 0) 167 14 0) 167 16 0) := ((((Sm.pI (by omega)).trans (Sm.pL (by omega))).trans (Sm.pI (by omega))).trans (Sm.pI (by omega))).trans (Sm.pI (by omega))
  have tA : Sm mSr B (pI (pI (pI (pL (pI S3 167 11 0) 167 12 v) 167 13 0) 167 14 0) 167 16 0) := ((((e3.mono (fun c k x => by unfold mSr; omega)).trans (t1.mono (fun c k x => by unfold mSr; omega))).trans (d3.mono (fun c k x => by unfold mSr; omega))).trans (g3.mono (fun c k x => by unfold mSr; omega))).trans (t4.mono (fun c k x => by unfold mSr; omega))
  have tB : Sm (fun c k => (c = 167 ∧ (k = 7 ∨ (11 ≤ k ∧ k ≤ 14) ∨ k = 16)) ∨ c = 171 ∨ c = 172) S1 (pI (pI (pI (pL (pI S3 167 11 0) 167 12 v) 167 13 0) 167 14 0) 167 16 0) := (((t1.mono (fun c k x => by omega)).trans (d3.mono (fun c k x => by omega))).trans (g3.mono (fun c k x => by omega))).trans (t4.mono (fun c k x => by omega))
  refine ⟨_, ?_, ⟨MP_back e2 tB (by intro c k; omega), fun a ha => ?_, ⟨?_, ?_, fun i hi => absurd hi (Nat.not_lt_zero _), fun i hi => absurd hi (Nat.not_lt_zero _), fun n _ hn => ?_⟩, fun k hk => ?_, ⟨?_, fun i hi => absurd hi (Nat.not_lt_zero _)⟩, hin.sm tA (by unfold mSr; intro c k; omega), ?_, ?_, ?_⟩, ?_, tA⟩
  · unfold X12_start
    rw [e1, bd_rt, pt_e, d1]
    show X12_start_11b (fun _ i S => kk i S) v (nI 32) S2 = _
    unfold X12_start_11b
    rw [if_pos (by decide), g1]
    show X12_start_32b (fun _ i S => k2 i S) v (nI 5) S3 = _
    unfold X12_start_32b
    rw [if_pos (by decide), pt_e, pt_e, pt_e, pt_e, pt_e]
  · rw [tA.I (by unfold mSr; omega)]; exact hm a ha
  · rw [gI_pI, if_neg (by omega), gI_pI, if_neg (by omega), gI_pI, if_neg (by omega), gI_pL, gI_pI, if_pos ⟨rfl, rfl⟩]; rfl
  · rw [t4.L (by omega), g2 4 (by omega)]; rfl
  · rw [t4.L (by omega), g3.L (by omega)]; exact d2 n hn
  · rw [t4.L (by omega)]; exact g2 k (by omega)
  · rw [gI_pI, if_pos ⟨rfl, rfl⟩]; rfl
  · rw [gL_pI, gL_pI, gL_pI, gL_pL, if_pos ⟨rfl, rfl⟩]; rfl
  · rw [gI_pI, if_neg (by omega), gI_pI, if_pos ⟨rfl, rfl⟩]; rfl
  · rw [gI_pI, if_neg (by omega), gI_pI, if_neg (by omega), gI_pI, if_pos ⟨rfl, rfl⟩]; rfl
  · rw [t4.I (by omega), g3.I (by omega), d3.I (by omega), gI_pI, if_pos ⟨rfl, rfl⟩]
/-- X's three flags -/
theorem XQ.fl {A : Sx} {U V : Nat} {m : Ma} {f6 f7 f8 : Int32} (h : XQ A U V m f6 f7 f8) (hO : OKa m) (g6 g7 g8 : Int32) : XQ (pI (pI (pI A 0 6 g6) 0 7 g7) 0 8 g8) U V m g6 g7 g8 ∧ Sm (fun c _ => c = 0) A (pI (pI (pI A 0 6 g6) 0 7 g7) 0 8 g8) := by
  have s : Sm (fun c _ => c = 0) A (pI (pI (pI A 0 6 g6) 0 7 g7) 0 8 g8) := ((Sm.pI (P := fun c _ => c = 0) rfl).trans (Sm.pI (P := fun c _ => c = 0) rfl)).trans (Sm.pI (P := fun c _ => c = 0) rfl)
  obtain ⟨fs, o1, -⟩ := hO
  obtain ⟨⟨h1, h2, h3, h4, h5, h6, h7, h8, h9⟩, -, k, g⟩ := h
  refine ⟨⟨⟨by rw [s.K]; exact h1, h2.sm o1 s (by intro c k; omega), h3.sm s (by intro c k; omega), h4.sm s (by intro c k; omega), h5.sm s (by intro c k; omega), h6.sm s (by intro c k; omega), by rw [s.L (by omega)]; exact h7, by rw [s.I (by omega)]; exact h8, by rw [s.I (by omega)]; exact h9⟩, ⟨?_, ?_, ?_⟩, fun c hc => by rw [s.K]; exact k c hc, g.sm s (fun c hc x => by unfold isI at hc; omega)⟩, s⟩
  · rw [gI_pI, if_neg (by omega), gI_pI, if_neg (by omega), gI_pI, if_pos ⟨rfl, rfl⟩]
  · rw [gI_pI, if_neg (by omega), gI_pI, if_pos ⟨rfl, rfl⟩]
  · rw [gI_pI, if_pos ⟨rfl, rfl⟩]
theorem bd_id {α : Type} (r : Rs α) : bd r (fun v1 S1 => rt v1 S1) = r := by
  cases r with
  | none => rfl
  | some q => obtain ⟨q, S⟩ := q; cases q <;> rfl
theorem top_load {j : Nat} {A B : Sx} (R : Rtop j A B) (hj : j < 64) : ∃ v A1 B1, X0_load A = rt v A1 ∧ X12_load (adopt B A1) = rt v B1 ∧ Rtop (j + 1) (adopt A1 B1) B1 := by
  obtain ⟨m, tp, tot, w, f6, f7, f8, h1, h2, h3, h4, h5, h6, h7, h8, h9, h10, h11⟩ := id R
  have hF := FU_ge
  have i5 : isI 165 := by unfold isI; omega
  have hw := h5.2.2.2.1.2.2.2
  have hg := h5.2.2.2.2
  have hrB : roomM B := by
    have := h1.2.2.2.room
    unfold roomM at this ⊢
    omega
  obtain ⟨fs, o1, o2, o3, o4, o5, o6, o7⟩ := id h7
  -- X
  obtain ⟨q1, s1⟩ := h1.fl h7 0 0 (-1)
  generalize hA3 : pI (pI (pI A 0 6 0) 0 7 0) 0 8 (-1) = A3 at q1 s1
  have hI5 := h1.2.2.2.1 165 i5
  have hT3 : XI A3 165 tp := h2.sm s1 ⟨by omega, by omega, fun k => by have := hI5.2.2.2.1; omega⟩
  have ht3 : gI A3 146 1 = nI tot := by rw [s1.I (by omega)]; exact h3
  have eX : X0_load A = X0_take_56 (some 165) A3 := by
    unfold X0_load X0_take
    rw [pt_e, pt_e, pt_e, if_pos rfl, bd_id, hA3]
  obtain ⟨A5, a1, a2, a3⟩ := x_load_init q1 h7 i5 hT3
  have hf : fOK tp := ⟨by omega, h8⟩
  -- M
  obtain ⟨B1, b1', b2, b3, b4, b5⟩ := m_begin (B := B) (tp := tp) (Or.inl rfl) h5.2.2.1.1 h5.2.2.1.2.1 h6
  have t2 : Sm (fun c k => c = 167 ∧ k = 7) B1 (pI B1 167 7 0) := Sm.pI ⟨rfl, rfl⟩
  have hML : ML (pI B1 167 7 0) 169 tp s0 := by
    obtain ⟨z1, z2, z3, z4, z5, z6, z7, z8, z9⟩ := b2
    exact ⟨z1, z2, z3, z4, fun a ha => by rw [t2.I (by omega)]; exact z5 a ha, fun p hp => by rw [t2.I (by omega)]; exact z6 p hp, z7, by rw [t2.I (by omega)]; exact z8, fun i hi => by rw [t2.I (by omega)]; exact z9 i hi⟩
  have sB2 : Sm (fun c k => (c = 167 ∧ (k = 37 ∨ k = 38 ∨ k = 5 ∨ k = 6 ∨ k = 7)) ∨ c = 169 ∨ c = 182) B (pI B1 167 7 0) := (b5.mono (fun c k x => by unfold mBg at x; omega)).trans (t2.mono (fun c k x => by omega))
  have hp := ld_pair (r0 := fr m.1) (tg := 169) hf (by omega) tp.length 0 FU FU 0 0 A5 (pI B1 167 7 0) s0 (by omega) (by omega) (by omega) (by omega) (by omega) (by omega) a2 hML s0_OK (hrB.sm sB2)
  have hgn : ∀ T : Sx, gn T = gn A → gn T = gn B := fun T e => e.trans h10
  rcases hp with ⟨s, v, A', B', k', A2, p1, p2, p3, p4, p5, p6, p7, p8⟩ | ⟨s, c, p, A', B', k', c1, c2, p1, p3, p4, p5, p6, p7, p8⟩
  · obtain ⟨A4, r1, r2, r3, r4, r5, r6⟩ := x_take_ok (k := k') q1 h7 i5 hT3 ht3 (a1.trans p1) p2 p5 (a3.trans p7)
    have sB3 : Sm (fun c k => (c = 167 ∧ (k = 37 ∨ k = 38 ∨ k = 5 ∨ k = 6 ∨ k = 7)) ∨ c = 169 ∨ c = 182) B B' := sB2.trans (p8.mono (fun c k x => by unfold mLd at x; omega))
    obtain ⟨B4, u1, u2, u3, u4⟩ := m_start (B := B') (m := m) (s := s) v (by rw [sB3.I (by omega)]; exact h5.1.1.1) p6.2.2.2.2.2.1 p6.2.2.2.2.1 (h5.1.2.2.2.2.2.1.sm sB3 (by intro c k; omega))
    have eM : X12_load B = rt 0 (pI B4 167 1 0) := by
      unfold X12_load
      replace p3 : X12_records (pI B1 167 7 0) = rt v B' := p3
      rw [b1', bd_rt, pt_e, p3, ct_rt, u1, ct_rt]
      unfold X12_load_45
      have q : gI (pI B4 167 1 0) 167 7 = 1 := by rw [gI_pI, if_neg (by omega), u3]
      rw [pt_e, q, if_neg (by decide)]
    have s5 : Sm (fun c k => c = 167 ∧ k = 1) B4 (pI B4 167 1 0) := Sm.pI ⟨rfl, rfl⟩
    unfold mSr at u4
    have sB5 : Sm (fun c k => (c = 167 ∧ (k = 37 ∨ k = 38 ∨ k = 5 ∨ k = 6 ∨ k = 7 ∨ k = 1 ∨ (11 ≤ k ∧ k ≤ 14) ∨ k = 16 ∨ k = 23 ∨ (25 ≤ k ∧ k ≤ 29))) ∨ c = 169 ∨ c = 182 ∨ c = 171 ∨ c = 172 ∨ (175 ≤ c ∧ c ≤ 179)) B (pI B4 167 1 0) := ((sB3.mono (fun c k x => by omega)).trans (u4.mono (fun c k x => by omega))).trans (s5.mono (fun c k x => by omega))
    have s56 : gI B4 167 5 = 0 ∧ gI B4 167 6 = -1 := by
      unfold mLd at p8
      constructor
      · rw [u4.I (by omega), p8.I (by omega), t2.I (by omega)]; exact b3
      · rw [u4.I (by omega), p8.I (by omega), t2.I (by omega)]; exact b4
    refine ⟨0, A4, pI B4 167 1 0, by rw [eX]; exact r1, ?_, ?_⟩
    · rw [adopt_e (by rw [r5, s1.1]; exact h10) (by rw [r6, s1.2.1]; exact h11)]; exact eM
    · rw [adopt_e (by rw [sB5.1, r5, s1.1]; exact h10.symm) (by rw [sB5.2.1, r6, s1.2.1]; exact h11.symm)]
      refine ⟨mLoad m s v, [], tot, w, 1, 0, -1, r2.up ?_ ?_ ?_ ?_, r3, r4, by simp; omega, ⟨u2.sm s5 (fun c k x => by omega), ⟨by rw [s5.I (by omega)]; exact u3, by rw [s5.I (by omega)]; exact s56.1, by rw [s5.I (by omega)]; exact s56.2⟩, h5.2.2.1.sg sB5.sg hg, h5.2.2.2.1.sg sB5.sg hg (by intro k a b; omega), by rw [sB5.1]; exact hg⟩, ⟨by rw [gI_pI, if_pos ⟨rfl, rfl⟩]; rfl, fun i hi => absurd hi (Nat.not_lt_zero _)⟩, mLoad_OK h7 p4, (fun i => by unfold fG; simp), Or.inr rfl, by rw [sB5.1, r5, s1.1]; exact h10, by rw [sB5.2.1, r6, s1.2.1]; exact h11⟩
      all_goals unfold U0 V0 at *
      all_goals omega
  · obtain ⟨A4, r1, r2, r3, r4, r5, r6⟩ := x_take_f (k := k') q1 h7 i5 hT3 ht3 ⟨c1, c2⟩ (a1.trans p1) p5 (a3.trans p7)
    have sB3 : Sm (fun c k => (c = 167 ∧ (k = 37 ∨ k = 38 ∨ k = 5 ∨ k = 6 ∨ k = 7)) ∨ c = 169 ∨ c = 182) B B' := sB2.trans (p8.mono (fun c k x => by unfold mLd at x; omega))
    have hgB' : 192 ≤ gn B' := by rw [sB3.1]; exact hg
    have sF : Sg (fun _ _ => False) B' (mF B' (nI c) (nI p)) := mF_sg B' (nI c) (nI p)
    have s2 : Sm (fun c k => c = 167 ∧ (k = 5 ∨ k = 6)) (mF B' (nI c) (nI p)) (pI (pI (mF B' (nI c) (nI p)) 167 5 (nI c)) 167 6 (nI p)) := (Sm.pI (by omega)).trans (Sm.pI (by omega))
    obtain ⟨B4, u1, u2, u3⟩ := m_settle (S := pI (pI (mF B' (nI c) (nI p)) 167 5 (nI c)) 167 6 (nI p)) (r := fr m.1) (o := s.2.1) (by rw [s2.I (by omega), sF.I (by omega) id, sB3.I (by omega)]; exact h5.1.1.1) (fun q hq => by rw [s2.I (by omega), sF.I (by omega) id]; exact p6.2.2.2.2.2.1 q hq)
    unfold fPl at u3
    have s5 : Sm (fun c k => c = 167 ∧ k = 1) B4 (pI B4 167 1 0) := Sm.pI ⟨rfl, rfl⟩
    have g2 : Sg (fun c k => (c = 167 ∧ (k = 37 ∨ k = 38 ∨ k = 5 ∨ k = 6 ∨ k = 7 ∨ k = 1 ∨ k = 23 ∨ (25 ≤ k ∧ k ≤ 29))) ∨ c = 169 ∨ c = 182 ∨ (175 ≤ c ∧ c ≤ 179)) B (pI B4 167 1 0) := ((((sB3.mono (fun c k x => by omega)).sg.trans (sF.mono (fun c k x => x.elim))).trans (s2.mono (fun c k x => by omega)).sg).trans (u3.mono (fun c k x => by omega)).sg).trans (s5.mono (fun c k x => by omega)).sg
    have x5 : gI B4 167 5 = nI c := by rw [u3.I (by omega), gI_pI, if_neg (by omega), gI_pI, if_pos ⟨rfl, rfl⟩]
    have x6 : gI B4 167 6 = nI p := by rw [u3.I (by omega), gI_pI, if_pos ⟨rfl, rfl⟩]
    have x7 : gI B4 167 7 = 0 := by
      unfold mLd at p8
      rw [u3.I (by omega), s2.I (by omega), sF.I (by omega) id, p8.I (by omega), gI_pI, if_pos ⟨rfl, rfl⟩]
    have eM : X12_load B = rt (-1) (pI B4 167 1 0) := by
      unfold X12_load
      replace p3 : X12_records (pI B1 167 7 0) = th (gn B') (mF B' (nI c) (nI p)) := p3
      have k1 : gK (mF B' (nI c) (nI p)) (gn B') = 13 + 6 := mF_K _ _ _
      rw [b1', bd_rt, pt_e, p3, ct_th, kd_e k1]
      unfold X12_load_24
      have v1 : gI (pI (mF B' (nI c) (nI p)) 167 5 (nI c)) (gn B') 7 = nI p := by rw [gI_pI, if_neg (by omega), mF_7]
      rw [kd_e k1, pt_e, mF_6, kd_e (show gK (pI (mF B' (nI c) (nI p)) 167 5 (nI c)) (gn B') = 13 + 6 from k1), pt_e, v1, u1, bd_rt]
      unfold X12_load_45
      have q : gI (pI B4 167 1 0) 167 7 = 0 := by rw [gI_pI, if_neg (by omega), x7]
      rw [pt_e, q, if_pos rfl]
    have n1 : gn (pI B4 167 1 0) = gn B + 1 := by rw [gn_pI, u3.1, s2.1, mF_gn, sB3.1]
    have n2 : gu (pI B4 167 1 0) = gu B + 8 := by rw [gu_pI, u3.2.1, s2.2.1, mF_gu, sB3.2.1]
    have n3 : gn A4 = gn B := by rw [r5, s1.1]; exact h10
    have n4 : gu A4 = gu B := by rw [r6, s1.2.1]; exact h11
    obtain ⟨y2, y1, y3, y4, y5, y6, y7, y8, y9⟩ := id h5.1
    have gE : ∀ c k, c < 192 → ¬ ((c = 167 ∧ (k = 37 ∨ k = 38 ∨ k = 5 ∨ k = 6 ∨ k = 7 ∨ k = 1 ∨ k = 23 ∨ (25 ≤ k ∧ k ≤ 29))) ∨ c = 169 ∨ c = 182 ∨ (175 ≤ c ∧ c ≤ 179)) → gI (pI B4 167 1 0) c k = gI B c k ∧ gL (pI B4 167 1 0) c k = gL B c k := fun c k hc hn => ⟨g2.I (by omega) hn, g2.L (by omega) hn⟩
    have sE : Sm (fun c k => ((c = 167 ∧ (k = 37 ∨ k = 38 ∨ k = 5 ∨ k = 6 ∨ k = 7 ∨ k = 1 ∨ k = 23 ∨ (25 ≤ k ∧ k ≤ 29))) ∨ c = 169 ∨ c = 182 ∨ (175 ≤ c ∧ c ≤ 179)) ∨ 192 ≤ c) B (B.1, B.2.1, B.2.2.1, B.2.2.2.1, (pI B4 167 1 0).2.2.2.2.1, (pI B4 167 1 0).2.2.2.2.2.1, B.2.2.2.2.2.2) := ⟨rfl, rfl, fun _ => rfl, fun _ => rfl, fun c k q => ⟨(gE c k (by omega) (fun x => q (Or.inl x))).1, (gE c k (by omega) (fun x => q (Or.inl x))).2, rfl⟩⟩
    refine ⟨-1, A4, pI B4 167 1 0, by rw [eX]; exact r1, ?_, ?_⟩
    · rw [adopt_e n3 n4]; exact eM
    · refine ⟨mFail m s, [], tot, w, 0, nI c, nI p, ⟨r2.1, r2.2.1, r2.2.2.1, r2.2.2.2.adopt ?_ ?_ ?_ ?_ ?_⟩, r3, r4, by simp; omega, ⟨⟨MP_back u2 s5 (by intro c k; omega), fun a ha => ?_, ?_, ?_, ?_, ?_, ?_, ?_, ?_⟩, ⟨by rw [s5.I (by omega)]; exact x7, by rw [s5.I (by omega)]; exact x5, by rw [s5.I (by omega)]; exact x6⟩, h5.2.2.1.sg g2 hg, h5.2.2.2.1.sg g2 hg (by intro k a b; omega), by omega⟩, ⟨by rw [gI_pI, if_pos ⟨rfl, rfl⟩]; rfl, fun i hi => absurd hi (Nat.not_lt_zero _)⟩, mFail_OK h7 p4, (fun i => by unfold fG; simp), Or.inl rfl, rfl, rfl⟩
      · omega
      · omega
      · omega
      · unfold U0; omega
      · unfold V0; omega
      · rw [s5.I (by omega), u3.I (by omega), s2.I (by omega), sF.I (by omega) id]; exact p6.2.2.2.2.1 a ha
      · have q := y3.sm sE (by intro c k; omega)
        exact q
      · have q := y4.sm sE (by intro c k; omega)
        exact q
      · have q := y5.sm sE (by intro c k; omega)
        exact q
      · have q := y6.sm sE (by intro c k; omega)
        exact q
      · rw [g2.L (by omega) (by omega)]; exact y7
      · rw [g2.I (by omega) (by omega)]; exact y8
      · rw [g2.I (by omega) (by omega)]; exact y9
end
