set_option maxRecDepth 100000
/-! ===== the mini heap ===== -/
/-- number of cells, slots used, kind and length of a cell, ints, longs, refs (cell numbers) -/
abbrev Sx : Type := Nat × Nat × (Nat → Nat) × (Nat → Nat) × (Nat → Nat → Int32) × (Nat → Nat → Int64) × (Nat → Nat → Option Nat)
def gn (S : Sx) : Nat := S.1
def gu (S : Sx) : Nat := S.2.1
def gK (S : Sx) (c : Nat) : Nat := S.2.2.1 c
def gN (S : Sx) (c : Nat) : Nat := S.2.2.2.1 c
def gI (S : Sx) (c k : Nat) : Int32 := S.2.2.2.2.1 c k
def gL (S : Sx) (c k : Nat) : Int64 := S.2.2.2.2.2.1 c k
def gR (S : Sx) (c k : Nat) : Option Nat := S.2.2.2.2.2.2 c k
def up2 {α : Type} (f : Nat → Nat → α) (c k : Nat) (v : α) : Nat → Nat → α := fun a b => if a = c ∧ b = k then v else f a b
def pI (S : Sx) (c k : Nat) (v : Int32) : Sx := (S.1, S.2.1, S.2.2.1, S.2.2.2.1, up2 S.2.2.2.2.1 c k v, S.2.2.2.2.2.1, S.2.2.2.2.2.2)
def pL (S : Sx) (c k : Nat) (v : Int64) : Sx := (S.1, S.2.1, S.2.2.1, S.2.2.2.1, S.2.2.2.2.1, up2 S.2.2.2.2.2.1 c k v, S.2.2.2.2.2.2)
def pR (S : Sx) (c k : Nat) (v : Option Nat) : Sx := (S.1, S.2.1, S.2.2.1, S.2.2.2.1, S.2.2.2.2.1, S.2.2.2.2.2.1, up2 S.2.2.2.2.2.2 c k v)
/-- another kind for a cell -/
def pK (S : Sx) (c K : Nat) : Sx := (S.1, S.2.1, (fun a => if a = c then K else S.2.2.1 a), S.2.2.2.1, S.2.2.2.2.1, S.2.2.2.2.2.1, S.2.2.2.2.2.2)
/-- a new cell of kind K, length N, u slots -/
def nw (S : Sx) (K N u : Nat) : Sx := (S.1 + 1, S.2.1 + u, (fun a => if a = S.1 then K else S.2.2.1 a), (fun a => if a = S.1 then N else S.2.2.2.1 a), (fun a b => if a = S.1 then 0 else S.2.2.2.2.1 a b), (fun a b => if a = S.1 then 0 else S.2.2.2.2.2.1 a b), (fun a b => if a = S.1 then none else S.2.2.2.2.2.2 a b))
/-- n ints of the cell a from i on go into the cell b from j on -/
def cpI (S : Sx) (a i b j n : Nat) : Sx := (S.1, S.2.1, S.2.2.1, S.2.2.2.1, (fun c k => if c = b ∧ j ≤ k ∧ k < j + n then S.2.2.2.2.1 a (i + (k - j)) else S.2.2.2.2.1 c k), S.2.2.2.2.2.1, S.2.2.2.2.2.2)
/-! ===== results: none: stuck; inl: returned; inr: threw that cell ===== -/
abbrev Rs (α : Type) : Type := Option ((α ⊕ Nat) × Sx)
def rt {α : Type} (v : α) (S : Sx) : Rs α := some (.inl v, S)
def th {α : Type} (x : Nat) (S : Sx) : Rs α := some (.inr x, S)
def bd {α β : Type} (r : Rs α) (f : α → Sx → Rs β) : Rs β := match r with
  | none => none
  | some (.inl v, S) => f v S
  | some (.inr x, S) => some (.inr x, S)
/-- a call within a try: its handler gets what was thrown -/
def ct {α β : Type} (r : Rs α) (f : α → Sx → Rs β) (h : Nat → Sx → Rs β) : Rs β := match r with
  | none => none
  | some (.inl v, S) => f v S
  | some (.inr x, S) => h x S
def pt {β : Type} (S : Sx) (f : Sx → Rs β) : Rs β := f S
def vl {α β : Type} (v : α) (f : α → Rs β) : Rs β := f v
def inb (i : Int32) (n : Nat) : Bool := decide (¬ (i < 0 ∨ n ≤ i.toNatClampNeg))
def ix (i : Int32) : Nat := i.toNatClampNeg
/-- array loads and stores; N: the length -/
def lI {β : Type} (S : Sx) (a N : Nat) (i : Int32) (f : Int32 → Rs β) : Rs β := if inb i N then f (gI S a (ix i)) else none
def lL {β : Type} (S : Sx) (a N : Nat) (i : Int32) (f : Int64 → Rs β) : Rs β := if inb i N then f (gL S a (ix i)) else none
def lR {β : Type} (S : Sx) (a N : Nat) (i : Int32) (f : Option Nat → Rs β) : Rs β := if inb i N then f (gR S a (ix i)) else none
def sI {β : Type} (S : Sx) (a N : Nat) (i : Int32) (v : Int32) (f : Sx → Rs β) : Rs β := if inb i N then f (pI S a (ix i) v) else none
def sL {β : Type} (S : Sx) (a N : Nat) (i : Int32) (v : Int64) (f : Sx → Rs β) : Rs β := if inb i N then f (pL S a (ix i) v) else none
def sR {β : Type} (S : Sx) (a N : Nat) (i : Int32) (v : Option Nat) (f : Sx → Rs β) : Rs β := if inb i N then f (pR S a (ix i) v) else none
/-- a reference that has to be a cell of kind K -/
def dO {β : Type} (S : Sx) (K : Nat) (r : Option Nat) (f : Nat → Rs β) : Rs β := match r with
  | none => none
  | some a => if gK S a = K then f a else none
/-- .. or null -/
def dOn {β : Type} (S : Sx) (K : Nat) (r : Option Nat) (f : Rs β) : Rs β := match r with
  | none => f
  | some a => if gK S a = K then f else none
def CAPC : Nat := 601024
def CAPS : Nat := 7293034
/-- a new cell, if there is room -/
def al {β : Type} (S : Sx) (K N u : Nat) (f : Nat → Sx → Rs β) : Rs β := if gn S + 1 ≤ CAPC ∧ gu S + u ≤ CAPS then f (gn S) (nw S K N u) else none
/-- a new int array of a computed length -/
def alI {β : Type} (S : Sx) (n : Int32) (f : Nat → Sx → Rs β) : Rs β := if ¬ n < 0 ∧ ix n ≤ 134217728 then al S 1 (ix n) (ix n) f else none
/-- System.arraycopy between arrays of one kind of ints, inside both -/
def cpy {β : Type} (S : Sx) (K : Nat) (a : Option Nat) (i : Int32) (b : Option Nat) (j n : Int32) (f : Sx → Rs β) : Rs β := dO S K a fun a => dO S K b fun b => if ¬ i < 0 ∧ ¬ j < 0 ∧ ¬ n < 0 ∧ ix i + ix n ≤ gN S a ∧ ix j + ix n ≤ gN S b ∧ a ≠ b then f (cpI S a (ix i) b (ix j) (ix n)) else none
/-! ===== layout: static cells: kind, length, references ===== -/
abbrev Sta : Type := (Nat → Nat) × (Nat → Nat) × (Nat → Nat → Option Nat)
def LY (st : Sta) (S : Sx) : Prop := ∀ c, st.1 c ≠ 0 → gK S c = st.1 c ∧ (st.2.1 c ≠ 0 → gN S c = st.2.1 c) ∧ ∀ k r, st.2.2 c k = some r → gR S c k = some r
/-! ===== values ===== -/
def rv (b0 : Nat) (r : Option Nat) : Value := match r with
  | none => .null
  | some c => .ref (b0 + c)
def fv (b0 : Nat) (S : Sx) (c t k : Nat) : Value := match t with
  | 0 => .int (gI S c k)
  | 1 => .long (gL S c k)
  | _ => rv b0 (gR S c k)
def cvI (v : Int32) : Option Value := some (.int v)
def cvL (v : Int64) : Option Value := some (.long v)
def cvU (_ : Unit) : Option Value := none
def cvR (b0 : Nat) (r : Option Nat) : Option Value := some (rv b0 r)
/-- the String constants: class, entry, text -/
def pmS : List (String × Nat × String) := [("PagedMachine$Assembler", 186, "MUL DIV ADD SUB CMP CMPU MULU DIVU AND OR XOR ANDN SL SR SRU NEG . LDB LDBU LDT LDO STB STT STO LDA GO "), ("PagedMachine$Assembler", 192, "BN BZ BP BNN BNZ BNP JMP PUSHJ POP GETA SETL SETML SETMH SETH INCL INCML INCMH INCH GET PUT SWYM "), ("PagedMachine$Assembler", 194, "IS LOC BYTE TETRA OCTA "), ("PagedMachine$Assembler", 196, "TRAP "), ("PagedMachine$Assembler", 108, "Main"), ("PagedMachineModel", 414, "MUL 2 DIV 4 ADD 6 SUB 8 CMP 10 CMPU 12 MULU 14 DIVU 16 AND 18 OR 20 XOR 22 ANDN 24 SL 26 SR 28 SRU 30 NEG 32 LDB 36 LDBU 38 LDT 40 LDO 42 STB 44 STT 46 STO 48 LDA 50 GO 52 BN 60 BZ 61 BP 62 BNN 63 BNZ 64 BNP 65 JMP 66 PUSHJ 67 POP 68 GETA 69 SETL 70 SETML 71 SETMH 72 SETH 73 INCL 74 INCML 75 INCMH 76 INCH 77 GET 78 PUT 79 SWYM 80 TRAP 0 IS 100 LOC 101 BYTE 102 TETRA 103 OCTA 104 ")]
def pmSl : List Nat := [103, 97, 23, 5, 4, 382]
def pmSb : List (List Int32) := [[77, 85, 76, 32, 68, 73, 86, 32, 65, 68, 68, 32, 83, 85, 66, 32, 67, 77, 80, 32, 67, 77, 80, 85, 32, 77, 85, 76, 85, 32, 68, 73, 86, 85, 32, 65, 78, 68, 32, 79, 82, 32, 88, 79, 82, 32, 65, 78, 68, 78, 32, 83, 76, 32, 83, 82, 32, 83, 82, 85, 32, 78, 69, 71, 32, 46, 32, 76, 68, 66, 32, 76, 68, 66, 85, 32, 76, 68, 84, 32, 76, 68, 79, 32, 83, 84, 66, 32, 83, 84, 84, 32, 83, 84, 79, 32, 76, 68, 65, 32, 71, 79, 32], [66, 78, 32, 66, 90, 32, 66, 80, 32, 66, 78, 78, 32, 66, 78, 90, 32, 66, 78, 80, 32, 74, 77, 80, 32, 80, 85, 83, 72, 74, 32, 80, 79, 80, 32, 71, 69, 84, 65, 32, 83, 69, 84, 76, 32, 83, 69, 84, 77, 76, 32, 83, 69, 84, 77, 72, 32, 83, 69, 84, 72, 32, 73, 78, 67, 76, 32, 73, 78, 67, 77, 76, 32, 73, 78, 67, 77, 72, 32, 73, 78, 67, 72, 32, 71, 69, 84, 32, 80, 85, 84, 32, 83, 87, 89, 77, 32], [73, 83, 32, 76, 79, 67, 32, 66, 89, 84, 69, 32, 84, 69, 84, 82, 65, 32, 79, 67, 84, 65, 32], [84, 82, 65, 80, 32], [77, 97, 105, 110], [77, 85, 76, 32, 50, 32, 68, 73, 86, 32, 52, 32, 65, 68, 68, 32, 54, 32, 83, 85, 66, 32, 56, 32, 67, 77, 80, 32, 49, 48, 32, 67, 77, 80, 85, 32, 49, 50, 32, 77, 85, 76, 85, 32, 49, 52, 32, 68, 73, 86, 85, 32, 49, 54, 32, 65, 78, 68, 32, 49, 56, 32, 79, 82, 32, 50, 48, 32, 88, 79, 82, 32, 50, 50, 32, 65, 78, 68, 78, 32, 50, 52, 32, 83, 76, 32, 50, 54, 32, 83, 82, 32, 50, 56, 32, 83, 82, 85, 32, 51, 48, 32, 78, 69, 71, 32, 51, 50, 32, 76, 68, 66, 32, 51, 54, 32, 76, 68, 66, 85, 32, 51, 56, 32, 76, 68, 84, 32, 52, 48, 32, 76, 68, 79, 32, 52, 50, 32, 83, 84, 66, 32, 52, 52, 32, 83, 84, 84, 32, 52, 54, 32, 83, 84, 79, 32, 52, 56, 32, 76, 68, 65, 32, 53, 48, 32, 71, 79, 32, 53, 50, 32, 66, 78, 32, 54, 48, 32, 66, 90, 32, 54, 49, 32, 66, 80, 32, 54, 50, 32, 66, 78, 78, 32, 54, 51, 32, 66, 78, 90, 32, 54, 52, 32, 66, 78, 80, 32, 54, 53, 32, 74, 77, 80, 32, 54, 54, 32, 80, 85, 83, 72, 74, 32, 54, 55, 32, 80, 79, 80, 32, 54, 56, 32, 71, 69, 84, 65, 32, 54, 57, 32, 83, 69, 84, 76, 32, 55, 48, 32, 83, 69, 84, 77, 76, 32, 55, 49, 32, 83, 69, 84, 77, 72, 32, 55, 50, 32, 83, 69, 84, 72, 32, 55, 51, 32, 73, 78, 67, 76, 32, 55, 52, 32, 73, 78, 67, 77, 76, 32, 55, 53, 32, 73, 78, 67, 77, 72, 32, 55, 54, 32, 73, 78, 67, 72, 32, 55, 55, 32, 71, 69, 84, 32, 55, 56, 32, 80, 85, 84, 32, 55, 57, 32, 83, 87, 89, 77, 32, 56, 48, 32, 84, 82, 65, 80, 32, 48, 32, 73, 83, 32, 49, 48, 48, 32, 76, 79, 67, 32, 49, 48, 49, 32, 66, 89, 84, 69, 32, 49, 48, 50, 32, 84, 69, 84, 82, 65, 32, 49, 48, 51, 32, 79, 67, 84, 65, 32, 49, 48, 52, 32]]
/-! ===== more results ===== -/
/-- a cell that has to be of kind K -/
def kd {β : Type} (S : Sx) (K c : Nat) (r : Rs β) : Rs β := if gK S c = K then r else none
/-- the int as a boolean array keeps it -/
def nz (v : Int32) : Int32 := vp_nar .boolean v
/-- a boolean answer has to be 0 or 1 -/
def rb (v : Int32) (S : Sx) : Rs Int32 := if v = 0 ∨ v = 1 then rt v S else none
/-- a blank exception is made ready: its ints are 0 -/
def xs (S : Sx) (c K : Nat) : Sx := (S.1, S.2.1, (fun a => if a = c then K else S.2.2.1 a), S.2.2.2.1, (fun a b => if a = c then 0 else S.2.2.2.2.1 a b), S.2.2.2.2.2.1, S.2.2.2.2.2.2)
def xi {β : Type} (S : Sx) (i c : Nat) (f : Sx → Rs β) : Rs β := if gK S c = i + 50 + 6 then f (xs S c (i + 6)) else none
/-- a String constant has a number below 6 -/
def tk {β : Type} (t : Nat) (r : Rs β) : Rs β := if t < 6 then r else none
/-- the layout, asked -/
noncomputable def lyc {β : Type} (st : Sta) (S : Sx) (r : Rs β) : Rs β := @ite _ (LY st S) (Classical.propDecidable _) r none
/-- the fuel of every loop: at least a million, nobody knows how much -/
theorem FU_ex : ∃ n : Nat, 1000000 ≤ n := ⟨1000000, Nat.le_refl _⟩
noncomputable def FU : Nat := Classical.choose FU_ex
theorem FU_ge : 1000000 ≤ FU := Classical.choose_spec FU_ex
/-- String constants -/
def chv (t : Nat) (i : Int32) : Int32 := (pmSb.getD t []).getD (ix i) 0
def J3_charAt (t : Nat) (i : Int32) (S : Sx) : Rs Int32 := if t < 6 ∧ inb i (pmSl.getD t 0) = true then rt (chv t i) S else none
def J3_length (t : Nat) (S : Sx) : Rs Int32 := if t < 6 then rt (Int32.ofNat (pmSl.getD t 0)) S else none
/-- the static layouts -/
def st0 : Sta := (fun _ => 0, fun _ => 0, fun _ _ => none)
def lkp (l : List (Nat × Nat)) (k : Nat) : Option Nat := (l.find? (fun p => p.1 == k)).map (fun p => p.2)
def kXl : List Nat := [6, 7, 8, 5, 3, 4, 5, 9, 1, 5, 0, 0, 0, 0, 0, 0, 0, 0, 0, 0, 0, 0, 0, 0, 0, 0, 0, 0, 0, 0, 0, 0, 0, 0, 0, 0, 0, 0, 0, 0, 0, 0, 0, 0, 0, 0, 0, 0, 0, 0, 0, 0, 0, 0, 0, 0, 0, 0, 0, 0, 0, 0, 0, 0, 0, 0, 0, 0, 0, 0, 0, 0, 0, 0, 0, 0, 0, 0, 0, 0, 0, 0, 0, 0, 0, 0, 0, 0, 0, 0, 0, 0, 0, 0, 0, 0, 0, 0, 0, 0, 0, 0, 0, 0, 0, 0, 0, 0, 0, 0, 0, 0, 0, 0, 0, 0, 0, 0, 0, 0, 0, 0, 0, 0, 0, 0, 0, 0, 0, 0, 0, 0, 0, 0, 0, 0, 0, 0, 11, 12, 2, 2, 2, 13, 2, 1, 14, 0, 15, 16, 14, 0, 1, 1, 1, 2, 14, 0, 14, 0, 14, 0, 14, 0, 17, 14, 0]
def nXl : List Nat := [0, 0, 0, 64, 65536, 1024, 1024, 0, 4, 4, 0, 0, 0, 0, 0, 0, 0, 0, 0, 0, 0, 0, 0, 0, 0, 0, 0, 0, 0, 0, 0, 0, 0, 0, 0, 0, 0, 0, 0, 0, 0, 0, 0, 0, 0, 0, 0, 0, 0, 0, 0, 0, 0, 0, 0, 0, 0, 0, 0, 0, 0, 0, 0, 0, 0, 0, 0, 0, 0, 0, 0, 0, 0, 0, 0, 0, 0, 0, 0, 0, 0, 0, 0, 0, 0, 0, 0, 0, 0, 0, 0, 0, 0, 0, 0, 0, 0, 0, 0, 0, 0, 0, 0, 0, 0, 0, 0, 0, 0, 0, 0, 0, 0, 0, 0, 0, 0, 0, 0, 0, 0, 0, 0, 0, 0, 0, 0, 0, 0, 0, 0, 0, 0, 0, 0, 0, 0, 0, 0, 0, 40, 632, 32, 0, 4, 1000, 0, 0, 0, 0, 0, 0, 300, 300, 300, 300, 0, 0, 0, 0, 0, 0, 0, 0, 0, 0, 0]
def rXl : List (List (Nat × Nat)) := [[(0, 1), (1, 2), (2, 138), (3, 148), (4, 164), (5, 165)], [], [(0, 3), (3, 4), (4, 5), (5, 6), (6, 7)], [], [], [], [], [(0, 8), (1, 9)], [], [], [], [], [], [], [], [], [], [], [], [], [], [], [], [], [], [], [], [], [], [], [], [], [], [], [], [], [], [], [], [], [], [], [], [], [], [], [], [], [], [], [], [], [], [], [], [], [], [], [], [], [], [], [], [], [], [], [], [], [], [], [], [], [], [], [], [], [], [], [], [], [], [], [], [], [], [], [], [], [], [], [], [], [], [], [], [], [], [], [], [], [], [], [], [], [], [], [], [], [], [], [], [], [], [], [], [], [], [], [], [], [], [], [], [], [], [], [], [], [], [], [], [], [], [], [], [], [], [], [(0, 2), (1, 139), (2, 143), (3, 1), (4, 144), (8, 145), (10, 146)], [(0, 140), (1, 141), (2, 142)], [], [], [], [], [], [], [], [], [(0, 149), (1, 1), (9, 152), (10, 153), (11, 154), (12, 155), (13, 156), (14, 158), (15, 160), (16, 162)], [(0, 150)], [], [], [], [], [], [], [], [], [], [], [], [], [], [], [(0, 2), (1, 1)], [], []]
def stX : Sta := (fun c => kXl.getD c 0, fun c => nXl.getD c 0, fun c k => lkp (rXl.getD c []) k)
def kMl : List Nat := [0, 0, 0, 0, 0, 0, 0, 0, 0, 0, 0, 0, 0, 0, 0, 0, 0, 0, 0, 0, 0, 0, 0, 0, 0, 0, 0, 0, 0, 0, 0, 0, 0, 0, 0, 0, 0, 0, 0, 0, 0, 0, 0, 0, 0, 0, 0, 0, 0, 0, 0, 0, 0, 0, 0, 0, 0, 0, 0, 0, 0, 0, 0, 0, 0, 0, 0, 0, 0, 0, 0, 0, 0, 0, 0, 0, 0, 0, 0, 0, 0, 0, 0, 0, 0, 0, 0, 0, 0, 0, 0, 0, 0, 0, 0, 0, 0, 0, 0, 0, 0, 0, 0, 0, 0, 0, 0, 0, 0, 0, 0, 0, 0, 0, 0, 0, 0, 0, 0, 0, 0, 0, 0, 0, 0, 0, 0, 0, 0, 0, 0, 0, 0, 0, 0, 0, 0, 0, 0, 0, 0, 0, 0, 0, 0, 0, 0, 0, 0, 0, 0, 0, 0, 0, 0, 0, 0, 0, 0, 0, 0, 0, 0, 0, 0, 0, 0, 18, 1, 1, 1, 2, 2, 2, 1, 1, 4, 1, 4, 4, 1, 2, 4, 1, 1, 1, 1, 2]
def nMl : List Nat := [0, 0, 0, 0, 0, 0, 0, 0, 0, 0, 0, 0, 0, 0, 0, 0, 0, 0, 0, 0, 0, 0, 0, 0, 0, 0, 0, 0, 0, 0, 0, 0, 0, 0, 0, 0, 0, 0, 0, 0, 0, 0, 0, 0, 0, 0, 0, 0, 0, 0, 0, 0, 0, 0, 0, 0, 0, 0, 0, 0, 0, 0, 0, 0, 0, 0, 0, 0, 0, 0, 0, 0, 0, 0, 0, 0, 0, 0, 0, 0, 0, 0, 0, 0, 0, 0, 0, 0, 0, 0, 0, 0, 0, 0, 0, 0, 0, 0, 0, 0, 0, 0, 0, 0, 0, 0, 0, 0, 0, 0, 0, 0, 0, 0, 0, 0, 0, 0, 0, 0, 0, 0, 0, 0, 0, 0, 0, 0, 0, 0, 0, 0, 0, 0, 0, 0, 0, 0, 0, 0, 0, 0, 0, 0, 0, 0, 0, 0, 0, 0, 0, 0, 0, 0, 0, 0, 0, 0, 0, 0, 0, 0, 0, 0, 0, 0, 0, 0, 20000, 65536, 4000, 32, 5, 601, 1000, 1024, 1024, 64, 64, 64, 4, 16, 1024, 65536, 300, 300, 300, 300]
def rMl : List (List (Nat × Nat)) := [[], [], [], [], [], [], [], [], [], [], [], [], [], [], [], [], [], [], [], [], [], [], [], [], [], [], [], [], [], [], [], [], [], [], [], [], [], [], [], [], [], [], [], [], [], [], [], [], [], [], [], [], [], [], [], [], [], [], [], [], [], [], [], [], [], [], [], [], [], [], [], [], [], [], [], [], [], [], [], [], [], [], [], [], [], [], [], [], [], [], [], [], [], [], [], [], [], [], [], [], [], [], [], [], [], [], [], [], [], [], [], [], [], [], [], [], [], [], [], [], [], [], [], [], [], [], [], [], [], [], [], [], [], [], [], [], [], [], [], [], [], [], [], [], [], [], [], [], [], [], [], [], [], [], [], [], [], [], [], [], [], [], [], [], [], [], [], [(0, 168), (2, 169), (3, 170), (8, 171), (9, 172), (10, 173), (15, 174), (18, 175), (19, 176), (20, 177), (21, 178), (22, 179), (24, 180), (34, 181), (35, 182), (36, 183), (39, 184), (40, 185), (41, 186), (42, 187)], [], [], [], [], [], [], [], [], [], [], [], [], [], [], [], [], [], [], [], []]
def stM : Sta := (fun c => kMl.getD c 0, fun c => nMl.getD c 0, fun c k => lkp (rMl.getD c []) k)
/-! ===== getters over setters ===== -/
/-- all ints, all longs of a cell -/
def aI (S : Sx) (c : Nat) (f : Nat → Int32) : Sx := (S.1, S.2.1, S.2.2.1, S.2.2.2.1, (fun a b => if a = c then f b else S.2.2.2.2.1 a b), S.2.2.2.2.2.1, S.2.2.2.2.2.2)
def aL (S : Sx) (c : Nat) (f : Nat → Int64) : Sx := (S.1, S.2.1, S.2.2.1, S.2.2.2.1, S.2.2.2.2.1, (fun a b => if a = c then f b else S.2.2.2.2.2.1 a b), S.2.2.2.2.2.2)
theorem gn_pI (S : Sx) (c k : Nat) (v : Int32) : gn (pI S c k v) = gn S := rfl
theorem gu_pI (S : Sx) (c k : Nat) (v : Int32) : gu (pI S c k v) = gu S := rfl
theorem gK_pI (S : Sx) (c k : Nat) (v : Int32) (x : Nat) : gK (pI S c k v) x = gK S x := rfl
theorem gN_pI (S : Sx) (c k : Nat) (v : Int32) (x : Nat) : gN (pI S c k v) x = gN S x := rfl
theorem gI_pI (S : Sx) (c k : Nat) (v : Int32) (x y : Nat) : gI (pI S c k v) x y = if x = c ∧ y = k then v else gI S x y := rfl
theorem gL_pI (S : Sx) (c k : Nat) (v : Int32) (x y : Nat) : gL (pI S c k v) x y = gL S x y := rfl
theorem gR_pI (S : Sx) (c k : Nat) (v : Int32) (x y : Nat) : gR (pI S c k v) x y = gR S x y := rfl
theorem gn_pL (S : Sx) (c k : Nat) (v : Int64) : gn (pL S c k v) = gn S := rfl
theorem gu_pL (S : Sx) (c k : Nat) (v : Int64) : gu (pL S c k v) = gu S := rfl
theorem gK_pL (S : Sx) (c k : Nat) (v : Int64) (x : Nat) : gK (pL S c k v) x = gK S x := rfl
theorem gN_pL (S : Sx) (c k : Nat) (v : Int64) (x : Nat) : gN (pL S c k v) x = gN S x := rfl
theorem gI_pL (S : Sx) (c k : Nat) (v : Int64) (x y : Nat) : gI (pL S c k v) x y = gI S x y := rfl
theorem gL_pL (S : Sx) (c k : Nat) (v : Int64) (x y : Nat) : gL (pL S c k v) x y = if x = c ∧ y = k then v else gL S x y := rfl
theorem gR_pL (S : Sx) (c k : Nat) (v : Int64) (x y : Nat) : gR (pL S c k v) x y = gR S x y := rfl
theorem gn_pR (S : Sx) (c k : Nat) (v : Option Nat) : gn (pR S c k v) = gn S := rfl
theorem gu_pR (S : Sx) (c k : Nat) (v : Option Nat) : gu (pR S c k v) = gu S := rfl
theorem gK_pR (S : Sx) (c k : Nat) (v : Option Nat) (x : Nat) : gK (pR S c k v) x = gK S x := rfl
theorem gN_pR (S : Sx) (c k : Nat) (v : Option Nat) (x : Nat) : gN (pR S c k v) x = gN S x := rfl
theorem gI_pR (S : Sx) (c k : Nat) (v : Option Nat) (x y : Nat) : gI (pR S c k v) x y = gI S x y := rfl
theorem gL_pR (S : Sx) (c k : Nat) (v : Option Nat) (x y : Nat) : gL (pR S c k v) x y = gL S x y := rfl
theorem gR_pR (S : Sx) (c k : Nat) (v : Option Nat) (x y : Nat) : gR (pR S c k v) x y = if x = c ∧ y = k then v else gR S x y := rfl
theorem gn_nw (S : Sx) (K N u : Nat) : gn (nw S K N u) = gn S + 1 := rfl
theorem gu_nw (S : Sx) (K N u : Nat) : gu (nw S K N u) = gu S + u := rfl
theorem gK_nw (S : Sx) (K N u : Nat) (x : Nat) : gK (nw S K N u) x = if x = gn S then K else gK S x := rfl
theorem gN_nw (S : Sx) (K N u : Nat) (x : Nat) : gN (nw S K N u) x = if x = gn S then N else gN S x := rfl
theorem gI_nw (S : Sx) (K N u : Nat) (x y : Nat) : gI (nw S K N u) x y = if x = gn S then 0 else gI S x y := rfl
theorem gL_nw (S : Sx) (K N u : Nat) (x y : Nat) : gL (nw S K N u) x y = if x = gn S then 0 else gL S x y := rfl
theorem gR_nw (S : Sx) (K N u : Nat) (x y : Nat) : gR (nw S K N u) x y = if x = gn S then none else gR S x y := rfl
theorem gn_cpI (S : Sx) (a0 i b0 j n : Nat) : gn (cpI S a0 i b0 j n) = gn S := rfl
theorem gu_cpI (S : Sx) (a0 i b0 j n : Nat) : gu (cpI S a0 i b0 j n) = gu S := rfl
theorem gK_cpI (S : Sx) (a0 i b0 j n : Nat) (x : Nat) : gK (cpI S a0 i b0 j n) x = gK S x := rfl
theorem gN_cpI (S : Sx) (a0 i b0 j n : Nat) (x : Nat) : gN (cpI S a0 i b0 j n) x = gN S x := rfl
theorem gI_cpI (S : Sx) (a0 i b0 j n : Nat) (x y : Nat) : gI (cpI S a0 i b0 j n) x y = if x = b0 ∧ j ≤ y ∧ y < j + n then gI S a0 (i + (y - j)) else gI S x y := rfl
theorem gL_cpI (S : Sx) (a0 i b0 j n : Nat) (x y : Nat) : gL (cpI S a0 i b0 j n) x y = gL S x y := rfl
theorem gR_cpI (S : Sx) (a0 i b0 j n : Nat) (x y : Nat) : gR (cpI S a0 i b0 j n) x y = gR S x y := rfl
theorem gn_xs (S : Sx) (c K : Nat) : gn (xs S c K) = gn S := rfl
theorem gu_xs (S : Sx) (c K : Nat) : gu (xs S c K) = gu S := rfl
theorem gK_xs (S : Sx) (c K : Nat) (x : Nat) : gK (xs S c K) x = if x = c then K else gK S x := rfl
theorem gN_xs (S : Sx) (c K : Nat) (x : Nat) : gN (xs S c K) x = gN S x := rfl
theorem gI_xs (S : Sx) (c K : Nat) (x y : Nat) : gI (xs S c K) x y = if x = c then 0 else gI S x y := rfl
theorem gL_xs (S : Sx) (c K : Nat) (x y : Nat) : gL (xs S c K) x y = gL S x y := rfl
theorem gR_xs (S : Sx) (c K : Nat) (x y : Nat) : gR (xs S c K) x y = gR S x y := rfl
theorem gn_aI (S : Sx) (c : Nat) (f : Nat → Int32) : gn (aI S c f) = gn S := rfl
theorem gu_aI (S : Sx) (c : Nat) (f : Nat → Int32) : gu (aI S c f) = gu S := rfl
theorem gK_aI (S : Sx) (c : Nat) (f : Nat → Int32) (x : Nat) : gK (aI S c f) x = gK S x := rfl
theorem gN_aI (S : Sx) (c : Nat) (f : Nat → Int32) (x : Nat) : gN (aI S c f) x = gN S x := rfl
theorem gI_aI (S : Sx) (c : Nat) (f : Nat → Int32) (x y : Nat) : gI (aI S c f) x y = if x = c then f y else gI S x y := rfl
theorem gL_aI (S : Sx) (c : Nat) (f : Nat → Int32) (x y : Nat) : gL (aI S c f) x y = gL S x y := rfl
theorem gR_aI (S : Sx) (c : Nat) (f : Nat → Int32) (x y : Nat) : gR (aI S c f) x y = gR S x y := rfl
theorem gn_aL (S : Sx) (c : Nat) (f : Nat → Int64) : gn (aL S c f) = gn S := rfl
theorem gu_aL (S : Sx) (c : Nat) (f : Nat → Int64) : gu (aL S c f) = gu S := rfl
theorem gK_aL (S : Sx) (c : Nat) (f : Nat → Int64) (x : Nat) : gK (aL S c f) x = gK S x := rfl
theorem gN_aL (S : Sx) (c : Nat) (f : Nat → Int64) (x : Nat) : gN (aL S c f) x = gN S x := rfl
theorem gI_aL (S : Sx) (c : Nat) (f : Nat → Int64) (x y : Nat) : gI (aL S c f) x y = gI S x y := rfl
theorem gL_aL (S : Sx) (c : Nat) (f : Nat → Int64) (x y : Nat) : gL (aL S c f) x y = if x = c then f y else gL S x y := rfl
theorem gR_aL (S : Sx) (c : Nat) (f : Nat → Int64) (x y : Nat) : gR (aL S c f) x y = gR S x y := rfl
