set_option maxRecDepth 100000
/-! ===== the machine, whole ===== -/
def XO (A : Sx) (ou : List Int32) : Prop := gI A 138 9 = nI ou.length ∧ ∀ i, i < ou.length → gI A 145 i = ou.getD i 0
def MO (B : Sx) (ou : List Int32) : Prop := gI B 167 16 = nI ou.length ∧ ∀ i, i < ou.length → gI B 174 i = ou.getD i 0
def XN (A : Sx) (inp : List Int32) : Prop := ∃ r tot tk, gR A 146 0 = some r ∧ 147 ≤ r ∧ gK A r = 1 ∧ gI A 146 1 = nI tot ∧ gI A 138 11 = nI tk ∧ tot = tk + inp.length ∧ tot ≤ gN A r ∧ gN A r < 2 ^ 30 ∧ ∀ i, i < inp.length → gI A r (tk + i) = inp.getD i 0
def MN (B : Sx) (inp : List Int32) : Prop := gI B 167 4 = nI inp.length ∧ ∀ i, i < inp.length → gI B 170 i = inp.getD i 0
theorem XO.sm {P : Nat → Nat → Prop} {A A' : Sx} {ou : List Int32} (h : XO A ou) (hs : Sm P A A') (hp : ∀ c k, P c k → ¬ ((c = 138 ∧ k = 9) ∨ c = 145)) : XO A' ou :=
  ⟨by rw [hs.I (fun x => hp _ _ x (by omega))]; exact h.1, fun i hi => by rw [hs.I (fun x => hp _ _ x (by omega))]; exact h.2 i hi⟩
theorem MO.sm {P : Nat → Nat → Prop} {A A' : Sx} {ou : List Int32} (h : MO A ou) (hs : Sm P A A') (hp : ∀ c k, P c k → ¬ ((c = 167 ∧ k = 16) ∨ c = 174)) : MO A' ou :=
  ⟨by rw [hs.I (fun x => hp _ _ x (by omega))]; exact h.1, fun i hi => by rw [hs.I (fun x => hp _ _ x (by omega))]; exact h.2 i hi⟩
theorem XN.sm {P : Nat → Nat → Prop} {A A' : Sx} {inp : List Int32} (h : XN A inp) (hs : Sm P A A') (hp : ∀ c k, P c k → ¬ ((c = 138 ∧ k = 11) ∨ 146 ≤ c)) : XN A' inp := by
  obtain ⟨r, tot, tk, a1, a2, a3, a4, a5, a6, a7, a8, a9⟩ := h
  refine ⟨r, tot, tk, ?_, a2, ?_, ?_, ?_, a6, ?_, ?_, fun i hi => ?_⟩
  · rw [hs.R (fun x => hp _ _ x (by omega))]; exact a1
  · rw [hs.K]; exact a3
  · rw [hs.I (fun x => hp _ _ x (by omega))]; exact a4
  · rw [hs.I (fun x => hp _ _ x (by omega))]; exact a5
  · rw [hs.N]; exact a7
  · rw [hs.N]; exact a8
  · rw [hs.I (fun x => hp _ _ x (by omega))]; exact a9 i hi
theorem MN.sm {P : Nat → Nat → Prop} {A A' : Sx} {inp : List Int32} (h : MN A inp) (hs : Sm P A A') (hp : ∀ c k, P c k → ¬ ((c = 167 ∧ k = 4) ∨ c = 170)) : MN A' inp :=
  ⟨by rw [hs.I (fun x => hp _ _ x (by omega))]; exact h.1, fun i hi => by rw [hs.I (fun x => hp _ _ x (by omega))]; exact h.2 i hi⟩
theorem MM.sm {P : Nat → Nat → Prop} {A A' : Sx} {mem : Nat → Nat} (h : MM A mem) (hs : Sm P A A') (hp : ∀ c k, P c k → c ≠ 169) : MM A' mem := fun a ha => by rw [hs.I (fun x => hp _ _ x rfl)]; exact h a ha
def XMc (A : Sx) (b : Pb) (mem : Nat → Nat) (sp L : Nat) (fl gl s : Nat → Int64) (ou inp : List Int32) (pc : Int64) (n st : Int32) : Prop :=
  gK A 1 = 7 ∧ XP A b mem ∧ XR A sp L fl gl ∧ XS A s ∧ XO A ou ∧ XN A inp ∧ gL A 138 5 = pc ∧ gI A 138 6 = n ∧ gI A 138 7 = st
def MMc (B : Sx) (b : Pb) (mem : Nat → Nat) (sp L : Nat) (fl gl s : Nat → Int64) (ou inp : List Int32) (pc : Int64) (n st : Int32) : Prop :=
  MP B b ∧ MM B mem ∧ MR B sp L fl gl ∧ MS B s ∧ MO B ou ∧ MN B inp ∧ gL B 167 12 = pc ∧ gI B 167 14 = n ∧ gI B 167 13 = st
def mcOK (b : Pb) (mem : Nat → Nat) (sp L : Nat) (fl : Nat → Int64) (fs : List Nat) (ou inp : List Int32) : Prop := bOK b ∧ memOK mem ∧ L ≤ 16 ∧ sp + L ≤ 600 ∧ Fr fl fs sp ∧ ou.length ≤ 1000 ∧ inp.length ≤ 4000
/-- where a step changes X, M -/
def xSt (c _ : Nat) : Prop := 1 ≤ c ∧ c ≤ 145
def mSt (c k : Nat) : Prop := (c = 167 ∧ (k = 4 ∨ (11 ≤ k ∧ k ≤ 14) ∨ k = 16 ∨ (23 ≤ k ∧ k ≤ 29))) ∨ (169 ≤ c ∧ c ≤ 181)
/-! X: what the parts do to the whole -/
theorem xm_rset {A : Sx} {b : Pb} {mem : Nat → Nat} {sp L x : Nat} {fl gl s : Nat → Int64} {ou inp : List Int32} {pc : Int64} {n st : Int32} (v : Int64) (h : XMc A b mem sp L fl gl s ou inp pc n st) (hb : bOK b) (hx : x < 32) (hL : L ≤ 16) (hs : sp + rL L x ≤ 600) :
    ∃ A', X6_set (nI x) v A = rt () A' ∧ XMc A' b mem sp (rL L x) (rFl sp L fl x v) (rGl gl x v) s ou inp pc n st ∧ Sm xSt A A' := by
  obtain ⟨h1, h2, h3, h4, h5, h6, h7, h8, h9⟩ := h
  obtain ⟨A', e1, e2, e3⟩ := x_rset v h3 hx hL hs
  unfold xRl at e3
  exact ⟨A', e1, ⟨by rw [e3.K]; exact h1, h2.sm hb e3 (by intro c k; omega), e2, h4.sm e3 (by intro c k; omega), h5.sm e3 (by intro c k; omega), h6.sm e3 (by intro c k; omega), by rw [e3.L (by omega)]; exact h7, by rw [e3.I (by omega)]; exact h8, by rw [e3.I (by omega)]; exact h9⟩, e3.mono (by unfold xSt; intro c k; omega)⟩
theorem xm_down {A : Sx} {b : Pb} {mem : Nat → Nat} {sp L x : Nat} {fl gl s : Nat → Int64} {ou inp : List Int32} {pc : Int64} {n st : Int32} (h : XMc A b mem sp L fl gl s ou inp pc n st) (hb : bOK b) (hx : x < 256) (hL : L ≤ 16) (hs : sp + (dK x L + 1) ≤ 600) :
    ∃ A', X6_down (nI x) A = rt () A' ∧ XMc A' b mem (sp + (dK x L + 1)) (L - (dK x L + 1)) (dFl sp L fl (dK x L)) gl s ou inp pc n st ∧ Sm xSt A A' := by
  obtain ⟨h1, h2, h3, h4, h5, h6, h7, h8, h9⟩ := h
  obtain ⟨A', e1, e2, e3⟩ := x_down h3 hL hx hs
  unfold xRl at e3
  exact ⟨A', e1, ⟨by rw [e3.K]; exact h1, h2.sm hb e3 (by intro c k; omega), e2, h4.sm e3 (by intro c k; omega), h5.sm e3 (by intro c k; omega), h6.sm e3 (by intro c k; omega), by rw [e3.L (by omega)]; exact h7, by rw [e3.I (by omega)]; exact h8, by rw [e3.I (by omega)]; exact h9⟩, e3.mono (by unfold xSt; intro c k; omega)⟩
theorem xm_up {A : Sx} {b : Pb} {mem : Nat → Nat} {sp L x c : Nat} {l : List Nat} {fl gl s : Nat → Int64} {ou inp : List Int32} {pc : Int64} {n st : Int32} (h : XMc A b mem sp L fl gl s ou inp pc n st) (hb : bOK b) (hx : x < 256) (hL : L ≤ 16) (hs : sp + L ≤ 600) (hf : Fr fl (c :: l) sp) :
    ∃ A', X6_up (nI x) A = rt () A' ∧ XMc A' b mem (sp - (c + 1)) (min 16 (c + upC x L)) (uFl sp x L fl) gl s ou inp pc n st ∧ Sm xSt A A' := by
  obtain ⟨h1, h2, h3, h4, h5, h6, h7, h8, h9⟩ := h
  obtain ⟨A', e1, e2, e3⟩ := x_up h3 hL hx hs hf
  unfold xRl at e3
  exact ⟨A', e1, ⟨by rw [e3.K]; exact h1, h2.sm hb e3 (by intro c k; omega), e2, h4.sm e3 (by intro c k; omega), h5.sm e3 (by intro c k; omega), h6.sm e3 (by intro c k; omega), by rw [e3.L (by omega)]; exact h7, by rw [e3.I (by omega)]; exact h8, by rw [e3.I (by omega)]; exact h9⟩, e3.mono (by unfold xSt; intro c k; omega)⟩
theorem xm_get {A : Sx} {b b' : Pb} {mem : Nat → Nat} {sp L a m f : Nat} {fl gl s : Nat → Int64} {ou inp : List Int32} {pc : Int64} {n st : Int32} (h : XMc A b mem sp L fl gl s ou inp pc n st) (hb : bOK b) (hm : memOK mem) (ha : a < 65536) (hT : bTouch b (a / 64) false f b') (ham : a % 64 + m ≤ 64) :
    ∃ A', X2_get (nI a) (nI m) A = rt (numL mem a m) A' ∧ XMc A' b' mem sp L fl gl s ou inp pc n st ∧ Sm xSt A A' := by
  obtain ⟨h1, h2, h3, h4, h5, h6, h7, h8, h9⟩ := h
  obtain ⟨A', e1, e2, e3⟩ := x_get h2 hb hm ha hT ham
  unfold xPl at e3
  exact ⟨A', e1, ⟨by rw [e3.K]; exact h1, e2, h3.sm e3 (by intro c k; omega), h4.sm e3 (by intro c k; omega), h5.sm e3 (by intro c k; omega), h6.sm e3 (by intro c k; omega), by rw [e3.L (by omega)]; exact h7, by rw [e3.I (by omega)]; exact h8, by rw [e3.I (by omega)]; exact h9⟩, e3.mono (by unfold xSt; intro c k; omega)⟩
theorem xm_set {A : Sx} {b b' : Pb} {mem : Nat → Nat} {sp L a m f : Nat} {fl gl s : Nat → Int64} {ou inp : List Int32} {pc : Int64} {n st : Int32} (v : Int64) (h : XMc A b mem sp L fl gl s ou inp pc n st) (hb : bOK b) (ha : a < 65536) (hT : bTouch b (a / 64) true f b') (ham : a % 64 + m ≤ 64) :
    ∃ A', X2_set (nI a) (nI m) v A = rt () A' ∧ XMc A' b' (putB mem a m v) sp L fl gl s ou inp pc n st ∧ Sm xSt A A' := by
  obtain ⟨h1, h2, h3, h4, h5, h6, h7, h8, h9⟩ := h
  obtain ⟨A', e1, e2, e3⟩ := x_set (v := v) h2 hb ha hT ham
  unfold xPl at e3
  exact ⟨A', e1, ⟨by rw [e3.K]; exact h1, e2, h3.sm e3 (by intro c k; omega), h4.sm e3 (by intro c k; omega), h5.sm e3 (by intro c k; omega), h6.sm e3 (by intro c k; omega), by rw [e3.L (by omega)]; exact h7, by rw [e3.I (by omega)]; exact h8, by rw [e3.I (by omega)]; exact h9⟩, e3.mono (by unfold xSt; intro c k; omega)⟩
theorem xm_reckon {A : Sx} {b : Pb} {mem : Nat → Nat} {sp L op k : Nat} {fl gl s : Nat → Int64} {ou inp : List Int32} {pc : Int64} {n st : Int32} (x y : Int64) (h : XMc A b mem sp L fl gl s ou inp pc n st) (hb : bOK b) (hop : op < 256) (hk : op / 2 * 2 = k) (hr : (2 ≤ k ∧ k ≤ 32) ∨ k = 50) :
    ∃ A', X5_reckon (nI op) x y A = rt (rkV k x y s) A' ∧ XMc A' b mem sp L fl gl (rkS k x y s) ou inp pc n st ∧ Sm xSt A A' := by
  obtain ⟨h1, h2, h3, h4, h5, h6, h7, h8, h9⟩ := h
  obtain ⟨A', e1, e2, e3⟩ := x_reckon x y h4 hop hk hr
  unfold xRk at e3
  exact ⟨A', e1, ⟨by rw [e3.K]; exact h1, h2.sm hb e3 (by intro c k; omega), h3.sm e3 (by intro c k; omega), e2, h5.sm e3 (by intro c k; omega), h6.sm e3 (by intro c k; omega), by rw [e3.L (by omega)]; exact h7, by rw [e3.I (by omega)]; exact h8, by rw [e3.I (by omega)]; exact h9⟩, e3.mono (by unfold xSt; intro c k; omega)⟩
theorem xm_spc {A : Sx} {b : Pb} {mem : Nat → Nat} {sp L k : Nat} {fl gl s : Nat → Int64} {ou inp : List Int32} {pc : Int64} {n st : Int32} (v : Int64) (h : XMc A b mem sp L fl gl s ou inp pc n st) (hb : bOK b) :
    XMc (pL A 144 k v) b mem sp L fl gl (up s k v) ou inp pc n st ∧ Sm xSt A (pL A 144 k v) := by
  obtain ⟨h1, h2, h3, h4, h5, h6, h7, h8, h9⟩ := h
  have e3 : Sm (fun c _ => c = 144) A (pL A 144 k v) := Sm.pL rfl
  exact ⟨⟨by rw [e3.K]; exact h1, h2.sm hb e3 (by intro c k; omega), h3.sm e3 (by intro c k; omega), h4.up, h5.sm e3 (by intro c k; omega), h6.sm e3 (by intro c k; omega), by rw [e3.L (by omega)]; exact h7, by rw [e3.I (by omega)]; exact h8, by rw [e3.I (by omega)]; exact h9⟩, e3.mono (by unfold xSt; intro c k; omega)⟩
theorem xm_pc {A : Sx} {b : Pb} {mem : Nat → Nat} {sp L : Nat} {fl gl s : Nat → Int64} {ou inp : List Int32} {pc : Int64} {n st : Int32} (q : Int64) (h : XMc A b mem sp L fl gl s ou inp pc n st) (hb : bOK b) :
    ∃ A', X5_step_256 q A = rt () A' ∧ XMc A' b mem sp L fl gl s ou inp q (n + 1) st ∧ Sm xSt A A' := by
  obtain ⟨h1, h2, h3, h4, h5, h6, h7, h8, h9⟩ := h
  have e3 : Sm (fun c k => c = 138 ∧ (k = 5 ∨ k = 6)) A (pI (pL A 138 5 q) 138 6 (n + 1)) := Sm.trans (Sm.pL (by omega)) (Sm.pI (by omega))
  refine ⟨_, ?_, ⟨by rw [e3.K]; exact h1, h2.sm hb e3 (by intro c k; omega), h3.sm e3 (by intro c k; omega), h4.sm e3 (by intro c k; omega), h5.sm e3 (by intro c k; omega), h6.sm e3 (by intro c k; omega), ?_, ?_, by rw [e3.I (by omega)]; exact h9⟩, e3.mono (by unfold xSt; intro c k; omega)⟩
  · unfold X5_step_256
    rw [pt_e, pt_e, gI_pL, h8]
  · rw [gL_pI, gL_pL, if_pos ⟨rfl, rfl⟩]
  · rw [gI_pI, if_pos ⟨rfl, rfl⟩]
/-! M -/
theorem mm_rset {A : Sx} {b : Pb} {mem : Nat → Nat} {sp L x : Nat} {fl gl s : Nat → Int64} {ou inp : List Int32} {pc : Int64} {n st : Int32} (v : Int64) (h : MMc A b mem sp L fl gl s ou inp pc n st) (hx : x < 32) (hL : L ≤ 16) :
    ∃ A', X12_set (nI x) v A = rt () A' ∧ MMc A' b mem sp (rL L x) (rFl sp L fl x v) (rGl gl x v) s ou inp pc n st ∧ Sm mRl A A' := by
  obtain ⟨h2, h1, h3, h4, h5, h6, h7, h8, h9⟩ := h
  obtain ⟨A', e1, e2, e3⟩ := m_rset v h3 hx hL
  have e4 := e3
  unfold mRl at e4
  exact ⟨A', e1, ⟨MP_back h2 e4 (by intro c k; omega), h1.sm e4 (by intro c k; omega), e2, h4.sm e4 (by intro c k; omega), h5.sm e4 (by intro c k; omega), h6.sm e4 (by intro c k; omega), by rw [e4.L (by omega)]; exact h7, by rw [e4.I (by omega)]; exact h8, by rw [e4.I (by omega)]; exact h9⟩, e3⟩
theorem mm_call {A : Sx} {b : Pb} {mem : Nat → Nat} {sp L x : Nat} {fl gl s : Nat → Int64} {ou inp : List Int32} {pc : Int64} {n st : Int32} (h : MMc A b mem sp L fl gl s ou inp pc n st) (hL : L ≤ 16) (hx : x < 256) (hs : sp + (dK x L + 1) ≤ 600) (hs2 : sp + L ≤ 600) :
    ∃ A', X12_call (nI x) A = rt () A' ∧ MMc A' b mem (sp + (dK x L + 1)) (L - (dK x L + 1)) (dFl sp L fl (dK x L)) gl s ou inp pc n st ∧ Sm mRl A A' := by
  obtain ⟨h2, h1, h3, h4, h5, h6, h7, h8, h9⟩ := h
  obtain ⟨A', e1, e2, e3⟩ := m_call h3 hL hx hs hs2
  have e4 := e3
  unfold mRl at e4
  exact ⟨A', e1, ⟨MP_back h2 e4 (by intro c k; omega), h1.sm e4 (by intro c k; omega), e2, h4.sm e4 (by intro c k; omega), h5.sm e4 (by intro c k; omega), h6.sm e4 (by intro c k; omega), by rw [e4.L (by omega)]; exact h7, by rw [e4.I (by omega)]; exact h8, by rw [e4.I (by omega)]; exact h9⟩, e3⟩
theorem mm_give {A : Sx} {b : Pb} {mem : Nat → Nat} {sp L x c : Nat} {l : List Nat} {fl gl s : Nat → Int64} {ou inp : List Int32} {pc : Int64} {n st : Int32} (h : MMc A b mem sp L fl gl s ou inp pc n st) (hL : L ≤ 16) (hx : x < 256) (hs : sp + L ≤ 600) (hf : Fr fl (c :: l) sp) :
    ∃ A', X12_giveBack (nI x) A = rt () A' ∧ MMc A' b mem (sp - (c + 1)) (min 16 (c + upC x L)) (uFl sp x L fl) gl s ou inp pc n st ∧ Sm mRl A A' := by
  obtain ⟨h2, h1, h3, h4, h5, h6, h7, h8, h9⟩ := h
  obtain ⟨A', e1, e2, e3⟩ := m_give h3 hL hx hs hf
  have e4 := e3
  unfold mRl at e4
  exact ⟨A', e1, ⟨MP_back h2 e4 (by intro c k; omega), h1.sm e4 (by intro c k; omega), e2, h4.sm e4 (by intro c k; omega), h5.sm e4 (by intro c k; omega), h6.sm e4 (by intro c k; omega), by rw [e4.L (by omega)]; exact h7, by rw [e4.I (by omega)]; exact h8, by rw [e4.I (by omega)]; exact h9⟩, e3⟩
theorem mm_touch {A : Sx} {b b' : Pb} {mem : Nat → Nat} {sp L a f : Nat} {w : Bool} {fl gl s : Nat → Int64} {ou inp : List Int32} {pc : Int64} {n st : Int32} (h : MMc A b mem sp L fl gl s ou inp pc n st) (hb : bOK b) (ha : a < 65536) (hT : bTouch b (a / 64) w f b') :
    ∃ A', X12_touch (nI a) (b1 w) A = rt () A' ∧ MMc A' b' mem sp L fl gl s ou inp pc n st ∧ Sm mPl A A' := by
  obtain ⟨h2, h1, h3, h4, h5, h6, h7, h8, h9⟩ := h
  obtain ⟨A', e1, e2, e3⟩ := m_touch h2 hb ha hT
  have e4 := e3
  unfold mPl at e4
  exact ⟨A', e1, ⟨e2, h1.sm e4 (by intro c k; omega), h3.sm e4 (by intro c k; omega), h4.sm e4 (by intro c k; omega), h5.sm e4 (by intro c k; omega), h6.sm e4 (by intro c k; omega), by rw [e4.L (by omega)]; exact h7, by rw [e4.I (by omega)]; exact h8, by rw [e4.I (by omega)]; exact h9⟩, e3⟩
theorem mm_lay {A : Sx} {b : Pb} {mem : Nat → Nat} {sp L a m : Nat} {fl gl s : Nat → Int64} {ou inp : List Int32} {pc : Int64} {n st : Int32} (v : Int64) (h : MMc A b mem sp L fl gl s ou inp pc n st) (ham : a + m ≤ 65536) (hm : m ≤ 8) :
    ∃ A', X12_lay (nI a) (nI m) v A = rt () A' ∧ MMc A' b (putB mem a m v) sp L fl gl s ou inp pc n st ∧ Sm (fun c _ => c = 169) A A' := by
  obtain ⟨h2, h1, h3, h4, h5, h6, h7, h8, h9⟩ := h
  obtain ⟨A', e1, e2, e4⟩ := m_lay (v := v) ham hm h1
  exact ⟨A', e1, ⟨MP_back h2 e4 (by intro c k; omega), e2, h3.sm e4 (by intro c k; omega), h4.sm e4 (by intro c k; omega), h5.sm e4 (by intro c k; omega), h6.sm e4 (by intro c k; omega), by rw [e4.L (by omega)]; exact h7, by rw [e4.I (by omega)]; exact h8, by rw [e4.I (by omega)]; exact h9⟩, e4⟩
theorem mm_reckon {A : Sx} {b : Pb} {mem : Nat → Nat} {sp L k : Nat} {fl gl s : Nat → Int64} {ou inp : List Int32} {pc : Int64} {n st : Int32} (x y : Int64) (h : MMc A b mem sp L fl gl s ou inp pc n st) (hr : 2 ≤ k ∧ k ≤ 32 ∧ k % 2 = 0) :
    ∃ A', X12_reckoned (nI k) x y A = rt (rkV k x y s) A' ∧ MMc A' b mem sp L fl gl (rkS k x y s) ou inp pc n st ∧ Sm mRk A A' := by
  obtain ⟨h2, h1, h3, h4, h5, h6, h7, h8, h9⟩ := h
  obtain ⟨A', e1, e2, e3⟩ := m_reckon x y h4 hr
  have e4 := e3
  unfold mRk at e4
  exact ⟨A', e1, ⟨MP_back h2 e4 (by intro c k; omega), h1.sm e4 (by intro c k; omega), h3.sm e4 (by intro c k; omega), e2, h5.sm e4 (by intro c k; omega), h6.sm e4 (by intro c k; omega), by rw [e4.L (by omega)]; exact h7, by rw [e4.I (by omega)]; exact h8, by rw [e4.I (by omega)]; exact h9⟩, e3⟩
theorem mm_spc {A : Sx} {b : Pb} {mem : Nat → Nat} {sp L k : Nat} {fl gl s : Nat → Int64} {ou inp : List Int32} {pc : Int64} {n st : Int32} (v : Int64) (hk : k < 4) (h : MMc A b mem sp L fl gl s ou inp pc n st) :
    MMc (pL A 172 k v) b mem sp L fl gl (up s k v) ou inp pc n st ∧ Sm mRk A (pL A 172 k v) := by
  obtain ⟨h2, h1, h3, h4, h5, h6, h7, h8, h9⟩ := h
  have e4 : Sm (fun c j => c = 172 ∧ j < 4) A (pL A 172 k v) := Sm.pL ⟨rfl, hk⟩
  exact ⟨⟨MP_back h2 e4 (by intro c k; omega), h1.sm e4 (by intro c k; omega), h3.sm e4 (by intro c k; omega), h4.up, h5.sm e4 (by intro c k; omega), h6.sm e4 (by intro c k; omega), by rw [e4.L (by omega)]; exact h7, by rw [e4.I (by omega)]; exact h8, by rw [e4.I (by omega)]; exact h9⟩, e4⟩
/-- M's scratch: the operation and its fields -/
theorem mm_scr {P : Nat → Nat → Prop} {A A' : Sx} {b : Pb} {mem : Nat → Nat} {sp L : Nat} {fl gl s : Nat → Int64} {ou inp : List Int32} {pc : Int64} {n st : Int32} (h : MMc A b mem sp L fl gl s ou inp pc n st) (e3 : Sm P A A') (hp : ∀ c k, P c k → (c = 167 ∧ 30 ≤ k ∧ k ≤ 33)) : MMc A' b mem sp L fl gl s ou inp pc n st := by
  obtain ⟨h2, h1, h3, h4, h5, h6, h7, h8, h9⟩ := h
  have e4 : Sm (fun c k => c = 167 ∧ 30 ≤ k ∧ k ≤ 33) A A' := e3.mono hp
  exact ⟨MP_back h2 e4 (by intro c k; omega), h1.sm e4 (by intro c k; omega), h3.sm e4 (by intro c k; omega), h4.sm e4 (by intro c k; omega), h5.sm e4 (by intro c k; omega), h6.sm e4 (by intro c k; omega), by rw [e4.L (by omega)]; exact h7, by rw [e4.I (by omega)]; exact h8, by rw [e4.I (by omega)]; exact h9⟩
theorem mm_pc {A : Sx} {b : Pb} {mem : Nat → Nat} {sp L : Nat} {fl gl s : Nat → Int64} {ou inp : List Int32} {pc : Int64} {n st : Int32} (q : Int64) (h : MMc A b mem sp L fl gl s ou inp pc n st) : MMc (pL A 167 12 q) b mem sp L fl gl s ou inp q n st ∧ Sm mSt A (pL A 167 12 q) := by
  obtain ⟨h2, h1, h3, h4, h5, h6, h7, h8, h9⟩ := h
  have e4 : Sm (fun c k => c = 167 ∧ k = 12) A (pL A 167 12 q) := Sm.pL (by omega)
  exact ⟨⟨MP_back h2 e4 (by intro c k; omega), h1.sm e4 (by intro c k; omega), h3.sm e4 (by intro c k; omega), h4.sm e4 (by intro c k; omega), h5.sm e4 (by intro c k; omega), h6.sm e4 (by intro c k; omega), by rw [gL_pL, if_pos ⟨rfl, rfl⟩], by rw [e4.I (by omega)]; exact h8, by rw [e4.I (by omega)]; exact h9⟩, e4.mono (by unfold mSt; intro c k; omega)⟩
theorem mm_n {A : Sx} {b : Pb} {mem : Nat → Nat} {sp L : Nat} {fl gl s : Nat → Int64} {ou inp : List Int32} {pc : Int64} {n st : Int32} (q : Int32) (h : MMc A b mem sp L fl gl s ou inp pc n st) : MMc (pI A 167 14 q) b mem sp L fl gl s ou inp pc q st ∧ Sm mSt A (pI A 167 14 q) := by
  obtain ⟨h2, h1, h3, h4, h5, h6, h7, h8, h9⟩ := h
  have e4 : Sm (fun c k => c = 167 ∧ k = 14) A (pI A 167 14 q) := Sm.pI (by omega)
  exact ⟨⟨MP_back h2 e4 (by intro c k; omega), h1.sm e4 (by intro c k; omega), h3.sm e4 (by intro c k; omega), h4.sm e4 (by intro c k; omega), h5.sm e4 (by intro c k; omega), h6.sm e4 (by intro c k; omega), by rw [e4.L (by omega)]; exact h7, by rw [gI_pI, if_pos ⟨rfl, rfl⟩], by rw [e4.I (by omega)]; exact h9⟩, e4.mono (by unfold mSt; intro c k; omega)⟩
theorem mm_st {A : Sx} {b : Pb} {mem : Nat → Nat} {sp L : Nat} {fl gl s : Nat → Int64} {ou inp : List Int32} {pc : Int64} {n st : Int32} (q : Int32) (h : MMc A b mem sp L fl gl s ou inp pc n st) : MMc (pI A 167 13 q) b mem sp L fl gl s ou inp pc n q ∧ Sm mSt A (pI A 167 13 q) := by
  obtain ⟨h2, h1, h3, h4, h5, h6, h7, h8, h9⟩ := h
  have e4 : Sm (fun c k => c = 167 ∧ k = 13) A (pI A 167 13 q) := Sm.pI (by omega)
  exact ⟨⟨MP_back h2 e4 (by intro c k; omega), h1.sm e4 (by intro c k; omega), h3.sm e4 (by intro c k; omega), h4.sm e4 (by intro c k; omega), h5.sm e4 (by intro c k; omega), h6.sm e4 (by intro c k; omega), by rw [e4.L (by omega)]; exact h7, by rw [e4.I (by omega)]; exact h8, by rw [gI_pI, if_pos ⟨rfl, rfl⟩]⟩, e4.mono (by unfold mSt; intro c k; omega)⟩
