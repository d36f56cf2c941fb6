set_option maxRecDepth 100000
/-! ===== addresses ===== -/
def isA (x : Int64) : Bool := decide (¬ x < 0 ∧ x < 65536)
theorem isA_of {x : Int64} (h : isA x = true) : ∃ a, a < 65536 ∧ x = lN a := by
  have h := of_decide_eq_true h
  obtain ⟨k, hk, rfl⟩ := pk_lOf h.1
  exact ⟨k, (pk_lLT (a := k) (b := 65536) hk (by decide)).mp h.2, rfl⟩
theorem isA_n {a : Nat} (h : a < 65536) : isA (lN a) = true := decide_eq_true ⟨fun q => by rw [l_lt, pk_lT (by omega), show (0 : Int64).toInt = 0 from rfl] at q; omega, (pk_lLT (a := a) (b := 65536) (by omega) (by decide)).mpr h⟩
theorem x_isA (x : Int64) (S : Sx) : X0_isAddress x S = rt (b1 (isA x)) S := by
  unfold X0_isAddress isA
  by_cases h1 : x < 0
  · rw [if_pos h1, decide_eq_false (fun q => q.1 h1)]; rfl
  · rw [if_neg h1]
    by_cases h2 : x < 65536
    · rw [if_neg (fun q => by rw [l_le] at q; rw [l_lt] at h2; omega), decide_eq_true ⟨h1, h2⟩]; rfl
    · rw [if_pos (by rw [l_lt] at h2; rw [l_le]; omega), decide_eq_false (fun q => h2 q.2)]; rfl
def isM (m : Nat) : Prop := m = 1 ∨ m = 4 ∨ m = 8
/-- the place that is asked -/
def al8 (a m : Nat) : Nat := a / m * m
theorem al8_lt {a m : Nat} (hm : isM m) (h : a < 65536) : al8 a m < 65536 ∧ al8 a m + m ≤ 65536 ∧ al8 a m % 64 + m ≤ 64 := by
  unfold al8
  rcases hm with rfl | rfl | rfl <;> omega
theorem m_addr {B : Sx} {m a : Nat} (hm : isM m) (h : a < 65536) : X12_address (lN a) (nI m) B = rt (nI (al8 a m)) B := by
  unfold X12_address
  have h1 := of_decide_eq_true (isA_n h)
  have hm0 : ¬ nI m = 0 := by rcases hm with rfl | rfl | rfl <;> decide
  rw [if_neg h1.1, if_pos h1.2, if_neg hm0, lN_i, pk_div (by omega) (by rcases hm with rfl | rfl | rfl <;> omega) (by rcases hm with rfl | rfl | rfl <;> omega), pk_mul]
  rfl
theorem m_addr0 {B : Sx} {m : Int32} {x : Int64} (hr : roomM B) (h : isA x = false) : X12_address x m B = th (gn B) (mE B 4) := by
  unfold X12_address X12_address_14
  have h1 := of_decide_eq_false h
  by_cases h2 : x < 0
  · rw [if_pos h2, m_end hr]
  · rw [if_neg h2, if_neg (fun q => h1 ⟨h2, q⟩), m_end hr]
theorem and_neg {a k : Nat} (ha : a < 65536) (hk : k ≤ 3) : nI a &&& (-nI (2 ^ k)) = nI (a / 2 ^ k * 2 ^ k) := by
  apply Int32.toBitVec_inj.mp
  apply BitVec.eq_of_getLsbD_eq
  intro i hi
  have e1 : (nI (a / 2 ^ k * 2 ^ k)).toBitVec.getLsbD i = (a / 2 ^ k * 2 ^ k).testBit i := by
    show (BitVec.ofNat 32 _).getLsbD i = _
    rw [BitVec.getLsbD_ofNat]
    simp [hi]
  have e2 : (nI a).toBitVec.getLsbD i = a.testBit i := by
    show (BitVec.ofNat 32 _).getLsbD i = _
    rw [BitVec.getLsbD_ofNat]
    simp [hi]
  have e3 : ∀ k, k < 4 → ∀ i, i < 32 → (-nI (2 ^ k)).toBitVec.getLsbD i = decide (k ≤ i) := by decide +kernel
  rw [Int32.toBitVec_and, BitVec.getLsbD_and, e1, e2, e3 k (by omega) i hi, Nat.testBit_mul_two_pow, Nat.testBit_div_two_pow]
  by_cases q : k ≤ i
  · simp [q, show i - k + k = i by omega]
  · simp [q]
theorem x_align {a m : Nat} (ha : a < 65536) (hm : isM m) : nI a &&& (-nI m) = nI (al8 a m) := by
  rcases hm with rfl | rfl | rfl
  · exact and_neg (k := 0) ha (by omega)
  · exact and_neg (k := 2) ha (by omega)
  · exact and_neg (k := 3) ha (by omega)
/-! M: fetch and store -/
theorem mm_fetch {A : Sx} {b b' : Pb} {mem : Nat → Nat} {sp L a m f : Nat} {fl gl s : Nat → Int64} {ou inp : List Int32} {pc : Int64} {n st : Int32} (h : MMc A b mem sp L fl gl s ou inp pc n st) (hb : bOK b) (hmm : memOK mem) (hm : isM m) (ha : a < 65536) (hT : bTouch b (al8 a m / 64) false f b') :
    ∃ A', X12_fetch (lN a) (nI m) A = rt (numL mem (al8 a m) m) A' ∧ MMc A' b' mem sp L fl gl s ou inp pc n st ∧ Sm mPl A A' := by
  obtain ⟨q1, q2, q3⟩ := al8_lt hm ha
  obtain ⟨A', e1, e2, e3⟩ := mm_touch h hb q1 hT
  refine ⟨A', ?_, e2, e3⟩
  unfold X12_fetch
  rw [m_addr hm ha, bd_rt, vl_e, show (0 : Int32) = b1 false from rfl, e1, bd_rt, m_number e2.2.1 hmm q2 (by rcases hm with rfl | rfl | rfl <;> omega), bd_rt]
theorem mm_store {A : Sx} {b b' : Pb} {mem : Nat → Nat} {sp L a m f : Nat} {fl gl s : Nat → Int64} {ou inp : List Int32} {pc : Int64} {n st : Int32} (v : Int64) (h : MMc A b mem sp L fl gl s ou inp pc n st) (hb : bOK b) (hm : isM m) (ha : a < 65536) (hT : bTouch b (al8 a m / 64) true f b') :
    ∃ A', X12_store (lN a) (nI m) v A = rt () A' ∧ MMc A' b' (putB mem (al8 a m) m v) sp L fl gl s ou inp pc n st ∧ Sm mSt A A' := by
  obtain ⟨q1, q2, q3⟩ := al8_lt hm ha
  obtain ⟨A1, e1, e2, e3⟩ := mm_touch h hb q1 hT
  obtain ⟨A', f1, f2, f3⟩ := mm_lay v e2 q2 (by rcases hm with rfl | rfl | rfl <;> omega)
  refine ⟨A', ?_, f2, (e3.mono (by unfold mPl mSt; intro c k; omega)).trans (f3.mono (by unfold mSt; intro c k; omega))⟩
  unfold X12_store
  rw [m_addr hm ha, bd_rt, vl_e, show (1 : Int32) = b1 true from rfl, e1, bd_rt, f1, bd_rt]
theorem m_fetch0 {B : Sx} {m : Int32} {x : Int64} (hr : roomM B) (h : isA x = false) : X12_fetch x m B = th (gn B) (mE B 4) := by
  unfold X12_fetch
  rw [m_addr0 hr h, bd_th]
theorem m_store0 {B : Sx} {m : Int32} {x v : Int64} (hr : roomM B) (h : isA x = false) : X12_store x m v B = th (gn B) (mE B 4) := by
  unfold X12_store
  rw [m_addr0 hr h, bd_th]
/-! ===== the relation of both ===== -/
def RMp (A B : Sx) (pc : Int64) (n st : Int32) : Prop := ∃ b mem sp L fl gl fs s ou inp, XMc A b mem sp L fl gl s ou inp pc n st ∧ MMc B b mem sp L fl gl s ou inp pc n st ∧ mcOK b mem sp L fl fs ou inp
/-- both go on -/
def OkR (A B A' B' : Sx) (pc : Int64) (n st : Int32) : Prop := RMp A' B' pc n st ∧ Sm xSt A A' ∧ Sm mSt B B'
/-! ===== loads and stores ===== -/
def acM (op : Nat) : Nat := if op / 2 * 2 = 40 ∨ op / 2 * 2 = 46 then 4 else if op / 2 * 2 = 42 ∨ op / 2 * 2 = 48 then 8 else 1
theorem acM_M (op : Nat) : isM (acM op) := by
  unfold acM isM
  split
  · omega
  · split <;> omega
def vB (a : Int32) : Int32 := if (a &&& (-2)) = 40 then 4 else if (a &&& (-2)) = 42 then 8 else if (a &&& (-2)) = 46 then 4 else if (a &&& (-2)) = 48 then 8 else 1
theorem vB_e : ∀ op, op < 256 → vB (nI op) = nI (acM op) := by decide +kernel
theorem x_bytes {op : Nat} (h : op < 256) (S : Sx) : X5_bytesOf (nI op) S = rt (nI (acM op)) S := by
  rw [← vB_e op h]
  unfold X5_bytesOf vB
  split; rfl; split; rfl; split; rfl; split <;> rfl
/-- what a load makes of the bytes -/
def ldV (k : Nat) (v : Int64) : Int64 := if k = 36 then v.toInt32.toInt8.toInt32.toInt64 else if k = 40 then v.toInt32.toInt64 else v
theorem rset_OK {b : Pb} {mem : Nat → Nat} {sp L x : Nat} {fl : Nat → Int64} {fs : List Nat} {ou inp : List Int32} (v : Int64) (h : mcOK b mem sp L fl fs ou inp) (hs : sp + rL L x ≤ 600) : mcOK b mem sp (rL L x) (rFl sp L fl x v) fs ou inp := by
  obtain ⟨h1, h2, h3, h4, h5, h6⟩ := h
  refine ⟨h1, h2, ?_, hs, h5.congr (fun i hi => ?_), h6⟩
  · unfold rL
    split
    · split <;> omega
    · omega
  · unfold rFl
    split
    · show (if i = sp + x then v else if sp + L ≤ i ∧ i < sp + x then 0 else fl i) = fl i
      rw [if_neg (by omega), if_neg (by omega)]
    · rfl
theorem acc_load {A B : Sx} {b : Pb} {mem : Nat → Nat} {sp L op x : Nat} {fl gl s : Nat → Int64} {fs : List Nat} {ou inp : List Int32} {pc nx : Int64} {n st : Int32} (addr : Int64) (hX : XMc A b mem sp L fl gl s ou inp pc n st) (hM : MMc B b mem sp L fl gl s ou inp pc n st) (hO : mcOK b mem sp L fl fs ou inp) (hr : roomM B) (h30 : gI B 167 30 = nI x) (hx : x < 32) (hop : 36 ≤ op ∧ op < 44) (hs : sp + rL L x ≤ 600) :
    (∃ A' B', X5_access (nI op) (nI x) addr A = rt () A' ∧ X12_moved (nI (op / 2 * 2)) addr nx B = rt nx B' ∧ OkR A B A' B' pc n st) ∨ (X5_access (nI op) (nI x) addr A = th 1 (xF A 4 0) ∧ X12_moved (nI (op / 2 * 2)) addr nx B = th (gn B) (mE B 4)) := by
  have hMv : ∀ (r : Rs Int64) , X12_fetch addr (nI (acM op)) B = r → X12_moved (nI (op / 2 * 2)) addr nx B = bd r (fun v S1 => bd (X12_set (nI x) (ldV (op / 2 * 2) v) S1) (fun _ S2 => rt nx S2)) := by
    intro r hrr
    rw [← hrr]
    unfold X12_moved acM ldV
    rw [h30]
    have hk : op / 2 * 2 = 36 ∨ op / 2 * 2 = 38 ∨ op / 2 * 2 = 40 ∨ op / 2 * 2 = 42 := by omega
    rcases hk with hk | hk | hk | hk <;> rw [hk]
    · rw [if_pos (by decide)]; rfl
    · rw [if_neg (by decide), if_pos (by decide)]; rfl
    · rw [if_neg (by decide), if_neg (by decide), if_pos (by decide)]; rfl
    · rw [if_neg (by decide), if_neg (by decide), if_neg (by decide), if_pos (by decide)]; rfl
  have hX1 : X5_access (nI op) (nI x) addr A = bd (X5_want (b1 (isA addr)) 4 A) (fun _ S2 => bd (X2_get (addr.toInt32 &&& (-nI (acM op))) (nI (acM op)) S2) (fun v6 S5 => bd (X6_set (nI x) (ldV (op / 2 * 2) v6) S5) (fun _ S1 => rt () S1))) := by
    unfold X5_access
    rw [x_isA, bd_rt, x_wantb hX.1]
    by_cases q : isA addr = true
    · rw [if_pos q, bd_rt, bd_rt, x_bytes (by omega), bd_rt, vl_e, vl_e, x_S (by omega), bd_rt, show opS op = false from decide_eq_false (by omega), if_pos (by rfl), op_even op (by omega)]
      congr 1
      funext v6 S5
      rw [vl_e, vl_e]
      unfold ldV X5_access_105
      have hk : op / 2 * 2 = 36 ∨ op / 2 * 2 = 38 ∨ op / 2 * 2 = 40 ∨ op / 2 * 2 = 42 := by omega
      rcases hk with hk | hk | hk | hk <;> rw [hk]
      · rw [if_pos (by decide)]; rfl
      · rw [if_neg (by decide), if_neg (by decide)]; rfl
      · rw [if_neg (by decide), if_pos (by decide)]; rfl
      · rw [if_neg (by decide), if_neg (by decide)]; rfl
    · rw [if_neg q, bd_th, bd_th]
  by_cases q : isA addr = true
  · left
    obtain ⟨a, ha, rfl⟩ := isA_of q
    obtain ⟨q1, q2, q3⟩ := al8_lt (acM_M op) ha
    obtain ⟨f, b', hT⟩ := bTouch_ex b (al8 a (acM op) / 64) false hO.1
    have hb' := (bTouch_OK hO.1 (by omega) hT).1
    obtain ⟨A1, e1, e2, e3⟩ := xm_get hX hO.1 hO.2.1 q1 hT q3
    obtain ⟨B1, f1, f2, f3⟩ := mm_fetch hM hO.1 hO.2.1 (acM_M op) ha hT
    obtain ⟨A2, g1, g2, g3⟩ := xm_rset (ldV (op / 2 * 2) (numL mem (al8 a (acM op)) (acM op))) e2 hb' hx hO.2.2.1 hs
    obtain ⟨B2, k1, k2, k3⟩ := mm_rset (ldV (op / 2 * 2) (numL mem (al8 a (acM op)) (acM op))) f2 hx hO.2.2.1
    refine ⟨A2, B2, ?_, ?_, ⟨b', mem, sp, rL L x, _, _, fs, s, ou, inp, g2, k2, rset_OK _ ⟨hb', hO.2⟩ hs⟩, e3.trans g3, (f3.mono (by unfold mPl mSt; intro c k; omega)).trans (k3.mono (by unfold mRl mSt; intro c k; omega))⟩
    · rw [hX1, q, show b1 true = 1 from rfl, x_want1, bd_rt, lN_i, x_align ha (acM_M op), e1, bd_rt, g1, bd_rt]
    · rw [hMv _ f1, bd_rt, k1, bd_rt]
  · right
    have q := Bool.eq_false_iff.mpr q
    refine ⟨?_, ?_⟩
    · rw [hX1, q, show b1 false = 0 from rfl, x_want0 hX.1, bd_th]
    · rw [hMv _ (m_fetch0 hr q), bd_th]
theorem putB_mc {b : Pb} {mem : Nat → Nat} {sp L a m : Nat} {fl : Nat → Int64} {fs : List Nat} {ou inp : List Int32} {b' : Pb} (v : Int64) (h : mcOK b mem sp L fl fs ou inp) (hb : bOK b') : mcOK b' (putB mem a m v) sp L fl fs ou inp := ⟨hb, putB_OK h.2.1 a m v, h.2.2⟩
theorem acc_store {A B : Sx} {b : Pb} {mem : Nat → Nat} {sp L op x : Nat} {fl gl s : Nat → Int64} {fs : List Nat} {ou inp : List Int32} {pc nx : Int64} {n st : Int32} (addr : Int64) (hX : XMc A b mem sp L fl gl s ou inp pc n st) (hM : MMc B b mem sp L fl gl s ou inp pc n st) (hO : mcOK b mem sp L fl fs ou inp) (hr : roomM B) (h30 : gI B 167 30 = nI x) (hx : x < 32) (hop : 44 ≤ op ∧ op < 50) :
    (∃ A' B', X5_access (nI op) (nI x) addr A = rt () A' ∧ X12_moved (nI (op / 2 * 2)) addr nx B = rt nx B' ∧ OkR A B A' B' pc n st) ∨ (X5_access (nI op) (nI x) addr A = th 1 (xF A 4 0) ∧ X12_moved (nI (op / 2 * 2)) addr nx B = th (gn B) (mE B 4)) := by
  have hgM := m_rget hM.2.2.1 hx hO.2.2.1
  have hMv : X12_moved (nI (op / 2 * 2)) addr nx B = bd (X12_store addr (nI (acM op)) (rGet sp L fl gl x) B) (fun _ S2 => rt nx S2) := by
    unfold X12_moved acM
    rw [h30, hgM]
    have hk : op / 2 * 2 = 44 ∨ op / 2 * 2 = 46 ∨ op / 2 * 2 = 48 := by omega
    rcases hk with hk | hk | hk <;> rw [hk]
    · rw [if_neg (by decide), if_neg (by decide), if_neg (by decide), if_neg (by decide), if_pos (by decide), bd_rt]; rfl
    · rw [if_neg (by decide), if_neg (by decide), if_neg (by decide), if_neg (by decide), if_neg (by decide), if_pos (by decide), bd_rt]; rfl
    · rw [if_neg (by decide), if_neg (by decide), if_neg (by decide), if_neg (by decide), if_neg (by decide), if_neg (by decide), if_pos (by decide), bd_rt]; rfl
  have hX1 : X5_access (nI op) (nI x) addr A = bd (X5_want (b1 (isA addr)) 4 A) (fun _ S2 => bd (X2_set (addr.toInt32 &&& (-nI (acM op))) (nI (acM op)) (rGet sp L fl gl x) A) (fun _ S6 => rt () S6)) := by
    unfold X5_access
    rw [x_isA, bd_rt, x_wantb hX.1]
    by_cases q : isA addr = true
    · rw [if_pos q, bd_rt, bd_rt, x_bytes (by omega), bd_rt, vl_e, vl_e, x_S (by omega), bd_rt, show opS op = true from decide_eq_true (by omega), if_neg (by decide), x_rget hX.2.2.1 hx hO.2.2.1 hO.2.2.2.1, bd_rt]
    · rw [if_neg q, bd_th, bd_th]
  by_cases q : isA addr = true
  · left
    obtain ⟨a, ha, rfl⟩ := isA_of q
    obtain ⟨q1, q2, q3⟩ := al8_lt (acM_M op) ha
    obtain ⟨f, b', hT⟩ := bTouch_ex b (al8 a (acM op) / 64) true hO.1
    have hb' := (bTouch_OK hO.1 (by omega) hT).1
    obtain ⟨A1, e1, e2, e3⟩ := xm_set (rGet sp L fl gl x) hX hO.1 q1 hT q3
    obtain ⟨B1, f1, f2, f3⟩ := mm_store (rGet sp L fl gl x) hM hO.1 (acM_M op) ha hT
    refine ⟨A1, B1, ?_, ?_, ⟨b', _, sp, L, _, _, fs, s, ou, inp, e2, f2, putB_mc _ hO hb'⟩, e3, f3⟩
    · rw [hX1, q, show b1 true = 1 from rfl, x_want1, bd_rt, lN_i, x_align ha (acM_M op), e1, bd_rt]
    · rw [hMv, f1, bd_rt]
  · right
    have q := Bool.eq_false_iff.mpr q
    refine ⟨?_, ?_⟩
    · rw [hX1, q, show b1 false = 0 from rfl, x_want0 hX.1, bd_th]
    · rw [hMv, m_store0 hr q, bd_th]
