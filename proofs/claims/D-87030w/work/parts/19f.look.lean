set_option maxRecDepth 100000
/-! ===== faults ===== -/
/-- X's fault c, at place p -/
def xF (S : Sx) (c p : Int32) : Sx := pI (pI S 1 6 c) 1 7 p
/-- M's end with c -/
def mE (S : Sx) (c : Int32) : Sx := pI (xs (nw S 70 0 7) (gn S) 20) (gn S) 6 c
theorem x_want0 {S : Sx} (h : gK S 1 = 7) (c : Int32) : X5_want 0 c S = th 1 (xF S c 0) := by
  unfold X5_want X1_of
  rw [if_pos rfl, pt_e, pt_e, bd_rt, dO_s (by rw [gK_pI, gK_pI]; exact h)]
  rfl
theorem x_want1 (S : Sx) (c : Int32) : X5_want 1 c S = rt () S := if_neg (by decide)
theorem x_wantb {S : Sx} (h : gK S 1 = 7) (b : Bool) (c : Int32) : X5_want (b1 b) c S = if b = true then rt () S else th 1 (xF S c 0) := by
  cases b
  · exact x_want0 h c
  · exact x_want1 S c
def roomM (S : Sx) : Prop := gn S + 1 ≤ CAPC ∧ gu S + 8 ≤ CAPS
theorem m_end {β : Type} {S : Sx} (h : roomM S) (c : Int32) : (al S (14 + 50 + 6) 0 7 (fun c1 S1 => bd (X14_init c1 c S1) (fun _ S2 => (th c1 S2 : Rs β)))) = th (gn S) (mE S c) := by
  rw [al_e h.1 (by have := h.2; omega)]
  unfold X14_init xi
  rw [if_pos (by rw [gK_nw, if_pos rfl])]
  show bd (kd (xs (nw S 70 0 7) (gn S) 20) 20 (gn S) (pt (pI (xs (nw S 70 0 7) (gn S) 20) (gn S) 6 c) (fun S2 => rt () S2))) _ = _
  rw [kd_e (by rw [gK_xs, if_pos rfl]), pt_e, bd_rt]
  rfl
/-! ===== the checks of an operation ===== -/
def ck8 (op sp : Nat) : Nat := if op = 68 ∧ sp = 0 then 8 else 0
def ck67 (op x sp L : Nat) : Nat := if op = 67 then (if dK x L + 1 ≤ L ∨ sp + (dK x L + 1) ≤ 600 then 0 else 5) else ck8 op sp
def ckW (op x sp L t : Nat) : Nat := if opW op = true ∧ x < 16 ∧ ¬ x < L ∧ ¬ sp + (x + 1) ≤ 600 then 5 else t
def ck79 (op x sp L t : Nat) : Nat := if op = 79 ∧ 4 < x then 3 else ckW op x sp L t
def ck78 (op x z sp L t : Nat) : Nat := if op = 78 ∧ 4 < z then 3 else ck79 op x sp L t
def ckR (op x y z sp L t : Nat) : Nat := if (opX op = true ∧ 31 < x) ∨ (opY op = true ∧ 31 < y) ∨ (opZ op = true ∧ 31 < z) then 3 else ck78 op x z sp L t
def chk (op x y z sp L t : Nat) : Nat := if opO op = true then ckR op x y z sp L t else 3
def lk (S : Sx) (n : Nat) : Rs Unit := if n = 0 then rt () S else th 1 (xF S (nI n) 0)
theorem n_lt {i N : Nat} (hi : i < 2 ^ 31) (hN : N < 2 ^ 31) : (OfNat.ofNat N : Int32) < nI i ↔ N < i := nI_ltI hN hi
theorem x_250 {S : Sx} {n : Nat} (h : gK S 1 = 7) (b : Bool) (hn : n = if b = true then 0 else 8) : X5_look_250 (b1 b) S = lk S n := by
  unfold X5_look_250
  cases b
  · rw [show b1 false = 0 from rfl, x_want0 h, bd_th, hn]; rfl
  · rw [show b1 true = 1 from rfl, x_want1, bd_rt, hn]; rfl
theorem x_228 {S : Sx} {op sp : Nat} (h : gK S 1 = 7) (hop : op < 256) (hs : gI S 139 3 = nI sp) (hsp : sp ≤ 600) : X5_look_228 (nI op) S = lk S (ck8 op sp) := by
  unfold X5_look_228 ck8
  by_cases h1 : op = 68
  · subst h1
    rw [if_pos (by rfl), hs]
    by_cases h2 : sp = 0
    · subst h2
      rw [if_pos (by decide), if_pos ⟨rfl, rfl⟩]
      exact x_250 h false rfl
    · rw [if_neg (nI_nle (by omega) (by omega)), if_neg (fun q => h2 q.2)]
      exact x_250 h true rfl
  · rw [if_neg (show ¬ nI op = 68 from fun q => h1 ((nI_eq (a := op) (b := 68) (by omega) (by omega)).mp q)), if_neg (fun q => h1 q.1)]
    exact x_250 h true rfl
theorem x_many {S : Sx} {sp n : Nat} (hs : gI S 139 3 = nI sp) (hsp : sp ≤ 600) (hn : n < 1000) : X6_isTooMany (nI n) S = rt (b1 (!decide (sp + n ≤ 600))) S := by
  unfold X6_isTooMany
  rw [hs, nI_add]
  by_cases q : sp + n ≤ 600
  · rw [if_pos (show nI (sp + n) ≤ 600 from nI_le (a := sp + n) (b := 600) q (by omega)), decide_eq_true q]; rfl
  · rw [if_neg (show ¬ nI (sp + n) ≤ 600 from nI_ge (a := 600) (b := sp + n) (by omega) (by omega)), decide_eq_false q]; rfl
theorem x_161 {S : Sx} {op x sp L : Nat} (h : gK S 1 = 7) (hop : op < 256) (hx : x < 256) (hs : gI S 139 3 = nI sp) (hL : gI S 139 5 = nI L) (hsp : sp ≤ 600) (hL2 : L ≤ 16) : X5_look_161 (nI op) (nI x) 1 S = lk S (ck67 op x sp L) := by
  unfold X5_look_161 ck67
  rw [x_want1, bd_rt]
  by_cases h1 : op = 67
  · subst h1
    rw [if_pos (by rfl), if_pos rfl]
    have key : X5_look_192 (nI 67) (nI (dK x L + 1)) S = lk S (if dK x L + 1 ≤ L ∨ sp + (dK x L + 1) ≤ 600 then 0 else 5) := by
      have hd : dK x L ≤ 16 := by unfold dK; split <;> omega
      unfold X5_look_192 X5_look_224
      rw [vl_e, hL]
      by_cases q : dK x L + 1 ≤ L
      · rw [if_pos (nI_le q (by omega)), if_pos (Or.inl q), x_want1, bd_rt, x_228 h (by omega) hs hsp]; rfl
      · rw [if_neg (nI_ge (by omega) (by omega)), x_many hs hsp (by omega), bd_rt]
        by_cases q2 : sp + (dK x L + 1) ≤ 600
        · rw [decide_eq_true q2, if_pos (by rfl), if_pos (Or.inr q2), x_want1, bd_rt, x_228 h (by omega) hs hsp]; rfl
        · rw [decide_eq_false q2, if_neg (by decide), if_neg (fun z => z.elim q q2), x_want0 h, bd_th]; rfl
    rw [← key]
    unfold dK
    by_cases hx16 : x < 16
    · rw [if_pos (lit_lt hx16 (by omega)), if_pos hx16, nI_1]
    · rw [if_neg (lit_gt (N := 16) (by omega) (by omega)), if_neg hx16, hL, nI_1]
  · rw [if_neg (show ¬ nI op = 67 from fun q => h1 ((nI_eq (a := op) (b := 67) (by omega) (by omega)).mp q)), if_neg h1]
    exact x_228 h hop hs hsp
theorem x_102 {S : Sx} {op x sp L : Nat} (h : gK S 1 = 7) (hop : op < 256) (hx : x < 256) (hs : gI S 139 3 = nI sp) (hL : gI S 139 5 = nI L) (hsp : sp ≤ 600) (hL2 : L ≤ 16) : X5_look_102 (nI op) (nI x) 1 S = lk S (ckW op x sp L (ck67 op x sp L)) := by
  unfold X5_look_102 ckW X5_look_135
  rw [x_want1, bd_rt, x_W hop, bd_rt]
  have h161 := x_161 h hop hx hs hL hsp hL2
  by_cases q1 : opW op = true
  · rw [q1, if_neg (by decide)]
    by_cases q2 : x < 16
    · rw [if_neg (lit_ge q2 (by omega)), hL]
      by_cases q3 : x < L
      · rw [if_pos (nI_lt q3 (by omega)), vl_e, if_pos rfl, h161, if_neg (fun z => z.2.2.1 q3)]
      · rw [if_neg (nI_nlt (by omega) (by omega)), vl_e, if_neg (by decide), nI_1, x_many hs hsp (by omega), bd_rt]
        by_cases q4 : sp + (x + 1) ≤ 600
        · rw [decide_eq_true q4, if_pos (by rfl), h161, if_neg (fun z => z.2.2.2 q4)]
        · rw [decide_eq_false q4, if_neg (by decide), if_pos ⟨rfl, q2, q3, q4⟩]
          unfold X5_look_161
          rw [x_want0 h, bd_th]; rfl
    · rw [if_pos (lit_le (N := 16) (by omega) (by omega)), vl_e, if_pos rfl, h161, if_neg (fun z => q2 z.2.1)]
  · rw [Bool.eq_false_iff.mpr q1, if_pos (by rfl), vl_e, if_pos rfl, h161, if_neg (fun z => Bool.noConfusion z.1)]
theorem x_81 {S : Sx} {op x sp L : Nat} (h : gK S 1 = 7) (hop : op < 256) (hx : x < 256) (hs : gI S 139 3 = nI sp) (hL : gI S 139 5 = nI L) (hsp : sp ≤ 600) (hL2 : L ≤ 16) : X5_look_81 (nI op) (nI x) 1 S = lk S (ck79 op x sp L (ck67 op x sp L)) := by
  unfold X5_look_81 ck79
  rw [x_want1, bd_rt]
  have h102 := x_102 h hop hx hs hL hsp hL2
  by_cases h1 : op = 79
  · rw [if_pos (show nI op = 79 from by rw [h1]; rfl)]
    by_cases h2 : 4 < x
    · rw [if_pos ((n_lt (N := 4) (by omega) (by omega)).mpr h2), if_pos ⟨h1, h2⟩]
      unfold X5_look_102
      rw [x_want0 h, bd_th]; rfl
    · rw [if_neg (fun q => h2 ((n_lt (N := 4) (by omega) (by omega)).mp q)), if_neg (fun q => h2 q.2)]; exact h102
  · rw [if_neg (show ¬ nI op = 79 from fun q => h1 ((nI_eq (a := op) (b := 79) (by omega) (by omega)).mp q)), if_neg (fun q => h1 q.1)]; exact h102
theorem x_59 {S : Sx} {op x z sp L : Nat} (h : gK S 1 = 7) (hop : op < 256) (hx : x < 256) (hz : z < 256) (hs : gI S 139 3 = nI sp) (hL : gI S 139 5 = nI L) (hsp : sp ≤ 600) (hL2 : L ≤ 16) : X5_look_59 (nI op) (nI x) (nI z) 1 S = lk S (ck78 op x z sp L (ck67 op x sp L)) := by
  unfold X5_look_59 ck78
  rw [x_want1, bd_rt]
  have h81 := x_81 h hop hx hs hL hsp hL2
  by_cases h1 : op = 78
  · rw [if_pos (show nI op = 78 from by rw [h1]; rfl)]
    by_cases h2 : 4 < z
    · rw [if_pos ((n_lt (N := 4) (by omega) (by omega)).mpr h2), if_pos ⟨h1, h2⟩]
      unfold X5_look_81
      rw [x_want0 h, bd_th]; rfl
    · rw [if_neg (fun q => h2 ((n_lt (N := 4) (by omega) (by omega)).mp q)), if_neg (fun q => h2 q.2)]; exact h81
  · rw [if_neg (show ¬ nI op = 78 from fun q => h1 ((nI_eq (a := op) (b := 78) (by omega) (by omega)).mp q)), if_neg (fun q => h1 q.1)]; exact h81
theorem x_look {S : Sx} {op x y z sp L : Nat} (h : gK S 1 = 7) (hop : op < 256) (hx : x < 256) (hy : y < 256) (hz : z < 256) (hs : gI S 139 3 = nI sp) (hL : gI S 139 5 = nI L) (hsp : sp ≤ 600) (hL2 : L ≤ 16) : X5_look (nI op) (nI x) (nI y) (nI z) S = lk S (chk op x y z sp L (ck67 op x sp L)) := by
  have h59 := x_59 h hop hx hz hs hL hsp hL2
  have hbad : X5_look_59 (nI op) (nI x) (nI z) 0 S = lk S 3 := by
    unfold X5_look_59
    rw [x_want0 h, bd_th]; rfl
  unfold X5_look chk ckR
  rw [x_O hop, bd_rt, x_wantb h]
  by_cases h0 : opO op = true
  · rw [if_pos h0, bd_rt, x_X hop, bd_rt, if_pos h0]
    have h27 : X5_look_27 (nI op) (nI x) (nI y) (nI z) 31 S = lk S (if (opY op = true ∧ 31 < y) ∨ (opZ op = true ∧ 31 < z) then 3 else ck78 op x z sp L (ck67 op x sp L)) := by
      have h40 : X5_look_40 (nI op) (nI x) (nI z) 31 S = lk S (if (opZ op = true ∧ 31 < z) then 3 else ck78 op x z sp L (ck67 op x sp L)) := by
        unfold X5_look_40
        rw [x_Z hop, bd_rt]
        by_cases q : opZ op = true
        · rw [q, if_neg (by decide)]
          by_cases q2 : 31 < z
          · rw [if_pos ((n_lt (N := 31) (by omega) (by omega)).mpr q2), hbad, if_pos ⟨rfl, q2⟩]
          · rw [if_neg (fun e => q2 ((n_lt (N := 31) (by omega) (by omega)).mp e)), h59, if_neg (fun e => q2 e.2)]
        · rw [Bool.eq_false_iff.mpr q, if_pos (by rfl), h59, if_neg (fun e => Bool.noConfusion e.1)]
      unfold X5_look_27
      rw [x_Y hop, bd_rt]
      by_cases q : opY op = true
      · rw [q, if_neg (by decide)]
        by_cases q2 : 31 < y
        · rw [if_pos ((n_lt (N := 31) (by omega) (by omega)).mpr q2), hbad, if_pos (Or.inl ⟨rfl, q2⟩)]
        · rw [if_neg (fun e => q2 ((n_lt (N := 31) (by omega) (by omega)).mp e)), h40]
          by_cases q3 : opZ op = true ∧ 31 < z
          · rw [if_pos q3, if_pos (Or.inr q3)]
          · rw [if_neg q3, if_neg (fun e => e.elim (fun e => q2 e.2) q3)]
      · rw [Bool.eq_false_iff.mpr q, if_pos (by rfl), h40]
        by_cases q3 : opZ op = true ∧ 31 < z
        · rw [if_pos q3, if_pos (Or.inr q3)]
        · rw [if_neg q3, if_neg (fun e => e.elim (fun e => Bool.noConfusion e.1) q3)]
    by_cases q : opX op = true
    · rw [q, if_neg (by decide)]
      by_cases q2 : 31 < x
      · rw [if_pos ((n_lt (N := 31) (by omega) (by omega)).mpr q2), hbad, if_pos (Or.inl ⟨rfl, q2⟩)]
      · rw [if_neg (fun e => q2 ((n_lt (N := 31) (by omega) (by omega)).mp e)), h27]
        by_cases q3 : (opY op = true ∧ 31 < y) ∨ (opZ op = true ∧ 31 < z)
        · rw [if_pos q3, if_pos (Or.inr q3)]
        · rw [if_neg q3, if_neg (fun e => e.elim (fun e => q2 e.2) q3)]
    · rw [Bool.eq_false_iff.mpr q, if_pos (by rfl), h27]
      by_cases q3 : (opY op = true ∧ 31 < y) ∨ (opZ op = true ∧ 31 < z)
      · rw [if_pos q3, if_pos (Or.inr q3)]
      · rw [if_neg q3, if_neg (fun e => e.elim (fun e => Bool.noConfusion e.1) q3)]
  · rw [if_neg h0, bd_th, if_neg h0]; rfl
/-! M -/
def w228 (a : Int32) : Int32 := if a < 69 then 0 else if 78 < a then 0 else 1
def w199 (a : Int32) : Int32 := if a < 50 then w228 a else if a ≤ 53 then 1 else w228 a
def wW (a : Int32) : Int32 := if a < 2 then w199 a else if a ≤ 43 then 1 else w199 a
theorem wW_e : ∀ op, op < 256 → opO op = true → wW (nI op) = b1 (opW op) := by decide +kernel
theorem m_W {op : Nat} (h : op < 256) (h0 : opO op = true) (S : Sx) : X12_step_188 (nI op) S = X12_step_228 (nI op) (b1 (opW op)) S := by
  have h1 : X12_step_211 (nI op) S = X12_step_228 (nI op) (w228 (nI op)) S := by
    unfold X12_step_211 w228
    split; rfl; split <;> rfl
  have h2 : X12_step_199 (nI op) S = X12_step_228 (nI op) (w199 (nI op)) S := by
    unfold X12_step_199 w199
    rw [h1]
    split; rfl; split <;> rfl
  rw [← wW_e op h h0]
  unfold X12_step_188 wW
  rw [h2]
  split; rfl; split <;> rfl
/-- what M's checks come to -/
def mk (S : Sx) (n : Nat) (r : Rs Unit) : Rs Unit := if n = 0 then r else th (gn S) (mE S (nI n))
theorem m_228 {S : Sx} {op x sp L : Nat} {fl gl : Nat → Int64} (hR : MR S sp L fl gl) (hr : roomM S) (hop : op < 256) (hx : x < 256) (h30 : gI S 167 30 = nI x) (hsp : sp ≤ 600) (hL2 : L ≤ 16) (h0 : opO op = true) : X12_step_188 (nI op) S = mk S (ckW op x sp L 0) (X12_step_241 (nI op) S) := by
  rw [m_W hop h0]
  unfold X12_step_228 ckW
  rw [vl_e]
  by_cases q1 : opW op = true
  · rw [q1, if_neg (by decide), h30]
    unfold X12_mayWrite
    by_cases q2 : x < 16
    · rw [if_neg (lit_ge q2 (by omega)), m_rL hR, bd_rt]
      by_cases q3 : x < L
      · rw [if_pos (nI_lt q3 (by omega)), bd_rt, if_neg (fun z => z.2.2.1 q3)]; rfl
      · rw [if_neg (nI_nlt (by omega) (by omega)), hR.1, nI_add, nI_1]
        by_cases q4 : sp + (x + 1) ≤ 600
        · rw [if_pos (show nI (sp + x + 1) ≤ 600 from nI_le (a := sp + x + 1) (b := 600) (by omega) (by omega)), bd_rt, if_neg (fun z => z.2.2.2 q4)]; rfl
        · rw [if_neg (show ¬ nI (sp + x + 1) ≤ 600 from nI_ge (a := 600) (b := sp + x + 1) (by omega) (by omega)), m_end hr, bd_th, if_pos ⟨rfl, q2, q3, q4⟩]; rfl
    · rw [if_pos (lit_le (N := 16) (by omega) (by omega)), bd_rt, if_neg (fun z => q2 z.2.1)]; rfl
  · rw [Bool.eq_false_iff.mpr q1, if_pos (by rfl), if_neg (fun z => Bool.noConfusion z.1)]; rfl
theorem m_165 {S : Sx} {op x sp L : Nat} {fl gl : Nat → Int64} (hR : MR S sp L fl gl) (hr : roomM S) (hop : op < 256) (hx : x < 256) (h30 : gI S 167 30 = nI x) (hsp : sp ≤ 600) (hL2 : L ≤ 16) (h0 : opO op = true) : X12_step_165 (nI op) S = mk S (ck79 op x sp L 0) (X12_step_241 (nI op) S) := by
  have h188 := m_228 hR hr hop hx h30 hsp hL2 h0
  unfold X12_step_165 ck79
  by_cases h1 : op = 79
  · rw [if_pos (show nI op = 79 from by rw [h1]; rfl), h30]
    by_cases h2 : 4 < x
    · rw [if_neg (show ¬ nI x ≤ 4 from nI_ge (a := 4) (b := x) h2 (by omega)), if_pos ⟨h1, h2⟩]
      unfold X12_step_179
      rw [m_end hr]; rfl
    · rw [if_pos (show nI x ≤ 4 from nI_le (a := x) (b := 4) (by omega) (by omega)), if_neg (fun q => h2 q.2)]; exact h188
  · rw [if_neg (show ¬ nI op = 79 from fun q => h1 ((nI_eq (a := op) (b := 79) (by omega) (by omega)).mp q)), if_neg (fun q => h1 q.1)]; exact h188
theorem m_151 {S : Sx} {op x z sp L : Nat} {fl gl : Nat → Int64} (hR : MR S sp L fl gl) (hr : roomM S) (hop : op < 256) (hx : x < 256) (hz : z < 256) (h30 : gI S 167 30 = nI x) (h32 : gI S 167 32 = nI z) (hsp : sp ≤ 600) (hL2 : L ≤ 16) (h0 : opO op = true) : X12_step_151 (nI op) S = mk S (ck78 op x z sp L 0) (X12_step_241 (nI op) S) := by
  have h165 := m_165 hR hr hop hx h30 hsp hL2 h0
  unfold X12_step_151 ck78
  by_cases h1 : op = 78
  · rw [if_pos (show nI op = 78 from by rw [h1]; rfl), h32]
    by_cases h2 : 4 < z
    · rw [if_pos ((n_lt (N := 4) (by omega) (by omega)).mpr h2), if_pos ⟨h1, h2⟩]
      unfold X12_step_179
      rw [m_end hr]; rfl
    · rw [if_neg (fun q => h2 ((n_lt (N := 4) (by omega) (by omega)).mp q)), if_neg (fun q => h2 q.2)]; exact h165
  · rw [if_neg (show ¬ nI op = 78 from fun q => h1 ((nI_eq (a := op) (b := 78) (by omega) (by omega)).mp q)), if_neg (fun q => h1 q.1)]; exact h165
theorem m_look {S : Sx} {op x y z sp L : Nat} {fl gl : Nat → Int64} (hR : MR S sp L fl gl) (hr : roomM S) (hop : op < 256) (hx : x < 256) (hy : y < 256) (hz : z < 256) (h30 : gI S 167 30 = nI x) (h31 : gI S 167 31 = nI y) (h32 : gI S 167 32 = nI z) (hsp : sp ≤ 600) (hL2 : L ≤ 16) :
    (bd (X12_isOp (nI op) S) (fun v7 S7 => if v7 = 0 then al S7 (14 + 50 + 6) 0 7 (fun c8 S8 => bd (X14_init c8 3 S8) (fun _ S9 => th c8 S9)) else bd (X12_fields (nI op) S7) (fun v8 S8 => vl v8 (fun v9 => if (v9 &&& 1) = 0 then X12_step_112 (nI op) v9 S8 else if 31 < (gI S8 167 30) then X12_step_142 S8 else X12_step_112 (nI op) v9 S8)))) = mk S (chk op x y z sp L 0) (X12_step_241 (nI op) S) := by
  have hbad : X12_step_142 S = mk S 3 (X12_step_241 (nI op) S) := by
    unfold X12_step_142
    rw [m_end hr]; rfl
  rw [m_O hop, bd_rt]
  unfold chk ckR
  by_cases h0 : opO op = true
  · have h151 := m_151 hR hr hop hx hz h30 h32 hsp hL2 h0
    rw [h0, if_neg (by decide), m_F, bd_rt, vl_e, if_pos rfl, h30]
    have h112 : X12_step_112 (nI op) (wF (nI op)) S = mk S (if (opY op = true ∧ 31 < y) ∨ (opZ op = true ∧ 31 < z) then 3 else ck78 op x z sp L 0) (X12_step_241 (nI op) S) := by
      have h127 : X12_step_127 (nI op) (wF (nI op)) S = mk S (if (opZ op = true ∧ 31 < z) then 3 else ck78 op x z sp L 0) (X12_step_241 (nI op) S) := by
        unfold X12_step_127
        by_cases q : opZ op = true
        · rw [if_neg (fun e => by rw [(wF_4 op hop h0).mp e] at q; cases q), h32]
          by_cases q2 : 31 < z
          · rw [if_neg (show ¬ nI z ≤ 31 from nI_ge (a := 31) (b := z) q2 (by omega)), hbad, if_pos ⟨q, q2⟩]
          · rw [if_pos (show nI z ≤ 31 from nI_le (a := z) (b := 31) (by omega) (by omega)), h151, if_neg (fun e => q2 e.2)]
        · rw [if_pos ((wF_4 op hop h0).mpr (Bool.eq_false_iff.mpr q)), h151, if_neg (fun e => q e.1)]
      unfold X12_step_112
      by_cases q : opY op = true
      · rw [if_neg (fun e => by rw [(wF_2 op hop h0).mp e] at q; cases q), h31]
        by_cases q2 : 31 < y
        · rw [if_pos ((n_lt (N := 31) (by omega) (by omega)).mpr q2), hbad, if_pos (Or.inl ⟨q, q2⟩)]
        · rw [if_neg (fun e => q2 ((n_lt (N := 31) (by omega) (by omega)).mp e)), h127]
          by_cases q3 : opZ op = true ∧ 31 < z
          · rw [if_pos q3, if_pos (Or.inr q3)]
          · rw [if_neg q3, if_neg (fun e => e.elim (fun e => q2 e.2) q3)]
      · rw [if_pos ((wF_2 op hop h0).mpr (Bool.eq_false_iff.mpr q)), h127]
        by_cases q3 : opZ op = true ∧ 31 < z
        · rw [if_pos q3, if_pos (Or.inr q3)]
        · rw [if_neg q3, if_neg (fun e => e.elim (fun e => q e.1) q3)]
    by_cases q : opX op = true
    · rw [if_neg (fun e => by rw [(wF_1 op hop h0).mp e] at q; cases q)]
      by_cases q2 : 31 < x
      · rw [if_pos ((n_lt (N := 31) (by omega) (by omega)).mpr q2), hbad, if_pos (Or.inl ⟨q, q2⟩)]
      · rw [if_neg (fun e => q2 ((n_lt (N := 31) (by omega) (by omega)).mp e)), h112]
        by_cases q3 : (opY op = true ∧ 31 < y) ∨ (opZ op = true ∧ 31 < z)
        · rw [if_pos q3, if_pos (Or.inr q3)]
        · rw [if_neg q3, if_neg (fun e => e.elim (fun e => q2 e.2) q3)]
    · rw [if_pos ((wF_1 op hop h0).mpr (Bool.eq_false_iff.mpr q)), h112]
      by_cases q3 : (opY op = true ∧ 31 < y) ∨ (opZ op = true ∧ 31 < z)
      · rw [if_pos q3, if_pos (Or.inr q3)]
      · rw [if_neg q3, if_neg (fun e => e.elim (fun e => q e.1) q3)]
  · rw [Bool.eq_false_iff.mpr h0, if_pos (by rfl), m_end hr, if_neg (fun e => Bool.noConfusion e)]; rfl
