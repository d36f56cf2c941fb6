set_option maxRecDepth 100000
/-! ===== calls: what PUSHJ and POP do to the stack ===== -/
/-- the frames that lie in the stack, the newest first: how many registers each keeps -/
def Fr (fl : Nat → Int64) : List Nat → Nat → Prop
  | [], sp => sp = 0
  | c :: l, sp => fl (sp - 1) = lN c ∧ c ≤ 16 ∧ c + 1 ≤ sp ∧ Fr fl l (sp - (c + 1))
theorem Fr.congr {fl fl' : Nat → Int64} : ∀ {l : List Nat} {sp : Nat}, (∀ i, i < sp → fl' i = fl i) → Fr fl l sp → Fr fl' l sp := by
  intro l
  induction l with
  | nil => intro sp _ h; exact h
  | cons c l ih =>
    intro sp h ⟨a, b, d, e⟩
    exact ⟨by rw [h _ (by omega)]; exact a, b, d, ih (fun i hi => h i (by omega)) e⟩
def dK (x L : Nat) : Nat := if x < 16 then x else L
def dFl (sp L : Nat) (fl : Nat → Int64) (k : Nat) : Nat → Int64 := up (zf fl (sp + L) (sp + (k + 1))) (sp + k) (lN k)
def upC (x L : Nat) : Nat := if x = 0 then 0 else if x ≤ L then x else L + 1
def uV (sp x L : Nat) (fl : Nat → Int64) : Int64 := if x ≤ L then fl (sp + x - 1) else 0
def uFl (sp x L : Nat) (fl : Nat → Int64) : Nat → Int64 := if x = 0 then fl else up fl (sp - 1) (uV sp x L fl)
/-! X -/
theorem x_down_14 {S : Sx} {sp L k : Nat} {fl gl : Nat → Int64} (h : XR S sp L fl gl) (hL : L ≤ 16) (hk : k ≤ 16) (hs : sp + (k + 1) ≤ 600) : ∃ S', X6_down_14 (nI k) S = rt () S' ∧ XR S' (sp + (k + 1)) (L - (k + 1)) (dFl sp L fl k) gl ∧ Sm xRl S S' := by
  obtain ⟨S1, e1, e2, e3⟩ := x_extend (m := k + 1) h hL (by omega) (fun _ => hs)
  have e4 := x_local (n := k) (v := lN k) e2 (by omega)
  obtain ⟨a, b, ⟨sv, c1, c2, c3, c4, c5⟩, d⟩ := e4
  refine ⟨pI (pI (pL S1 140 ((sp + k) % 40) (lN k)) 139 3 (nI (sp + (k + 1)))) 139 5 (nI (L - (k + 1))), ?_, ⟨?_, ?_, ⟨sv, ?_, by omega, by omega, fun i hi => ?_, fun i hi hi2 => ?_⟩, fun n hn hn2 => ?_⟩, e3.trans (Sm.trans (Sm.trans (Sm.pL (by unfold xRl; omega)) (Sm.pI (by unfold xRl; omega))) (Sm.pI (by unfold xRl; omega)))⟩
  · unfold X6_down_14
    rw [vl_e, nI_1, e1, bd_rt, e2.1, nI_add, mod40 (by omega), sL_n (Nat.mod_lt _ (by omega)) (by omega), nI_l (by omega), pt_e, gI_pL, e2.1, nI_add, pt_e, gI_pI, if_neg (by omega), gI_pL, e2.2.1, pk_sub (by omega), show max L (k + 1) - (k + 1) = L - (k + 1) by omega]
  · rw [gI_pI, if_neg (by omega), gI_pI, if_pos ⟨rfl, rfl⟩]
  · rw [gI_pI, if_pos ⟨rfl, rfl⟩]
  · rw [gI_pI, if_neg (by omega), gI_pI, if_neg (by omega)]; exact c1
  · rw [gL_pI, gL_pI]; exact c4 i hi
  · rw [gL_pI, gL_pI]; exact c5 i hi (by omega)
  · rw [gL_pI, gL_pI]; exact d n hn hn2
theorem x_down {S : Sx} {sp L x : Nat} {fl gl : Nat → Int64} (h : XR S sp L fl gl) (hL : L ≤ 16) (hx : x < 256) (hs : sp + (dK x L + 1) ≤ 600) : ∃ S', X6_down (nI x) S = rt () S' ∧ XR S' (sp + (dK x L + 1)) (L - (dK x L + 1)) (dFl sp L fl (dK x L)) gl ∧ Sm xRl S S' := by
  unfold X6_down
  unfold dK at hs ⊢
  by_cases hx16 : x < 16
  · rw [if_pos hx16] at hs
    rw [if_pos (lit_lt hx16 (by omega)), if_pos hx16]
    exact x_down_14 h hL (by omega) hs
  · rw [if_neg hx16] at hs
    rw [if_neg (lit_gt (N := 16) (by omega) (by omega)), if_neg hx16, h.2.1]
    exact x_down_14 h hL hL hs
def XRs (S : Sx) (sp L : Nat) (fl gl : Nat → Int64) (sv : Nat) : Prop := gI S 139 3 = nI sp ∧ gI S 139 5 = nI L ∧ (gI S 139 4 = nI sv ∧ sv ≤ sp ∧ sp + L ≤ sv + 40 ∧ (∀ i, i < sv → gL S 141 i = fl i) ∧ ∀ i, sv ≤ i → i < sp + L → gL S 140 (i % 40) = fl i) ∧
  ∀ n, 16 ≤ n → n < 32 → gL S 142 n = gl n
theorem x_fill_loop {sp L t : Nat} {fl gl : Nat → Int64} (ht : t ≤ sp) (hs : sp ≤ 600) (hw : sp + L ≤ t + 40) : ∀ (d sv n : Nat) (S : Sx), sv - t = d → d < n → XRs S sp L fl gl sv → ∃ S' w, X6_fillTo_0 n (nI t) S = rt () S' ∧ XRs S' sp L fl gl w ∧ w ≤ t ∧ Sm xRl S S' := by
  intro d
  induction d with
  | zero =>
    intro sv n S hd hn h
    obtain ⟨n, rfl⟩ : ∃ j, n = j + 1 := ⟨n - 1, by omega⟩
    obtain ⟨a, b, ⟨c1, c2, c3, c4, c5⟩, d⟩ := id h
    refine ⟨S, sv, ?_, h, by omega, Sm.rfl' S⟩
    show X6_fillTo_0b (X6_fillTo_0 n) (nI t) S = _
    unfold X6_fillTo_0b
    rw [c1, if_pos (nI_le (by omega) (by omega))]
  | succ d ih =>
    intro sv n S hd hn h
    obtain ⟨n, rfl⟩ : ∃ j, n = j + 1 := ⟨n - 1, by omega⟩
    obtain ⟨a, b, ⟨c1, c2, c3, c4, c5⟩, e⟩ := id h
    obtain ⟨u, rfl⟩ : ∃ u, sv = u + 1 := ⟨sv - 1, by omega⟩
    have h1 : XRs (pL (pI S 139 4 (nI u)) 140 (u % 40) (fl u)) sp L fl gl u := by
      refine ⟨?_, ?_, ⟨?_, by omega, by omega, fun i hi => ?_, fun i hi hi2 => ?_⟩, fun m hm hm2 => ?_⟩
      · rw [gI_pL, gI_pI, if_neg (by omega)]; exact a
      · rw [gI_pL, gI_pI, if_neg (by omega)]; exact b
      · rw [gI_pL, gI_pI, if_pos ⟨rfl, rfl⟩]
      · rw [gL_pL, if_neg (by omega), gL_pI]; exact c4 i (by omega)
      · rw [gL_pL, gL_pI]
        by_cases q : i = u
        · rw [if_pos ⟨rfl, by rw [q]⟩, q]
        · rw [if_neg (fun x => by have := x.2; omega)]; exact c5 i (by omega) hi2
      · rw [gL_pL, if_neg (by omega), gL_pI]; exact e m hm hm2
    obtain ⟨S', w, f1, f2, f3, f4⟩ := ih u n _ (by omega) (by omega) h1
    refine ⟨S', w, ?_, f2, f3, (Sm.trans (Sm.pI (by unfold xRl; omega)) (Sm.pL (by unfold xRl; omega))).trans f4⟩
    show X6_fillTo_0b (X6_fillTo_0 n) (nI t) S = _
    unfold X6_fillTo_0b
    rw [c1, if_neg (nI_ge (by omega) (by omega)), nI_pred, pt_e, gI_pI, if_pos ⟨rfl, rfl⟩, lL_n (by omega) (by omega), gL_pI, c4 u (by omega), mod40 (by omega), sL_n (Nat.mod_lt _ (by omega)) (by omega)]
    exact f1
theorem x_fill {S : Sx} {sp L t sv : Nat} {fl gl : Nat → Int64} (h : XRs S sp L fl gl sv) (ht : t ≤ sp) (hs : sp ≤ 600) (hw : sp + L ≤ t + 40) : ∃ S' w, X6_fillTo (nI t) S = rt () S' ∧ XRs S' sp L fl gl w ∧ w ≤ t ∧ Sm xRl S S' :=
  x_fill_loop ht hs hw (sv - t) sv FU S rfl (by have := FU_ge; have := h.2.2.1.2.1; omega) h
theorem x_up_119 {S : Sx} {sp L c m w : Nat} {fl gl : Nat → Int64} (h : XRs S sp L fl gl w) (hc : c + 1 ≤ sp) (hw : w ≤ sp - 1 - c) (hm : m ≤ L + 1) (hc2 : c ≤ 16) (hL : L ≤ 16) : ∃ S', X6_up_119 (nI c) (nI m) S = rt () S' ∧ XR S' (sp - (c + 1)) (min 16 (c + m)) fl gl ∧ Sm xRl S S' := by
  obtain ⟨a, b, ⟨c1, c2, c3, c4, c5⟩, d⟩ := h
  refine ⟨pI (pI S 139 3 (nI (sp - (c + 1)))) 139 5 (nI (min 16 (c + m))), ?_, ⟨?_, ?_, ⟨w, ?_, by omega, by omega, fun i hi => ?_, fun i hi hi2 => ?_⟩, fun n hn hn2 => ?_⟩, Sm.trans (Sm.pI (by unfold xRl; omega)) (Sm.pI (by unfold xRl; omega))⟩
  · unfold X6_up_119 X6_up_150
    rw [a, nI_1, pk_sub hc, pt_e, nI_add]
    by_cases q : 16 ≤ c + m
    · rw [if_pos (lit_le q (by omega)), pt_e, show min 16 (c + m) = 16 by omega]; rfl
    · rw [if_neg (lit_ge (N := 16) (by omega) (by omega)), pt_e, show min 16 (c + m) = c + m by omega]
  · rw [gI_pI, if_neg (by omega), gI_pI, if_pos ⟨rfl, rfl⟩]
  · rw [gI_pI, if_pos ⟨rfl, rfl⟩]
  · rw [gI_pI, if_neg (by omega), gI_pI, if_neg (by omega)]; exact c1
  · rw [gL_pI, gL_pI]; exact c4 i hi
  · rw [gL_pI, gL_pI]; exact c5 i hi (by omega)
  · rw [gL_pI, gL_pI]; exact d n hn hn2
theorem x_hole {S : Sx} {sp L w : Nat} {fl gl : Nat → Int64} {v : Int64} (h : XRs S sp L fl gl w) (hs : 0 < sp) (hw : w ≤ sp - 1) : XRs (pL S 140 ((sp - 1) % 40) v) sp L (up fl (sp - 1) v) gl w := by
  obtain ⟨a, b, ⟨c1, c2, c3, c4, c5⟩, d⟩ := h
  refine ⟨a, b, ⟨c1, c2, c3, fun i hi => ?_, fun i hi hi2 => ?_⟩, fun m hm hm2 => ?_⟩
  · rw [gL_pL, if_neg (by omega), up_n _ _ (by omega)]; exact c4 i hi
  · rw [gL_pL]
    by_cases e : i = sp - 1
    · rw [if_pos ⟨rfl, by rw [e]⟩, e, up_s]
    · rw [if_neg (fun x => by have := x.2; omega), up_n _ _ e]; exact c5 i hi hi2
  · rw [gL_pL, if_neg (by omega)]; exact d m hm hm2
theorem x_up {S : Sx} {sp L x c : Nat} {l : List Nat} {fl gl : Nat → Int64} (h : XR S sp L fl gl) (hL : L ≤ 16) (hx : x < 256) (hs : sp + L ≤ 600) (hf : Fr fl (c :: l) sp) : ∃ S', X6_up (nI x) S = rt () S' ∧ XR S' (sp - (c + 1)) (min 16 (c + upC x L)) (uFl sp x L fl) gl ∧ Sm xRl S S' := by
  obtain ⟨f1, f2, f3, f4⟩ := hf
  obtain ⟨a, b, ⟨sv, q⟩, d⟩ := h
  obtain ⟨S1, w1, g1, g2, g3, g4⟩ := x_fill (t := sp - 1) (h := ⟨a, b, q, d⟩) (by omega) (by omega) (by omega)
  obtain ⟨S2, w2, k1, k2, k3, k4⟩ := x_fill (t := sp - 1 - c) (h := g2) (by omega) (by omega) (by omega)
  obtain ⟨a2, b2, ⟨c1, c2, c3, c4, c5⟩, d2⟩ := id k2
  have hstart : X6_up (nI x) S = if nI x ≤ nI L then X6_up_51 (nI x) (nI c) 0 S2 else X6_up_51 (nI x) (nI c) 1 S2 := by
    unfold X6_up
    rw [a, show nI sp - 1 = nI (sp - 1) from by obtain ⟨u, rfl⟩ : ∃ u, sp = u + 1 := ⟨sp - 1, by omega⟩; exact nI_pred u, g1, bd_rt, g2.1, show nI sp - 1 = nI (sp - 1) from by obtain ⟨u, rfl⟩ : ∃ u, sp = u + 1 := ⟨sp - 1, by omega⟩; exact nI_pred u, mod40 (by omega), lL_n (Nat.mod_lt _ (by omega)) (by omega), g2.2.2.1.2.2.2.2 (sp - 1) g3 (by omega), f1, lN_i, vl_e, pk_sub (by omega), k1, bd_rt, b2]
  rw [hstart]
  unfold X6_up_51
  have hin : inb (nI ((sp - 1) % 40)) 40 = true := inb_nI (Nat.mod_lt _ (by omega)) (by omega)
  by_cases hxL : x ≤ L
  · rw [if_pos (nI_le hxL (by omega)), vl_e]
    by_cases hx0 : x = 0
    · subst hx0
      rw [if_pos rfl]
      unfold X6_up_74
      rw [vl_e, if_pos (by decide), ← nI_0, show uFl sp 0 L fl = fl from if_pos rfl, show upC 0 L = 0 from if_pos rfl]
      obtain ⟨S3, m1, m2, m3⟩ := x_up_119 (m := 0) k2 f3 k3 (by omega) f2 hL
      exact ⟨S3, m1, m2, (g4.trans k4).trans m3⟩
    · rw [if_neg (nI_ne0 (by omega) (by omega)), if_pos rfl]
      unfold X6_up_74 X6_up_118
      rw [vl_e, if_neg (nI_nle (by omega) (by omega)), if_pos rfl, a2, nI_add, show nI (sp + x) - 1 = nI (sp + x - 1) from by obtain ⟨u, e⟩ : ∃ u, sp + x = u + 1 := ⟨sp + x - 1, by omega⟩; rw [e]; exact nI_pred u, mod40 (by omega), lL_n (Nat.mod_lt _ (by omega)) (by omega), c5 (sp + x - 1) (by omega) (by omega), show nI sp - 1 = nI (sp - 1) from by obtain ⟨u, rfl⟩ : ∃ u, sp = u + 1 := ⟨sp - 1, by omega⟩; exact nI_pred u, mod40 (by omega), sL_n (Nat.mod_lt _ (by omega)) (by omega)]
      obtain ⟨S3, m1, m2, m3⟩ := x_up_119 (m := x) (x_hole (v := fl (sp + x - 1)) k2 (by omega) (by omega)) f3 k3 (by omega) f2 hL
      refine ⟨S3, m1, ?_, ((g4.trans k4).trans (Sm.pL (by unfold xRl; omega))).trans m3⟩
      rw [show upC x L = x by unfold upC; rw [if_neg hx0, if_pos hxL], show uFl sp x L fl = up fl (sp - 1) (fl (sp + x - 1)) by unfold uFl uV; rw [if_neg hx0, if_pos hxL]]
      exact m2
  · rw [if_neg (nI_ge (by omega) (by omega)), vl_e, if_neg (nI_ne0 (by omega) (by omega)), if_neg (by decide), b2, nI_1]
    unfold X6_up_74 X6_up_118
    rw [vl_e, if_neg (nI_nle (by omega) (by omega)), if_neg (by decide), a2, show nI sp - 1 = nI (sp - 1) from by obtain ⟨u, rfl⟩ : ∃ u, sp = u + 1 := ⟨sp - 1, by omega⟩; exact nI_pred u, mod40 (by omega), sL_n (Nat.mod_lt _ (by omega)) (by omega)]
    obtain ⟨S3, m1, m2, m3⟩ := x_up_119 (m := L + 1) (x_hole (v := 0) k2 (by omega) (by omega)) f3 k3 (by omega) f2 hL
    refine ⟨S3, m1, ?_, ((g4.trans k4).trans (Sm.pL (by unfold xRl; omega))).trans m3⟩
    rw [show upC x L = L + 1 by unfold upC; rw [if_neg (by omega), if_neg hxL], show uFl sp x L fl = up fl (sp - 1) 0 by unfold uFl uV; rw [if_neg (by omega), if_neg hxL]]
    exact m2
