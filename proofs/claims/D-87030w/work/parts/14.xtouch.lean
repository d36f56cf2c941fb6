set_option maxRecDepth 100000
/-! ===== X's pages, the frame f in change: nothing is known of it (0), all but whether it is touched (1) ===== -/
def XBr (t : Nat) (S : Sx) (b : Pb) (f : Nat) : Prop :=
  gI S 2 1 = nI (fr b) ∧ gI S 2 2 = nI (hd b) ∧ gI S 2 7 = fa b ∧ gI S 2 8 = re b ∧ gI S 2 9 = wr b ∧ gI S 2 10 = mi b ∧
  (∀ g, g < 64 → g ≠ f → gI S (10 + 2 * g) 1 = pg (pin b g) ∧ (pin b g ≠ none → gI S (10 + 2 * g) 2 = b1 (tch b g) ∧ gI S (10 + 2 * g) 3 = b1 (wrt b g))) ∧
  (t = 1 → gI S (10 + 2 * f) 1 = pg (pin b f) ∧ gI S (10 + 2 * f) 3 = b1 (wrt b f)) ∧
  ∀ p, p < 1024 → (∀ f, pin b f = some p → gR S 6 p = some (10 + 2 * f)) ∧ ((∀ f, pin b f ≠ some p) → gR S 6 p = none ∧ gI S 5 p = b1 (ot b p))
def XPr (t : Nat) (S : Sx) (b : Pb) (mem : Nat → Nat) (f : Nat) : Prop := XF S ∧ XBr t S b f ∧ XC S b ∧ XM S b mem
theorem XP.r0 {S : Sx} {b : Pb} {mem : Nat → Nat} (h : XP S b mem) (f : Nat) : XPr 0 S b mem f := by
  obtain ⟨h1, ⟨a1, a2, a3, a4, a5, a6, a7, a8⟩, h3, h4⟩ := h
  exact ⟨h1, ⟨a1, a2, a3, a4, a5, a6, fun g hg _ => a7 g hg, (fun h => by cases h), a8⟩, h3, h4⟩
theorem XP.r1 {S : Sx} {b : Pb} {mem : Nat → Nat} (h : XP S b mem) {f : Nat} (hf : f < 64) (hp : pin b f ≠ none) : XPr 1 S b mem f := by
  obtain ⟨h1, ⟨a1, a2, a3, a4, a5, a6, a7, a8⟩, h3, h4⟩ := h
  exact ⟨h1, ⟨a1, a2, a3, a4, a5, a6, fun g hg _ => a7 g hg, fun _ => ⟨(a7 f hf).1, ((a7 f hf).2 hp).2⟩, a8⟩, h3, h4⟩
def bMi (b : Pb) : Pb := mkPb (fr b) (pin b) (tch b) (wrt b) (ot b) (hd b) (kn b) (fa b) (re b) (wr b) (mi b + 1)
def bAdd (b : Pb) (f p : Nat) : Pb := mkPb (fr b) (pin b) (up (tch b) f true) (wrt b) (ot b) (hd b) ((if (kn b).length = 4 then (kn b).tail else kn b) ++ [p]) (fa b) (re b) (wr b) (mi b)
theorem bHit_new {b : Pb} {f p : Nat} (hk : ¬ p ∈ kn b) : bHit b f p false = bAdd (bMi b) f p := by
  unfold bHit
  rw [if_neg hk, if_neg hk]
  rfl
theorem bMi_adv (n : Nat) : ∀ b, bMi (bAdv n b) = bAdv n (bMi b) := by
  induction n with
  | zero => intro b; rfl
  | succ n ih =>
    intro b
    rw [bAdv, bAdv]
    show bMi (if tch b (hd b) = true then _ else _) = if tch b (hd b) = true then _ else _
    split
    · exact ih _
    · rfl
theorem bMi_OK {b : Pb} (h : bOK b) : bOK (bMi b) := h
theorem XP_mi {S : Sx} {b : Pb} {mem : Nat → Nat} (h : XP S b mem) (hO : bOK b) : XP (pI S 2 10 (mi b + 1)) (bMi b) mem := by
  obtain ⟨h1, ⟨a1, a2, a3, a4, a5, a6, a7, a8⟩, h3, h4⟩ := h
  have hs : Sm (fun c k => c = 2 ∧ k = 10) S (pI S 2 10 (mi b + 1)) := Sm.pI ⟨rfl, rfl⟩
  refine ⟨h1.sm hs (fun f hf => ⟨by omega, by omega⟩), ⟨by simp [gI_pI]; exact a1, by simp [gI_pI]; exact a2, by simp [gI_pI]; exact a3, by simp [gI_pI]; exact a4, by simp [gI_pI]; exact a5, by simp [gI_pI]; rfl, fun f hf => ?_, fun p hp => ?_⟩, ?_, ?_⟩
  · rw [gI_pI, if_neg (by omega), gI_pI, if_neg (by omega), gI_pI, if_neg (by omega)]
    exact a7 f hf
  · rw [gR_pI, gI_pI, if_neg (by omega)]
    exact a8 p hp
  · obtain ⟨l, l1, l2⟩ := h3
    exact ⟨l, l1.sm hs (fun c k x => by omega), l2⟩
  · exact XM.sm (b := b) h4 (fun f p hf => by have := (hO.2.2.2.1 f p hf).1; have := hO.2.1; omega) hs (fun c k x => by omega)
theorem XP_fa {S : Sx} {b : Pb} {mem : Nat → Nat} (h : XP S b mem) (hO : bOK b) : XP (pI S 2 7 (fa b + 1)) (bFa b) mem := by
  obtain ⟨h1, ⟨a1, a2, a3, a4, a5, a6, a7, a8⟩, h3, h4⟩ := h
  have hs : Sm (fun c k => c = 2 ∧ k = 7) S (pI S 2 7 (fa b + 1)) := Sm.pI ⟨rfl, rfl⟩
  refine ⟨h1.sm hs (fun f hf => ⟨by omega, by omega⟩), ⟨by simp [gI_pI]; exact a1, by simp [gI_pI]; exact a2, by simp [gI_pI]; rfl, by simp [gI_pI]; exact a4, by simp [gI_pI]; exact a5, by simp [gI_pI]; exact a6, fun f hf => ?_, fun p hp => ?_⟩, ?_, ?_⟩
  · rw [gI_pI, if_neg (by omega), gI_pI, if_neg (by omega), gI_pI, if_neg (by omega)]
    exact a7 f hf
  · rw [gR_pI, gI_pI, if_neg (by omega)]
    exact a8 p hp
  · obtain ⟨l, l1, l2⟩ := h3
    exact ⟨l, l1.sm hs (fun c k x => by omega), l2⟩
  · exact XM.sm (b := b) h4 (fun f p hf => by have := (hO.2.2.2.1 f p hf).1; have := hO.2.1; omega) hs (fun c k x => by omega)
/-- the search for a free frame -/
theorem x_free_loop {S : Sx} {b : Pb} {mem : Nat → Nat} (h : XP S b mem) (hO : bOK b) {e : Nat} (he : e ≤ fr b) (hfull : ∀ i, i < e → pin b i ≠ none) (hst : e = fr b ∨ pin b e = none) : ∀ (d i n : Nat), i + d = e → d < n → X2_room_2 n (nI i) S = if e = fr b then X2_room_35 FU S else rt (some (10 + 2 * e)) S := by
  obtain ⟨hF, hB, -, -⟩ := h
  have h64 := hO.2.1
  intro d
  induction d with
  | zero =>
    intro i n hi hn
    obtain ⟨n, rfl⟩ : ∃ j, n = j + 1 := ⟨n - 1, by omega⟩
    obtain rfl : i = e := by omega
    show X2_room_2b (X2_room_2 n) (nI i) S = _
    unfold X2_room_2b
    rw [hB.1]
    by_cases hie : i = fr b
    · rw [if_pos (nI_le (by omega) (by omega)), if_pos hie]
    · obtain ⟨q1, q2, -⟩ := hF.2.2 i (by omega)
      rw [if_neg (nI_ge (by omega) (by omega)), lR_n (by omega) (by omega), q1, dO_s q2, (hB.2.2.2.2.2.2.1 i (by omega)).1, hst.resolve_left hie, if_neg (by decide), lR_n (by omega) (by omega), q1, if_neg hie]
  | succ d ih =>
    intro i n hi hn
    obtain ⟨n, rfl⟩ : ∃ j, n = j + 1 := ⟨n - 1, by omega⟩
    show X2_room_2b (X2_room_2 n) (nI i) S = _
    unfold X2_room_2b
    obtain ⟨q1, q2, -⟩ := hF.2.2 i (by omega)
    rw [hB.1, if_neg (nI_ge (by omega) (by omega)), lR_n (by omega) (by omega), q1, dO_s q2, (hB.2.2.2.2.2.2.1 i (by omega)).1]
    cases hp : pin b i with
    | none => exact absurd hp (hfull i (by omega))
    | some p =>
      have := (hO.2.2.2.1 i p hp).2
      rw [pg_s, if_pos (nI_pos' (n := p) (by omega)), vl_e, nI_1]
      exact ih (i + 1) n (by omega) (by omega)
theorem x_hand_loop {mem : Nat → Nat} : ∀ (m : Nat) (b : Pb) (S : Sx) (n : Nat), XP S b mem → bOK b → (∀ i, i < fr b → pin b i ≠ none) → cnt (tch b) (fr b) ≤ m → m < n → ∃ S1 k, X2_room_35 n S = X2_room_35b k S1 ∧ XP S1 (bAdv (m + 1) b) mem ∧ tch (bAdv (m + 1) b) (hd (bAdv (m + 1) b)) = false ∧ Sm xPl S S1 := by
  intro m
  induction m with
  | zero =>
    intro b S n hM hO hfull hc hn
    have hh := hO.2.2.1
    obtain ⟨n, rfl⟩ : ∃ j, n = j + 1 := ⟨n - 1, by omega⟩
    have ht : tch b (hd b) = false := by
      cases ht : tch b (hd b) with
      | false => rfl
      | true => have := cnt_up ht hh; omega
    have e : bAdv (0 + 1) b = b := by
      unfold bAdv
      rw [ht]
      simp
    rw [e]
    exact ⟨S, X2_room_35 n, rfl, hM, ht, Sm.rfl' S⟩
  | succ m ih =>
    intro b S n hM hO hfull hc hn
    have hh := hO.2.2.1
    have hf := hO.2.1
    obtain ⟨n, rfl⟩ : ∃ j, n = j + 1 := ⟨n - 1, by omega⟩
    cases ht : tch b (hd b) with
    | false =>
      have e : bAdv (m + 1 + 1) b = b := by
        rw [bAdv, ht]
        simp
      rw [e]
      exact ⟨S, X2_room_35 n, rfl, hM, ht, Sm.rfl' S⟩
    | true =>
      obtain ⟨h1, ⟨a1, a2, a3, a4, a5, a6, a7, a8⟩, h3, h4⟩ := id hM
      have hb : bAdv (m + 1 + 1) b = bAdv (m + 1) (mkPb (fr b) (pin b) (up (tch b) (hd b) false) (wrt b) (ot b) ((hd b + 1) % fr b) (kn b) (fa b) (re b) (wr b) (mi b)) := by
        rw [bAdv, ht]
        simp
      have hs : Sm (fun c k => (c = 2 ∧ k = 2) ∨ (c = 10 + 2 * hd b ∧ k = 2)) S (pI (pI S (10 + 2 * hd b) 2 0) 2 2 (nI ((hd b + 1) % fr b))) := Sm.trans (Sm.pI (Or.inr ⟨rfl, rfl⟩)) (Sm.pI (Or.inl ⟨rfl, rfl⟩))
      have hM2 : XP (pI (pI S (10 + 2 * hd b) 2 0) 2 2 (nI ((hd b + 1) % fr b))) (mkPb (fr b) (pin b) (up (tch b) (hd b) false) (wrt b) (ot b) ((hd b + 1) % fr b) (kn b) (fa b) (re b) (wr b) (mi b)) mem := by
        refine ⟨h1.sm hs (fun f hf => ⟨by omega, by omega⟩), ⟨?_, ?_, ?_, ?_, ?_, ?_, fun f hf => ?_, fun p hp => ?_⟩, ?_, XM.sm (b := b) h4 (fun f p hf => by have := (hO.2.2.2.1 f p hf).1; omega) hs (fun c k x => by omega)⟩
        · rw [hs.I (by omega)]; exact a1
        · rw [gI_pI, if_pos ⟨rfl, rfl⟩]; rfl
        · rw [hs.I (by omega)]; exact a3
        · rw [hs.I (by omega)]; exact a4
        · rw [hs.I (by omega)]; exact a5
        · rw [hs.I (by omega)]; exact a6
        · rw [hs.I (c := 10 + 2 * f) (k := 1) (by omega), hs.I (c := 10 + 2 * f) (k := 3) (by omega)]
          refine ⟨(a7 f hf).1, fun hp => ⟨?_, ((a7 f hf).2 hp).2⟩⟩
          show _ = b1 (up (tch b) (hd b) false f)
          by_cases hfe : f = hd b
          · rw [hfe, gI_pI, if_neg (by omega), gI_pI, if_pos ⟨rfl, rfl⟩, up_s]; rfl
          · rw [hs.I (by omega), up_n _ _ hfe]; exact ((a7 f hf).2 hp).1
        · rw [hs.R (by omega), hs.I (by omega)]
          exact a8 p hp
        · obtain ⟨l, l1, l2⟩ := h3
          exact ⟨l, l1.sm hs (fun c k x => by omega), l2⟩
      obtain ⟨S1, k, e1, e2, e3, e4⟩ := ih _ _ n hM2 ⟨hO.1, hO.2.1, Nat.mod_lt _ (by show 0 < fr b; omega), hO.2.2.2⟩ hfull (by have := cnt_up ht hh; show cnt (up (tch b) (hd b) false) (fr b) ≤ m; omega) (by omega)
      rw [hb]
      refine ⟨S1, k, ?_, e2, e3, (hs.mono (fun c k x => by unfold xPl; omega)).trans e4⟩
      show X2_room_35b (X2_room_35 n) S = _
      unfold X2_room_35b
      obtain ⟨q1, q2, -⟩ := h1.2.2 (hd b) (by omega)
      rw [a2, lR_n (by omega) (by omega), q1, dO_s q2, ((a7 (hd b) (by omega)).2 (hfull _ hh)).1, ht, if_neg (by decide), lR_n (by omega) (by omega), q1, dO_s q2, pt_e]
      have g1 : gI (pI S (10 + 2 * hd b) 2 0) 2 1 = nI (fr b) := by rw [gI_pI, if_neg (by omega)]; exact a1
      have g2 : gI (pI S (10 + 2 * hd b) 2 0) 2 2 = nI (hd b) := by rw [gI_pI, if_neg (by omega)]; exact a2
      rw [g1, g2, if_neg (nI_ne0 (by omega) (by omega)), mod_succ (by omega) (by omega) hh, pt_e]
      exact e1
theorem x_room_full {S : Sx} {b : Pb} {mem : Nat → Nat} (hM : XP S b mem) (hO : bOK b) (hfull : ∀ i, i < fr b → pin b i ≠ none) : ∃ S', X2_room S = rt (some (10 + 2 * hd (bAdv 65 b))) S' ∧ XPr 0 S' (bOut (bAdv 65 b)) mem (hd (bAdv 65 b)) ∧ Sm xPl S S' := by
  obtain ⟨o1, o2, o3, o4, o5, o6, o7, o8⟩ := id hO
  obtain ⟨S1, k, e1, hM1, ht, hs1⟩ := x_hand_loop 64 b S FU hM hO hfull (Nat.le_trans (cnt_le _ _) o2) (by have := FU_ge; omega)
  obtain ⟨a1, a2, a3, a4, a5, -⟩ := bAdv_fr 65 b
  have hh := bAdv_hd 65 b o3
  have hstart : X2_room S = X2_room_35 FU S := by
    unfold X2_room
    rw [← nI_0, x_free_loop hM hO (Nat.le_refl _) hfull (Or.inl rfl) (fr b) 0 FU (by omega) (by have := FU_ge; omega), if_pos rfl]
  generalize hb' : bAdv 65 b = b' at *
  obtain ⟨p, hp⟩ : ∃ p, pin b' (hd b') = some p := by
    cases hq : pin b' (hd b') with
    | none => rw [a2] at hq; exact absurd hq (hfull _ hh)
    | some p => exact ⟨p, rfl⟩
  have hp2 : p < 1024 := (o4 (hd b') p (by rw [← a2]; exact hp)).2
  have ep : (pin b' (hd b')).getD 0 = p := by rw [hp]; rfl
  obtain ⟨hF1, ⟨h1, h2, h3, h4, h5, h6, h7, h8⟩, ⟨l, hK, hlk, hlp⟩, hMm⟩ := id hM1
  have hf64 : hd b' < 64 := by omega
  obtain ⟨q1, q2, q3, q4, q5⟩ := hF1.2.2 (hd b') hf64
  have f7 := h7 _ hf64
  rw [hp, pg_s] at f7
  have f7b := f7.2 (fun h => by cases h)
  generalize hf : hd b' = f at *
  generalize hSw : pI (pI S1 2 2 (nI ((f + 1) % fr b'))) 2 9 (wr b' + b1 (wrt b' f)) = Sw
  have gw : ∀ c j, gI Sw c j = if c = 2 ∧ j = 9 then wr b' + b1 (wrt b' f) else if c = 2 ∧ j = 2 then nI ((f + 1) % fr b') else gI S1 c j := by
    intro c j
    rw [← hSw]
    simp only [gI_pI]
  have gwR : ∀ c j, gR Sw c j = gR S1 c j := by intro c j; rw [← hSw]; rfl
  have hsw : Sm (fun c k => c = 2 ∧ (k = 2 ∨ k = 9)) S1 Sw := by
    rw [← hSw]
    exact Sm.trans (Sm.pI ⟨rfl, Or.inl rfl⟩) (Sm.pI ⟨rfl, Or.inr rfl⟩)
  have hFw : XF Sw := hF1.sm hsw (fun f hf => ⟨by omega, by omega⟩)
  have hstep : X2_room S = X2_room_123 (some (10 + 2 * f)) Sw := by
    rw [hstart, e1]
    unfold X2_room_35b
    rw [h2, lR_n hf64 (by omega), q1, dO_s q2, f7b.1, ht, if_pos b1_f, lR_n hf64 (by omega), q1, vl_e, h1, if_neg (nI_ne0 (by omega) (by omega)), mod_succ (by omega) (by omega) (by omega), pt_e, dO_s (S := pI S1 2 2 (nI ((f + 1) % fr b'))) q2]
    have g1 : gI (pI S1 2 2 (nI ((f + 1) % fr b'))) (10 + 2 * f) 3 = b1 (wrt b' f) := by rw [gI_pI, if_neg (by omega)]; exact f7b.2
    have g2 : gI (pI S1 2 2 (nI ((f + 1) % fr b'))) 2 9 = wr b' := by rw [gI_pI, if_neg (by omega)]; exact h5
    rw [g1]
    cases hw : wrt b' f with
    | false => rw [if_pos b1_f, ← hSw, hw, i_add0, pI_same g2]
    | true =>
      rw [if_neg (by decide), pt_e, g2, ← hSw, hw]
      rfl
  have hpgw : gI Sw (10 + 2 * f) 1 = nI p := by rw [gw, if_neg (by omega), if_neg (by omega)]; exact f7.1
  have hkeep := x_keep (b := b') hFw hf64 hp2 hpgw
  generalize hS3 : pI (cpI Sw (11 + 2 * f) 0 4 (64 * p) 64) 5 p 1 = S3 at hkeep
  have g3 : ∀ c j, gI S3 c j = if c = 5 ∧ j = p then 1 else if c = 4 ∧ 64 * p ≤ j ∧ j < 64 * p + 64 then gI Sw (11 + 2 * f) (0 + (j - 64 * p)) else gI Sw c j := by
    intro c j
    rw [← hS3]
    simp only [gI_pI, gI_cpI]
  have hs3 : Sm (fun c k => c = 4 ∨ c = 5) Sw S3 := by
    rw [← hS3]
    exact Sm.trans (Sm.cpI (fun k _ _ => Or.inl rfl)) (Sm.pI (Or.inr rfl))
  have hF3 : XF S3 := hFw.sm hs3 (fun f hf => ⟨by omega, by omega⟩)
  have hK3 : KX S3 l := (hK.sm hsw (fun c k x => by omega)).sm hs3 (fun c k x => by omega)
  obtain ⟨S4, d1, d2, d3⟩ := x_drop hp2 hK3 hF3
  have hF4 : XF S4 := hF3.sm d3 (fun f hf => ⟨by unfold kPl; omega, by unfold kPl; omega⟩)
  have hpg3 : gI S3 (10 + 2 * f) 1 = nI p := by rw [hs3.I (by omega)]; exact hpgw
  have hpg4 : gI S4 (10 + 2 * f) 1 = nI p := by rw [d3.I (by unfold kPl; omega)]; exact hpg3
  have hs5 : Sm (fun c k => c = 6 ∧ k = p) S4 (pR S4 6 p none) := Sm.pR ⟨rfl, rfl⟩
  have hall : ∀ c j, ¬ (c = 2 ∨ c = 4 ∨ c = 5 ∨ (c = 6 ∧ j = p) ∨ kPl c j) → gI (pR S4 6 p none) c j = gI S1 c j ∧ gR (pR S4 6 p none) c j = gR S1 c j := by
    intro c j q
    have qk : ¬ kPl c j := fun x => q (Or.inr (Or.inr (Or.inr (Or.inr x))))
    rw [hs5.I (by omega), hs5.R (by omega), d3.I qk, d3.R qk, hs3.I (by omega), hs3.R (by omega), hsw.I (by omega), hsw.R (by omega)]
    exact ⟨rfl, rfl⟩
  have h2f : ∀ j, gI (pR S4 6 p none) 2 j = gI Sw 2 j := fun j => by
    rw [hs5.I (by omega), d3.I (by unfold kPl; omega), hs3.I (by omega)]
  refine ⟨pR S4 6 p none, ?_, ⟨hF4.sm hs5 (fun f hf => ⟨by omega, by omega⟩), ⟨?_, ?_, ?_, ?_, ?_, ?_, fun g hg hgf => ?_, (fun h => by cases h), fun q hq => ?_⟩, ?_, fun q hq => ⟨fun g hg k hk => ?_, fun hg k hk => ?_⟩⟩, ?_⟩
  · rw [hstep]
    unfold X2_room_123
    rw [hkeep, bd_rt, dO_s (hF3.2.2 f hf64).2.1, hpg3, d1, bd_rt, dO_s (hF4.2.2 f hf64).2.1, dOn_0, hpg4, sR_n hp2 (by omega)]
  · rw [h2f, gw]; simp; exact h1
  · rw [h2f, gw]; simp; show _ = nI ((hd b' + 1) % fr b'); rw [hf]
  · rw [h2f, gw]; simp; exact h3
  · rw [h2f, gw]; simp; exact h4
  · rw [h2f, gw]; simp; show _ = wr b' + b1 (wrt b' (hd b')); rw [hf]
  · rw [h2f, gw]; simp; exact h6
  · rw [(hall _ _ (by unfold kPl; omega)).1, (hall _ _ (by unfold kPl; omega)).1, (hall _ _ (by unfold kPl; omega)).1]
    show _ = pg (up (pin b') (hd b') none g) ∧ (up (pin b') (hd b') none g ≠ none → _)
    rw [hf, up_n _ _ hgf]
    exact h7 g hg
  · have hres : ∀ g, up (pin b') (hd b') none g = some q ↔ (g ≠ f ∧ pin b' g = some q) := by
      intro g
      rw [hf]
      by_cases hgf : g = f
      · rw [hgf, up_s]; simp
      · rw [up_n _ _ hgf]; simp [hgf]
    refine ⟨fun g hg => ?_, fun hg => ?_⟩
    · obtain ⟨hgf, hg⟩ := (hres g).mp hg
      have hqp : q ≠ p := fun e => hgf (o5 g f p (by rw [← a2, ← e]; exact hg) (by rw [← a2]; exact hp))
      rw [(hall _ _ (by unfold kPl; omega)).2]
      exact (h8 q hq).1 g hg
    · have hg : ∀ g, ¬ (g ≠ f ∧ pin b' g = some q) := fun g x => hg g ((hres g).mpr x)
      show _ ∧ _ = b1 (up (ot b') ((pin b' (hd b')).getD 0) true q)
      rw [show (pin b' (hd b')).getD 0 = p by rw [hf]; exact ep]
      have g5 : gI (pR S4 6 p none) 5 q = gI S3 5 q := by rw [hs5.I (by omega), d3.I (by unfold kPl; omega)]
      by_cases hqp : q = p
      · rw [hqp, gR_pR, if_pos ⟨rfl, rfl⟩, up_s]
        rw [hqp] at g5
        rw [g5, g3, if_pos ⟨rfl, rfl⟩]
        exact ⟨rfl, rfl⟩
      · rw [(hall 6 q (by unfold kPl; omega)).2, up_n _ _ hqp, g5, g3, if_neg (by omega), if_neg (by omega), gw, if_neg (by omega), if_neg (by omega)]
        refine (h8 q hq).2 fun g hg2 => ?_
        by_cases hgf : g = f
        · rw [hgf, hp] at hg2; exact hqp (Option.some.inj hg2).symm
        · exact hg g ⟨hgf, hg2⟩
  · refine ⟨l.filter (fun q => q.1 ≠ p), d2.sm hs5 (fun c k x => by omega), ?_, fun q hq => ?_⟩
    · show _ = (kn b').filter (fun q => q ≠ (pin b' (hd b')).getD 0)
      rw [show (pin b' (hd b')).getD 0 = p by rw [hf]; exact ep, ← hlk, List.filter_map]
      rfl
    · rw [List.mem_filter] at hq
      have h9 := hlp q hq.1
      show up (pin b') (hd b') none q.2 = some q.1
      rw [hf, up_n]
      · exact h9
      · intro e
        rw [e, hp] at h9
        have := Option.some.inj h9
        simp [this] at hq
  · have hg : up (pin b') (hd b') none g = some q := hg
    rw [hf] at hg
    by_cases hgf : g = f
    · rw [hgf, up_s] at hg; cases hg
    · rw [up_n _ _ hgf] at hg
      have : g < 64 := by have := (o4 g q (by rw [← a2]; exact hg)).1; omega
      rw [(hall _ _ (by unfold kPl; omega)).1]
      exact (hMm q hq).1 g hg k hk
  · have hg : ∀ g, up (pin b') (hd b') none g ≠ some q := hg
    rw [hf] at hg
    have g4 : ∀ j, gI (pR S4 6 p none) 4 j = gI S3 4 j := fun j => by rw [hs5.I (by omega), d3.I (by unfold kPl; omega)]
    rw [g4, g3, if_neg (by omega)]
    by_cases hqp : q = p
    · rw [hqp, if_pos (by omega), hsw.I (by omega), show 0 + (64 * p + k - 64 * p) = k by omega]
      exact (hMm p hp2).1 f hp k hk
    · rw [if_neg (by omega), hsw.I (by omega)]
      refine (hMm q hq).2 (fun g hg2 => ?_) k hk
      by_cases hgf : g = f
      · rw [hgf, hp] at hg2; exact hqp (Option.some.inj hg2).symm
      · exact hg g (by rw [up_n _ _ hgf]; exact hg2)
  · refine (((hs1.trans (hsw.mono fun c k x => ?_)).trans (hs3.mono fun c k x => ?_)).trans (d3.mono fun c k x => ?_)).trans (hs5.mono fun c k x => ?_)
    all_goals (first | (unfold kPl at x) | skip)
    all_goals (unfold xPl; omega)
/-- the page p comes into the frame f, which is free -/
theorem x_bring_34 {S : Sx} {b : Pb} {mem : Nat → Nat} {f p : Nat} (hM : XPr 0 S b mem f) (hO : bOK b) (hf : f < fr b) (hp : p < 1024) (hn : pin b f = none) (hnp : ∀ i, pin b i ≠ some p) : ∃ S', (lI S 5 1024 (nI p) (fun v3 => if v3 = 0 then X2_bring_34 (nI p) (some (10 + 2 * f)) S else pt (pI S 2 8 (gI S 2 8 + 1)) (fun S3 => X2_bring_34 (nI p) (some (10 + 2 * f)) S3))) = rt (some (10 + 2 * f)) S' ∧ XPr 1 S' (bIn b f p) mem f ∧ Sm xPl S S' := by
  obtain ⟨o1, o2, o3, o4, o5, o6, o7, o8⟩ := id hO
  have hf64 : f < 64 := by omega
  obtain ⟨hF, ⟨h1, h2, h3, h4, h5, h6, h7, -, h8⟩, ⟨l, hK, hlk, hlp⟩, hMm⟩ := hM
  obtain ⟨q1, q2, q3, q4, q5⟩ := hF.2.2 f hf64
  have hot := ((h8 p hp).2 hnp).2
  generalize hSw : pI S 2 8 (re b + b1 (ot b p)) = Sw
  have hsw : Sm (fun c k => c = 2 ∧ k = 8) S Sw := by rw [← hSw]; exact Sm.pI ⟨rfl, rfl⟩
  have hFw : XF Sw := hF.sm hsw (fun f hf => ⟨by omega, by omega⟩)
  generalize hS' : pR (pI (pI (cpI Sw 4 (64 * p) (11 + 2 * f) 0 64) (10 + 2 * f) 1 (nI p)) (10 + 2 * f) 3 0) 6 p (some (10 + 2 * f)) = S'
  have hs : Sm (fun c k => c = 11 + 2 * f ∨ (c = 10 + 2 * f ∧ (k = 1 ∨ k = 3)) ∨ (c = 6 ∧ k = p)) Sw S' := by
    rw [← hS']
    exact ((Sm.trans (Sm.cpI (fun k _ _ => Or.inl rfl)) (Sm.pI (Or.inr (Or.inl ⟨rfl, Or.inl rfl⟩)))).trans (Sm.pI (Or.inr (Or.inl ⟨rfl, Or.inr rfl⟩)))).trans (Sm.pR (Or.inr (Or.inr ⟨rfl, rfl⟩)))
  have hall : ∀ c j, ¬ ((c = 2 ∧ j = 8) ∨ c = 11 + 2 * f ∨ (c = 10 + 2 * f ∧ (j = 1 ∨ j = 3)) ∨ (c = 6 ∧ j = p)) → gI S' c j = gI S c j ∧ gR S' c j = gR S c j := by
    intro c j q
    rw [hs.I (by omega), hs.R (by omega), hsw.I (by omega), hsw.R (by omega)]
    exact ⟨rfl, rfl⟩
  have hrun : X2_bring_34 (nI p) (some (10 + 2 * f)) Sw = rt (some (10 + 2 * f)) S' := by
    unfold X2_bring_34
    have e64 : (64 : Int32) * nI p = nI (64 * p) := pk_mul 64 p
    rw [dO_s (hFw.2.2 f hf64).2.1, e64, (hFw.2.2 f hf64).2.2.1]
    show cpy Sw 3 (some 4) (nI (64 * p)) (some (11 + 2 * f)) (nI 0) (nI 64) _ = _
    rw [cpy_e hFw.1 (hFw.2.2 f hf64).2.2.2.1 (by omega) (by omega) (by omega) (by rw [hFw.2.1]; omega) (by rw [(hFw.2.2 f hf64).2.2.2.2]; omega) (by omega)]
    rw [dO_s (S := cpI Sw 4 (64 * p) (11 + 2 * f) 0 64) (hFw.2.2 f hf64).2.1, pt_e, dO_s (S := pI (cpI Sw 4 (64 * p) (11 + 2 * f) 0 64) (10 + 2 * f) 1 (nI p)) (hFw.2.2 f hf64).2.1, pt_e, dOn_s (S := pI (pI (cpI Sw 4 (64 * p) (11 + 2 * f) 0 64) (10 + 2 * f) 1 (nI p)) (10 + 2 * f) 3 0) (hFw.2.2 f hf64).2.1, sR_n hp (by omega), hS']
  refine ⟨S', ?_, ⟨hFw.sm hs (fun f hf => ⟨by omega, by omega⟩), ⟨?_, ?_, ?_, ?_, ?_, ?_, fun g hg hgf => ?_, fun _ => ?_, fun q hq => ?_⟩, ?_, fun q hq => ⟨fun g hg k hk => ?_, fun hg k hk => ?_⟩⟩, (hsw.mono fun c k x => by unfold xPl; omega).trans (hs.mono fun c k x => by unfold xPl; omega)⟩
  · rw [lI_n hp (by omega), hot]
    cases ho : ot b p with
    | false =>
      rw [if_pos b1_f]
      have : S = Sw := by rw [← hSw, ho, i_add0, pI_same h4]
      rw [this]
      exact hrun
    | true =>
      rw [if_neg (by decide), pt_e, h4]
      have : pI S 2 8 (re b + 1) = Sw := by rw [← hSw, ho]; rfl
      rw [this]
      exact hrun
  · rw [(hall _ _ (by omega)).1]; exact h1
  · rw [(hall _ _ (by omega)).1]; exact h2
  · rw [(hall _ _ (by omega)).1]; exact h3
  · rw [hs.I (by omega), ← hSw, gI_pI, if_pos ⟨rfl, rfl⟩]; rfl
  · rw [(hall _ _ (by omega)).1]; exact h5
  · rw [(hall _ _ (by omega)).1]; exact h6
  · rw [(hall _ _ (by omega)).1, (hall _ _ (by omega)).1, (hall _ _ (by omega)).1]
    show _ = pg (up (pin b) f (some p) g) ∧ (up (pin b) f (some p) g ≠ none → _ ∧ _ = b1 (up (wrt b) f false g))
    rw [up_n _ _ hgf, up_n _ _ hgf]
    exact h7 g hg hgf
  · show _ = pg (up (pin b) f (some p) f) ∧ _ = b1 (up (wrt b) f false f)
    rw [up_s, up_s, ← hS']
    rw [gI_pR, gI_pI, if_neg (by omega), gI_pI, if_pos ⟨rfl, rfl⟩, gI_pR, gI_pI, if_pos ⟨rfl, rfl⟩]
    exact ⟨rfl, rfl⟩
  · refine ⟨fun g hg => ?_, fun hg => ?_⟩
    · have hg : up (pin b) f (some p) g = some q := hg
      by_cases hgf : g = f
      · rw [hgf, up_s] at hg
        cases hg
        rw [hgf, ← hS', gR_pR, if_pos ⟨rfl, rfl⟩]
      · rw [up_n _ _ hgf] at hg
        have hqp : q ≠ p := fun e => hnp g (by rw [← e]; exact hg)
        rw [(hall _ _ (by omega)).2]
        exact (h8 q hq).1 g hg
    · have hg : ∀ g, up (pin b) f (some p) g ≠ some q := hg
      have hqp : q ≠ p := fun e => hg f (by rw [up_s, e])
      show _ ∧ _ = b1 (up (ot b) p false q)
      rw [(hall _ _ (by omega)).2, (hall _ _ (by omega)).1, up_n _ _ hqp]
      refine (h8 q hq).2 fun g hg2 => ?_
      by_cases hgf : g = f
      · rw [hgf, hn] at hg2; cases hg2
      · exact hg g (by rw [up_n _ _ hgf]; exact hg2)
  · refine ⟨l, (hK.sm hsw (fun c k x => by omega)).sm hs (fun c k x => by omega), hlk, fun q hq => ?_⟩
    have h9 := hlp q hq
    show up (pin b) f (some p) q.2 = some q.1
    rw [up_n]
    · exact h9
    · intro e
      rw [e, hn] at h9
      cases h9
  · have hg : up (pin b) f (some p) g = some q := hg
    by_cases hgf : g = f
    · rw [hgf, up_s] at hg
      cases hg
      rw [hgf, ← hS']
      rw [gI_pR, gI_pI, if_neg (by omega), gI_pI, if_neg (by omega), gI_cpI, if_pos ⟨rfl, by omega, by omega⟩, hsw.I (by omega)]
      have := (hMm p hp).2 hnp k hk
      rw [show 64 * p + (k - 0) = 64 * p + k by omega]
      exact this
    · rw [up_n _ _ hgf] at hg
      have : g < 64 := by have := (o4 g q hg).1; omega
      rw [(hall _ _ (by omega)).1]
      exact (hMm q hq).1 g hg k hk
  · have hg : ∀ g, up (pin b) f (some p) g ≠ some q := hg
    rw [(hall _ _ (by omega)).1]
    refine (hMm q hq).2 (fun g hg2 => ?_) k hk
    by_cases hgf : g = f
    · rw [hgf, hn] at hg2; cases hg2
    · exact hg g (by rw [up_n _ _ hgf]; exact hg2)
theorem x_bring_free {S : Sx} {b : Pb} {mem : Nat → Nat} {f p : Nat} (hM : XP S b mem) (hO : bOK b) (hp : p < 1024) (hnp : ∀ i, pin b i ≠ some p) (hf : bFree b f) : ∃ S', X2_bring (nI p) S = rt (some (10 + 2 * f)) S' ∧ XPr 1 S' (bIn (bFa b) f p) mem f ∧ Sm xPl S S' := by
  obtain ⟨f1, f2, f3⟩ := hf
  have h64 := hO.2.1
  have hM1 := XP_fa hM hO
  obtain ⟨S', e1, e2, e3⟩ := x_bring_34 (hM1.r0 f) (bFa_OK hO) f1 hp f2 hnp
  refine ⟨S', ?_, e2, Sm.trans (Sm.pI (show xPl 2 7 from ⟨by omega, by omega⟩)) e3⟩
  unfold X2_bring
  rw [pt_e, hM.2.1.2.2.1]
  have hr : X2_room (pI S 2 7 (fa b + 1)) = rt (some (10 + 2 * f)) (pI S 2 7 (fa b + 1)) := by
    unfold X2_room
    rw [← nI_0, x_free_loop hM1 (bFa_OK hO) (Nat.le_of_lt f1) f3 (Or.inr f2) f 0 FU (by omega) (by have := FU_ge; omega), if_neg (by show ¬ f = fr b; omega)]
  rw [hr, bd_rt, vl_e]
  exact e1
theorem x_bring_full {S : Sx} {b : Pb} {mem : Nat → Nat} {p : Nat} (hM : XP S b mem) (hO : bOK b) (hp : p < 1024) (hnp : ∀ i, pin b i ≠ some p) (hfull : ∀ i, i < fr b → pin b i ≠ none) : ∃ S', X2_bring (nI p) S = rt (some (10 + 2 * hd (bAdv 65 (bFa b)))) S' ∧ XPr 1 S' (bIn (bOut (bAdv 65 (bFa b))) (hd (bAdv 65 (bFa b))) p) mem (hd (bAdv 65 (bFa b))) ∧ Sm xPl S S' := by
  have hM1 := XP_fa hM hO
  obtain ⟨S1, l1, l2, l3⟩ := x_room_full hM1 (bFa_OK hO) hfull
  have hA := bAdv_OK 65 (bFa_OK hO)
  obtain ⟨q1, q2, -⟩ := bAdv_fr 65 (bFa b)
  have hh2 := bAdv_hd 65 (bFa b) hO.2.2.1
  generalize hB : bAdv 65 (bFa b) = B at *
  obtain ⟨q, hq⟩ : ∃ q, pin B (hd B) = some q := by
    cases hc : pin B (hd B) with
    | none => rw [q2] at hc; exact absurd hc (hfull _ hh2)
    | some q => exact ⟨q, rfl⟩
  obtain ⟨S', e1, e2, e3⟩ := x_bring_34 l2 (bOut_OK hA hq) hA.2.2.1 hp (up_s _ _ _) (fun i e => by
      have e : up (pin B) (hd B) none i = some p := e
      by_cases hi : i = hd B
      · rw [hi, up_s] at e; cases e
      · rw [up_n _ _ hi, q2] at e; exact hnp i e)
  refine ⟨S', ?_, e2, Sm.trans (Sm.trans (Sm.pI (show xPl 2 7 from ⟨by omega, by omega⟩)) l3) e3⟩
  unfold X2_bring
  rw [pt_e, hM.2.1.2.2.1, l1, bd_rt, vl_e]
  exact e1
theorem x_touch_40 {S : Sx} {b : Pb} {mem : Nat → Nat} {f p : Nat} (hM : XPr 1 S b mem f) (hO : bOK b) (hf : pin b f = some p) (hk : ¬ p ∈ kn b) : ∃ S', X2_touch_40 (nI p) (some (10 + 2 * f)) S = rt (some (10 + 2 * f)) S' ∧ XP S' (bAdd b f p) mem ∧ Sm xPl S S' := by
  obtain ⟨o1, o2, o3, o4, o5, o6, o7, o8⟩ := id hO
  obtain ⟨hf2, hp⟩ := o4 f p hf
  have hf64 : f < 64 := by omega
  obtain ⟨hF, ⟨h1, h2, h3, h4, h5, h6, h7, h7b, h8⟩, ⟨l, hK, hlk, hlp⟩, hMm⟩ := hM
  obtain ⟨S1, a1, a2, a3⟩ := x_add hK hF hp hf64
  have hF1 : XF S1 := hF.sm a3 (fun f hf => ⟨by unfold kPl; omega, by unfold kPl; omega⟩)
  have hs : Sm (fun c k => c = 10 + 2 * f ∧ k = 2) S1 (pI S1 (10 + 2 * f) 2 1) := Sm.pI ⟨rfl, rfl⟩
  have hall : ∀ c j, ¬ ((7 ≤ c ∧ c ≤ 9) ∨ (c = 10 + 2 * f ∧ j = 2)) → gI (pI S1 (10 + 2 * f) 2 1) c j = gI S c j ∧ gR (pI S1 (10 + 2 * f) 2 1) c j = gR S c j := by
    intro c j q
    have qk : ¬ kPl c j := by unfold kPl; omega
    rw [hs.I (by omega), hs.R (by omega), a3.I qk, a3.R qk]
    exact ⟨rfl, rfl⟩
  refine ⟨pI S1 (10 + 2 * f) 2 1, ?_, ⟨hF1.sm hs (fun f hf => ⟨by omega, by omega⟩), ⟨?_, ?_, ?_, ?_, ?_, ?_, fun g hg => ?_, fun q hq => ?_⟩, ?_, fun q hq => ⟨fun g hg k hk => ?_, fun hg k hk => ?_⟩⟩, (a3.mono fun c k x => by unfold kPl at x; unfold xPl; omega).trans (hs.mono fun c k x => by unfold xPl; omega)⟩
  · unfold X2_touch_40
    rw [a1, bd_rt]
    unfold X2_touch_49
    rw [dO_s (hF1.2.2 f hf64).2.1, pt_e]
  · rw [(hall _ _ (by omega)).1]; exact h1
  · rw [(hall _ _ (by omega)).1]; exact h2
  · rw [(hall _ _ (by omega)).1]; exact h3
  · rw [(hall _ _ (by omega)).1]; exact h4
  · rw [(hall _ _ (by omega)).1]; exact h5
  · rw [(hall _ _ (by omega)).1]; exact h6
  · show _ = pg (pin b g) ∧ (pin b g ≠ none → _ = b1 (up (tch b) f true g) ∧ _ = b1 (wrt b g))
    rw [(hall (10 + 2 * g) 1 (by omega)).1, (hall (10 + 2 * g) 3 (by omega)).1]
    by_cases hgf : g = f
    · rw [hgf, up_s, gI_pI, if_pos ⟨rfl, rfl⟩]
      exact ⟨(h7b rfl).1, fun _ => ⟨rfl, (h7b rfl).2⟩⟩
    · rw [(hall (10 + 2 * g) 2 (by omega)).1, up_n _ _ hgf]
      exact h7 g hg hgf
  · rw [(hall _ _ (by omega)).2, (hall _ _ (by omega)).1]
    exact h8 q hq
  · refine ⟨_, a2.sm hs (fun c k x => by omega), ?_, fun q hq => ?_⟩
    · show _ = (if (kn b).length = 4 then (kn b).tail else kn b) ++ [p]
      rw [List.map_append, ← hlk, List.length_map]
      congr 1
      split
      · rw [List.map_tail]
      · rfl
    · rw [List.mem_append, List.mem_singleton] at hq
      rcases hq with hq | rfl
      · refine hlp q ?_
        split at hq
        · exact List.mem_of_mem_tail hq
        · exact hq
      · exact hf
  · have : g < 64 := by have := (o4 g q hg).1; omega
    rw [(hall _ _ (by omega)).1]
    exact (hMm q hq).1 g hg k hk
  · rw [(hall _ _ (by omega)).1]
    exact (hMm q hq).2 hg k hk
/-- X's touch -/
theorem x_touch {S : Sx} {b b' : Pb} {mem : Nat → Nat} {p f : Nat} (hM : XP S b mem) (hO : bOK b) (hp : p < 1024) (hT : bTouch b p false f b') : ∃ S', X2_touch (nI p) S = rt (some (10 + 2 * f)) S' ∧ XP S' b' mem ∧ Sm xPl S S' := by
  obtain ⟨o1, o2, o3, o4, o5, o6, o7, o8⟩ := id hO
  obtain ⟨hF, ⟨h1, h2, h3, h4, h5, h6, h7, h8⟩, ⟨l, hK, hlk, hlp⟩, hMm⟩ := id hM
  unfold X2_touch
  by_cases hk : p ∈ kn b
  · have hkl : p ∈ l.map (fun q => q.1) := by rw [hlk]; exact hk
    obtain ⟨e, e1, e2, e3⟩ := idx_of hkl
    rw [List.length_map] at e1
    have hmap : ∀ i, i < l.length → (l.map (fun q => q.1)).getD i 0 = (l.getD i (0, 0)).1 := fun i hi => by
      rw [getD_in (by rw [List.length_map]; exact hi), getD_in hi, List.getElem_map]
    have hfind := x_find_loop (e := e) hK hp (Nat.le_of_lt e1) (fun i hi => by rw [← hmap i (by omega)]; exact e3 i hi) (Or.inr (by rw [← hmap e e1]; exact e2)) e 0 FU (by omega) (by have := FU_ge; have := hK.2.1; omega)
    rw [if_neg (by omega)] at hfind
    have hpe : pin b (l.getD e (0, 0)).2 = some p := by
      have := hlp _ (getD_mem e1 (0, 0))
      rw [← hmap e e1, e2] at this
      exact this
    have hfe : (l.getD e (0, 0)).2 = f := by
      rcases hT with ⟨t1, -⟩ | ⟨t1, -⟩ | ⟨t1, -⟩
      · exact o5 _ _ p hpe t1
      · exact absurd hpe (t1 _)
      · exact absurd hpe (t1 _)
    rw [hfe] at hfind hpe
    have hb' : b' = bHit b f p false := by
      rcases hT with ⟨t1, t2, t3⟩ | ⟨t1, -⟩ | ⟨t1, -⟩
      · exact t3
      · exact absurd hpe (t1 _)
      · exact absurd hpe (t1 _)
    have hf64 : f < 64 := by have := (o4 f p hpe).1; omega
    have hs : Sm (fun c k => c = 10 + 2 * f ∧ k = 2) S (pI S (10 + 2 * f) 2 1) := Sm.pI ⟨rfl, rfl⟩
    refine ⟨pI S (10 + 2 * f) 2 1, ?_, ?_, hs.mono fun c k x => by unfold xPl; omega⟩
    · unfold X3_find
      rw [← nI_0, hfind, bd_rt, vl_e, if_neg (by simp)]
      unfold X2_touch_49
      rw [dO_s (hF.2.2 f hf64).2.1, pt_e]
    · subst hb'
      refine ⟨hF.sm hs (fun f hf => ⟨by omega, by omega⟩), ⟨?_, ?_, ?_, ?_, ?_, ?_, fun g hg => ?_, fun q hq => ?_⟩, ⟨l, hK.sm hs (fun c k x => by omega), ?_, hlp⟩, XM.sm (b := b) hMm (fun f p hf => by have := (o4 f p hf).1; omega) hs (fun c k x => by omega)⟩
      · rw [hs.I (by omega)]; exact h1
      · rw [hs.I (by omega)]; exact h2
      · rw [hs.I (by omega)]; exact h3
      · rw [hs.I (by omega)]; exact h4
      · rw [hs.I (by omega)]; exact h5
      · rw [hs.I (by omega), h6]
        show mi b = if p ∈ kn b then mi b else _
        rw [if_pos hk]
      · show _ = pg (pin b g) ∧ (pin b g ≠ none → _ = b1 (up (tch b) f true g) ∧ _ = b1 (wrt b g))
        rw [hs.I (c := 10 + 2 * g) (k := 1) (by omega), hs.I (c := 10 + 2 * g) (k := 3) (by omega)]
        refine ⟨(h7 g hg).1, fun hne => ⟨?_, ((h7 g hg).2 hne).2⟩⟩
        by_cases hgf : g = f
        · rw [hgf, up_s, gI_pI, if_pos ⟨rfl, rfl⟩]; rfl
        · rw [hs.I (by omega), up_n _ _ hgf]; exact ((h7 g hg).2 hne).1
      · rw [hs.R (by omega), hs.I (by omega)]
        exact h8 q hq
      · show _ = if p ∈ kn b then kn b else _
        rw [if_pos hk]; exact hlk
  · have hnl : ∀ i, i < l.length → (l.getD i (0, 0)).1 ≠ p := fun i hi e => hk (by
      rw [← hlk, ← e]
      exact List.mem_map.mpr ⟨_, getD_mem hi _, rfl⟩)
    have hfind := x_find_loop (e := l.length) hK hp (Nat.le_refl _) hnl (Or.inl rfl) l.length 0 FU (by omega) (by have := FU_ge; have := hK.2.1; omega)
    rw [if_pos rfl] at hfind
    have hM2 := XP_mi hM hO
    have hstart : ∀ (r : Rs (Option Nat)), X3_find (nI p) S = rt none S := fun _ => by
      unfold X3_find
      rw [← nI_0]
      exact hfind
    rw [hstart none, bd_rt, vl_e, if_pos rfl, pt_e, h6, lR_n hp (by omega)]
    have hR6 : gR (pI S 2 10 (mi b + 1)) 6 p = gR S 6 p := rfl
    rw [hR6, vl_e]
    have hsm : Sm xPl S (pI S 2 10 (mi b + 1)) := Sm.pI ⟨by omega, by omega⟩
    rcases hT with ⟨t1, t2, rfl⟩ | ⟨t1, t2, rfl⟩ | ⟨t1, t2, rfl, rfl⟩
    · rw [(h8 p hp).1 f t1, if_neg (by simp)]
      obtain ⟨S', c1, c2, c3⟩ := x_touch_40 (hM2.r1 (by omega) (by show pin b f ≠ none; rw [t1]; simp)) (bMi_OK hO) t1 hk
      rw [bHit_new hk]
      exact ⟨S', c1, c2, hsm.trans c3⟩
    · rw [((h8 p hp).2 t1).1, if_pos rfl]
      obtain ⟨S1, a1, a2, a3⟩ := x_bring_free hM2 (bMi_OK hO) hp t1 t2
      rw [a1, bd_rt, vl_e]
      obtain ⟨S', c1, c2, c3⟩ := x_touch_40 a2 (bIn_OK (bFa_OK (bMi_OK hO)) t2.1 hp t2.2.1 t1) (up_s _ _ _) hk
      rw [bHit_new (show ¬ p ∈ kn (bIn (bFa b) f p) from hk)]
      exact ⟨S', c1, c2, (hsm.trans a3).trans c3⟩
    · rw [((h8 p hp).2 t1).1, if_pos rfl]
      obtain ⟨S1, a1, a2, a3⟩ := x_bring_full hM2 (bMi_OK hO) hp t1 t2
      have e0 : bFa (bMi b) = bMi (bFa b) := rfl
      have hmi : bAdv 65 (bFa (bMi b)) = bMi (bAdv 65 (bFa b)) := by rw [e0, ← bMi_adv]
      rw [hmi] at a1 a2
      have hA := bAdv_OK 65 (bFa_OK hO)
      obtain ⟨q1, q2, -, -, q5, -⟩ := bAdv_fr 65 (bFa b)
      have hh2 := bAdv_hd 65 (bFa b) hO.2.2.1
      generalize hB : bAdv 65 (bFa b) = B at *
      have hhd : hd (bMi B) = hd B := rfl
      rw [hhd] at a1 a2
      rw [a1, bd_rt, vl_e]
      obtain ⟨q, hq⟩ : ∃ q, pin B (hd B) = some q := by
        cases hc : pin B (hd B) with
        | none => rw [q2] at hc; exact absurd hc (t2 _ hh2)
        | some q => exact ⟨q, rfl⟩
      have hnk : ¬ p ∈ kn (bIn (bOut B) (hd B) p) := by
        show ¬ p ∈ (kn B).filter _
        rw [List.mem_filter, q5]
        exact fun x => hk x.1
      have hI : bOK (bIn (bOut (bMi B)) (hd B) p) := bIn_OK (bOut_OK (bMi_OK hA) hq) hA.2.2.1 hp (up_s _ _ _) (fun i e => by
        have e : up (pin B) (hd B) none i = some p := e
        by_cases hi : i = hd B
        · rw [hi, up_s] at e; cases e
        · rw [up_n _ _ hi, q2] at e; exact t1 i e)
      obtain ⟨S', c1, c2, c3⟩ := x_touch_40 a2 hI (up_s _ _ _) hnk
      rw [bHit_new hnk]
      exact ⟨S', c1, c2, (hsm.trans a3).trans c3⟩
