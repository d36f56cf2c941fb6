set_option maxRecDepth 100000
noncomputable def X1_init (c0 : Nat) (S : Sx) : Rs Unit :=
  xi S 1 c0 (fun S1 => rt () S1)
noncomputable def X3_init (c0 : Nat) (S : Sx) : Rs Unit :=
  al S 1 4 4 (fun c1 S1 => kd S1 (3 + 6) c0 (pt (pR S1 c0 0 (some c1)) (fun S2 => al S2 5 4 4 (fun c2 S3 => kd S3 (3 + 6) c0 (pt (pR S3 c0 1 (some c2)) (fun S4 => rt () S4))))))
noncomputable def X4_init (c0 : Nat) (S : Sx) : Rs Unit :=
  al S 3 64 64 (fun c1 S1 => kd S1 (4 + 6) c0 (pt (pR S1 c0 0 (some c1)) (fun S2 => kd S2 (4 + 6) c0 (pt (pI S2 c0 1 ((-1))) (fun S3 => rt () S3)))))
noncomputable def X2_init_59b (k59 : Nat → Int32 → Sx → Rs Unit) (x0 : Nat) (x1 : Int32) (S : Sx) : Rs Unit :=
  if 64 ≤ x1 then rt () S else kd S (2 + 6) x0 (al S (4 + 6) 0 4 (fun c1 S1 => bd (X4_init c1 S1) (fun _ S2 => dO S2 5 (gR S x0 0) (fun c2 => dOn S2 10 (some c1) (sR S2 c2 (gN S2 c2) x1 (some c1) (fun S3 => vl (x1 + 1) (fun v3 => k59 x0 v3 S3)))))))
noncomputable def X2_init_59 : Nat → Nat → Int32 → Sx → Rs Unit
  | 0 => fun _ _ _ => none
  | n + 1 => X2_init_59b  (X2_init_59 n)
noncomputable def X2_init (c0 : Nat) (S : Sx) : Rs Unit :=
  al S 5 64 64 (fun c1 S1 => kd S1 (2 + 6) c0 (pt (pR S1 c0 0 (some c1)) (fun S2 => kd S2 (2 + 6) c0 (pt (pI S2 c0 1 16) (fun S3 => al S3 3 65536 65536 (fun c2 S4 => kd S4 (2 + 6) c0 (pt (pR S4 c0 3 (some c2)) (fun S5 => al S5 4 1024 1024 (fun c3 S6 => kd S6 (2 + 6) c0 (pt (pR S6 c0 4 (some c3)) (fun S7 => al S7 5 1024 1024 (fun c4 S8 => kd S8 (2 + 6) c0 (pt (pR S8 c0 5 (some c4)) (fun S9 => al S9 (3 + 6) 0 3 (fun c5 S10 => bd (X3_init c5 S10) (fun _ S11 => kd S11 (2 + 6) c0 (pt (pR S11 c0 6 (some c5)) (fun S12 => X2_init_59 FU c0 0 S12))))))))))))))))))
noncomputable def X6_init (c0 : Nat) (S : Sx) : Rs Unit :=
  al S 2 40 40 (fun c1 S1 => kd S1 (6 + 6) c0 (pt (pR S1 c0 0 (some c1)) (fun S2 => al S2 2 632 632 (fun c2 S3 => kd S3 (6 + 6) c0 (pt (pR S3 c0 1 (some c2)) (fun S4 => al S4 2 32 32 (fun c3 S5 => kd S5 (6 + 6) c0 (pt (pR S5 c0 2 (some c3)) (fun S6 => rt () S6)))))))))
noncomputable def X7_init (c0 : Nat) (S : Sx) : Rs Unit :=
  rt () S
noncomputable def X8_init (c0 : Nat) (S : Sx) : Rs Unit :=
  al S 1 64 64 (fun c1 S1 => kd S1 (8 + 6) c0 (pt (pR S1 c0 0 (some c1)) (fun S2 => rt () S2)))
noncomputable def X5_init (c0 : Nat) (a1 : Option Nat) (a2 : Option Nat) (S : Sx) : Rs Unit :=
  al S (6 + 6) 0 6 (fun c1 S1 => bd (X6_init c1 S1) (fun _ S2 => kd S2 (5 + 6) c0 (pt (pR S2 c0 1 (some c1)) (fun S3 => al S3 (7 + 6) 0 2 (fun c2 S4 => bd (X7_init c2 S4) (fun _ S5 => kd S5 (5 + 6) c0 (pt (pR S5 c0 2 (some c2)) (fun S6 => al S6 2 4 4 (fun c3 S7 => kd S7 (5 + 6) c0 (pt (pR S7 c0 4 (some c3)) (fun S8 => al S8 1 1000 1000 (fun c4 S9 => kd S9 (5 + 6) c0 (pt (pR S9 c0 8 (some c4)) (fun S10 => al S10 (8 + 6) 0 2 (fun c5 S11 => bd (X8_init c5 S11) (fun _ S12 => kd S12 (5 + 6) c0 (pt (pR S12 c0 10 (some c5)) (fun S13 => kd S13 (5 + 6) c0 (pt (pR S13 c0 0 a1) (fun S14 => kd S14 (5 + 6) c0 (pt (pR S14 c0 3 a2) (fun S15 => rt () S15))))))))))))))))))))))
noncomputable def X10_init (c0 : Nat) (S : Sx) : Rs Unit :=
  al S (8 + 6) 0 2 (fun c1 S1 => bd (X8_init c1 S1) (fun _ S2 => kd S2 (10 + 6) c0 (pt (pR S2 c0 0 (some c1)) (fun S3 => rt () S3))))
noncomputable def X9_init (c0 : Nat) (a1 : Option Nat) (S : Sx) : Rs Unit :=
  al S (10 + 6) 0 3 (fun c1 S1 => bd (X10_init c1 S1) (fun _ S2 => kd S2 (9 + 6) c0 (pt (pR S2 c0 0 (some c1)) (fun S3 => al S3 1 300 300 (fun c2 S4 => kd S4 (9 + 6) c0 (pt (pR S4 c0 9 (some c2)) (fun S5 => al S5 1 300 300 (fun c3 S6 => kd S6 (9 + 6) c0 (pt (pR S6 c0 10 (some c3)) (fun S7 => al S7 1 300 300 (fun c4 S8 => kd S8 (9 + 6) c0 (pt (pR S8 c0 11 (some c4)) (fun S9 => al S9 2 300 300 (fun c5 S10 => kd S10 (9 + 6) c0 (pt (pR S10 c0 12 (some c5)) (fun S11 => al S11 (8 + 6) 0 2 (fun c6 S12 => bd (X8_init c6 S12) (fun _ S13 => kd S13 (9 + 6) c0 (pt (pR S13 c0 13 (some c6)) (fun S14 => al S14 (8 + 6) 0 2 (fun c7 S15 => bd (X8_init c7 S15) (fun _ S16 => kd S16 (9 + 6) c0 (pt (pR S16 c0 14 (some c7)) (fun S17 => al S17 (8 + 6) 0 2 (fun c8 S18 => bd (X8_init c8 S18) (fun _ S19 => kd S19 (9 + 6) c0 (pt (pR S19 c0 15 (some c8)) (fun S20 => al S20 (8 + 6) 0 2 (fun c9 S21 => bd (X8_init c9 S21) (fun _ S22 => kd S22 (9 + 6) c0 (pt (pR S22 c0 16 (some c9)) (fun S23 => kd S23 (9 + 6) c0 (pt (pR S23 c0 1 a1) (fun S24 => rt () S24))))))))))))))))))))))))))))))))))
noncomputable def X11_init (c0 : Nat) (a1 : Option Nat) (a2 : Option Nat) (S : Sx) : Rs Unit :=
  kd S (11 + 6) c0 (pt (pR S c0 0 a1) (fun S1 => kd S1 (11 + 6) c0 (pt (pR S1 c0 1 a2) (fun S2 => rt () S2))))
noncomputable def X0_init (c0 : Nat) (S : Sx) : Rs Unit :=
  al S (1 + 50 + 6) 0 8 (fun c1 S1 => bd (X1_init c1 S1) (fun _ S2 => kd S2 (0 + 6) c0 (pt (pR S2 c0 0 (some c1)) (fun S3 => al S3 (2 + 6) 0 11 (fun c2 S4 => bd (X2_init c2 S4) (fun _ S5 => kd S5 (0 + 6) c0 (pt (pR S5 c0 1 (some c2)) (fun S6 => al S6 (5 + 6) 0 12 (fun c3 S7 => kd S7 (0 + 6) c0 (kd S7 (0 + 6) c0 (bd (X5_init c3 (gR S7 c0 1) (gR S7 c0 0) S7) (fun _ S8 => kd S8 (0 + 6) c0 (pt (pR S8 c0 2 (some c3)) (fun S9 => al S9 (9 + 6) 0 22 (fun c4 S10 => kd S10 (0 + 6) c0 (bd (X9_init c4 (gR S10 c0 0) S10) (fun _ S11 => kd S11 (0 + 6) c0 (pt (pR S11 c0 3 (some c4)) (fun S12 => al S12 (11 + 6) 0 6 (fun c5 S13 => kd S13 (0 + 6) c0 (kd S13 (0 + 6) c0 (bd (X11_init c5 (gR S13 c0 1) (gR S13 c0 0) S13) (fun _ S14 => kd S14 (0 + 6) c0 (pt (pR S14 c0 4 (some c5)) (fun S15 => al S15 (8 + 6) 0 2 (fun c6 S16 => bd (X8_init c6 S16) (fun _ S17 => kd S17 (0 + 6) c0 (pt (pR S17 c0 5 (some c6)) (fun S18 => kd S18 (0 + 6) c0 (pt (pI S18 c0 8 ((-1))) (fun S19 => rt () S19)))))))))))))))))))))))))))))))
noncomputable def X12_freePages_31b (k31 : Int32 → Sx → Rs Unit) (x1 : Int32) (S : Sx) : Rs Unit :=
  if 64 ≤ x1 then pt (pI S 167 23 0) (fun S1 => pt (pI S1 167 25 0) (fun S2 => pt (pI S2 167 26 0) (fun S3 => pt (pI S3 167 27 0) (fun S4 => pt (pI S4 167 28 0) (fun S5 => pt (pI S5 167 29 0) (fun S6 => rt () S6)))))) else sI S 177 64 x1 ((-1)) (fun S1 => sI S1 178 64 x1 (nz 0) (fun S2 => sI S2 179 64 x1 (nz 0) (fun S3 => vl (x1 + 1) (fun v1 => k31 v1 S3))))
noncomputable def X12_freePages_31 : Nat → Int32 → Sx → Rs Unit
  | 0 => fun _ _ => none
  | n + 1 => X12_freePages_31b  (X12_freePages_31 n)
noncomputable def X12_freePages_2b (k2 : Int32 → Sx → Rs Unit) (x1 : Int32) (S : Sx) : Rs Unit :=
  if 1024 ≤ x1 then X12_freePages_31 FU 0 S else sI S 175 1024 x1 ((-1)) (fun S1 => sI S1 176 1024 x1 (nz 0) (fun S2 => vl (x1 + 1) (fun v1 => k2 v1 S2)))
noncomputable def X12_freePages_2 : Nat → Int32 → Sx → Rs Unit
  | 0 => fun _ _ => none
  | n + 1 => X12_freePages_2b  (X12_freePages_2 n)
noncomputable def X12_freePages (S : Sx) : Rs Unit :=
  X12_freePages_2 FU 0 S
noncomputable def X12_init (c0 : Nat) (S : Sx) : Rs Unit :=
  al S 1 20000 20000 (fun c1 S1 => kd S1 (12 + 6) c0 (pt (pR S1 c0 0 (some c1)) (fun S2 => al S2 1 65536 65536 (fun c2 S3 => kd S3 (12 + 6) c0 (pt (pR S3 c0 2 (some c2)) (fun S4 => al S4 1 4000 4000 (fun c3 S5 => kd S5 (12 + 6) c0 (pt (pR S5 c0 3 (some c3)) (fun S6 => kd S6 (12 + 6) c0 (pt (pI S6 c0 6 ((-1))) (fun S7 => al S7 2 32 32 (fun c4 S8 => kd S8 (12 + 6) c0 (pt (pR S8 c0 8 (some c4)) (fun S9 => al S9 2 5 5 (fun c5 S10 => kd S10 (12 + 6) c0 (pt (pR S10 c0 9 (some c5)) (fun S11 => al S11 2 601 601 (fun c6 S12 => kd S12 (12 + 6) c0 (pt (pR S12 c0 10 (some c6)) (fun S13 => al S13 1 1000 1000 (fun c7 S14 => kd S14 (12 + 6) c0 (pt (pR S14 c0 15 (some c7)) (fun S15 => kd S15 (12 + 6) c0 (pt (pI S15 c0 17 16) (fun S16 => al S16 1 1024 1024 (fun c8 S17 => kd S17 (12 + 6) c0 (pt (pR S17 c0 18 (some c8)) (fun S18 => al S18 4 1024 1024 (fun c9 S19 => kd S19 (12 + 6) c0 (pt (pR S19 c0 19 (some c9)) (fun S20 => al S20 1 64 64 (fun c10 S21 => kd S21 (12 + 6) c0 (pt (pR S21 c0 20 (some c10)) (fun S22 => al S22 4 64 64 (fun c11 S23 => kd S23 (12 + 6) c0 (pt (pR S23 c0 21 (some c11)) (fun S24 => al S24 4 64 64 (fun c12 S25 => kd S25 (12 + 6) c0 (pt (pR S25 c0 22 (some c12)) (fun S26 => al S26 1 4 4 (fun c13 S27 => kd S27 (12 + 6) c0 (pt (pR S27 c0 24 (some c13)) (fun S28 => al S28 2 16 16 (fun c14 S29 => kd S29 (12 + 6) c0 (pt (pR S29 c0 34 (some c14)) (fun S30 => al S30 4 1024 1024 (fun c15 S31 => kd S31 (12 + 6) c0 (pt (pR S31 c0 35 (some c15)) (fun S32 => al S32 1 65536 65536 (fun c16 S33 => kd S33 (12 + 6) c0 (pt (pR S33 c0 36 (some c16)) (fun S34 => kd S34 (12 + 6) c0 (kd S34 (12 + 6) c0 (pt (pR S34 c0 37 (gR S34 c0 2)) (fun S35 => al S35 1 300 300 (fun c17 S36 => kd S36 (12 + 6) c0 (pt (pR S36 c0 39 (some c17)) (fun S37 => al S37 1 300 300 (fun c18 S38 => kd S38 (12 + 6) c0 (pt (pR S38 c0 40 (some c18)) (fun S39 => al S39 1 300 300 (fun c19 S40 => kd S40 (12 + 6) c0 (pt (pR S40 c0 41 (some c19)) (fun S41 => al S41 2 300 300 (fun c20 S42 => kd S42 (12 + 6) c0 (pt (pR S42 c0 42 (some c20)) (fun S43 => al S43 1 64 64 (fun c21 S44 => kd S44 (12 + 6) c0 (pt (pR S44 c0 44 (some c21)) (fun S45 => al S45 1 64 64 (fun c22 S46 => kd S46 (12 + 6) c0 (pt (pR S46 c0 45 (some c22)) (fun S47 => al S47 1 64 64 (fun c23 S48 => kd S48 (12 + 6) c0 (pt (pR S48 c0 46 (some c23)) (fun S49 => al S49 1 64 64 (fun c24 S50 => kd S50 (12 + 6) c0 (pt (pR S50 c0 47 (some c24)) (fun S51 => if c0 = 167 then kd S51 (12 + 6) 167 (lyc stM S51 (bd (X12_freePages S51) (fun _ S52 => rt () S52))) else none)))))))))))))))))))))))))))))))))))))))))))))))))))))))))))))))))))))))))))))))
noncomputable def X8_add_40 (c : Nat) (x1 : Int32) (S : Sx) : Rs Int32 :=
  dO S 1 (gR S c 0) (fun c1 => sI S c1 (gN S c1) (gI S c 1) x1 (fun S1 => pt (pI S1 c 1 ((gI S1 c 1) + 1)) (fun S2 => rt ((gI S2 c 1) - 1) S2)))
noncomputable def X8_add (c : Nat) (a1 : Int32) (S : Sx) : Rs Int32 :=
  dO S 1 (gR S c 0) (fun c1 => if (gI S c 1) = (Int32.ofNat ((gN S c1))) then alI S (2 * (gI S c 1)) (fun c2 S1 => cpy S1 1 (gR S1 c 0) 0 (some c2) 0 (gI S1 c 1) (fun S2 => pt (pR S2 c 0 (some c2)) (fun S3 => X8_add_40 c a1 S3))) else X8_add_40 c a1 S)
noncomputable def X0_lay_3b (k3 : Int32 → Int32 → Sx → Rs Unit) (x1 : Int32) (x2 : Int32) (S : Sx) : Rs Unit :=
  if x2 < 0 then rt () S else bd (X8_add 165 ((x1 >>> (x2 &&& 31)) &&& 255) S) (fun v1 S1 => vl (x2 + (-8)) (fun v2 => k3 x1 v2 S1))
noncomputable def X0_lay_3 : Nat → Int32 → Int32 → Sx → Rs Unit
  | 0 => fun _ _ _ => none
  | n + 1 => X0_lay_3b  (X0_lay_3 n)
noncomputable def X0_lay (a1 : Int32) (S : Sx) : Rs Unit :=
  X0_lay_3 FU a1 24 S
noncomputable def X0_feed (a1 : Int32) (a2 : Int32) (a3 : Int32) (a4 : Int32) (a5 : Int32) (S : Sx) : Rs Int32 :=
  if ((gI S 165 1) + 20) ≤ 20000 then bd (X0_lay a1 S) (fun _ S1 => bd (X0_lay a2 S1) (fun _ S2 => bd (X0_lay a3 S2) (fun _ S3 => bd (X0_lay a4 S3) (fun _ S4 => bd (X0_lay a5 S4) (fun _ S5 => rt (gI S5 165 1) S5))))) else rt ((-1)) S
noncomputable def X12_four_3b (k3 : Int32 → Int32 → Sx → Rs Unit) (x1 : Int32) (x2 : Int32) (S : Sx) : Rs Unit :=
  if x2 < 0 then rt () S else sI S 168 20000 (gI S 167 1) ((x1 >>> (x2 &&& 31)) &&& 255) (fun S1 => pt (pI S1 167 1 ((gI S1 167 1) + 1)) (fun S2 => vl (x2 + (-8)) (fun v1 => k3 x1 v1 S2)))
noncomputable def X12_four_3 : Nat → Int32 → Int32 → Sx → Rs Unit
  | 0 => fun _ _ _ => none
  | n + 1 => X12_four_3b  (X12_four_3 n)
noncomputable def X12_four (a1 : Int32) (S : Sx) : Rs Unit :=
  X12_four_3 FU a1 24 S
noncomputable def X12_feed (a1 : Int32) (a2 : Int32) (a3 : Int32) (a4 : Int32) (a5 : Int32) (S : Sx) : Rs Int32 :=
  if ((gI S 167 1) + 20) ≤ 20000 then bd (X12_four a1 S) (fun _ S1 => bd (X12_four a2 S1) (fun _ S2 => bd (X12_four a3 S2) (fun _ S3 => bd (X12_four a4 S3) (fun _ S4 => bd (X12_four a5 S4) (fun _ S5 => rt (gI S5 167 1) S5))))) else rt ((-1)) S
noncomputable def X0_end (a1 : Int32) (S : Sx) : Rs Int32 :=
  if a1 < 0 then rt ((-1)) S else if a1 ≤ (gI S 165 1) then pt (pI S 165 1 a1) (fun S1 => rt a1 S1) else rt ((-1)) S
noncomputable def X12_end (a1 : Int32) (S : Sx) : Rs Int32 :=
  if a1 < 0 then rt ((-1)) S else if a1 ≤ (gI S 167 1) then pt (pI S 167 1 a1) (fun S1 => rt a1 S1) else rt ((-1)) S
noncomputable def X3_clear (S : Sx) : Rs Unit :=
  pt (pI S 7 2 0) (fun S1 => rt () S1)
noncomputable def X2_reset_24b (k24 : Int32 → Sx → Rs Unit) (x1 : Int32) (S : Sx) : Rs Unit :=
  if 64 ≤ x1 then bd (X3_clear S) (fun _ S1 => pt (pI S1 2 2 0) (fun S2 => pt (pI S2 2 7 0) (fun S3 => pt (pI S3 2 8 0) (fun S4 => pt (pI S4 2 9 0) (fun S5 => pt (pI S5 2 10 0) (fun S6 => rt () S6)))))) else lR S 3 64 x1 (fun v1 => dO S (4 + 6) v1 (fun c2 => pt (pI S c2 1 ((-1))) (fun S1 => vl (x1 + 1) (fun v3 => k24 v3 S1))))
noncomputable def X2_reset_24 : Nat → Int32 → Sx → Rs Unit
  | 0 => fun _ _ => none
  | n + 1 => X2_reset_24b  (X2_reset_24 n)
noncomputable def X2_reset_2b (k2 : Int32 → Sx → Rs Unit) (x1 : Int32) (S : Sx) : Rs Unit :=
  if 1024 ≤ x1 then X2_reset_24 FU 0 S else dOn S 10 none (sR S 6 1024 x1 none (fun S1 => vl (x1 + 1) (fun v1 => k2 v1 S1)))
noncomputable def X2_reset_2 : Nat → Int32 → Sx → Rs Unit
  | 0 => fun _ _ => none
  | n + 1 => X2_reset_2b  (X2_reset_2 n)
noncomputable def X2_reset (S : Sx) : Rs Unit :=
  X2_reset_2 FU 0 S
noncomputable def X2_clear_23b (k23 : Int32 → Sx → Rs Unit) (x1 : Int32) (S : Sx) : Rs Unit :=
  if 1024 ≤ x1 then bd (X2_reset S) (fun _ S1 => rt () S1) else sI S 5 1024 x1 (nz 0) (fun S1 => vl (x1 + 1) (fun v1 => k23 v1 S1))
noncomputable def X2_clear_23 : Nat → Int32 → Sx → Rs Unit
  | 0 => fun _ _ => none
  | n + 1 => X2_clear_23b  (X2_clear_23 n)
noncomputable def X2_clear_2b (k2 : Int32 → Sx → Rs Unit) (x1 : Int32) (S : Sx) : Rs Unit :=
  if 65536 ≤ x1 then X2_clear_23 FU 0 S else sI S 4 65536 x1 ((0 : Int32).toInt8.toInt32) (fun S1 => vl (x1 + 1) (fun v1 => k2 v1 S1))
noncomputable def X2_clear_2 : Nat → Int32 → Sx → Rs Unit
  | 0 => fun _ _ => none
  | n + 1 => X2_clear_2b  (X2_clear_2 n)
noncomputable def X2_clear (S : Sx) : Rs Unit :=
  X2_clear_2 FU 0 S
noncomputable def X0_frames (a1 : Int32) (S : Sx) : Rs Int32 :=
  if a1 < 2 then rt ((-1)) S else if a1 ≤ 64 then pt (pI S 2 1 a1) (fun S1 => bd (X2_clear S1) (fun _ S2 => pt (pI S2 0 6 0) (fun S3 => rt a1 S3))) else rt ((-1)) S
noncomputable def X12_frames_24b (k24 : Int32 → Int32 → Sx → Rs Int32) (x1 : Int32) (x2 : Int32) (S : Sx) : Rs Int32 :=
  if 65536 ≤ x2 then pt (pI S 167 7 0) (fun S1 => rt x1 S1) else sI S 169 65536 x2 0 (fun S1 => vl (x2 + 1) (fun v1 => k24 x1 v1 S1))
noncomputable def X12_frames_24 : Nat → Int32 → Int32 → Sx → Rs Int32
  | 0 => fun _ _ _ => none
  | n + 1 => X12_frames_24b  (X12_frames_24 n)
noncomputable def X12_frames (a1 : Int32) (S : Sx) : Rs Int32 :=
  if a1 < 2 then rt ((-1)) S else if a1 ≤ 64 then pt (pI S 167 17 a1) (fun S1 => bd (X12_freePages S1) (fun _ S2 => X12_frames_24 FU a1 0 S2)) else rt ((-1)) S
noncomputable def X10_clear (S : Sx) : Rs Unit :=
  pt (pI S 150 1 0) (fun S1 => pt (pL S1 149 1 0) (fun S2 => pt (pI S2 149 2 ((-1))) (fun S3 => rt () S3)))
noncomputable def X9_here (S : Sx) : Rs Int32 :=
  if (gI S 148 5) ≤ (gI S 148 4) then rt ((-1)) S else dO S 1 (gR S 148 2) (fun c2 => lI S c2 (gN S c2) (gI S 148 4) (fun v1 => rt v1 S))
noncomputable def X9_isGreat (a1 : Int32) (S : Sx) : Rs Int32 :=
  if a1 < 65 then rt 0 S else if 90 < a1 then rt 0 S else rt 1 S
noncomputable def X9_isLetter (a1 : Int32) (S : Sx) : Rs Int32 :=
  bd (X9_isGreat a1 S) (fun v1 S1 => if v1 = 0 then if a1 < 97 then rt 0 S1 else if 122 < a1 then rt 0 S1 else rt 1 S1 else rt 1 S1)
noncomputable def X9_isDigit (a1 : Int32) (S : Sx) : Rs Int32 :=
  if a1 < 48 then rt 0 S else if 57 < a1 then rt 0 S else rt 1 S
noncomputable def X1_of (a1 : Int32) (a2 : Int32) (S : Sx) : Rs (Option Nat) :=
  pt (pI S 1 6 a1) (fun S1 => pt (pI S1 1 7 a2) (fun S2 => rt (some 1) S2))
noncomputable def X9_wrong (a1 : Int32) (a2 : Int32) (S : Sx) : Rs (Option Nat) :=
  bd (X1_of a1 a2 S) (fun v1 S1 => rt v1 S1)
noncomputable def X9_want (a1 : Int32) (a2 : Int32) (a3 : Int32) (S : Sx) : Rs Unit :=
  if a1 = 0 then bd (X9_wrong a2 a3 S) (fun v1 S1 => dO S1 7 v1 (fun c2 => th c2 S1)) else rt () S
noncomputable def X9_known_25 (k5 : Int32 → Sx → Rs Int32) (x1 : Int32) (S : Sx) : Rs Int32 :=
  pt (pI S 148 4 ((gI S 148 4) + 1)) (fun S1 => k5 x1 S1)
noncomputable def X9_known_142 (k64 : Int32 → Int32 → Int32 → Sx → Rs Int32) (x1 : Int32) (x2 : Int32) (x3 : Int32) (x4 : Int32) (S : Sx) : Rs Int32 :=
  if x4 = 0 then vl (x3 + 1) (fun v1 => k64 x1 x2 v1 S) else rt x3 S
noncomputable def X9_known_92b (k64 : Int32 → Int32 → Int32 → Sx → Rs Int32) (k92 : Int32 → Int32 → Int32 → Int32 → Int32 → Sx → Rs Int32) (x1 : Int32) (x2 : Int32) (x3 : Int32) (x4 : Int32) (x5 : Int32) (S : Sx) : Rs Int32 :=
  if x2 ≤ x5 then X9_known_142 k64 x1 x2 x3 x4 S else if x4 = 0 then X9_known_142 k64 x1 x2 x3 x4 S else lI S 152 300 x3 (fun v1 => dO S 1 (gR S 148 2) (fun c3 => lI S c3 (gN S c3) (v1 + x5) (fun v2 => dO S 1 (gR S 148 2) (fun c5 => lI S c5 (gN S c5) (x1 + x5) (fun v4 => if v2 = v4 then vl (x5 + 1) (fun v6 => k92 x1 x2 x3 1 v6 S) else vl (x5 + 1) (fun v6 => k92 x1 x2 x3 0 v6 S))))))
noncomputable def X9_known_92 (k64 : Int32 → Int32 → Int32 → Sx → Rs Int32) : Nat → Int32 → Int32 → Int32 → Int32 → Int32 → Sx → Rs Int32
  | 0 => fun _ _ _ _ _ _ => none
  | n + 1 => X9_known_92b k64 (X9_known_92 k64 n)
noncomputable def X9_known_64b (k64 : Int32 → Int32 → Int32 → Sx → Rs Int32) (x1 : Int32) (x2 : Int32) (x3 : Int32) (S : Sx) : Rs Int32 :=
  if (gI S 148 8) ≤ x3 then rt ((-1)) S else lI S 153 300 x3 (fun v1 => if v1 = x2 then X9_known_92 k64 FU x1 x2 x3 1 0 S else X9_known_92 k64 FU x1 x2 x3 0 0 S)
noncomputable def X9_known_64 : Nat → Int32 → Int32 → Int32 → Sx → Rs Int32
  | 0 => fun _ _ _ _ => none
  | n + 1 => X9_known_64b  (X9_known_64 n)
noncomputable def X9_known_57 (x1 : Int32) (x2 : Int32) (y0 : Int32) (S : Sx) : Rs Int32 :=
  bd (X9_want y0 1 x1 S) (fun _ S1 => X9_known_64 FU x1 x2 0 S1)
noncomputable def X9_known_5b (k5 : Int32 → Sx → Rs Int32) (x1 : Int32) (S : Sx) : Rs Int32 :=
  bd (X9_here S) (fun v1 S1 => bd (X9_isLetter v1 S1) (fun v2 S2 => if v2 = 0 then bd (X9_here S2) (fun v3 S3 => bd (X9_isDigit v3 S3) (fun v4 S4 => if v4 = 0 then vl ((gI S4 148 4) - x1) (fun v5 => if 12 < v5 then X9_known_57 x1 v5 0 S4 else X9_known_57 x1 v5 1 S4) else X9_known_25 k5 x1 S4)) else X9_known_25 k5 x1 S2))
noncomputable def X9_known_5 : Nat → Int32 → Sx → Rs Int32
  | 0 => fun _ _ => none
  | n + 1 => X9_known_5b  (X9_known_5 n)
noncomputable def X9_known (S : Sx) : Rs Int32 :=
  vl (gI S 148 4) (fun v1 => X9_known_5 FU v1 S)
noncomputable def X9_label_22 (x2 : Int32) (y0 : Int32) (S : Sx) : Rs Int32 :=
  bd (X9_want y0 6 x2 S) (fun _ S1 => sI S1 152 300 (gI S1 148 8) x2 (fun S2 => sI S2 153 300 (gI S2 148 8) ((gI S2 148 4) - x2) (fun S3 => sI S3 154 300 (gI S3 148 8) 0 (fun S4 => pt (pI S4 148 8 ((gI S4 148 8) + 1)) (fun S5 => rt ((gI S5 148 8) - 1) S5)))))
noncomputable def X9_label (a1 : Int32) (a2 : Int32) (S : Sx) : Rs Int32 :=
  if a1 < 0 then if 300 ≤ (gI S 148 8) then X9_label_22 a2 0 S else X9_label_22 a2 1 S else rt a1 S
noncomputable def X9_isStop (a1 : Int32) (S : Sx) : Rs Int32 :=
  if a1 < 0 then rt 1 S else if a1 = 32 then rt 1 S else rt 0 S
noncomputable def X9_skip_0b (k0 : Sx → Rs Unit) (S : Sx) : Rs Unit :=
  bd (X9_here S) (fun v1 S1 => if v1 = 32 then pt (pI S1 148 4 ((gI S1 148 4) + 1)) (fun S2 => k0 S2) else rt () S1)
noncomputable def X9_skip_0 : Nat → Sx → Rs Unit
  | 0 => fun _ => none
  | n + 1 => X9_skip_0b  (X9_skip_0 n)
noncomputable def X9_skip (S : Sx) : Rs Unit :=
  X9_skip_0 FU S
noncomputable def X9_isWord_18b (k18 : Nat → Int32 → Int32 → Int32 → Int32 → Int32 → Sx → Rs Int32) (x1 : Nat) (x2 : Int32) (x4 : Int32) (x5 : Int32) (x6 : Int32) (x7 : Int32) (S : Sx) : Rs Int32 :=
  if x5 ≤ x7 then rb x6 S else if x6 = 0 then rb x6 S else tk x1 (bd (J3_charAt x1 (x2 + x7) S) (fun v1 S1 => dO S1 1 (gR S1 148 2) (fun c3 => lI S1 c3 (gN S1 c3) (x4 + x7) (fun v2 => if v1 = v2 then vl (x7 + 1) (fun v4 => k18 x1 x2 x4 x5 1 v4 S1) else vl (x7 + 1) (fun v4 => k18 x1 x2 x4 x5 0 v4 S1)))))
noncomputable def X9_isWord_18 : Nat → Nat → Int32 → Int32 → Int32 → Int32 → Int32 → Sx → Rs Int32
  | 0 => fun _ _ _ _ _ _ _ => none
  | n + 1 => X9_isWord_18b  (X9_isWord_18 n)
noncomputable def X9_isWord (a1 : Nat) (a2 : Int32) (a3 : Int32) (a4 : Int32) (a5 : Int32) (S : Sx) : Rs Int32 :=
  if (a3 - a2) = a5 then X9_isWord_18 FU a1 a2 a4 a5 1 0 S else X9_isWord_18 FU a1 a2 a4 a5 0 0 S
noncomputable def X9_indexIn_9b (k9 : Nat → Int32 → Int32 → Int32 → Int32 → Int32 → Sx → Rs Int32) (x1 : Nat) (x2 : Int32) (x3 : Int32) (x4 : Int32) (x5 : Int32) (x6 : Int32) (S : Sx) : Rs Int32 :=
  tk x1 (bd (J3_length x1 S) (fun v1 S1 => if v1 ≤ x6 then rt ((-1)) S1 else tk x1 (bd (J3_charAt x1 x6 S1) (fun v2 S2 => if v2 = 32 then bd (X9_isWord x1 x5 x6 x2 x3 S2) (fun v3 S3 => if v3 = 0 then vl (x4 + 1) (fun v4 => vl (x6 + 1) (fun v5 => vl (x6 + 1) (fun v6 => k9 x1 x2 x3 v4 v5 v6 S3))) else rt x4 S3) else vl (x6 + 1) (fun v3 => k9 x1 x2 x3 x4 x5 v3 S2)))))
noncomputable def X9_indexIn_9 : Nat → Nat → Int32 → Int32 → Int32 → Int32 → Int32 → Sx → Rs Int32
  | 0 => fun _ _ _ _ _ _ _ => none
  | n + 1 => X9_indexIn_9b  (X9_indexIn_9 n)
noncomputable def X9_indexIn (a1 : Nat) (a2 : Int32) (a3 : Int32) (S : Sx) : Rs Int32 :=
  X9_indexIn_9 FU a1 a2 a3 0 0 0 S
noncomputable def X9_opOf_2b (k2 : Int32 → Int32 → Int32 → Sx → Rs Int32) (x1 : Int32) (x2 : Int32) (x3 : Int32) (S : Sx) : Rs Int32 :=
  if (x1 + x2) ≤ x3 then bd (X9_indexIn 0 x1 x2 S) (fun v1 S1 => vl v1 (fun v2 => if v2 < 0 then bd (X9_indexIn 1 x1 x2 S1) (fun v3 S2 => vl v3 (fun v4 => if v4 < 0 then bd (X9_indexIn 2 x1 x2 S2) (fun v5 S3 => vl v5 (fun v6 => if v6 < 0 then bd (X9_indexIn 3 x1 x2 S3) (fun v7 S4 => if v7 = 0 then rt 0 S4 else rt ((-1)) S4) else rt (100 + v6) S3)) else rt (60 + v4) S2)) else rt (2 + (2 * v2)) S1)) else dO S 1 (gR S 148 2) (fun c2 => lI S c2 (gN S c2) x3 (fun v1 => bd (X9_isGreat v1 S) (fun v3 S1 => if v3 = 0 then rt ((-1)) S1 else vl (x3 + 1) (fun v4 => k2 x1 x2 v4 S1))))
noncomputable def X9_opOf_2 : Nat → Int32 → Int32 → Int32 → Sx → Rs Int32
  | 0 => fun _ _ _ _ => none
  | n + 1 => X9_opOf_2b  (X9_opOf_2 n)
noncomputable def X9_opOf (a1 : Int32) (a2 : Int32) (S : Sx) : Rs Int32 :=
  vl a1 (fun v1 => X9_opOf_2 FU a1 a2 v1 S)
noncomputable def X9_register_60 (k28 : Int32 → Sx → Rs Unit) (y0 : Int32) (S : Sx) : Rs Unit :=
  vl y0 (fun v1 => pt (pI S 148 4 ((gI S 148 4) + 1)) (fun S1 => k28 v1 S1))
noncomputable def X9_register_86 (x1 : Int32) (y0 : Int32) (S : Sx) : Rs Unit :=
  bd (X9_want y0 1 (gI S 148 19) S) (fun _ S1 => pt (pI S1 148 17 1) (fun S2 => pt (pL S2 148 18 x1.toInt64) (fun S3 => rt () S3)))
noncomputable def X9_register_28b (k28 : Int32 → Sx → Rs Unit) (x1 : Int32) (S : Sx) : Rs Unit :=
  bd (X9_here S) (fun v1 S1 => bd (X9_isDigit v1 S1) (fun v2 S2 => if v2 = 0 then if 31 < x1 then X9_register_86 x1 0 S2 else X9_register_86 x1 1 S2 else if x1 ≤ 31 then bd (X9_here S2) (fun v3 S3 => X9_register_60 k28 (((10 * x1) + v3) - 48) S3) else X9_register_60 k28 x1 S2))
noncomputable def X9_register_28 : Nat → Int32 → Sx → Rs Unit
  | 0 => fun _ _ => none
  | n + 1 => X9_register_28b  (X9_register_28 n)
noncomputable def X9_register (S : Sx) : Rs Unit :=
  pt (pI S 148 4 ((gI S 148 4) + 1)) (fun S1 => bd (X9_here S1) (fun v1 S2 => bd (X9_isDigit v1 S2) (fun v2 S3 => bd (X9_want v2 1 (gI S3 148 4) S3) (fun _ S4 => X9_register_28 FU 0 S4))))
noncomputable def X9_ends_26 (y0 : Int32) (S : Sx) : Rs Unit :=
  bd (X9_want y0 1 (gI S 148 4) S) (fun _ S1 => rt () S1)
noncomputable def X9_ends (S : Sx) : Rs Unit :=
  bd (X9_here S) (fun v1 S1 => bd (X9_isStop v1 S1) (fun v2 S2 => if v2 = 0 then bd (X9_here S2) (fun v3 S3 => if v3 = 44 then X9_ends_26 1 S3 else X9_ends_26 0 S3) else X9_ends_26 1 S2))
noncomputable def X9_digits_43 (k2 : Int32 → Int64 → Sx → Rs Int64) (x1 : Int32) (x2 : Int64) (x4 : Int32) (y0 : Int32) (S : Sx) : Rs Int64 :=
  bd (X9_want y0 1 x1 S) (fun _ S1 => vl ((10 * x2) + x4.toInt64) (fun v1 => pt (pI S1 148 4 ((gI S1 148 4) + 1)) (fun S2 => k2 x1 v1 S2)))
noncomputable def X9_digits_2b (k2 : Int32 → Int64 → Sx → Rs Int64) (x1 : Int32) (x2 : Int64) (S : Sx) : Rs Int64 :=
  bd (X9_here S) (fun v1 S1 => bd (X9_isDigit v1 S1) (fun v2 S2 => if v2 = 0 then rt x2 S2 else bd (X9_here S2) (fun v3 S3 => vl (v3 - 48) (fun v4 => if ((9223372036854775807 - v4.toInt64) / 10) < x2 then X9_digits_43 k2 x1 x2 v4 0 S3 else X9_digits_43 k2 x1 x2 v4 1 S3))))
noncomputable def X9_digits_2 : Nat → Int32 → Int64 → Sx → Rs Int64
  | 0 => fun _ _ _ => none
  | n + 1 => X9_digits_2b  (X9_digits_2 n)
noncomputable def X9_digits (a1 : Int32) (S : Sx) : Rs Int64 :=
  X9_digits_2 FU a1 0 S
noncomputable def X9_hexOf_36 (x0 : Int32) (S : Sx) : Rs Int32 :=
  if x0 < 65 then rt ((-1)) S else if 70 < x0 then rt ((-1)) S else rt ((x0 - 65) + 10) S
noncomputable def X9_hexOf (a1 : Int32) (S : Sx) : Rs Int32 :=
  bd (X9_isDigit a1 S) (fun v1 S1 => if v1 = 0 then if a1 < 97 then X9_hexOf_36 a1 S1 else if 102 < a1 then X9_hexOf_36 a1 S1 else rt ((a1 - 97) + 10) S1 else rt (a1 - 48) S1)
noncomputable def X9_hex_54 (k15 : Int32 → Int64 → Int32 → Sx → Rs Int64) (x1 : Int32) (x2 : Int64) (x4 : Int32) (y0 : Int32) (S : Sx) : Rs Int64 :=
  bd (X9_want y0 1 x1 S) (fun _ S1 => pt (pI S1 148 4 ((gI S1 148 4) + 1)) (fun S2 => k15 x1 x2 x4 S2))
noncomputable def X9_hex_83 (x2 : Int64) (y0 : Int32) (S : Sx) : Rs Int64 :=
  bd (X9_want y0 1 (gI S 148 4) S) (fun _ S1 => rt x2 S1)
noncomputable def X9_hex_15b (k15 : Int32 → Int64 → Int32 → Sx → Rs Int64) (x1 : Int32) (x2 : Int64) (x4 : Int32) (S : Sx) : Rs Int64 :=
  bd (X9_here S) (fun v1 S1 => bd (X9_hexOf v1 S1) (fun v2 S2 => if v2 < 0 then if x4 ≤ 0 then X9_hex_83 x2 0 S2 else X9_hex_83 x2 1 S2 else bd (X9_here S2) (fun v3 S3 => bd (X9_hexOf v3 S3) (fun v4 S4 => vl ((x2 <<< (((4 : Int32)).toInt64 &&& 63)) ||| v4.toInt64) (fun v5 => vl (x4 + 1) (fun v6 => if 16 < v6 then X9_hex_54 k15 x1 v5 v6 0 S4 else X9_hex_54 k15 x1 v5 v6 1 S4))))))
noncomputable def X9_hex_15 : Nat → Int32 → Int64 → Int32 → Sx → Rs Int64
  | 0 => fun _ _ _ _ => none
  | n + 1 => X9_hex_15b  (X9_hex_15 n)
noncomputable def X9_hex (a1 : Int32) (S : Sx) : Rs Int64 :=
  pt (pI S 148 4 ((gI S 148 4) + 1)) (fun S1 => X9_hex_15 FU a1 0 0 S1)
noncomputable def J7_min (a1 : Int32) (a2 : Int32) (S : Sx) : Rs Int32 :=
  if a2 < a1 then rt a2 S else rt a1 S
noncomputable def X9_named_66 (x1 : Int32) (x3 : Int32) (y0 : Int32) (S : Sx) : Rs Int64 :=
  bd (X9_want y0 2 x1 S) (fun _ S1 => pt (pI S1 148 17 3) (fun S2 => pt (pI S2 148 20 x3) (fun S3 => rt 0 S3)))
noncomputable def X9_named_51 (x1 : Int32) (x2 : Int32) (x3 : Int32) (x4 : Int32) (S : Sx) : Rs Int64 :=
  if x2 = 0 then X9_named_66 x1 x3 0 S else if x4 = 0 then X9_named_66 x1 x3 0 S else X9_named_66 x1 x3 1 S
noncomputable def X9_named_107 (x3 : Int32) (y0 : Int32) (S : Sx) : Rs Int64 :=
  pt (pI S 148 17 y0) (fun S1 => lL S1 155 300 x3 (fun v1 => pt (pL S1 148 18 v1) (fun S2 => rt 0 S2)))
noncomputable def X9_named_36 (x1 : Int32) (x2 : Int32) (x3 : Int32) (y0 : Int32) (S : Sx) : Rs Int64 :=
  vl y0 (fun v1 => if x3 < 0 then X9_named_51 x1 x2 x3 v1 S else lI S 154 300 x3 (fun v2 => if v2 = 0 then X9_named_51 x1 x2 x3 v1 S else lI S 154 300 x3 (fun v3 => if v3 = 3 then if x1 = (gI S 148 19) then X9_named_107 x3 1 S else X9_named_107 x3 4 S else lL S 155 300 x3 (fun v4 => rt v4 S))))
noncomputable def X9_named (a1 : Int32) (a2 : Int32) (S : Sx) : Rs Int64 :=
  bd (X9_known S) (fun v1 S1 => vl v1 (fun v2 => if a1 = (gI S1 148 19) then bd (X9_here S1) (fun v3 S2 => if v3 = 43 then X9_named_36 a1 a2 v2 0 S2 else bd (X9_here S2) (fun v4 S3 => if v4 = 45 then X9_named_36 a1 a2 v2 0 S3 else X9_named_36 a1 a2 v2 1 S3)) else X9_named_36 a1 a2 v2 0 S1))
noncomputable def X9_term_97 (x3 : Int32) (y0 : Int32) (S : Sx) : Rs Int64 :=
  bd (J7_min ((gI S 148 4) + 2) (gI S 148 5) S) (fun v1 S1 => bd (X9_want y0 1 v1 S1) (fun _ S2 => pt (pI S2 148 4 ((gI S2 148 4) + 3)) (fun S3 => dO S3 1 (gR S3 148 2) (fun c3 => lI S3 c3 (gN S3 c3) (x3 + 1) (fun v2 => rt v2.toInt64 S3)))))
noncomputable def X9_term (a1 : Int32) (S : Sx) : Rs Int64 :=
  bd (X9_here S) (fun v1 S1 => vl v1 (fun v2 => vl (gI S1 148 4) (fun v3 => bd (X9_isDigit v2 S1) (fun v4 S2 => if v4 = 0 then if v2 = 35 then bd (X9_hex v3 S2) (fun v5 S3 => rt v5 S3) else if v2 = 64 then pt (pI S2 148 4 ((gI S2 148 4) + 1)) (fun S3 => rt (gL S3 148 7) S3) else if v2 = 39 then if (gI S2 148 5) ≤ ((gI S2 148 4) + 2) then X9_term_97 v3 0 S2 else dO S2 1 (gR S2 148 2) (fun c6 => lI S2 c6 (gN S2 c6) ((gI S2 148 4) + 2) (fun v5 => if v5 = 39 then X9_term_97 v3 1 S2 else X9_term_97 v3 0 S2)) else bd (X9_isLetter v2 S2) (fun v5 S3 => bd (X9_want v5 1 (gI S3 148 4) S3) (fun _ S4 => bd (X9_named v3 a1 S4) (fun v6 S5 => rt v6 S5))) else bd (X9_digits v3 S2) (fun v5 S3 => rt v5 S3)))))
noncomputable def X9_sum_120 (k14 : Int32 → Int32 → Int32 → Sx → Rs Unit) (x1 : Int32) (x2 : Int32) (x3 : Int32) (y0 : Int32) (y1 : Int32) (S : Sx) : Rs Unit :=
  pt (pI S 148 4 (y1 + y0)) (fun S1 => k14 x1 x2 x3 S1)
noncomputable def X9_sum_105 (k14 : Int32 → Int32 → Int32 → Sx → Rs Unit) (x1 : Int32) (x3 : Int32) (y0 : Int32) (S : Sx) : Rs Unit :=
  vl y0 (fun v1 => if x3 = 0 then X9_sum_120 k14 x1 v1 x3 0 (gI S 148 4) S else X9_sum_120 k14 x1 v1 x3 1 (gI S 148 4) S)
noncomputable def X9_sum_90 (k14 : Int32 → Int32 → Int32 → Sx → Rs Unit) (x1 : Int32) (y0 : Int32) (S : Sx) : Rs Unit :=
  vl y0 (fun v1 => bd (X9_here S) (fun v2 S1 => if v2 = 45 then X9_sum_105 k14 x1 v1 ((-1)) S1 else X9_sum_105 k14 x1 v1 1 S1))
noncomputable def X9_sum_64 (k14 : Int32 → Int32 → Int32 → Sx → Rs Unit) (x1 : Int32) (y0 : Int64) (S : Sx) : Rs Unit :=
  pt (pL S 148 18 y0) (fun S1 => bd (X9_here S1) (fun v1 S2 => if v1 = 43 then X9_sum_90 k14 x1 1 S2 else bd (X9_here S2) (fun v2 S3 => if v2 = 45 then X9_sum_90 k14 x1 1 S3 else X9_sum_90 k14 x1 0 S3)))
noncomputable def X9_sum_14b (k14 : Int32 → Int32 → Int32 → Sx → Rs Unit) (x1 : Int32) (x2 : Int32) (x3 : Int32) (S : Sx) : Rs Unit :=
  if x3 = 0 then rt () S else bd (X9_term x1 S) (fun v1 S1 => vl v1 (fun v2 => if (gI S1 148 17) = 1 then rt () S1 else if (gI S1 148 17) = 3 then rt () S1 else if x2 ≤ 0 then X9_sum_64 k14 x1 ((gL S1 148 18) - v2) S1 else X9_sum_64 k14 x1 ((gL S1 148 18) + v2) S1))
noncomputable def X9_sum_14 : Nat → Int32 → Int32 → Int32 → Sx → Rs Unit
  | 0 => fun _ _ _ _ => none
  | n + 1 => X9_sum_14b  (X9_sum_14 n)
noncomputable def X9_sum (a1 : Int32) (S : Sx) : Rs Unit :=
  pt (pI S 148 17 2) (fun S1 => pt (pL S1 148 18 0) (fun S2 => X9_sum_14 FU a1 1 1 S2))
noncomputable def X9_operand_29 (S : Sx) : Rs Unit :=
  bd (X9_ends S) (fun _ S1 => if (gI S1 148 17) = 3 then bd (X9_label (gI S1 148 20) (gI S1 148 19) S1) (fun v1 S2 => pt (pI S2 148 20 v1) (fun S3 => rt () S3)) else rt () S1)
noncomputable def X9_operand (a1 : Int32) (S : Sx) : Rs Unit :=
  pt (pI S 148 19 (gI S 148 4)) (fun S1 => bd (X9_here S1) (fun v1 S2 => if v1 = 36 then bd (X9_register S2) (fun _ S3 => X9_operand_29 S3) else bd (X9_sum a1 S2) (fun _ S3 => X9_operand_29 S3)))
noncomputable def X9_isMore (S : Sx) : Rs Int32 :=
  bd (X9_here S) (fun v1 S1 => if v1 = 44 then pt (pI S1 148 4 ((gI S1 148 4) + 1)) (fun S2 => rt 1 S2) else bd (X9_here S1) (fun v2 S2 => bd (X9_isStop v2 S2) (fun v3 S3 => bd (X9_want v3 1 (gI S3 148 4) S3) (fun _ S4 => rt 0 S4))))
noncomputable def X9_last (S : Sx) : Rs Unit :=
  bd (X9_isMore S) (fun v1 S1 => if v1 = 0 then rt () S1 else bd (X9_wrong 3 (gI S1 148 4) S1) (fun v2 S2 => dO S2 7 v2 (fun c3 => th c3 S2)))
noncomputable def X8_at (c : Nat) (a1 : Int32) (S : Sx) : Rs Int32 :=
  dO S 1 (gR S c 0) (fun c2 => lI S c2 (gN S c2) a1 (fun v1 => rt v1 S))
noncomputable def X9_offset_83 (x6 : Int32) (x7 : Int64) (y0 : Int32) (S : Sx) : Rs Int32 :=
  bd (X9_want y0 4 x6 S) (fun _ S1 => rt ((x7 / 4).toInt32) S1)
noncomputable def X9_offset_45 (x6 : Int32) (x7 : Int64) (x9 : Int64) (y0 : Int32) (S : Sx) : Rs Int32 :=
  vl y0 (fun v1 => if v1 = 0 then X9_offset_83 x6 x7 0 S else if (x7 / 4) < (-x9) then X9_offset_83 x6 x7 0 S else if x9 ≤ (x7 / 4) then X9_offset_83 x6 x7 0 S else X9_offset_83 x6 x7 1 S)
noncomputable def X9_offset (a1 : Int64) (a2 : Int64) (a3 : Int32) (a4 : Int32) (S : Sx) : Rs Int32 :=
  vl (a1 - a2) (fun v1 => vl (((1 : Int64)) <<< ((a3 - 1).toInt64 &&& 63)) (fun v2 => if a1 < ((-1099511627776)) then X9_offset_45 a4 v1 v2 0 S else if 1099511627776 < a1 then X9_offset_45 a4 v1 v2 0 S else if (v1 - v1 / 4 * 4) = 0 then X9_offset_45 a4 v1 v2 1 S else X9_offset_45 a4 v1 v2 0 S))
noncomputable def X10_record_13b (k13 : Int64 → Int32 → Sx → Rs Unit) (x2 : Int64) (x4 : Int32) (S : Sx) : Rs Unit :=
  if x4 < 0 then pt (pI S 149 2 ((-1))) (fun S1 => rt () S1) else bd (X8_add 150 (((x2 >>> (x4.toInt64 &&& 63)) &&& 255).toInt32) S) (fun v1 S1 => vl (x4 + (-8)) (fun v2 => k13 x2 v2 S1))
noncomputable def X10_record_13 : Nat → Int64 → Int32 → Sx → Rs Unit
  | 0 => fun _ _ _ => none
  | n + 1 => X10_record_13b  (X10_record_13 n)
noncomputable def X10_record (a1 : Int32) (a2 : Int64) (S : Sx) : Rs Unit :=
  bd (X8_add 150 a1 S) (fun v1 S1 => X10_record_13 FU a2 56 S1)
noncomputable def X10_goTo (a1 : Int64) (S : Sx) : Rs Unit :=
  if (gL S 149 1) = a1 then rt () S else bd (X10_record 1 a1 S) (fun _ S1 => pt (pL S1 149 1 a1) (fun S2 => rt () S2))
noncomputable def X10_fix (a1 : Int32) (a2 : Int64) (a3 : Int64) (S : Sx) : Rs Unit :=
  bd (X10_goTo a3 S) (fun _ S1 => bd (X10_record a1 a2 S1) (fun _ S2 => rt () S2))
noncomputable def X10_lay_2_50 (x3 : Int32) (S : Sx) : Rs Unit :=
  dO S 1 (gR S 150 0) (fun c2 => lI S c2 (gN S c2) (gI S 149 2) (fun v1 => dO S 1 (gR S 150 0) (fun c3 => sI S c3 (gN S c3) (gI S 149 2) (v1 + 1) (fun S1 => bd (X8_add 150 (x3 &&& 255) S1) (fun v4 S2 => pt (pL S2 149 1 ((gL S2 149 1) + 1)) (fun S3 => rt () S3))))))
noncomputable def X10_lay_2_29 (x3 : Int32) (S : Sx) : Rs Unit :=
  bd (X8_add 150 2 S) (fun v1 S1 => bd (X8_add 150 0 S1) (fun v2 S2 => pt (pI S2 149 2 v2) (fun S3 => X10_lay_2_50 x3 S3)))
noncomputable def X10_lay_2 (a1 : Int64) (a2 : Int32) (S : Sx) : Rs Unit :=
  bd (X10_goTo a1 S) (fun _ S1 => if (gI S1 149 2) < 0 then X10_lay_2_29 a2 S1 else bd (X8_at 150 (gI S1 149 2) S1) (fun v1 S2 => if v1 = 255 then X10_lay_2_29 a2 S2 else X10_lay_2_50 a2 S2))
noncomputable def X10_lay_3b (k3 : Int64 → Int32 → Int64 → Int32 → Sx → Rs Unit) (x1 : Int64) (x3 : Int32) (x4 : Int64) (x6 : Int32) (S : Sx) : Rs Unit :=
  if x3 ≤ x6 then rt () S else bd (X10_lay_2 (x1 + x6.toInt64) ((x4 >>> ((8 * ((x3 - 1) - x6)).toInt64 &&& 63)).toInt32) S) (fun _ S1 => vl (x6 + 1) (fun v1 => k3 x1 x3 x4 v1 S1))
noncomputable def X10_lay_3 : Nat → Int64 → Int32 → Int64 → Int32 → Sx → Rs Unit
  | 0 => fun _ _ _ _ _ => none
  | n + 1 => X10_lay_3b  (X10_lay_3 n)
noncomputable def X10_lay (a1 : Int64) (a2 : Int32) (a3 : Int64) (S : Sx) : Rs Unit :=
  X10_lay_3 FU a1 a2 a3 0 S
noncomputable def X9_tell_216 (k17 : Int32 → Int32 → Int64 → Int32 → Sx → Rs Unit) (x1 : Int32) (x2 : Int32) (x3 : Int64) (x5 : Int32) (x6 : Int32) (y0 : Int32) (y1 : Int64) (y2 : Int64) (y4 : Int32) (y5 : Int64) (S : Sx) : Rs Unit :=
  bd (X9_offset y2 y1 y0 x6 S) (fun v1 S1 => bd (X10_lay y5 y4 v1.toInt64 S1) (fun _ S2 => vl (x5 + 1) (fun v2 => k17 x1 x2 x3 v2 S2)))
noncomputable def X9_tell_198 (k17 : Int32 → Int32 → Int64 → Int32 → Sx → Rs Unit) (x1 : Int32) (x2 : Int32) (x3 : Int64) (x5 : Int32) (x6 : Int32) (x7 : Int32) (x8 : Int32) (y0 : Int32) (y1 : Int64) (S : Sx) : Rs Unit :=
  if x8 = 5 then X9_tell_216 k17 x1 x2 x3 x5 x6 24 x7.toInt64 x3 y0 y1 S else X9_tell_216 k17 x1 x2 x3 x5 x6 16 x7.toInt64 x3 y0 y1 S
noncomputable def X9_tell_185 (k17 : Int32 → Int32 → Int64 → Int32 → Sx → Rs Unit) (x1 : Int32) (x2 : Int32) (x3 : Int64) (x5 : Int32) (x6 : Int32) (x7 : Int32) (x8 : Int32) (y0 : Int32) (y1 : Int32) (S : Sx) : Rs Unit :=
  if x8 = 5 then X9_tell_198 k17 x1 x2 x3 x5 x6 x7 x8 3 ((y1 + y0).toInt64) S else X9_tell_198 k17 x1 x2 x3 x5 x6 x7 x8 2 ((y1 + y0).toInt64) S
noncomputable def X9_tell_125 (k17 : Int32 → Int32 → Int64 → Int32 → Sx → Rs Unit) (x1 : Int32) (x2 : Int32) (x3 : Int64) (x5 : Int32) (x6 : Int32) (x7 : Int32) (x8 : Int32) (S : Sx) : Rs Unit :=
  if x2 = 1 then bd (X10_fix x8 x7.toInt64 x3 S) (fun _ S1 => vl (x5 + 1) (fun v1 => k17 x1 x2 x3 v1 S1)) else if x8 = 3 then bd (X10_lay x7.toInt64 8 x3 S) (fun _ S1 => vl (x5 + 1) (fun v1 => k17 x1 x2 x3 v1 S1)) else if x8 = 5 then X9_tell_185 k17 x1 x2 x3 x5 x6 x7 x8 1 x7 S else X9_tell_185 k17 x1 x2 x3 x5 x6 x7 x8 2 x7 S
noncomputable def X9_tell_119 (k17 : Int32 → Int32 → Int64 → Int32 → Sx → Rs Unit) (x1 : Int32) (x2 : Int32) (x3 : Int64) (x5 : Int32) (x6 : Int32) (x7 : Int32) (x8 : Int32) (y0 : Int32) (y1 : Int64) (y2 : Int64) (S : Sx) : Rs Unit :=
  bd (X9_offset y2 y1 y0 x6 S) (fun v1 S1 => X9_tell_125 k17 x1 x2 x3 x5 x6 x7 x8 S1)
noncomputable def X9_tell_67 (k17 : Int32 → Int32 → Int64 → Int32 → Sx → Rs Unit) (x1 : Int32) (x2 : Int32) (x3 : Int64) (x5 : Int32) (x6 : Int32) (y0 : Int32) (S : Sx) : Rs Unit :=
  bd (X9_want y0 3 x6 S) (fun _ S1 => bd (X8_at 160 x5 S1) (fun v1 S2 => vl v1 (fun v2 => bd (X8_at 162 x5 S2) (fun v3 S3 => vl v3 (fun v4 => if v4 = 3 then X9_tell_125 k17 x1 x2 x3 x5 x6 v2 v4 S3 else if v4 = 5 then X9_tell_119 k17 x1 x2 x3 x5 x6 v2 v4 24 v2.toInt64 x3 S3 else X9_tell_119 k17 x1 x2 x3 x5 x6 v2 v4 16 v2.toInt64 x3 S3)))))
noncomputable def X9_tell_17b (k17 : Int32 → Int32 → Int64 → Int32 → Sx → Rs Unit) (x1 : Int32) (x2 : Int32) (x3 : Int64) (x5 : Int32) (S : Sx) : Rs Unit :=
  if (gI S 156 1) ≤ x5 then rt () S else bd (X8_at 156 x5 S) (fun v1 S1 => if v1 = x1 then bd (X8_at 158 x5 S1) (fun v2 S2 => vl v2 (fun v3 => if x2 = 3 then X9_tell_67 k17 x1 x2 x3 x5 v3 0 S2 else X9_tell_67 k17 x1 x2 x3 x5 v3 1 S2)) else vl (x5 + 1) (fun v2 => k17 x1 x2 x3 v2 S1))
noncomputable def X9_tell_17 : Nat → Int32 → Int32 → Int64 → Int32 → Sx → Rs Unit
  | 0 => fun _ _ _ _ _ => none
  | n + 1 => X9_tell_17b  (X9_tell_17 n)
noncomputable def X9_tell (a1 : Int32) (a2 : Int32) (a3 : Int64) (S : Sx) : Rs Unit :=
  sI S 154 300 a1 a2 (fun S1 => sL S1 155 300 a1 a3 (fun S2 => X9_tell_17 FU a1 a2 a3 0 S2))
noncomputable def X9_lay_20 (x1 : Int32) (x2 : Int64) (y0 : Int32) (S : Sx) : Rs Unit :=
  bd (X9_want y0 5 (gI S 148 6) S) (fun _ S1 => bd (X10_lay (gL S1 148 7) x1 x2 S1) (fun _ S2 => pt (pL S2 148 7 ((gL S2 148 7) + x1.toInt64)) (fun S3 => rt () S3)))
noncomputable def X9_lay (a1 : Int32) (a2 : Int64) (S : Sx) : Rs Unit :=
  if 65536 < ((gL S 148 7) + a1.toInt64) then X9_lay_20 a1 a2 0 S else X9_lay_20 a1 a2 1 S
noncomputable def X9_letters_78b (k78 : Int32 → Int32 → Sx → Rs Unit) (x2 : Int32) (x3 : Int32) (S : Sx) : Rs Unit :=
  if x2 ≤ x3 then rt () S else dO S 1 (gR S 148 2) (fun c2 => lI S c2 (gN S c2) x3 (fun v1 => bd (X9_lay 1 v1.toInt64 S) (fun _ S1 => vl (x3 + 1) (fun v3 => k78 x2 v3 S1))))
noncomputable def X9_letters_78 : Nat → Int32 → Int32 → Sx → Rs Unit
  | 0 => fun _ _ _ => none
  | n + 1 => X9_letters_78b  (X9_letters_78 n)
noncomputable def X9_letters_58 (x1 : Int32) (x2 : Int32) (y0 : Int32) (S : Sx) : Rs Unit :=
  bd (X9_want y0 1 x2 S) (fun _ S1 => pt (pI S1 148 4 (x2 + 1)) (fun S2 => bd (X9_ends S2) (fun _ S3 => vl (x1 + 1) (fun v1 => X9_letters_78 FU x2 v1 S3))))
noncomputable def X9_letters_37 (x1 : Int32) (x2 : Int32) (S : Sx) : Rs Unit :=
  if (gI S 148 5) ≤ x2 then X9_letters_58 x1 x2 0 S else if x2 ≤ (x1 + 1) then X9_letters_58 x1 x2 0 S else X9_letters_58 x1 x2 1 S
noncomputable def X9_letters_12b (k12 : Int32 → Int32 → Sx → Rs Unit) (x1 : Int32) (x2 : Int32) (S : Sx) : Rs Unit :=
  if (gI S 148 5) ≤ x2 then X9_letters_37 x1 x2 S else dO S 1 (gR S 148 2) (fun c2 => lI S c2 (gN S c2) x2 (fun v1 => if v1 = 34 then X9_letters_37 x1 x2 S else vl (x2 + 1) (fun v3 => k12 x1 v3 S)))
noncomputable def X9_letters_12 : Nat → Int32 → Int32 → Sx → Rs Unit
  | 0 => fun _ _ _ => none
  | n + 1 => X9_letters_12b  (X9_letters_12 n)
noncomputable def X9_letters (S : Sx) : Rs Unit :=
  vl (gI S 148 4) (fun v1 => vl ((gI S 148 4) + 1) (fun v2 => X9_letters_12 FU v1 v2 S))
noncomputable def X9_use (a1 : Int32) (a2 : Int64) (S : Sx) : Rs Unit :=
  bd (X8_add 156 (gI S 148 20) S) (fun v1 S1 => bd (X8_add 158 (gI S1 148 19) S1) (fun v2 S2 => bd (X8_add 160 a2.toInt32 S2) (fun v3 S3 => bd (X8_add 162 a1 S3) (fun v4 S4 => rt () S4))))
noncomputable def X9_data_111 (k2 : Int32 → Int32 → Int32 → Sx → Rs Unit) (x1 : Int32) (x2 : Int32) (S : Sx) : Rs Unit :=
  bd (X9_isMore S) (fun v1 S1 => vl v1 (fun v2 => k2 x1 x2 v2 S1))
noncomputable def X9_data_108 (k2 : Int32 → Int32 → Int32 → Sx → Rs Unit) (x1 : Int32) (x2 : Int32) (y0 : Int64) (y1 : Int32) (S : Sx) : Rs Unit :=
  bd (X9_lay y1 y0 S) (fun _ S1 => X9_data_111 k2 x1 x2 S1)
noncomputable def X9_data_90 (k2 : Int32 → Int32 → Int32 → Sx → Rs Unit) (x1 : Int32) (x2 : Int32) (S : Sx) : Rs Unit :=
  if (gI S 148 17) = 3 then X9_data_108 k2 x1 x2 0 x2 S else X9_data_108 k2 x1 x2 (gL S 148 18) x2 S
noncomputable def X9_data_65 (k2 : Int32 → Int32 → Int32 → Sx → Rs Unit) (x1 : Int32) (x2 : Int32) (y0 : Int32) (S : Sx) : Rs Unit :=
  bd (X9_want y0 3 (gI S 148 19) S) (fun _ S1 => if (gI S1 148 17) = 3 then bd (X9_use 3 (gL S1 148 7) S1) (fun _ S2 => X9_data_90 k2 x1 x2 S2) else X9_data_90 k2 x1 x2 S1)
noncomputable def X9_data_40 (k2 : Int32 → Int32 → Int32 → Sx → Rs Unit) (x1 : Int32) (x2 : Int32) (y0 : Int32) (S : Sx) : Rs Unit :=
  bd (X9_operand y0 S) (fun _ S1 => if (gI S1 148 17) = 2 then X9_data_65 k2 x1 x2 1 S1 else if (gI S1 148 17) = 3 then X9_data_65 k2 x1 x2 1 S1 else X9_data_65 k2 x1 x2 0 S1)
noncomputable def X9_data_28 (k2 : Int32 → Int32 → Int32 → Sx → Rs Unit) (x1 : Int32) (x2 : Int32) (S : Sx) : Rs Unit :=
  if x1 = 104 then X9_data_40 k2 x1 x2 1 S else X9_data_40 k2 x1 x2 0 S
noncomputable def X9_data_2b (k2 : Int32 → Int32 → Int32 → Sx → Rs Unit) (x1 : Int32) (x2 : Int32) (x3 : Int32) (S : Sx) : Rs Unit :=
  if x3 = 0 then rt () S else if x1 = 102 then bd (X9_here S) (fun v1 S1 => if v1 = 34 then bd (X9_letters S1) (fun _ S2 => X9_data_111 k2 x1 x2 S2) else X9_data_28 k2 x1 x2 S1) else X9_data_28 k2 x1 x2 S
noncomputable def X9_data_2 : Nat → Int32 → Int32 → Int32 → Sx → Rs Unit
  | 0 => fun _ _ _ _ => none
  | n + 1 => X9_data_2b  (X9_data_2 n)
noncomputable def X9_data (a1 : Int32) (a2 : Int32) (S : Sx) : Rs Unit :=
  X9_data_2 FU a1 a2 1 S
noncomputable def X9_aRegister_19 (y0 : Int32) (S : Sx) : Rs Int32 :=
  bd (X9_want y0 3 (gI S 148 19) S) (fun _ S1 => rt ((gL S1 148 18).toInt32) S1)
noncomputable def X9_aRegister (S : Sx) : Rs Int32 :=
  bd (X9_operand 0 S) (fun _ S1 => if (gI S1 148 17) = 1 then X9_aRegister_19 1 S1 else X9_aRegister_19 0 S1)
noncomputable def X9_comma (S : Sx) : Rs Unit :=
  bd (X9_isMore S) (fun v1 S1 => bd (X9_want v1 3 (gI S1 148 4) S1) (fun _ S2 => rt () S2))
noncomputable def X9_code (a1 : Int32) (a2 : Int32) (a3 : Int32) (a4 : Int32) (S : Sx) : Rs Unit :=
  bd (X9_lay 4 ((((a1.toInt64 <<< (((24 : Int32)).toInt64 &&& 63)) ||| ((a2 <<< ((16 : Int32) &&& 31)).toInt64)) ||| ((a3 <<< ((8 : Int32) &&& 31)).toInt64)) ||| a4.toInt64) S) (fun _ S1 => rt () S1)
noncomputable def X9_three_271 (x2 : Int32) (x4 : Int32) (y0 : Int32) (S : Sx) : Rs Unit :=
  bd (X9_code y0 x2 x4 ((gL S 148 18).toInt32) S) (fun _ S1 => rt () S1)
noncomputable def X9_three_255 (x1 : Int32) (x2 : Int32) (x4 : Int32) (S : Sx) : Rs Unit :=
  if (gI S 148 17) = 1 then X9_three_271 x2 x4 x1 S else X9_three_271 x2 x4 (x1 + 1) S
noncomputable def X9_three_243 (x1 : Int32) (x2 : Int32) (x4 : Int32) (y0 : Int32) (S : Sx) : Rs Unit :=
  bd (X9_want y0 4 (gI S 148 19) S) (fun _ S1 => bd (X9_last S1) (fun _ S2 => X9_three_255 x1 x2 x4 S2))
noncomputable def X9_three_201 (x1 : Int32) (x2 : Int32) (x4 : Int32) (y0 : Int32) (S : Sx) : Rs Unit :=
  bd (X9_want y0 3 (gI S 148 19) S) (fun _ S1 => if (gI S1 148 17) = 2 then if (gL S1 148 18) < 0 then X9_three_243 x1 x2 x4 0 S1 else if 255 < (gL S1 148 18) then X9_three_243 x1 x2 x4 0 S1 else X9_three_243 x1 x2 x4 1 S1 else X9_three_243 x1 x2 x4 1 S1)
noncomputable def X9_three_151 (x1 : Int32) (x2 : Int32) (x4 : Int32) (x5 : Int32) (y0 : Int32) (S : Sx) : Rs Unit :=
  bd (X9_want y0 3 (gI S 148 4) S) (fun _ S1 => pt (pI S1 148 17 2) (fun S2 => pt (pL S2 148 18 0) (fun S3 => if x5 = 0 then X9_three_255 x1 x2 x4 S3 else bd (X9_operand 0 S3) (fun _ S4 => if (gI S4 148 17) = 2 then X9_three_201 x1 x2 x4 1 S4 else if (gI S4 148 17) = 1 then X9_three_201 x1 x2 x4 1 S4 else X9_three_201 x1 x2 x4 0 S4))))
noncomputable def X9_three_128 (x1 : Int32) (x2 : Int32) (x4 : Int32) (S : Sx) : Rs Unit :=
  bd (X9_isMore S) (fun v1 S1 => vl v1 (fun v2 => if v2 = 0 then if x1 = 32 then X9_three_151 x1 x2 x4 v2 0 S1 else X9_three_151 x1 x2 x4 v2 1 S1 else X9_three_151 x1 x2 x4 v2 1 S1))
noncomputable def X9_three_120 (x1 : Int32) (x2 : Int32) (x4 : Int32) (y0 : Int32) (S : Sx) : Rs Unit :=
  bd (X9_want y0 4 (gI S 148 19) S) (fun _ S1 => X9_three_128 x1 x2 x4 S1)
noncomputable def X9_three_86 (x1 : Int32) (x2 : Int32) (x4 : Int32) (y0 : Int32) (S : Sx) : Rs Unit :=
  bd (X9_want y0 3 (gI S 148 19) S) (fun _ S1 => if (gL S1 148 18) < 0 then X9_three_120 x1 x2 x4 0 S1 else if 255 < (gL S1 148 18) then X9_three_120 x1 x2 x4 0 S1 else X9_three_120 x1 x2 x4 1 S1)
noncomputable def X9_three_27 (x1 : Int32) (x2 : Int32) (y0 : Int32) (S : Sx) : Rs Unit :=
  vl y0 (fun v1 => vl ((gL S 148 18).toInt32) (fun v2 => if x1 = 32 then if v1 = 0 then if (gI S 148 17) = 2 then X9_three_86 x1 x2 v2 1 S else X9_three_86 x1 x2 v2 0 S else bd (X9_last S) (fun _ S1 => bd (X9_code x1 x2 0 v2 S1) (fun _ S2 => rt () S2)) else bd (X9_want v1 3 (gI S 148 19) S) (fun _ S1 => X9_three_128 x1 x2 v2 S1)))
noncomputable def X9_three (a1 : Int32) (S : Sx) : Rs Unit :=
  bd (X9_aRegister S) (fun v1 S1 => vl v1 (fun v2 => bd (X9_comma S1) (fun _ S2 => bd (X9_operand 0 S2) (fun _ S3 => if (gI S3 148 17) = 1 then X9_three_27 a1 v2 1 S3 else X9_three_27 a1 v2 0 S3))))
noncomputable def X9_way_73 (y0 : Int32) (S : Sx) : Rs Int32 :=
  bd (X9_use y0 (gL S 148 7) S) (fun _ S1 => rt 0 S1)
noncomputable def X9_way_27 (x1 : Int32) (y0 : Int32) (S : Sx) : Rs Int32 :=
  bd (X9_want y0 3 (gI S 148 19) S) (fun _ S1 => if (gI S1 148 17) = 2 then bd (X9_offset (gL S1 148 18) (gL S1 148 7) x1 (gI S1 148 19) S1) (fun v1 S2 => rt v1 S2) else if x1 = 24 then X9_way_73 5 S1 else X9_way_73 4 S1)
noncomputable def X9_way (a1 : Int32) (S : Sx) : Rs Int32 :=
  bd (X9_operand 1 S) (fun _ S1 => if (gI S1 148 17) = 2 then X9_way_27 a1 1 S1 else if (gI S1 148 17) = 3 then X9_way_27 a1 1 S1 else X9_way_27 a1 0 S1)
noncomputable def X9_number_51 (y0 : Int32) (S : Sx) : Rs Int64 :=
  bd (X9_want y0 4 (gI S 148 19) S) (fun _ S1 => rt (gL S1 148 18) S1)
noncomputable def X9_number_19 (x1 : Int64) (y0 : Int32) (S : Sx) : Rs Int64 :=
  bd (X9_want y0 3 (gI S 148 19) S) (fun _ S1 => if (gL S1 148 18) < 0 then X9_number_51 0 S1 else if x1 < (gL S1 148 18) then X9_number_51 0 S1 else X9_number_51 1 S1)
noncomputable def X9_number (a1 : Int64) (S : Sx) : Rs Int64 :=
  bd (X9_operand 0 S) (fun _ S1 => if (gI S1 148 17) = 2 then X9_number_19 a1 1 S1 else X9_number_19 a1 0 S1)
noncomputable def X9_pop_44 (x1 : Int32) (x2 : Int32) (S : Sx) : Rs Unit :=
  bd (X9_code 68 x1 (x2 >>> ((8 : Int32) &&& 31)) (x2 &&& 255) S) (fun _ S1 => rt () S1)
noncomputable def X9_pop (S : Sx) : Rs Unit :=
  bd (X9_here S) (fun v1 S1 => bd (X9_isStop v1 S1) (fun v2 S2 => if v2 = 0 then bd (X9_number 255 S2) (fun v3 S3 => vl v3.toInt32 (fun v4 => bd (X9_isMore S3) (fun v5 S4 => if v5 = 0 then X9_pop_44 v4 0 S4 else bd (X9_number 65535 S4) (fun v6 S5 => vl v6.toInt32 (fun v7 => bd (X9_last S5) (fun _ S6 => X9_pop_44 v4 v7 S6)))))) else X9_pop_44 0 0 S2))
noncomputable def X9_trap_48 (x1 : Int32) (x2 : Int32) (x3 : Int32) (S : Sx) : Rs Unit :=
  bd (X9_code 0 x1 x2 x3 S) (fun _ S1 => rt () S1)
noncomputable def X9_trap (S : Sx) : Rs Unit :=
  bd (X9_number 255 S) (fun v1 S1 => vl v1.toInt32 (fun v2 => bd (X9_isMore S1) (fun v3 S2 => if v3 = 0 then X9_trap_48 0 0 v2 S2 else vl v2 (fun v4 => bd (X9_number 255 S2) (fun v5 S3 => vl v5.toInt32 (fun v6 => bd (X9_comma S3) (fun _ S4 => bd (X9_number 255 S4) (fun v7 S5 => vl v7.toInt32 (fun v8 => bd (X9_last S5) (fun _ S6 => X9_trap_48 v4 v6 v8 S6))))))))))
noncomputable def X9_two_103 (x1 : Int32) (x2 : Int32) (y0 : Int32) (S : Sx) : Rs Unit :=
  vl y0 (fun v1 => bd (X9_last S) (fun _ S1 => bd (X9_code x1 x2 ((v1 >>> ((8 : Int32) &&& 31)) &&& 255) (v1 &&& 255) S1) (fun _ S2 => rt () S2)))
noncomputable def X9_two_99 (x1 : Int32) (x2 : Int32) (y0 : Int64) (S : Sx) : Rs Unit :=
  bd (X9_number y0 S) (fun v1 S1 => X9_two_103 x1 x2 v1.toInt32 S1)
noncomputable def X9_two_69 (x1 : Int32) (x2 : Int32) (y0 : Int32) (S : Sx) : Rs Unit :=
  vl y0 (fun v1 => if v1 = 0 then if x1 = 78 then X9_two_99 x1 x2 255 S else X9_two_99 x1 x2 65535 S else bd (X9_way 16 S) (fun v2 S1 => X9_two_103 x1 x2 v2 S1))
noncomputable def X9_two (a1 : Int32) (S : Sx) : Rs Unit :=
  if a1 = 79 then bd (X9_number 255 S) (fun v1 S1 => vl v1.toInt32 (fun v2 => bd (X9_comma S1) (fun _ S2 => bd (X9_aRegister S2) (fun v3 S3 => vl v3 (fun v4 => bd (X9_last S3) (fun _ S4 => bd (X9_code a1 v2 0 v4 S4) (fun _ S5 => rt () S5))))))) else bd (X9_aRegister S) (fun v1 S1 => vl v1 (fun v2 => bd (X9_comma S1) (fun _ S2 => if a1 ≤ 65 then X9_two_69 a1 v2 1 S2 else if a1 = 67 then X9_two_69 a1 v2 1 S2 else if a1 = 69 then X9_two_69 a1 v2 1 S2 else X9_two_69 a1 v2 0 S2)))
noncomputable def X9_instruction_19 (x1 : Int32) (S : Sx) : Rs Unit :=
  if x1 = 66 then bd (X9_way 24 S) (fun v1 S1 => vl v1 (fun v2 => bd (X9_last S1) (fun _ S2 => bd (X9_code x1 ((v2 >>> ((16 : Int32) &&& 31)) &&& 255) ((v2 >>> ((8 : Int32) &&& 31)) &&& 255) (v2 &&& 255) S2) (fun _ S3 => rt () S3)))) else if x1 = 68 then bd (X9_pop S) (fun _ S1 => rt () S1) else if x1 = 0 then bd (X9_trap S) (fun _ S1 => rt () S1) else if x1 = 80 then bd (X9_here S) (fun v1 S1 => bd (X9_isStop v1 S1) (fun v2 S2 => bd (X9_want v2 3 (gI S2 148 4) S2) (fun _ S3 => bd (X9_code x1 0 0 0 S3) (fun _ S4 => rt () S4)))) else bd (X9_two x1 S) (fun _ S1 => rt () S1)
noncomputable def X9_instruction (a1 : Int32) (S : Sx) : Rs Unit :=
  if a1 < 2 then X9_instruction_19 a1 S else if 60 ≤ a1 then X9_instruction_19 a1 S else bd (X9_three a1 S) (fun _ S1 => rt () S1)
noncomputable def X9_work_217 (y0 : Int32) (y1 : Int32) (S : Sx) : Rs Unit :=
  bd (X9_tell y1 y0 (gL S 148 18) S) (fun _ S1 => rt () S1)
noncomputable def X9_work_190 (x1 : Int32) (y0 : Int32) (S : Sx) : Rs Unit :=
  bd (X9_want y0 3 (gI S 148 19) S) (fun _ S1 => bd (X9_last S1) (fun _ S2 => if (gI S2 148 17) = 1 then X9_work_217 3 x1 S2 else X9_work_217 2 x1 S2))
noncomputable def X9_work_333 (x1 : Int32) (x4 : Int64) (S : Sx) : Rs Unit :=
  if x1 < 0 then rt () S else bd (X9_tell x1 1 x4 S) (fun _ S1 => rt () S1)
noncomputable def X9_work_288 (x1 : Int32) (y0 : Int32) (S : Sx) : Rs Unit :=
  bd (X9_want y0 5 (gI S 148 6) S) (fun _ S1 => pt (pL S1 148 7 (gL S1 148 18)) (fun S2 => vl (gL S2 148 18) (fun v1 => X9_work_333 x1 v1 S2)))
noncomputable def X9_work_250 (x1 : Int32) (y0 : Int32) (S : Sx) : Rs Unit :=
  bd (X9_want y0 3 (gI S 148 19) S) (fun _ S1 => bd (X9_last S1) (fun _ S2 => if (gL S2 148 18) < 0 then X9_work_288 x1 0 S2 else if 65536 < (gL S2 148 18) then X9_work_288 x1 0 S2 else X9_work_288 x1 1 S2))
noncomputable def X9_work_131 (x1 : Int32) (x2 : Int32) (y0 : Int32) (S : Sx) : Rs Unit :=
  vl y0 (fun v1 => if v1.toInt64 = 0 then none else pt (pL S 148 7 (((((gL S 148 7) + v1.toInt64) - 1) / v1.toInt64) * v1.toInt64)) (fun S1 => vl (gL S1 148 7) (fun v2 => if x2 = 100 then bd (X9_operand 0 S1) (fun _ S2 => if (gI S2 148 17) = 2 then X9_work_190 x1 1 S2 else if (gI S2 148 17) = 1 then X9_work_190 x1 1 S2 else X9_work_190 x1 0 S2) else if x2 = 101 then bd (X9_operand 0 S1) (fun _ S2 => if (gI S2 148 17) = 2 then X9_work_250 x1 1 S2 else X9_work_250 x1 0 S2) else if x2 < 102 then bd (X9_instruction x2 S1) (fun _ S2 => X9_work_333 x1 v2 S2) else bd (X9_data x2 v1 S1) (fun _ S2 => X9_work_333 x1 v2 S2))))
noncomputable def X9_work_85 (x1 : Int32) (x2 : Int32) (y0 : Int32) (S : Sx) : Rs Unit :=
  bd (X9_want y0 1 (gI S 148 6) S) (fun _ S1 => bd (X9_skip S1) (fun _ S2 => if x2 = 102 then X9_work_131 x1 x2 1 S2 else if x2 = 100 then X9_work_131 x1 x2 1 S2 else if x2 = 101 then X9_work_131 x1 x2 1 S2 else if x2 = 104 then X9_work_131 x1 x2 8 S2 else X9_work_131 x1 x2 4 S2))
noncomputable def X9_work_61 (x1 : Int32) (x2 : Int32) (y0 : Int32) (S : Sx) : Rs Unit :=
  bd (X9_want y0 1 (gI S 148 6) S) (fun _ S1 => if x2 = 100 then if x1 < 0 then X9_work_85 x1 x2 0 S1 else X9_work_85 x1 x2 1 S1 else X9_work_85 x1 x2 1 S1)
noncomputable def X9_work_8b (k8 : Int32 → Sx → Rs Unit) (x1 : Int32) (S : Sx) : Rs Unit :=
  bd (X9_here S) (fun v1 S1 => bd (X9_isStop v1 S1) (fun v2 S2 => if v2 = 0 then pt (pI S2 148 4 ((gI S2 148 4) + 1)) (fun S3 => k8 x1 S3) else bd (X9_opOf (gI S2 148 6) ((gI S2 148 4) - (gI S2 148 6)) S2) (fun v3 S3 => vl v3 (fun v4 => if v4 = ((-1)) then X9_work_61 x1 v4 0 S3 else X9_work_61 x1 v4 1 S3))))
noncomputable def X9_work_8 : Nat → Int32 → Sx → Rs Unit
  | 0 => fun _ _ => none
  | n + 1 => X9_work_8b  (X9_work_8 n)
noncomputable def X9_work (a1 : Int32) (S : Sx) : Rs Unit :=
  pt (pI S 148 6 (gI S 148 4)) (fun S1 => X9_work_8 FU a1 S1)
noncomputable def X9_line_77 (x1 : Int32) (S : Sx) : Rs Unit :=
  bd (X9_skip S) (fun _ S1 => if (gI S1 148 5) ≤ (gI S1 148 4) then if x1 < 0 then rt () S1 else bd (X9_tell x1 1 (gL S1 148 7) S1) (fun _ S2 => rt () S2) else bd (X9_work x1 S1) (fun _ S2 => rt () S2))
noncomputable def X9_line_42 (x1 : Int32) (x2 : Int32) (y0 : Int32) (S : Sx) : Rs Unit :=
  bd (X9_want y0 2 x2 S) (fun _ S1 => bd (X9_here S1) (fun v1 S2 => bd (X9_isStop v1 S2) (fun v2 S3 => bd (X9_want v2 1 (gI S3 148 4) S3) (fun _ S4 => X9_line_77 x1 S4))))
noncomputable def X9_line (S : Sx) : Rs Unit :=
  bd (X9_here S) (fun v1 S1 => bd (X9_isLetter v1 S1) (fun v2 S2 => if v2 = 0 then bd (X9_here S2) (fun v3 S3 => if v3 = 32 then X9_line_77 ((-1)) S3 else rt () S3) else vl (gI S2 148 4) (fun v3 => bd (X9_known S2) (fun v4 S3 => bd (X9_label v4 v3 S3) (fun v5 S4 => vl v5 (fun v6 => lI S4 154 300 v6 (fun v7 => if v7 = 0 then X9_line_42 v6 v3 1 S4 else X9_line_42 v6 v3 0 S4)))))))
noncomputable def X9_start_81 (k2 : Int32 → Sx → Rs Int64) (x1 : Int32) (x2 : Int32) (S : Sx) : Rs Int64 :=
  if x2 = 0 then vl (x1 + 1) (fun v1 => k2 v1 S) else lL S 155 300 x1 (fun v1 => rt v1 S)
noncomputable def X9_start_38b (k2 : Int32 → Sx → Rs Int64) (k38 : Int32 → Int32 → Int32 → Sx → Rs Int64) (x1 : Int32) (x2 : Int32) (x3 : Int32) (S : Sx) : Rs Int64 :=
  if 4 ≤ x3 then X9_start_81 k2 x1 x2 S else if x2 = 0 then X9_start_81 k2 x1 x2 S else lI S 152 300 x1 (fun v1 => dO S 1 (gR S 148 2) (fun c3 => lI S c3 (gN S c3) (v1 + x3) (fun v2 => bd (J3_charAt 4 x3 S) (fun v4 S1 => if v2 = v4 then vl (x3 + 1) (fun v5 => k38 x1 1 v5 S1) else vl (x3 + 1) (fun v5 => k38 x1 0 v5 S1)))))
noncomputable def X9_start_38 (k2 : Int32 → Sx → Rs Int64) : Nat → Int32 → Int32 → Int32 → Sx → Rs Int64
  | 0 => fun _ _ _ _ => none
  | n + 1 => X9_start_38b k2 (X9_start_38 k2 n)
noncomputable def X9_start_2b (k2 : Int32 → Sx → Rs Int64) (x1 : Int32) (S : Sx) : Rs Int64 :=
  if (gI S 148 8) ≤ x1 then rt 0 S else lI S 153 300 x1 (fun v1 => if v1 = 4 then lI S 154 300 x1 (fun v2 => if v2 = 1 then X9_start_38 k2 FU x1 1 0 S else X9_start_38 k2 FU x1 0 0 S) else X9_start_38 k2 FU x1 0 0 S)
noncomputable def X9_start_2 : Nat → Int32 → Sx → Rs Int64
  | 0 => fun _ _ => none
  | n + 1 => X9_start_2b  (X9_start_2 n)
noncomputable def X9_start (S : Sx) : Rs Int64 :=
  X9_start_2 FU 0 S
noncomputable def X10_end (a1 : Int64) (S : Sx) : Rs Unit :=
  bd (X10_record 6 a1 S) (fun _ S1 => rt () S1)
noncomputable def X9_read_121 (k64 : Sx → Rs Unit) (S : Sx) : Rs Unit :=
  bd (X9_line S) (fun _ S1 => pt (pI S1 148 4 ((gI S1 148 5) + 1)) (fun S2 => k64 S2))
noncomputable def X9_read_83b (k64 : Sx → Rs Unit) (k83 : Sx → Rs Unit) (S : Sx) : Rs Unit :=
  if (gI S 148 3) ≤ (gI S 148 5) then X9_read_121 k64 S else dO S 1 (gR S 148 2) (fun c2 => lI S c2 (gN S c2) (gI S 148 5) (fun v1 => if v1 = 10 then X9_read_121 k64 S else pt (pI S 148 5 ((gI S 148 5) + 1)) (fun S1 => k83 S1)))
noncomputable def X9_read_83 (k64 : Sx → Rs Unit) : Nat → Sx → Rs Unit
  | 0 => fun _ => none
  | n + 1 => X9_read_83b k64 (X9_read_83 k64 n)
noncomputable def X9_read_173 (k140 : Int32 → Sx → Rs Unit) (x3 : Int32) (y0 : Int32) (S : Sx) : Rs Unit :=
  bd (X8_at 158 x3 S) (fun v1 S1 => bd (X9_want y0 2 v1 S1) (fun _ S2 => vl (x3 + 1) (fun v2 => k140 v2 S2)))
noncomputable def X9_read_140b (k140 : Int32 → Sx → Rs Unit) (x3 : Int32) (S : Sx) : Rs Unit :=
  if (gI S 156 1) ≤ x3 then bd (X9_start S) (fun v1 S1 => bd (X10_end v1 S1) (fun _ S2 => rt () S2)) else bd (X8_at 156 x3 S) (fun v1 S1 => lI S1 154 300 v1 (fun v2 => if v2 = 0 then X9_read_173 k140 x3 0 S1 else X9_read_173 k140 x3 1 S1))
noncomputable def X9_read_140 : Nat → Int32 → Sx → Rs Unit
  | 0 => fun _ _ => none
  | n + 1 => X9_read_140b  (X9_read_140 n)
noncomputable def X9_read_64b (k64 : Sx → Rs Unit) (S : Sx) : Rs Unit :=
  if (gI S 148 3) ≤ (gI S 148 4) then X9_read_140 FU 0 S else pt (pI S 148 5 (gI S 148 4)) (fun S1 => X9_read_83 k64 FU S1)
noncomputable def X9_read_64 : Nat → Sx → Rs Unit
  | 0 => fun _ => none
  | n + 1 => X9_read_64b  (X9_read_64 n)
noncomputable def X9_read (a1 : Option Nat) (a2 : Int32) (S : Sx) : Rs Unit :=
  pt (pR S 148 2 a1) (fun S1 => pt (pI S1 148 3 a2) (fun S2 => pt (pI S2 148 4 0) (fun S3 => pt (pL S3 148 7 0) (fun S4 => pt (pI S4 148 8 0) (fun S5 => pt (pI S5 156 1 0) (fun S6 => pt (pI S6 158 1 0) (fun S7 => pt (pI S7 160 1 0) (fun S8 => pt (pI S8 162 1 0) (fun S9 => bd (X10_clear S9) (fun _ S10 => X9_read_64 FU S10))))))))))
noncomputable def X11_want (a1 : Int32) (a2 : Int32) (a3 : Int32) (S : Sx) : Rs Unit :=
  if a1 = 0 then bd (X1_of a2 a3 S) (fun v1 S1 => dO S1 7 v1 (fun c2 => th c2 S1)) else rt () S
noncomputable def X3_find_2b (k2 : Int32 → Int32 → Sx → Rs (Option Nat)) (x1 : Int32) (x2 : Int32) (S : Sx) : Rs (Option Nat) :=
  if (gI S 7 2) ≤ x2 then rt none S else lI S 8 4 x2 (fun v1 => if v1 = x1 then lR S 9 4 x2 (fun v2 => rt v2 S) else vl (x2 + 1) (fun v2 => k2 x1 v2 S))
noncomputable def X3_find_2 : Nat → Int32 → Int32 → Sx → Rs (Option Nat)
  | 0 => fun _ _ _ => none
  | n + 1 => X3_find_2b  (X3_find_2 n)
noncomputable def X3_find (a1 : Int32) (S : Sx) : Rs (Option Nat) :=
  X3_find_2 FU a1 0 S
noncomputable def X2_keep (a1 : Option Nat) (S : Sx) : Rs Unit :=
  dO S (4 + 6) a1 (fun c1 => dO S (4 + 6) a1 (fun c2 => cpy S 3 (gR S c1 0) 0 (some 4) (64 * (gI S c2 1)) 64 (fun S1 => dO S1 (4 + 6) a1 (fun c5 => sI S1 5 1024 (gI S1 c5 1) (nz 1) (fun S2 => rt () S2)))))
noncomputable def X3_cut_12b (k12 : Int32 → Sx → Rs Unit) (x2 : Int32) (S : Sx) : Rs Unit :=
  if (gI S 7 2) ≤ x2 then rt () S else lI S 8 4 (x2 + 1) (fun v1 => sI S 8 4 x2 v1 (fun S1 => lR S1 9 4 (x2 + 1) (fun v2 => dOn S1 10 v2 (sR S1 9 4 x2 v2 (fun S2 => vl (x2 + 1) (fun v3 => k12 v3 S2))))))
noncomputable def X3_cut_12 : Nat → Int32 → Sx → Rs Unit
  | 0 => fun _ _ => none
  | n + 1 => X3_cut_12b  (X3_cut_12 n)
noncomputable def X3_cut (a1 : Int32) (S : Sx) : Rs Unit :=
  pt (pI S 7 2 ((gI S 7 2) - 1)) (fun S1 => vl a1 (fun v1 => X3_cut_12 FU v1 S1))
noncomputable def X3_drop_7b (k7 : Int32 → Int32 → Sx → Rs Unit) (x1 : Int32) (x2 : Int32) (S : Sx) : Rs Unit :=
  if x2 < 0 then rt () S else lI S 8 4 x2 (fun v1 => if v1 = x1 then bd (X3_cut x2 S) (fun _ S1 => vl (x2 + (-1)) (fun v2 => k7 x1 v2 S1)) else vl (x2 + (-1)) (fun v2 => k7 x1 v2 S))
noncomputable def X3_drop_7 : Nat → Int32 → Int32 → Sx → Rs Unit
  | 0 => fun _ _ _ => none
  | n + 1 => X3_drop_7b  (X3_drop_7 n)
noncomputable def X3_drop (a1 : Int32) (S : Sx) : Rs Unit :=
  vl ((gI S 7 2) - 1) (fun v1 => X3_drop_7 FU a1 v1 S)
noncomputable def X2_room_123 (x1 : Option Nat) (S : Sx) : Rs (Option Nat) :=
  bd (X2_keep x1 S) (fun _ S1 => dO S1 (4 + 6) x1 (fun c1 => bd (X3_drop (gI S1 c1 1) S1) (fun _ S2 => dO S2 (4 + 6) x1 (fun c2 => dOn S2 10 none (sR S2 6 1024 (gI S2 c2 1) none (fun S3 => rt x1 S3))))))
noncomputable def X2_room_35b (k35 : Sx → Rs (Option Nat)) (S : Sx) : Rs (Option Nat) :=
  lR S 3 64 (gI S 2 2) (fun v1 => dO S (4 + 6) v1 (fun c2 => if (gI S c2 2) = 0 then lR S 3 64 (gI S 2 2) (fun v3 => vl v3 (fun v4 => if (gI S 2 1) = 0 then none else pt (pI S 2 2 (((gI S 2 2) + 1) - ((gI S 2 2) + 1) / (gI S 2 1) * (gI S 2 1))) (fun S1 => dO S1 (4 + 6) v4 (fun c5 => if (gI S1 c5 3) = 0 then X2_room_123 v4 S1 else pt (pI S1 2 9 ((gI S1 2 9) + 1)) (fun S2 => X2_room_123 v4 S2))))) else lR S 3 64 (gI S 2 2) (fun v3 => dO S (4 + 6) v3 (fun c4 => pt (pI S c4 2 0) (fun S1 => if (gI S1 2 1) = 0 then none else pt (pI S1 2 2 (((gI S1 2 2) + 1) - ((gI S1 2 2) + 1) / (gI S1 2 1) * (gI S1 2 1))) (fun S2 => k35 S2))))))
noncomputable def X2_room_35 : Nat → Sx → Rs (Option Nat)
  | 0 => fun _ => none
  | n + 1 => X2_room_35b  (X2_room_35 n)
noncomputable def X2_room_2b (k2 : Int32 → Sx → Rs (Option Nat)) (x1 : Int32) (S : Sx) : Rs (Option Nat) :=
  if (gI S 2 1) ≤ x1 then X2_room_35 FU S else lR S 3 64 x1 (fun v1 => dO S (4 + 6) v1 (fun c2 => if 0 ≤ (gI S c2 1) then vl (x1 + 1) (fun v3 => k2 v3 S) else lR S 3 64 x1 (fun v3 => rt v3 S)))
noncomputable def X2_room_2 : Nat → Int32 → Sx → Rs (Option Nat)
  | 0 => fun _ _ => none
  | n + 1 => X2_room_2b  (X2_room_2 n)
noncomputable def X2_room (S : Sx) : Rs (Option Nat) :=
  X2_room_2 FU 0 S
noncomputable def X2_bring_34 (x1 : Int32) (x2 : Option Nat) (S : Sx) : Rs (Option Nat) :=
  dO S (4 + 6) x2 (fun c1 => cpy S 3 (some 4) (64 * x1) (gR S c1 0) 0 64 (fun S1 => dO S1 (4 + 6) x2 (fun c4 => pt (pI S1 c4 1 x1) (fun S2 => dO S2 (4 + 6) x2 (fun c5 => pt (pI S2 c5 3 0) (fun S3 => dOn S3 10 x2 (sR S3 6 1024 x1 x2 (fun S4 => rt x2 S4))))))))
noncomputable def X2_bring (a1 : Int32) (S : Sx) : Rs (Option Nat) :=
  pt (pI S 2 7 ((gI S 2 7) + 1)) (fun S1 => bd (X2_room S1) (fun v1 S2 => vl v1 (fun v2 => lI S2 5 1024 a1 (fun v3 => if v3 = 0 then X2_bring_34 a1 v2 S2 else pt (pI S2 2 8 ((gI S2 2 8) + 1)) (fun S3 => X2_bring_34 a1 v2 S3)))))
noncomputable def X3_add_13 (x1 : Int32) (x2 : Option Nat) (S : Sx) : Rs Unit :=
  sI S 8 4 (gI S 7 2) x1 (fun S1 => dOn S1 10 x2 (sR S1 9 4 (gI S1 7 2) x2 (fun S2 => pt (pI S2 7 2 ((gI S2 7 2) + 1)) (fun S3 => rt () S3))))
noncomputable def X3_add (a1 : Int32) (a2 : Option Nat) (S : Sx) : Rs Unit :=
  if (gI S 7 2) = 4 then bd (X3_cut 0 S) (fun _ S1 => X3_add_13 a1 a2 S1) else X3_add_13 a1 a2 S
noncomputable def X2_touch_49 (x2 : Option Nat) (S : Sx) : Rs (Option Nat) :=
  dO S (4 + 6) x2 (fun c1 => pt (pI S c1 2 1) (fun S1 => rt x2 S1))
noncomputable def X2_touch_40 (x1 : Int32) (x2 : Option Nat) (S : Sx) : Rs (Option Nat) :=
  bd (X3_add x1 x2 S) (fun _ S1 => X2_touch_49 x2 S1)
noncomputable def X2_touch (a1 : Int32) (S : Sx) : Rs (Option Nat) :=
  bd (X3_find a1 S) (fun v1 S1 => vl v1 (fun v2 => if v2 = none then pt (pI S1 2 10 ((gI S1 2 10) + 1)) (fun S2 => lR S2 6 1024 a1 (fun v3 => vl v3 (fun v4 => if v4 = none then bd (X2_bring a1 S2) (fun v5 S3 => vl v5 (fun v6 => X2_touch_40 a1 v6 S3)) else X2_touch_40 a1 v4 S2))) else X2_touch_49 v2 S1))
noncomputable def X2_set_19b (k19 : Int32 → Int32 → Int64 → Option Nat → Int32 → Sx → Rs Unit) (x1 : Int32) (x2 : Int32) (x3 : Int64) (x5 : Option Nat) (x6 : Int32) (S : Sx) : Rs Unit :=
  if x2 ≤ x6 then rt () S else dO S (4 + 6) x5 (fun c1 => dO S 3 (gR S c1 0) (fun c2 => sI S c2 (gN S c2) ((x1 - x1 / 64 * 64) + x6) ((((x3 >>> ((8 * ((x2 - 1) - x6)).toInt64 &&& 63)).toInt32).toInt8.toInt32).toInt8.toInt32) (fun S1 => vl (x6 + 1) (fun v3 => k19 x1 x2 x3 x5 v3 S1))))
noncomputable def X2_set_19 : Nat → Int32 → Int32 → Int64 → Option Nat → Int32 → Sx → Rs Unit
  | 0 => fun _ _ _ _ _ _ => none
  | n + 1 => X2_set_19b  (X2_set_19 n)
noncomputable def X2_set (a1 : Int32) (a2 : Int32) (a3 : Int64) (S : Sx) : Rs Unit :=
  bd (X2_touch (a1 / 64) S) (fun v1 S1 => vl v1 (fun v2 => dO S1 (4 + 6) v2 (fun c3 => pt (pI S1 c3 3 1) (fun S2 => X2_set_19 FU a1 a2 a3 v2 0 S2))))
noncomputable def X11_row_112b (k112 : Int32 → Int32 → Sx → Rs Unit) (x2 : Int32) (x3 : Int32) (S : Sx) : Rs Unit :=
  if x2 ≤ x3 then rt () S else dO S 1 (gR S 164 2) (fun c2 => lI S c2 (gN S c2) (gI S 164 4) (fun v1 => bd (X2_set ((gL S 164 5).toInt32) 1 v1.toInt64 S) (fun _ S1 => pt (pL S1 164 5 ((gL S1 164 5) + 1)) (fun S2 => pt (pI S2 164 4 ((gI S2 164 4) + 1)) (fun S3 => vl (x3 + 1) (fun v3 => k112 x2 v3 S3))))))
noncomputable def X11_row_112 : Nat → Int32 → Int32 → Sx → Rs Unit
  | 0 => fun _ _ _ => none
  | n + 1 => X11_row_112b  (X11_row_112 n)
noncomputable def X11_row_104 (x1 : Int32) (x2 : Int32) (y0 : Int32) (S : Sx) : Rs Unit :=
  bd (X11_want y0 13 x1 S) (fun _ S1 => X11_row_112 FU x2 0 S1)
noncomputable def X11_row_78 (x1 : Int32) (x2 : Int32) (y0 : Int32) (S : Sx) : Rs Unit :=
  bd (X11_want y0 11 x1 S) (fun _ S1 => if 65536 < ((gL S1 164 5) + x2.toInt64) then X11_row_104 x1 x2 0 S1 else X11_row_104 x1 x2 1 S1)
noncomputable def X11_row_53 (x1 : Int32) (x2 : Int32) (y0 : Int32) (S : Sx) : Rs Unit :=
  bd (X11_want y0 12 x1 S) (fun _ S1 => if ((gI S1 164 3) - (gI S1 164 4)) < x2 then X11_row_78 x1 x2 0 S1 else X11_row_78 x1 x2 1 S1)
noncomputable def X11_row_17 (x1 : Int32) (y0 : Int32) (S : Sx) : Rs Unit :=
  bd (X11_want y0 11 x1 S) (fun _ S1 => dO S1 1 (gR S1 164 2) (fun c2 => lI S1 c2 (gN S1 c2) (gI S1 164 4) (fun v1 => vl v1 (fun v3 => pt (pI S1 164 4 ((gI S1 164 4) + 1)) (fun S2 => if v3 ≤ 0 then X11_row_53 x1 v3 0 S2 else X11_row_53 x1 v3 1 S2)))))
noncomputable def X11_row (a1 : Int32) (S : Sx) : Rs Unit :=
  if (gI S 164 3) ≤ (gI S 164 4) then X11_row_17 a1 0 S else X11_row_17 a1 1 S
noncomputable def X11_octa_31b (k31 : Int64 → Int32 → Sx → Rs Int64) (x2 : Int64) (x4 : Int32) (S : Sx) : Rs Int64 :=
  if 8 ≤ x4 then rt x2 S else dO S 1 (gR S 164 2) (fun c2 => lI S c2 (gN S c2) (gI S 164 4) (fun v1 => vl ((x2 <<< (((8 : Int32)).toInt64 &&& 63)) ||| (v1.toInt64 &&& 255)) (fun v3 => pt (pI S 164 4 ((gI S 164 4) + 1)) (fun S1 => vl (x4 + 1) (fun v4 => k31 v3 v4 S1)))))
noncomputable def X11_octa_31 : Nat → Int64 → Int32 → Sx → Rs Int64
  | 0 => fun _ _ _ => none
  | n + 1 => X11_octa_31b  (X11_octa_31 n)
noncomputable def X11_octa_20 (x1 : Int32) (y0 : Int32) (S : Sx) : Rs Int64 :=
  bd (X11_want y0 11 x1 S) (fun _ S1 => X11_octa_31 FU 0 0 S1)
noncomputable def X11_octa (a1 : Int32) (S : Sx) : Rs Int64 :=
  if ((gI S 164 3) - (gI S 164 4)) < 8 then X11_octa_20 a1 0 S else X11_octa_20 a1 1 S
noncomputable def X0_isAddress (a1 : Int64) (S : Sx) : Rs Int32 :=
  if a1 < 0 then rt 0 S else if 65536 ≤ a1 then rt 0 S else rt 1 S
noncomputable def X11_fix_159b (k159 : Int64 → Int64 → Int32 → Sx → Rs Unit) (x2 : Int64) (x7 : Int64) (x10 : Int32) (S : Sx) : Rs Unit :=
  if 4 ≤ x10 then rt () S else bd (X2_set (x2.toInt32 + x10) 1 ((x7 / 4) >>> ((8 * (3 - x10)).toInt64 &&& 63)) S) (fun _ S1 => vl (x10 + 1) (fun v1 => k159 x2 x7 v1 S1))
noncomputable def X11_fix_159 : Nat → Int64 → Int64 → Int32 → Sx → Rs Unit
  | 0 => fun _ _ _ _ => none
  | n + 1 => X11_fix_159b  (X11_fix_159 n)
noncomputable def X11_fix_136 (x1 : Int32) (x2 : Int64) (x4 : Int32) (x7 : Int64) (y0 : Int32) (S : Sx) : Rs Unit :=
  bd (X11_want y0 14 x4 S) (fun _ S1 => if x1 = 4 then X11_fix_159 FU x2 x7 2 S1 else X11_fix_159 FU x2 x7 1 S1)
noncomputable def X11_fix_76 (x1 : Int32) (x2 : Int64) (x4 : Int32) (y0 : Int32) (S : Sx) : Rs Unit :=
  vl y0 (fun v1 => vl ((gL S 164 5) - x2) (fun v2 => if (v2 - v2 / 4 * 4) = 0 then if (v2 / 4) < (-(((1 : Int64)) <<< ((v1 - 1).toInt64 &&& 63))) then X11_fix_136 x1 x2 x4 v2 0 S else if (((1 : Int64)) <<< ((v1 - 1).toInt64 &&& 63)) ≤ (v2 / 4) then X11_fix_136 x1 x2 x4 v2 0 S else X11_fix_136 x1 x2 x4 v2 1 S else X11_fix_136 x1 x2 x4 v2 0 S))
noncomputable def X11_fix_36 (x1 : Int32) (x2 : Int64) (x4 : Int32) (y0 : Int32) (S : Sx) : Rs Unit :=
  bd (X11_want y0 13 x4 S) (fun _ S1 => if x1 = 3 then bd (X2_set x2.toInt32 8 (gL S1 164 5) S1) (fun _ S2 => rt () S2) else if x1 = 4 then X11_fix_76 x1 x2 x4 16 S1 else X11_fix_76 x1 x2 x4 24 S1)
noncomputable def X11_fix_11 (x1 : Int32) (x2 : Int64) (x4 : Int32) (y0 : Int32) (S : Sx) : Rs Unit :=
  vl y0 (fun v1 => bd (X0_isAddress x2 S) (fun v2 S1 => if v2 = 0 then X11_fix_36 x1 x2 x4 0 S1 else if v1.toInt64 = 0 then none else if (x2 - x2 / v1.toInt64 * v1.toInt64) = 0 then X11_fix_36 x1 x2 x4 1 S1 else X11_fix_36 x1 x2 x4 0 S1))
noncomputable def X11_fix (a1 : Int32) (a2 : Int64) (a3 : Int32) (S : Sx) : Rs Unit :=
  if a1 = 3 then X11_fix_11 a1 a2 a3 8 S else X11_fix_11 a1 a2 a3 4 S
noncomputable def X2_settle_2b (k2 : Int32 → Sx → Rs Unit) (x1 : Int32) (S : Sx) : Rs Unit :=
  if (gI S 2 1) ≤ x1 then bd (X2_reset S) (fun _ S1 => rt () S1) else lR S 3 64 x1 (fun v1 => dO S (4 + 6) v1 (fun c2 => if (gI S c2 1) < 0 then vl (x1 + 1) (fun v3 => k2 v3 S) else lR S 3 64 x1 (fun v3 => bd (X2_keep v3 S) (fun _ S1 => vl (x1 + 1) (fun v4 => k2 v4 S1)))))
noncomputable def X2_settle_2 : Nat → Int32 → Sx → Rs Unit
  | 0 => fun _ _ => none
  | n + 1 => X2_settle_2b  (X2_settle_2 n)
noncomputable def X2_settle (S : Sx) : Rs Unit :=
  X2_settle_2 FU 0 S
noncomputable def X11_load_203 (k32 : Int32 → Int64 → Sx → Rs Int64) (x3 : Int32) (x7 : Int64) (y0 : Int64) (S : Sx) : Rs Int64 :=
  pt (pL S 164 5 y0) (fun S1 => vl x7 (fun v1 => k32 x3 v1 S1))
noncomputable def X11_load_188 (k32 : Int32 → Int64 → Sx → Rs Int64) (x3 : Int32) (x7 : Int64) (S : Sx) : Rs Int64 :=
  if x3 = 1 then X11_load_203 k32 x3 x7 x7 S else X11_load_203 k32 x3 x7 (gL S 164 5) S
noncomputable def X11_load_169 (k32 : Int32 → Int64 → Sx → Rs Int64) (x3 : Int32) (x6 : Int32) (x7 : Int64) (y0 : Int32) (S : Sx) : Rs Int64 :=
  bd (X11_want y0 13 x6 S) (fun _ S1 => X11_load_188 k32 x3 x7 S1)
noncomputable def X11_load_147 (k32 : Int32 → Int64 → Sx → Rs Int64) (x3 : Int32) (x6 : Int32) (x7 : Int64) (S : Sx) : Rs Int64 :=
  if x7 < 0 then X11_load_169 k32 x3 x6 x7 0 S else if 65536 < x7 then X11_load_169 k32 x3 x6 x7 0 S else X11_load_169 k32 x3 x6 x7 1 S
noncomputable def X11_load_107 (k32 : Int32 → Int64 → Sx → Rs Int64) (x3 : Int32) (x4 : Int64) (x6 : Int32) (y0 : Int32) (S : Sx) : Rs Int64 :=
  bd (X11_want y0 12 x6 S) (fun _ S1 => if x3 = 2 then bd (X11_row x6 S1) (fun _ S2 => k32 x3 x4 S2) else bd (X11_octa x6 S1) (fun v1 S2 => vl v1 (fun v2 => if x3 = 1 then X11_load_147 k32 x3 x6 v2 S2 else if x3 = 6 then X11_load_147 k32 x3 x6 v2 S2 else bd (X11_fix x3 v2 x6 S2) (fun _ S3 => X11_load_188 k32 x3 v2 S3))))
noncomputable def X11_load_55 (k32 : Int32 → Int64 → Sx → Rs Int64) (x4 : Int64) (y0 : Int32) (S : Sx) : Rs Int64 :=
  bd (X11_want y0 11 (gI S 164 4) S) (fun _ S1 => vl (gI S1 164 4) (fun v1 => dO S1 1 (gR S1 164 2) (fun c3 => lI S1 c3 (gN S1 c3) (gI S1 164 4) (fun v2 => vl v2 (fun v4 => pt (pI S1 164 4 ((gI S1 164 4) + 1)) (fun S2 => if v4 < 1 then X11_load_107 k32 v4 x4 v1 0 S2 else if 6 < v4 then X11_load_107 k32 v4 x4 v1 0 S2 else X11_load_107 k32 v4 x4 v1 1 S2))))))
noncomputable def X11_load_230 (x4 : Int64) (y0 : Int32) (S : Sx) : Rs Int64 :=
  bd (X11_want y0 12 (gI S 164 4) S) (fun _ S1 => bd (X2_settle S1) (fun _ S2 => rt x4 S2))
noncomputable def X11_load_32b (k32 : Int32 → Int64 → Sx → Rs Int64) (x3 : Int32) (x4 : Int64) (S : Sx) : Rs Int64 :=
  if x3 = 6 then if (gI S 164 4) = (gI S 164 3) then X11_load_230 x4 1 S else X11_load_230 x4 0 S else if (gI S 164 3) ≤ (gI S 164 4) then X11_load_55 k32 x4 0 S else X11_load_55 k32 x4 1 S
noncomputable def X11_load_32 : Nat → Int32 → Int64 → Sx → Rs Int64
  | 0 => fun _ _ _ => none
  | n + 1 => X11_load_32b  (X11_load_32 n)
noncomputable def X11_load (a1 : Option Nat) (a2 : Int32) (S : Sx) : Rs Int64 :=
  pt (pR S 164 2 a1) (fun S1 => pt (pI S1 164 3 a2) (fun S2 => pt (pI S2 164 4 0) (fun S3 => pt (pL S3 164 5 0) (fun S4 => bd (X2_clear S4) (fun _ S5 => X11_load_32 FU 0 0 S5)))))
noncomputable def X6_clear_2b (k2 : Int32 → Sx → Rs Unit) (x1 : Int32) (S : Sx) : Rs Unit :=
  if 32 ≤ x1 then pt (pI S 139 3 0) (fun S1 => pt (pI S1 139 4 0) (fun S2 => pt (pI S2 139 5 0) (fun S3 => rt () S3))) else sL S 142 32 x1 0 (fun S1 => vl (x1 + 1) (fun v1 => k2 v1 S1))
noncomputable def X6_clear_2 : Nat → Int32 → Sx → Rs Unit
  | 0 => fun _ _ => none
  | n + 1 => X6_clear_2b  (X6_clear_2 n)
noncomputable def X6_clear (S : Sx) : Rs Unit :=
  X6_clear_2 FU 0 S
noncomputable def X5_begin_9b (k9 : Int64 → Int32 → Sx → Rs Unit) (x1 : Int64) (x3 : Int32) (S : Sx) : Rs Unit :=
  if 4 ≤ x3 then pt (pL S 138 5 x1) (fun S1 => pt (pI S1 138 6 0) (fun S2 => pt (pI S2 138 7 0) (fun S3 => pt (pI S3 138 9 0) (fun S4 => rt () S4)))) else sL S 144 4 x3 0 (fun S1 => vl (x3 + 1) (fun v1 => k9 x1 v1 S1))
noncomputable def X5_begin_9 : Nat → Int64 → Int32 → Sx → Rs Unit
  | 0 => fun _ _ _ => none
  | n + 1 => X5_begin_9b  (X5_begin_9 n)
noncomputable def X5_begin (a1 : Int64) (S : Sx) : Rs Unit :=
  bd (X6_clear S) (fun _ S1 => X5_begin_9 FU a1 0 S1)
noncomputable def X0_take_119 (S : Sx) : Rs Int32 :=
  pt (pI S 165 1 0) (fun S1 => if (gI S1 0 6) = 0 then rt ((-1)) S1 else rt 0 S1)
noncomputable def X0_take_86 (y0 : Nat) (S : Sx) : Rs Int32 :=
  kd S (1 + 6) y0 (pt (pI S 0 7 (gI S y0 6)) (fun S1 => kd S1 (1 + 6) y0 (pt (pI S1 0 8 (gI S1 y0 7)) (fun S2 => if (gI S2 0 7) ≤ 10 then X0_take_119 S2 else bd (X2_settle S2) (fun _ S3 => X0_take_119 S3)))))
noncomputable def X0_take_56 (x2 : Option Nat) (S : Sx) : Rs Int32 :=
  dO S (8 + 6) x2 (fun c1 => dO S (8 + 6) x2 (fun c2 => ct (X11_load (gR S c1 0) (gI S c2 1) S) (fun v3 S1 => ct (X5_begin v3 S1) (fun _ S2 => pt (pI S2 0 6 1) (fun S3 => X0_take_119 S3)) (fun c5 S2 => kd S2 (1 + 6) c5 (X0_take_86 c5 S2))) (fun c4 S1 => kd S1 (1 + 6) c4 (X0_take_86 c4 S1))))
noncomputable def X0_take (a1 : Int32) (S : Sx) : Rs Int32 :=
  pt (pI S 0 6 0) (fun S1 => pt (pI S1 0 7 0) (fun S2 => pt (pI S2 0 8 ((-1))) (fun S3 => if a1 = 0 then X0_take_56 (some 165) S3 else ct (X9_read (gR S3 165 0) (gI S3 165 1) S3) (fun _ S4 => X0_take_56 (some 150) S4) (fun c1 S4 => kd S4 (1 + 6) c1 (X0_take_86 c1 S4)))))
noncomputable def X0_assemble (S : Sx) : Rs Int32 :=
  bd (X0_take 1 S) (fun v1 S1 => rt v1 S1)
noncomputable def X12_begin_25b (k25 : Int32 → Sx → Rs Unit) (x2 : Int32) (S : Sx) : Rs Unit :=
  if 1024 ≤ x2 then pt (pL S 167 38 0) (fun S1 => pt (pI S1 167 5 0) (fun S2 => pt (pI S2 167 6 ((-1))) (fun S3 => rt () S3))) else sI S 182 1024 x2 (nz 0) (fun S1 => vl (x2 + 1) (fun v1 => k25 v1 S1))
noncomputable def X12_begin_25 : Nat → Int32 → Sx → Rs Unit
  | 0 => fun _ _ => none
  | n + 1 => X12_begin_25b  (X12_begin_25 n)
noncomputable def X12_begin_7b (k7 : Option Nat → Int32 → Sx → Rs Unit) (x1 : Option Nat) (x2 : Int32) (S : Sx) : Rs Unit :=
  if 65536 ≤ x2 then X12_begin_25 FU 0 S else dO S 1 x1 (fun c1 => sI S c1 (gN S c1) x2 0 (fun S1 => vl (x2 + 1) (fun v2 => k7 x1 v2 S1)))
noncomputable def X12_begin_7 : Nat → Option Nat → Int32 → Sx → Rs Unit
  | 0 => fun _ _ _ => none
  | n + 1 => X12_begin_7b  (X12_begin_7 n)
noncomputable def X12_begin (a1 : Option Nat) (S : Sx) : Rs Unit :=
  pt (pR S 167 37 a1) (fun S1 => X12_begin_7 FU a1 0 S1)
noncomputable def X12_byteAt (a1 : Int32) (S : Sx) : Rs Int32 :=
  if (gI S 167 1) ≤ a1 then rt ((-1)) S else lI S 168 20000 a1 (fun v1 => if v1 = 10 then rt ((-1)) S else lI S 168 20000 a1 (fun v2 => rt v2 S))
noncomputable def X12_isLetter_12 (x0 : Int32) (S : Sx) : Rs Int32 :=
  if x0 < 97 then rt 0 S else if 122 < x0 then rt 0 S else rt 1 S
noncomputable def X12_isLetter (a1 : Int32) (S : Sx) : Rs Int32 :=
  if a1 < 65 then X12_isLetter_12 a1 S else if a1 ≤ 90 then rt 1 S else X12_isLetter_12 a1 S
noncomputable def X12_isDigit (a1 : Int32) (S : Sx) : Rs Int32 :=
  if a1 < 48 then rt 0 S else if 57 < a1 then rt 0 S else rt 1 S
noncomputable def X13_init (c0 : Nat) (a1 : Int32) (a2 : Int32) (S : Sx) : Rs Unit :=
  xi S 13 c0 (fun S1 => kd S1 (13 + 6) c0 (pt (pI S1 c0 6 a1) (fun S2 => kd S2 (13 + 6) c0 (pt (pI S2 c0 7 a2) (fun S3 => rt () S3)))))
noncomputable def X12_must (a1 : Int32) (a2 : Int32) (a3 : Int32) (S : Sx) : Rs Unit :=
  if a1 = 0 then al S (13 + 50 + 6) 0 8 (fun c1 S1 => bd (X13_init c1 a2 a3 S1) (fun _ S2 => th c1 S2)) else rt () S
noncomputable def X12_word_49 (k5 : Int32 → Sx → Rs Int32) (x1 : Int32) (y0 : Int32) (S : Sx) : Rs Int32 :=
  bd (X12_must y0 1 x1 S) (fun _ S1 => pt (pI S1 167 49 ((gI S1 167 49) + 1)) (fun S2 => k5 x1 S2))
noncomputable def X12_word_33 (k5 : Int32 → Sx → Rs Int32) (x1 : Int32) (S : Sx) : Rs Int32 :=
  if 12 ≤ ((gI S 167 49) - x1) then X12_word_49 k5 x1 0 S else X12_word_49 k5 x1 1 S
noncomputable def X12_word_5b (k5 : Int32 → Sx → Rs Int32) (x1 : Int32) (S : Sx) : Rs Int32 :=
  bd (X12_byteAt (gI S 167 49) S) (fun v1 S1 => bd (X12_isLetter v1 S1) (fun v2 S2 => if v2 = 0 then bd (X12_byteAt (gI S2 167 49) S2) (fun v3 S3 => bd (X12_isDigit v3 S3) (fun v4 S4 => if v4 = 0 then rt ((gI S4 167 49) - x1) S4 else X12_word_33 k5 x1 S4)) else X12_word_33 k5 x1 S2))
noncomputable def X12_word_5 : Nat → Int32 → Sx → Rs Int32
  | 0 => fun _ _ => none
  | n + 1 => X12_word_5b  (X12_word_5 n)
noncomputable def X12_word (S : Sx) : Rs Int32 :=
  vl (gI S 167 49) (fun v1 => X12_word_5 FU v1 S)
noncomputable def X12_known_80 (k2 : Int32 → Int32 → Int32 → Sx → Rs Int32) (x1 : Int32) (x2 : Int32) (x3 : Int32) (x4 : Int32) (S : Sx) : Rs Int32 :=
  if x4 = 0 then vl (x3 + 1) (fun v1 => k2 x1 x2 v1 S) else rt x3 S
noncomputable def X12_known_30b (k2 : Int32 → Int32 → Int32 → Sx → Rs Int32) (k30 : Int32 → Int32 → Int32 → Int32 → Int32 → Sx → Rs Int32) (x1 : Int32) (x2 : Int32) (x3 : Int32) (x4 : Int32) (x5 : Int32) (S : Sx) : Rs Int32 :=
  if x2 ≤ x5 then X12_known_80 k2 x1 x2 x3 x4 S else if x4 = 0 then X12_known_80 k2 x1 x2 x3 x4 S else lI S 184 300 x3 (fun v1 => lI S 168 20000 (v1 + x5) (fun v2 => lI S 168 20000 (x1 + x5) (fun v3 => if v2 = v3 then vl (x5 + 1) (fun v4 => k30 x1 x2 x3 1 v4 S) else vl (x5 + 1) (fun v4 => k30 x1 x2 x3 0 v4 S))))
noncomputable def X12_known_30 (k2 : Int32 → Int32 → Int32 → Sx → Rs Int32) : Nat → Int32 → Int32 → Int32 → Int32 → Int32 → Sx → Rs Int32
  | 0 => fun _ _ _ _ _ _ => none
  | n + 1 => X12_known_30b k2 (X12_known_30 k2 n)
noncomputable def X12_known_2b (k2 : Int32 → Int32 → Int32 → Sx → Rs Int32) (x1 : Int32) (x2 : Int32) (x3 : Int32) (S : Sx) : Rs Int32 :=
  if (gI S 167 43) ≤ x3 then rt ((-1)) S else lI S 185 300 x3 (fun v1 => if v1 = x2 then X12_known_30 k2 FU x1 x2 x3 1 0 S else X12_known_30 k2 FU x1 x2 x3 0 0 S)
noncomputable def X12_known_2 : Nat → Int32 → Int32 → Int32 → Sx → Rs Int32
  | 0 => fun _ _ _ _ => none
  | n + 1 => X12_known_2b  (X12_known_2 n)
noncomputable def X12_known (a1 : Int32) (a2 : Int32) (S : Sx) : Rs Int32 :=
  X12_known_2 FU a1 a2 0 S
noncomputable def X12_label_15 (x1 : Int32) (x2 : Int32) (y0 : Int32) (S : Sx) : Rs Int32 :=
  bd (X12_must y0 6 x1 S) (fun _ S1 => sI S1 184 300 (gI S1 167 43) x1 (fun S2 => sI S2 185 300 (gI S2 167 43) x2 (fun S3 => sI S3 186 300 (gI S3 167 43) ((-1)) (fun S4 => pt (pI S4 167 43 ((gI S4 167 43) + 1)) (fun S5 => rt ((gI S5 167 43) - 1) S5)))))
noncomputable def X12_label (a1 : Int32) (a2 : Int32) (S : Sx) : Rs Int32 :=
  if 300 ≤ (gI S 167 43) then X12_label_15 a1 a2 0 S else X12_label_15 a1 a2 1 S
noncomputable def X12_isPause (a1 : Int32) (S : Sx) : Rs Int32 :=
  bd (X12_byteAt a1 S) (fun v1 S1 => if v1 < 0 then rt 1 S1 else bd (X12_byteAt a1 S1) (fun v2 S2 => if v2 = 32 then rt 1 S2 else rt 0 S2))
noncomputable def X12_passBlanks_0b (k0 : Sx → Rs Unit) (S : Sx) : Rs Unit :=
  bd (X12_byteAt (gI S 167 49) S) (fun v1 S1 => if v1 = 32 then pt (pI S1 167 49 ((gI S1 167 49) + 1)) (fun S2 => k0 S2) else rt () S1)
noncomputable def X12_passBlanks_0 : Nat → Sx → Rs Unit
  | 0 => fun _ => none
  | n + 1 => X12_passBlanks_0b  (X12_passBlanks_0 n)
noncomputable def X12_passBlanks (S : Sx) : Rs Unit :=
  X12_passBlanks_0 FU S
noncomputable def X12_opAt_103b (k2 : Int32 → Int32 → Int32 → Sx → Rs Int32) (k103 : Int32 → Int32 → Int32 → Int32 → Int32 → Sx → Rs Int32) (x1 : Int32) (x2 : Int32) (x3 : Int32) (x5 : Int32) (x6 : Int32) (S : Sx) : Rs Int32 :=
  bd (J3_charAt 5 x3 S) (fun v1 S1 => if v1 = 32 then vl (x3 + 1) (fun v2 => if x5 = 0 then k2 x1 x2 v2 S1 else rt x6 S1) else bd (J3_charAt 5 x3 S1) (fun v2 S2 => vl (((10 * x6) + v2) - 48) (fun v3 => vl (x3 + 1) (fun v4 => k103 x1 x2 v4 x5 v3 S2))))
noncomputable def X12_opAt_103 (k2 : Int32 → Int32 → Int32 → Sx → Rs Int32) : Nat → Int32 → Int32 → Int32 → Int32 → Int32 → Sx → Rs Int32
  | 0 => fun _ _ _ _ _ _ => none
  | n + 1 => X12_opAt_103b k2 (X12_opAt_103 k2 n)
noncomputable def X12_opAt_95 (k2 : Int32 → Int32 → Int32 → Sx → Rs Int32) (x1 : Int32) (x2 : Int32) (x3 : Int32) (y0 : Int32) (S : Sx) : Rs Int32 :=
  vl y0 (fun v1 => vl (x3 + 1) (fun v2 => X12_opAt_103 k2 FU x1 x2 v2 v1 0 S))
noncomputable def X12_opAt_18b (k2 : Int32 → Int32 → Int32 → Sx → Rs Int32) (k18 : Int32 → Int32 → Int32 → Int32 → Int32 → Sx → Rs Int32) (x1 : Int32) (x2 : Int32) (x3 : Int32) (x4 : Int32) (x5 : Int32) (S : Sx) : Rs Int32 :=
  bd (J3_charAt 5 x3 S) (fun v1 S1 => if v1 = 32 then if x5 = 0 then X12_opAt_95 k2 x1 x2 x3 0 S1 else if (x3 - x4) = x2 then X12_opAt_95 k2 x1 x2 x3 1 S1 else X12_opAt_95 k2 x1 x2 x3 0 S1 else if x5 = 0 then vl (x3 + 1) (fun v2 => k18 x1 x2 v2 x4 0 S1) else if x2 ≤ (x3 - x4) then vl (x3 + 1) (fun v2 => k18 x1 x2 v2 x4 0 S1) else bd (J3_charAt 5 x3 S1) (fun v2 S2 => lI S2 168 20000 ((x1 + x3) - x4) (fun v3 => if v2 = v3 then vl (x3 + 1) (fun v4 => k18 x1 x2 v4 x4 1 S2) else vl (x3 + 1) (fun v4 => k18 x1 x2 v4 x4 0 S2))))
noncomputable def X12_opAt_18 (k2 : Int32 → Int32 → Int32 → Sx → Rs Int32) : Nat → Int32 → Int32 → Int32 → Int32 → Int32 → Sx → Rs Int32
  | 0 => fun _ _ _ _ _ _ => none
  | n + 1 => X12_opAt_18b k2 (X12_opAt_18 k2 n)
noncomputable def X12_opAt_2b (k2 : Int32 → Int32 → Int32 → Sx → Rs Int32) (x1 : Int32) (x2 : Int32) (x3 : Int32) (S : Sx) : Rs Int32 :=
  bd (J3_length 5 S) (fun v1 S1 => if v1 ≤ x3 then rt ((-1)) S1 else vl x3 (fun v2 => X12_opAt_18 k2 FU x1 x2 x3 v2 1 S1))
noncomputable def X12_opAt_2 : Nat → Int32 → Int32 → Int32 → Sx → Rs Int32
  | 0 => fun _ _ _ _ => none
  | n + 1 => X12_opAt_2b  (X12_opAt_2 n)
noncomputable def X12_opAt (a1 : Int32) (a2 : Int32) (S : Sx) : Rs Int32 :=
  X12_opAt_2 FU a1 a2 0 S
noncomputable def X12_align (a1 : Int64) (S : Sx) : Rs Unit :=
  if a1 = 0 then none else pt (pL S 167 38 (((((gL S 167 38) + a1) - 1) / a1) * a1)) (fun S1 => rt () S1)
noncomputable def X12_put_3b (k3 : Int32 → Int32 → Int64 → Int32 → Sx → Rs Unit) (x1 : Int32) (x2 : Int32) (x3 : Int64) (x5 : Int32) (S : Sx) : Rs Unit :=
  if x2 ≤ x5 then rt () S else dO S 1 (gR S 167 37) (fun c1 => sI S c1 (gN S c1) (x1 + x5) (((x3 >>> ((8 * ((x2 - 1) - x5)).toInt64 &&& 63)).toInt32) &&& 255) (fun S1 => sI S1 182 1024 ((x1 + x5) / 64) (nz 1) (fun S2 => vl (x5 + 1) (fun v2 => k3 x1 x2 x3 v2 S2))))
noncomputable def X12_put_3 : Nat → Int32 → Int32 → Int64 → Int32 → Sx → Rs Unit
  | 0 => fun _ _ _ _ _ => none
  | n + 1 => X12_put_3b  (X12_put_3 n)
noncomputable def X12_put (a1 : Int32) (a2 : Int32) (a3 : Int64) (S : Sx) : Rs Unit :=
  X12_put_3 FU a1 a2 a3 0 S
noncomputable def X12_lay_2_19 (x1 : Int32) (x2 : Int64) (y0 : Int32) (S : Sx) : Rs Unit :=
  bd (X12_must y0 5 (gI S 167 50) S) (fun _ S1 => bd (X12_put ((gL S1 167 38).toInt32) x1 x2 S1) (fun _ S2 => pt (pL S2 167 38 ((gL S2 167 38) + x1.toInt64)) (fun S3 => rt () S3)))
noncomputable def X12_lay_2 (a1 : Int32) (a2 : Int64) (S : Sx) : Rs Unit :=
  if 65536 < ((gL S 167 38) + a1.toInt64) then X12_lay_2_19 a1 a2 0 S else X12_lay_2_19 a1 a2 1 S
noncomputable def X12_digits_50 (k3 : Int64 → Int32 → Int64 → Sx → Rs Int64) (x1 : Int64) (x3 : Int32) (x4 : Int64) (x6 : Int32) (y0 : Int32) (S : Sx) : Rs Int64 :=
  bd (X12_must y0 1 x3 S) (fun _ S1 => vl ((10 * x4) + x6.toInt64) (fun v1 => pt (pI S1 167 49 ((gI S1 167 49) + 1)) (fun S2 => k3 x1 x3 v1 S2)))
noncomputable def X12_digits_3b (k3 : Int64 → Int32 → Int64 → Sx → Rs Int64) (x1 : Int64) (x3 : Int32) (x4 : Int64) (S : Sx) : Rs Int64 :=
  bd (X12_byteAt (gI S 167 49) S) (fun v1 S1 => bd (X12_isDigit v1 S1) (fun v2 S2 => if v2 = 0 then rt x4 S2 else bd (X12_byteAt (gI S2 167 49) S2) (fun v3 S3 => vl (v3 - 48) (fun v4 => if ((x1 - v4.toInt64) / 10) < x4 then X12_digits_50 k3 x1 x3 x4 v4 0 S3 else X12_digits_50 k3 x1 x3 x4 v4 1 S3))))
noncomputable def X12_digits_3 : Nat → Int64 → Int32 → Int64 → Sx → Rs Int64
  | 0 => fun _ _ _ _ => none
  | n + 1 => X12_digits_3b  (X12_digits_3 n)
noncomputable def X12_digits (a1 : Int64) (a2 : Int32) (S : Sx) : Rs Int64 :=
  X12_digits_3 FU a1 a2 0 S
noncomputable def X12_hex_36 (x0 : Int32) (S : Sx) : Rs Int32 :=
  if x0 < 65 then rt ((-1)) S else if 70 < x0 then rt ((-1)) S else rt ((x0 - 65) + 10) S
noncomputable def X12_hex (a1 : Int32) (S : Sx) : Rs Int32 :=
  bd (X12_isDigit a1 S) (fun v1 S1 => if v1 = 0 then if a1 < 97 then X12_hex_36 a1 S1 else if 102 < a1 then X12_hex_36 a1 S1 else rt ((a1 - 97) + 10) S1 else rt (a1 - 48) S1)
noncomputable def X12_term_87 (x3 : Int32) (S : Sx) : Rs Int64 :=
  lL S 187 300 x3 (fun v1 => rt v1 S)
noncomputable def X12_term_65 (x1 : Int32) (x3 : Int32) (y0 : Int32) (S : Sx) : Rs Int64 :=
  bd (X12_must y0 2 x1 S) (fun _ S1 => lI S1 186 300 x3 (fun v1 => if (v1 &&& 1) = 1 then pt (pI S1 167 51 ((-1))) (fun S2 => X12_term_87 x3 S2) else X12_term_87 x3 S1))
noncomputable def X12_term_210 (k184 : Int32 → Int64 → Int32 → Sx → Rs Int64) (x1 : Int32) (x3 : Int64) (x5 : Int32) (y0 : Int32) (S : Sx) : Rs Int64 :=
  bd (X12_must y0 1 x1 S) (fun _ S1 => bd (X12_byteAt (gI S1 167 49) S1) (fun v1 S2 => bd (X12_hex v1 S2) (fun v2 S3 => vl ((x3 <<< (((4 : Int32)).toInt64 &&& 63)) ||| v2.toInt64) (fun v3 => pt (pI S3 167 49 ((gI S3 167 49) + 1)) (fun S4 => vl (x5 + 1) (fun v4 => k184 x1 v3 v4 S4))))))
noncomputable def X12_term_184b (k184 : Int32 → Int64 → Int32 → Sx → Rs Int64) (x1 : Int32) (x3 : Int64) (x5 : Int32) (S : Sx) : Rs Int64 :=
  bd (X12_byteAt (gI S 167 49) S) (fun v1 S1 => bd (X12_hex v1 S1) (fun v2 S2 => if v2 < 0 then rt x3 S2 else if 16 ≤ x5 then X12_term_210 k184 x1 x3 x5 0 S2 else X12_term_210 k184 x1 x3 x5 1 S2))
noncomputable def X12_term_184 : Nat → Int32 → Int64 → Int32 → Sx → Rs Int64
  | 0 => fun _ _ _ _ => none
  | n + 1 => X12_term_184b  (X12_term_184 n)
noncomputable def X12_term_173 (x1 : Int32) (x3 : Int64) (y0 : Int32) (S : Sx) : Rs Int64 :=
  bd (X12_must y0 1 (gI S 167 49) S) (fun _ S1 => X12_term_184 FU x1 x3 0 S1)
noncomputable def X12_term_312 (x3 : Int64) (y0 : Int32) (S : Sx) : Rs Int64 :=
  bd (X12_must y0 1 (gI S 167 49) S) (fun _ S1 => pt (pI S1 167 49 ((gI S1 167 49) + 1)) (fun S2 => rt x3 S2))
noncomputable def X12_term_266 (y0 : Int32) (S : Sx) : Rs Int64 :=
  bd (X12_must y0 1 (gI S 167 49) S) (fun _ S1 => bd (X12_byteAt (gI S1 167 49) S1) (fun v1 S2 => vl v1.toInt64 (fun v2 => pt (pI S2 167 49 ((gI S2 167 49) + 1)) (fun S3 => bd (X12_byteAt (gI S3 167 49) S3) (fun v3 S4 => if v3 = 39 then X12_term_312 v2 1 S4 else X12_term_312 v2 0 S4)))))
noncomputable def X12_term_117 (x1 : Int32) (x2 : Int32) (y0 : Int32) (S : Sx) : Rs Int64 :=
  bd (X12_must y0 1 (gI S 167 49) S) (fun _ S1 => pt (pI S1 167 49 ((gI S1 167 49) + 1)) (fun S2 => if x2 = 64 then rt (gL S2 167 38) S2 else if x2 = 35 then bd (X12_byteAt (gI S2 167 49) S2) (fun v1 S3 => bd (X12_hex v1 S3) (fun v2 S4 => if v2 < 0 then X12_term_173 x1 0 0 S4 else X12_term_173 x1 0 1 S4)) else bd (X12_byteAt (gI S2 167 49) S2) (fun v1 S3 => if v1 < 0 then X12_term_266 0 S3 else X12_term_266 1 S3)))
noncomputable def X12_term (S : Sx) : Rs Int64 :=
  vl (gI S 167 49) (fun v1 => bd (X12_byteAt (gI S 167 49) S) (fun v2 S1 => vl v2 (fun v3 => bd (X12_isDigit v3 S1) (fun v4 S2 => if v4 = 0 then bd (X12_isLetter v3 S2) (fun v5 S3 => if v5 = 0 then if v3 = 64 then X12_term_117 v1 v3 1 S3 else if v3 = 35 then X12_term_117 v1 v3 1 S3 else if v3 = 39 then X12_term_117 v1 v3 1 S3 else X12_term_117 v1 v3 0 S3 else bd (X12_word S3) (fun v6 S4 => bd (X12_known v1 v6 S4) (fun v7 S5 => vl v7 (fun v8 => if v8 < 0 then X12_term_65 v1 v8 0 S5 else lI S5 186 300 v8 (fun v9 => if v9 < 0 then X12_term_65 v1 v8 0 S5 else X12_term_65 v1 v8 1 S5))))) else bd (X12_digits 9223372036854775807 v1 S2) (fun v5 S3 => rt v5 S3)))))
noncomputable def X12_sum_88 (k5 : Sx → Rs Unit) (y0 : Int64) (S : Sx) : Rs Unit :=
  pt (pL S 167 52 y0) (fun S1 => k5 S1)
noncomputable def X12_sum_49 (k5 : Sx → Rs Unit) (y0 : Int32) (S : Sx) : Rs Unit :=
  vl y0 (fun v1 => pt (pI S 167 49 ((gI S 167 49) + 1)) (fun S1 => bd (X12_term S1) (fun v2 S2 => vl v2 (fun v3 => if v1 = 0 then X12_sum_88 k5 ((gL S2 167 52) + v3) S2 else X12_sum_88 k5 ((gL S2 167 52) - v3) S2))))
noncomputable def X12_sum_31 (k5 : Sx → Rs Unit) (S : Sx) : Rs Unit :=
  bd (X12_byteAt (gI S 167 49) S) (fun v1 S1 => if v1 = 45 then X12_sum_49 k5 1 S1 else X12_sum_49 k5 0 S1)
noncomputable def X12_sum_5b (k5 : Sx → Rs Unit) (S : Sx) : Rs Unit :=
  bd (X12_byteAt (gI S 167 49) S) (fun v1 S1 => if v1 = 43 then X12_sum_31 k5 S1 else bd (X12_byteAt (gI S1 167 49) S1) (fun v2 S2 => if v2 = 45 then X12_sum_31 k5 S2 else rt () S2))
noncomputable def X12_sum_5 : Nat → Sx → Rs Unit
  | 0 => fun _ => none
  | n + 1 => X12_sum_5b  (X12_sum_5 n)
noncomputable def X12_sum (a1 : Int64) (S : Sx) : Rs Unit :=
  pt (pL S 167 52 a1) (fun S1 => X12_sum_5 FU S1)
noncomputable def X12_name_167 (y0 : Int64) (S : Sx) : Rs Unit :=
  pt (pL S 167 52 y0) (fun S1 => pt (pI S1 167 51 2) (fun S2 => rt () S2))
noncomputable def X12_name_139 (x2 : Int32) (x3 : Int32) (y0 : Int32) (S : Sx) : Rs Unit :=
  bd (X12_must y0 1 (gI S 167 49) S) (fun _ S1 => if x3 < 0 then bd (X12_label (gI S1 167 53) x2 S1) (fun v1 S2 => X12_name_167 v1.toInt64 S2) else X12_name_167 x3.toInt64 S1)
noncomputable def X12_name_102 (x2 : Int32) (x3 : Int32) (y0 : Int32) (S : Sx) : Rs Unit :=
  bd (X12_must y0 2 (gI S 167 53) S) (fun _ S1 => bd (X12_isPause (gI S1 167 49) S1) (fun v1 S2 => if v1 = 0 then bd (X12_byteAt (gI S2 167 49) S2) (fun v2 S3 => if v2 = 44 then X12_name_139 x2 x3 1 S3 else X12_name_139 x2 x3 0 S3) else X12_name_139 x2 x3 1 S2))
noncomputable def X12_name_67 (x1 : Int32) (x2 : Int32) (x3 : Int32) (S : Sx) : Rs Unit :=
  if x1 = 0 then X12_name_102 x2 x3 0 S else bd (X12_byteAt (gI S 167 49) S) (fun v1 S1 => if v1 = 43 then X12_name_102 x2 x3 0 S1 else bd (X12_byteAt (gI S1 167 49) S1) (fun v2 S2 => if v2 = 45 then X12_name_102 x2 x3 0 S2 else X12_name_102 x2 x3 1 S2))
noncomputable def X12_name (a1 : Int32) (S : Sx) : Rs Unit :=
  bd (X12_word S) (fun v1 S1 => vl v1 (fun v2 => bd (X12_known (gI S1 167 53) v2 S1) (fun v3 S2 => vl v3 (fun v4 => if v4 < 0 then X12_name_67 a1 v2 v4 S2 else lI S2 186 300 v4 (fun v5 => if v5 < 0 then X12_name_67 a1 v2 v4 S2 else lL S2 187 300 v4 (fun v6 => pt (pL S2 167 52 v6) (fun S3 => lI S3 186 300 v4 (fun v7 => if (v7 &&& 1) = 1 then pt (pI S3 167 51 1) (fun S4 => rt () S4) else bd (X12_sum (gL S3 167 52) S3) (fun _ S4 => rt () S4)))))))))
noncomputable def X12_operand_152 (y0 : Int32) (S : Sx) : Rs Unit :=
  bd (X12_must y0 3 (gI S 167 53) S) (fun _ S1 => rt () S1)
noncomputable def X12_operand_132 (y0 : Int32) (S : Sx) : Rs Unit :=
  bd (X12_must y0 1 (gI S 167 49) S) (fun _ S1 => if (gI S1 167 51) < 0 then X12_operand_152 0 S1 else X12_operand_152 1 S1)
noncomputable def X12_operand_103 (S : Sx) : Rs Unit :=
  bd (X12_isPause (gI S 167 49) S) (fun v1 S1 => if v1 = 0 then bd (X12_byteAt (gI S1 167 49) S1) (fun v2 S2 => if v2 = 44 then X12_operand_132 1 S2 else X12_operand_132 0 S2) else X12_operand_132 1 S1)
noncomputable def X12_operand (a1 : Int32) (S : Sx) : Rs Unit :=
  pt (pI S 167 53 (gI S 167 49)) (fun S1 => pt (pI S1 167 51 0) (fun S2 => bd (X12_byteAt (gI S2 167 49) S2) (fun v1 S3 => vl v1 (fun v2 => if v2 = 36 then pt (pI S3 167 49 ((gI S3 167 49) + 1)) (fun S4 => bd (X12_byteAt (gI S4 167 49) S4) (fun v3 S5 => bd (X12_isDigit v3 S5) (fun v4 S6 => bd (X12_must v4 1 (gI S6 167 49) S6) (fun _ S7 => bd (X12_digits 31 (gI S7 167 53) S7) (fun v5 S8 => pt (pL S8 167 52 v5) (fun S9 => pt (pI S9 167 51 1) (fun S10 => X12_operand_103 S10))))))) else bd (X12_isLetter v2 S3) (fun v3 S4 => if v3 = 0 then bd (X12_term S4) (fun v4 S5 => bd (X12_sum v4 S5) (fun _ S6 => X12_operand_103 S6)) else bd (X12_name a1 S4) (fun _ S5 => X12_operand_103 S5))))))
noncomputable def X12_isIn (a1 : Int64) (a2 : Int64) (a3 : Int64) (S : Sx) : Rs Int32 :=
  if a1 < a2 then rt 0 S else if a3 < a1 then rt 0 S else rt 1 S
noncomputable def X12_field_48 (y0 : Int32) (S : Sx) : Rs Int32 :=
  bd (X12_must y0 4 (gI S 167 53) S) (fun _ S1 => rt ((gL S1 167 52).toInt32) S1)
noncomputable def X12_field_18 (x1 : Int32) (x2 : Int64) (y0 : Int32) (S : Sx) : Rs Int32 :=
  bd (X12_must y0 3 (gI S 167 53) S) (fun _ S1 => if x1 = 1 then X12_field_48 1 S1 else bd (X12_isIn (gL S1 167 52) 0 x2 S1) (fun v1 S2 => if v1 = 0 then X12_field_48 0 S2 else X12_field_48 1 S2))
noncomputable def X12_field (a1 : Int32) (a2 : Int64) (S : Sx) : Rs Int32 :=
  bd (X12_operand 0 S) (fun _ S1 => if (gI S1 167 51) = a1 then X12_field_18 a1 a2 1 S1 else X12_field_18 a1 a2 0 S1)
noncomputable def X12_more_18 (y0 : Int32) (S : Sx) : Rs Int32 :=
  vl y0 (fun v1 => if v1 = 0 then rb v1 S else pt (pI S 167 49 ((gI S 167 49) + 1)) (fun S1 => rb v1 S1))
noncomputable def X12_more (S : Sx) : Rs Int32 :=
  bd (X12_byteAt (gI S 167 49) S) (fun v1 S1 => if v1 = 44 then X12_more_18 1 S1 else X12_more_18 0 S1)
noncomputable def X12_need (S : Sx) : Rs Unit :=
  bd (X12_more S) (fun v1 S1 => bd (X12_must v1 3 (gI S1 167 49) S1) (fun _ S2 => rt () S2))
noncomputable def X12_noMore_12 (y0 : Int32) (S : Sx) : Rs Unit :=
  bd (X12_must y0 3 (gI S 167 49) S) (fun _ S1 => rt () S1)
noncomputable def X12_noMore (S : Sx) : Rs Unit :=
  bd (X12_more S) (fun v1 S1 => if v1 = 0 then X12_noMore_12 1 S1 else X12_noMore_12 0 S1)
noncomputable def X12_trapFields (S : Sx) : Rs Int32 :=
  bd (X12_field 0 255 S) (fun v1 S1 => vl v1 (fun v2 => bd (X12_more S1) (fun v3 S2 => if v3 = 0 then rt v2 S2 else bd (X12_field 0 255 S2) (fun v4 S3 => vl ((v2 <<< ((8 : Int32) &&& 31)) ||| v4) (fun v5 => bd (X12_need S3) (fun _ S4 => bd (X12_field 0 255 S4) (fun v6 S5 => vl ((v5 <<< ((8 : Int32) &&& 31)) ||| v6) (fun v7 => bd (X12_noMore S5) (fun _ S6 => rt v7 S6)))))))))
noncomputable def X12_popFields (S : Sx) : Rs Int32 :=
  bd (X12_byteAt (gI S 167 49) S) (fun v1 S1 => if 0 ≤ v1 then bd (X12_field 0 255 S1) (fun v2 S2 => vl (v2 <<< ((16 : Int32) &&& 31)) (fun v3 => bd (X12_more S2) (fun v4 S3 => if v4 = 0 then rt v3 S3 else bd (X12_field 0 65535 S3) (fun v5 S4 => vl (v3 ||| v5) (fun v6 => bd (X12_noMore S4) (fun _ S5 => rt v6 S5)))))) else rt 0 S1)
noncomputable def X12_twice_9b (k9 : Option Nat → Nat → Int32 → Sx → Rs (Option Nat)) (x0 : Option Nat) (x1 : Nat) (x2 : Int32) (S : Sx) : Rs (Option Nat) :=
  dO S 1 x0 (fun c1 => if (Int32.ofNat ((gN S c1))) ≤ x2 then rt (some x1) S else dO S 1 x0 (fun c3 => lI S c3 (gN S c3) x2 (fun v2 => kd S 1 x1 (sI S x1 (gN S x1) x2 v2 (fun S1 => vl (x2 + 1) (fun v5 => k9 x0 x1 v5 S1))))))
noncomputable def X12_twice_9 : Nat → Option Nat → Nat → Int32 → Sx → Rs (Option Nat)
  | 0 => fun _ _ _ _ => none
  | n + 1 => X12_twice_9b  (X12_twice_9 n)
noncomputable def X12_twice (a1 : Option Nat) (S : Sx) : Rs (Option Nat) :=
  dO S 1 a1 (fun c1 => alI S (2 * (Int32.ofNat ((gN S c1)))) (fun c2 S1 => X12_twice_9 FU a1 c2 0 S1))
noncomputable def X12_use_56 (x1 : Int32) (x2 : Int32) (x3 : Int32) (x4 : Int32) (S : Sx) : Rs Unit :=
  dO S 1 (gR S 167 44) (fun c1 => sI S c1 (gN S c1) (gI S 167 48) x1 (fun S1 => dO S1 1 (gR S1 167 45) (fun c2 => sI S1 c2 (gN S1 c2) (gI S1 167 48) x2 (fun S2 => dO S2 1 (gR S2 167 46) (fun c3 => sI S2 c3 (gN S2 c3) (gI S2 167 48) x3 (fun S3 => dO S3 1 (gR S3 167 47) (fun c4 => sI S3 c4 (gN S3 c4) (gI S3 167 48) x4 (fun S4 => pt (pI S4 167 48 ((gI S4 167 48) + 1)) (fun S5 => rt () S5)))))))))
noncomputable def X12_use (a1 : Int32) (a2 : Int32) (a3 : Int32) (a4 : Int32) (S : Sx) : Rs Unit :=
  dO S 1 (gR S 167 44) (fun c1 => if (gI S 167 48) = (Int32.ofNat ((gN S c1))) then bd (X12_twice (gR S 167 44) S) (fun v2 S1 => pt (pR S1 167 44 v2) (fun S2 => bd (X12_twice (gR S2 167 45) S2) (fun v3 S3 => pt (pR S3 167 45 v3) (fun S4 => bd (X12_twice (gR S4 167 46) S4) (fun v4 S5 => pt (pR S5 167 46 v4) (fun S6 => bd (X12_twice (gR S6 167 47) S6) (fun v5 S7 => pt (pR S7 167 47 v5) (fun S8 => X12_use_56 a1 a2 a3 a4 S8)))))))) else X12_use_56 a1 a2 a3 a4 S)
noncomputable def X12_way_110 (x2 : Int64) (y0 : Int32) (S : Sx) : Rs Int32 :=
  bd (X12_must y0 4 (gI S 167 53) S) (fun _ S1 => bd (X12_noMore S1) (fun _ S2 => rt ((x2 >>> (((2 : Int32)).toInt64 &&& 63)).toInt32) S2))
noncomputable def X12_way_18 (x1 : Int32) (y0 : Int32) (S : Sx) : Rs Int32 :=
  bd (X12_must y0 3 (gI S 167 53) S) (fun _ S1 => if (gI S1 167 51) = 2 then bd (X12_use ((gL S1 167 52).toInt32) (gI S1 167 53) ((gL S1 167 38).toInt32) x1 S1) (fun _ S2 => bd (X12_noMore S2) (fun _ S3 => rt 0 S3)) else vl ((gL S1 167 52) - (gL S1 167 38)) (fun v1 => vl (((1 : Int64)) <<< ((x1 - 1).toInt64 &&& 63)) (fun v2 => if (v1 &&& 3) = 0 then if (v1 >>> (((2 : Int32)).toInt64 &&& 63)) < (-v2) then X12_way_110 v1 0 S1 else if v2 ≤ (v1 >>> (((2 : Int32)).toInt64 &&& 63)) then X12_way_110 v1 0 S1 else X12_way_110 v1 1 S1 else X12_way_110 v1 0 S1)))
noncomputable def X12_way (a1 : Int32) (S : Sx) : Rs Int32 :=
  bd (X12_operand 1 S) (fun _ S1 => if (gI S1 167 51) = 1 then X12_way_18 a1 0 S1 else X12_way_18 a1 1 S1)
noncomputable def X12_registerField (S : Sx) : Rs Int32 :=
  bd (X12_field 1 31 S) (fun v1 S1 => rt v1 S1)
noncomputable def X12_last_32 (y0 : Int32) (S : Sx) : Rs Int32 :=
  bd (X12_must y0 4 (gI S 167 53) S) (fun _ S1 => bd (X12_noMore S1) (fun _ S2 => if (gI S2 167 51) = 1 then rt (((gL S2 167 52).toInt32) ||| 0) S2 else rt (((gL S2 167 52).toInt32) ||| 65536) S2))
noncomputable def X12_last (S : Sx) : Rs Int32 :=
  bd (X12_operand 0 S) (fun _ S1 => if (gI S1 167 51) = 1 then X12_last_32 1 S1 else bd (X12_isIn (gL S1 167 52) 0 255 S1) (fun v1 S2 => if v1 = 0 then X12_last_32 0 S2 else X12_last_32 1 S2))
noncomputable def X12_negFields (S : Sx) : Rs Int32 :=
  bd (X12_operand 0 S) (fun _ S1 => if (gI S1 167 51) = 1 then bd (X12_noMore S1) (fun _ S2 => rt ((gL S2 167 52).toInt32) S2) else bd (X12_isIn (gL S1 167 52) 0 255 S1) (fun v1 S2 => bd (X12_must v1 4 (gI S2 167 53) S2) (fun _ S3 => vl (((gL S3 167 52).toInt32) <<< ((8 : Int32) &&& 31)) (fun v2 => bd (X12_need S3) (fun _ S4 => bd (X12_last S4) (fun v3 S5 => rt (v2 ||| v3) S5))))))
noncomputable def X12_threeFields (S : Sx) : Rs Int32 :=
  bd (X12_registerField S) (fun v1 S1 => vl (v1 <<< ((8 : Int32) &&& 31)) (fun v2 => bd (X12_more S1) (fun v3 S2 => if v3 = 0 then rt (v2 ||| 65536) S2 else bd (X12_last S2) (fun v4 S3 => rt (v2 ||| v4) S3))))
noncomputable def X12_instruction_252 (y0 : Int32) (y1 : Int64) (y2 : Int32) (S : Sx) : Rs Unit :=
  bd (X12_lay_2 y2 (y1 ||| y0.toInt64) S) (fun _ S1 => rt () S1)
noncomputable def X12_instruction_234 (x3 : Int32) (y0 : Int64) (y1 : Int32) (S : Sx) : Rs Unit :=
  X12_instruction_252 (x3 &&& 16777215) y0 y1 S
noncomputable def X12_instruction_210 (x1 : Int32) (x2 : Int32) (x3 : Int32) (x4 : Int32) (S : Sx) : Rs Unit :=
  if x1 = 0 then X12_instruction_234 x3 (x4.toInt64 <<< (((24 : Int32)).toInt64 &&& 63)) 4 S else if x1 = 66 then X12_instruction_234 x3 (x4.toInt64 <<< (((24 : Int32)).toInt64 &&& 63)) 4 S else if x1 = 68 then X12_instruction_234 x3 (x4.toInt64 <<< (((24 : Int32)).toInt64 &&& 63)) 4 S else X12_instruction_252 ((x2 <<< ((16 : Int32) &&& 31)) ||| (x3 &&& 65535)) (x4.toInt64 <<< (((24 : Int32)).toInt64 &&& 63)) 4 S
noncomputable def X12_instruction_29 (x1 : Int32) (x2 : Int32) (x3 : Int32) (x4 : Int32) (y0 : Int32) (S : Sx) : Rs Unit :=
  bd (X12_must y0 3 (gI S 167 49) S) (fun _ S1 => X12_instruction_210 x1 x2 x3 x4 S1)
noncomputable def X12_instruction_167 (x1 : Int32) (x2 : Int32) (x4 : Int32) (y0 : Int64) (y1 : Int32) (S : Sx) : Rs Unit :=
  bd (X12_field y1 y0 S) (fun v1 S1 => vl v1 (fun v2 => bd (X12_noMore S1) (fun _ S2 => X12_instruction_210 x1 x2 v2 x4 S2)))
noncomputable def X12_instruction_195 (x1 : Int32) (x2 : Int32) (y0 : Int32) (S : Sx) : Rs Unit :=
  vl y0 (fun v1 => vl (x1 + (v1 >>> ((16 : Int32) &&& 31))) (fun v2 => vl (v1 &&& 65535) (fun v3 => X12_instruction_210 x1 x2 v3 v2 S)))
noncomputable def X12_instruction_144 (x1 : Int32) (x2 : Int32) (x4 : Int32) (S : Sx) : Rs Unit :=
  if x1 < 70 then if x1 = 32 then bd (X12_negFields S) (fun v1 S1 => X12_instruction_195 x1 x2 v1 S1) else bd (X12_threeFields S) (fun v1 S1 => X12_instruction_195 x1 x2 v1 S1) else if x1 = 78 then X12_instruction_167 x1 x2 x4 255 0 S else X12_instruction_167 x1 x2 x4 65535 0 S
noncomputable def X12_instruction (a1 : Int32) (S : Sx) : Rs Unit :=
  vl a1 (fun v1 => if a1 = 80 then bd (X12_byteAt (gI S 167 49) S) (fun v2 S1 => if 0 ≤ v2 then X12_instruction_29 a1 0 0 v1 0 S1 else X12_instruction_29 a1 0 0 v1 1 S1) else if a1 = 0 then bd (X12_trapFields S) (fun v2 S1 => vl v2 (fun v3 => X12_instruction_210 a1 0 v3 v1 S1)) else if a1 = 68 then bd (X12_popFields S) (fun v2 S1 => vl v2 (fun v3 => X12_instruction_210 a1 0 v3 v1 S1)) else if a1 = 66 then bd (X12_way 24 S) (fun v2 S1 => vl v2 (fun v3 => X12_instruction_210 a1 0 v3 v1 S1)) else if a1 = 79 then bd (X12_field 0 255 S) (fun v2 S1 => vl v2 (fun v3 => bd (X12_need S1) (fun _ S2 => bd (X12_registerField S2) (fun v4 S3 => vl v4 (fun v5 => bd (X12_noMore S3) (fun _ S4 => X12_instruction_210 a1 v3 v5 v1 S4)))))) else bd (X12_registerField S) (fun v2 S1 => vl v2 (fun v3 => bd (X12_need S1) (fun _ S2 => if a1 < 60 then X12_instruction_144 a1 v3 v1 S2 else if 69 < a1 then X12_instruction_144 a1 v3 v1 S2 else bd (X12_way 16 S2) (fun v4 S3 => vl v4 (fun v5 => X12_instruction_210 a1 v3 v5 v1 S3))))))
noncomputable def X12_letters_199b (k199 : Int32 → Int32 → Sx → Rs Unit) (x2 : Int32) (x3 : Int32) (S : Sx) : Rs Unit :=
  if x2 ≤ x3 then rt () S else lI S 168 20000 x3 (fun v1 => bd (X12_lay_2 1 v1.toInt64 S) (fun _ S1 => vl (x3 + 1) (fun v2 => k199 x2 v2 S1)))
noncomputable def X12_letters_199 : Nat → Int32 → Int32 → Sx → Rs Unit
  | 0 => fun _ _ _ => none
  | n + 1 => X12_letters_199b  (X12_letters_199 n)
noncomputable def X12_letters_189 (x1 : Int32) (x2 : Int32) (y0 : Int32) (S : Sx) : Rs Unit :=
  bd (X12_must y0 5 (gI S 167 50) S) (fun _ S1 => vl x1 (fun v1 => X12_letters_199 FU x2 v1 S1))
noncomputable def X12_letters_159 (x1 : Int32) (x2 : Int32) (y0 : Int32) (S : Sx) : Rs Unit :=
  bd (X12_must y0 1 (gI S 167 49) S) (fun _ S1 => if 65536 < (((gL S1 167 38) + x2.toInt64) - x1.toInt64) then X12_letters_189 x1 x2 0 S1 else X12_letters_189 x1 x2 1 S1)
noncomputable def X12_letters_107 (x1 : Int32) (y0 : Int32) (S : Sx) : Rs Unit :=
  bd (X12_must y0 1 (gI S 167 49) S) (fun _ S1 => vl (gI S1 167 49) (fun v1 => pt (pI S1 167 49 ((gI S1 167 49) + 1)) (fun S2 => bd (X12_isPause (gI S2 167 49) S2) (fun v2 S3 => if v2 = 0 then bd (X12_byteAt (gI S3 167 49) S3) (fun v3 S4 => if v3 = 44 then X12_letters_159 x1 v1 1 S4 else X12_letters_159 x1 v1 0 S4) else X12_letters_159 x1 v1 1 S3))))
noncomputable def X12_letters_91 (x1 : Int32) (S : Sx) : Rs Unit :=
  bd (X12_byteAt (gI S 167 49) S) (fun v1 S1 => if v1 < 0 then X12_letters_107 x1 0 S1 else X12_letters_107 x1 1 S1)
noncomputable def X12_letters_54b (k54 : Int32 → Sx → Rs Unit) (x1 : Int32) (S : Sx) : Rs Unit :=
  bd (X12_byteAt (gI S 167 49) S) (fun v1 S1 => if v1 < 0 then X12_letters_91 x1 S1 else bd (X12_byteAt (gI S1 167 49) S1) (fun v2 S2 => if v2 = 34 then X12_letters_91 x1 S2 else pt (pI S2 167 49 ((gI S2 167 49) + 1)) (fun S3 => k54 x1 S3)))
noncomputable def X12_letters_54 : Nat → Int32 → Sx → Rs Unit
  | 0 => fun _ _ => none
  | n + 1 => X12_letters_54b  (X12_letters_54 n)
noncomputable def X12_letters_46 (x1 : Int32) (y0 : Int32) (S : Sx) : Rs Unit :=
  bd (X12_must y0 1 (gI S 167 49) S) (fun _ S1 => X12_letters_54 FU x1 S1)
noncomputable def X12_letters (S : Sx) : Rs Unit :=
  vl ((gI S 167 49) + 1) (fun v1 => pt (pI S 167 49 ((gI S 167 49) + 1)) (fun S1 => bd (X12_byteAt (gI S1 167 49) S1) (fun v2 S2 => if v2 < 0 then X12_letters_46 v1 0 S2 else bd (X12_byteAt (gI S2 167 49) S2) (fun v3 S3 => if v3 = 34 then X12_letters_46 v1 0 S3 else X12_letters_46 v1 1 S3))))
noncomputable def X12_data_134 (k23 : Int32 → Int32 → Sx → Rs Unit) (x1 : Int32) (x2 : Int32) (S : Sx) : Rs Unit :=
  bd (X12_more S) (fun v1 S1 => if v1 = 0 then rt () S1 else k23 x1 x2 S1)
noncomputable def X12_data_131 (k23 : Int32 → Int32 → Sx → Rs Unit) (x1 : Int32) (x2 : Int32) (y0 : Int64) (y1 : Int32) (S : Sx) : Rs Unit :=
  bd (X12_lay_2 y1 y0 S) (fun _ S1 => X12_data_134 k23 x1 x2 S1)
noncomputable def X12_data_113 (k23 : Int32 → Int32 → Sx → Rs Unit) (x1 : Int32) (x2 : Int32) (S : Sx) : Rs Unit :=
  if (gI S 167 51) = 2 then X12_data_131 k23 x1 x2 0 x2 S else X12_data_131 k23 x1 x2 (gL S 167 52) x2 S
noncomputable def X12_data_77 (k23 : Int32 → Int32 → Sx → Rs Unit) (x1 : Int32) (x2 : Int32) (y0 : Int32) (S : Sx) : Rs Unit :=
  bd (X12_must y0 3 (gI S 167 53) S) (fun _ S1 => if (gI S1 167 51) = 2 then bd (X12_use ((gL S1 167 52).toInt32) (gI S1 167 53) ((gL S1 167 38).toInt32) 64 S1) (fun _ S2 => X12_data_113 k23 x1 x2 S2) else X12_data_113 k23 x1 x2 S1)
noncomputable def X12_data_61 (k23 : Int32 → Int32 → Sx → Rs Unit) (x1 : Int32) (x2 : Int32) (y0 : Int32) (S : Sx) : Rs Unit :=
  bd (X12_operand y0 S) (fun _ S1 => if (gI S1 167 51) = 1 then X12_data_77 k23 x1 x2 0 S1 else X12_data_77 k23 x1 x2 1 S1)
noncomputable def X12_data_49 (k23 : Int32 → Int32 → Sx → Rs Unit) (x1 : Int32) (x2 : Int32) (S : Sx) : Rs Unit :=
  if x1 = 104 then X12_data_61 k23 x1 x2 1 S else X12_data_61 k23 x1 x2 0 S
noncomputable def X12_data_23b (k23 : Int32 → Int32 → Sx → Rs Unit) (x1 : Int32) (x2 : Int32) (S : Sx) : Rs Unit :=
  if x1 = 102 then bd (X12_byteAt (gI S 167 49) S) (fun v1 S1 => if v1 = 34 then bd (X12_letters S1) (fun _ S2 => X12_data_134 k23 x1 x2 S2) else X12_data_49 k23 x1 x2 S1) else X12_data_49 k23 x1 x2 S
noncomputable def X12_data_23 : Nat → Int32 → Int32 → Sx → Rs Unit
  | 0 => fun _ _ _ => none
  | n + 1 => X12_data_23b  (X12_data_23 n)
noncomputable def X12_data (a1 : Int32) (S : Sx) : Rs Unit :=
  if a1 = 102 then X12_data_23 FU a1 1 S else if a1 = 103 then X12_data_23 FU a1 4 S else X12_data_23 FU a1 8 S
noncomputable def X12_goesTo (a1 : Int32) (a2 : Int32) (a3 : Int64) (S : Sx) : Rs Int32 :=
  vl (a3 - a1.toInt64) (fun v1 => vl (((1 : Int64)) <<< ((a2 - 1).toInt64 &&& 63)) (fun v2 => if (v1 &&& 3) = 0 then if (v1 >>> (((2 : Int32)).toInt64 &&& 63)) < (-v2) then rt 0 S else if (v1 >>> (((2 : Int32)).toInt64 &&& 63)) < v2 then bd (X12_put ((a1 + 4) - (a2 / 8)) (a2 / 8) (v1 >>> (((2 : Int32)).toInt64 &&& 63)) S) (fun _ S1 => rt 1 S1) else rt 0 S else rt 0 S))
noncomputable def X12_tell_52 (k17 : Int32 → Int32 → Int64 → Int32 → Sx → Rs Unit) (x1 : Int32) (x2 : Int32) (x3 : Int64) (x5 : Int32) (y0 : Int32) (S : Sx) : Rs Unit :=
  dO S 1 (gR S 167 45) (fun c2 => lI S c2 (gN S c2) x5 (fun v1 => bd (X12_must y0 3 v1 S) (fun _ S1 => dO S1 1 (gR S1 167 47) (fun c4 => lI S1 c4 (gN S1 c4) x5 (fun v3 => if v3 = 64 then dO S1 1 (gR S1 167 46) (fun c6 => lI S1 c6 (gN S1 c6) x5 (fun v5 => bd (X12_put v5 8 x3 S1) (fun _ S2 => vl (x5 + 1) (fun v7 => k17 x1 x2 x3 v7 S2)))) else dO S1 1 (gR S1 167 46) (fun c6 => lI S1 c6 (gN S1 c6) x5 (fun v5 => dO S1 1 (gR S1 167 47) (fun c8 => lI S1 c8 (gN S1 c8) x5 (fun v7 => bd (X12_goesTo v5 v7 x3 S1) (fun v9 S2 => dO S2 1 (gR S2 167 45) (fun c11 => lI S2 c11 (gN S2 c11) x5 (fun v10 => bd (X12_must v9 4 v10 S2) (fun _ S3 => vl (x5 + 1) (fun v12 => k17 x1 x2 x3 v12 S3))))))))))))))
noncomputable def X12_tell_17b (k17 : Int32 → Int32 → Int64 → Int32 → Sx → Rs Unit) (x1 : Int32) (x2 : Int32) (x3 : Int64) (x5 : Int32) (S : Sx) : Rs Unit :=
  if (gI S 167 48) ≤ x5 then rt () S else dO S 1 (gR S 167 44) (fun c2 => lI S c2 (gN S c2) x5 (fun v1 => if v1 = x1 then if (x2 &&& 1) = 1 then X12_tell_52 k17 x1 x2 x3 x5 0 S else X12_tell_52 k17 x1 x2 x3 x5 1 S else vl (x5 + 1) (fun v3 => k17 x1 x2 x3 v3 S)))
noncomputable def X12_tell_17 : Nat → Int32 → Int32 → Int64 → Int32 → Sx → Rs Unit
  | 0 => fun _ _ _ _ _ => none
  | n + 1 => X12_tell_17b  (X12_tell_17 n)
noncomputable def X12_tell (a1 : Int32) (a2 : Int32) (a3 : Int64) (S : Sx) : Rs Unit :=
  sI S 186 300 a1 a2 (fun S1 => sL S1 187 300 a1 a3 (fun S2 => X12_tell_17 FU a1 a2 a3 0 S2))
noncomputable def X12_line_382 (x1 : Int32) (x3 : Int64) (x5 : Int32) (S : Sx) : Rs Unit :=
  if x1 < 0 then rt () S else bd (X12_tell x1 x5 x3 S) (fun _ S1 => rt () S1)
noncomputable def X12_line_358 (x1 : Int32) (x6 : Int32) (S : Sx) : Rs Unit :=
  vl (gL S 167 52) (fun v1 => if x6 = 100 then vl (2 + (gI S 167 51)) (fun v2 => X12_line_382 x1 v1 v2 S) else X12_line_382 x1 v1 0 S)
noncomputable def X12_line_312 (x1 : Int32) (x6 : Int32) (y0 : Int32) (S : Sx) : Rs Unit :=
  bd (X12_must y0 3 (gI S 167 53) S) (fun _ S1 => bd (X12_noMore S1) (fun _ S2 => if x6 = 101 then bd (X12_isIn (gL S2 167 52) 0 65536 S2) (fun v1 S3 => bd (X12_must v1 5 (gI S3 167 50) S3) (fun _ S4 => pt (pL S4 167 38 (gL S4 167 52)) (fun S5 => X12_line_358 x1 x6 S5))) else X12_line_358 x1 x6 S2))
noncomputable def X12_line_248 (x1 : Int32) (x5 : Int32) (x6 : Int32) (y0 : Int64) (S : Sx) : Rs Unit :=
  bd (X12_align y0 S) (fun _ S1 => vl (gL S1 167 38) (fun v1 => if 100 ≤ x6 then if x6 < 102 then bd (X12_operand 0 S1) (fun _ S2 => if x6 = 100 then X12_line_312 x1 x6 1 S2 else if (gI S2 167 51) = 0 then X12_line_312 x1 x6 1 S2 else X12_line_312 x1 x6 0 S2) else bd (X12_data x6 S1) (fun _ S2 => X12_line_382 x1 v1 x5 S2) else bd (X12_instruction x6 S1) (fun _ S2 => X12_line_382 x1 v1 x5 S2)))
noncomputable def X12_line_201 (x1 : Int32) (x5 : Int32) (x6 : Int32) (y0 : Int32) (S : Sx) : Rs Unit :=
  bd (X12_must y0 1 (gI S 167 50) S) (fun _ S1 => bd (X12_passBlanks S1) (fun _ S2 => if x6 = 104 then X12_line_248 x1 x5 x6 8 S2 else if x6 = 103 then X12_line_248 x1 x5 x6 4 S2 else if 100 ≤ x6 then X12_line_248 x1 x5 x6 1 S2 else X12_line_248 x1 x5 x6 4 S2))
noncomputable def X12_line_137b (k137 : Int32 → Int32 → Sx → Rs Unit) (x1 : Int32) (x5 : Int32) (S : Sx) : Rs Unit :=
  bd (X12_isPause (gI S 167 49) S) (fun v1 S1 => if v1 = 0 then pt (pI S1 167 49 ((gI S1 167 49) + 1)) (fun S2 => k137 x1 x5 S2) else bd (X12_opAt (gI S1 167 50) ((gI S1 167 49) - (gI S1 167 50)) S1) (fun v2 S2 => vl v2 (fun v3 => if v3 < 0 then X12_line_201 x1 x5 v3 0 S2 else if v3 = 100 then if x1 < 0 then X12_line_201 x1 x5 v3 0 S2 else X12_line_201 x1 x5 v3 1 S2 else X12_line_201 x1 x5 v3 1 S2)))
noncomputable def X12_line_137 : Nat → Int32 → Int32 → Sx → Rs Unit
  | 0 => fun _ _ _ => none
  | n + 1 => X12_line_137b  (X12_line_137 n)
noncomputable def X12_line_106 (x1 : Int32) (S : Sx) : Rs Unit :=
  bd (X12_passBlanks S) (fun _ S1 => vl (gL S1 167 38) (fun v1 => bd (X12_byteAt (gI S1 167 49) S1) (fun v2 S2 => if v2 < 0 then X12_line_382 x1 v1 0 S2 else pt (pI S2 167 50 (gI S2 167 49)) (fun S3 => X12_line_137 FU x1 0 S3))))
noncomputable def X12_line_90 (x1 : Int32) (S : Sx) : Rs Unit :=
  bd (X12_isPause (gI S 167 49) S) (fun v1 S1 => bd (X12_must v1 1 (gI S1 167 49) S1) (fun _ S2 => X12_line_106 x1 S2))
noncomputable def X12_line_73 (x1 : Int32) (x3 : Int32) (x4 : Int32) (y0 : Int32) (S : Sx) : Rs Unit :=
  bd (X12_must y0 2 x3 S) (fun _ S1 => if 0 ≤ x1 then X12_line_90 x1 S1 else bd (X12_label x3 x4 S1) (fun v1 S2 => vl v1 (fun v2 => X12_line_90 v2 S2)))
noncomputable def X12_line_29 (x1 : Int32) (x2 : Int32) (S : Sx) : Rs Unit :=
  bd (X12_isLetter x2 S) (fun v1 S1 => if v1 = 0 then X12_line_106 x1 S1 else vl (gI S1 167 49) (fun v2 => bd (X12_word S1) (fun v3 S2 => vl v3 (fun v4 => bd (X12_known v2 v4 S2) (fun v5 S3 => vl v5 (fun v6 => if v6 < 0 then X12_line_73 v6 v2 v4 1 S3 else lI S3 186 300 v6 (fun v7 => if 0 ≤ v7 then X12_line_73 v6 v2 v4 0 S3 else X12_line_73 v6 v2 v4 1 S3)))))))
noncomputable def X12_line (S : Sx) : Rs Unit :=
  bd (X12_byteAt (gI S 167 49) S) (fun v1 S1 => vl v1 (fun v2 => if v2 < 0 then X12_line_29 ((-1)) v2 S1 else if v2 = 32 then X12_line_29 ((-1)) v2 S1 else bd (X12_isLetter v2 S1) (fun v3 S2 => if v3 = 0 then rt () S2 else X12_line_29 ((-1)) v2 S2)))
noncomputable def X12_main_2b (k2 : Int32 → Sx → Rs Int64) (x1 : Int32) (S : Sx) : Rs Int64 :=
  if (gI S 167 43) ≤ x1 then rt 0 S else lI S 184 300 x1 (fun v1 => vl v1 (fun v2 => lI S 185 300 x1 (fun v3 => if v3 = 4 then lI S 168 20000 v2 (fun v4 => if v4 = 77 then lI S 168 20000 (v2 + 1) (fun v5 => if v5 = 97 then lI S 168 20000 (v2 + 2) (fun v6 => if v6 = 105 then lI S 168 20000 (v2 + 3) (fun v7 => if v7 = 110 then lI S 186 300 x1 (fun v8 => if v8 = 0 then lL S 187 300 x1 (fun v9 => rt v9 S) else vl (x1 + 1) (fun v9 => k2 v9 S)) else vl (x1 + 1) (fun v8 => k2 v8 S)) else vl (x1 + 1) (fun v7 => k2 v7 S)) else vl (x1 + 1) (fun v6 => k2 v6 S)) else vl (x1 + 1) (fun v5 => k2 v5 S)) else vl (x1 + 1) (fun v4 => k2 v4 S))))
noncomputable def X12_main_2 : Nat → Int32 → Sx → Rs Int64
  | 0 => fun _ _ => none
  | n + 1 => X12_main_2b  (X12_main_2 n)
noncomputable def X12_main (S : Sx) : Rs Int64 :=
  X12_main_2 FU 0 S
noncomputable def X12_settle_6b (k6 : Int32 → Sx → Rs Unit) (x1 : Int32) (S : Sx) : Rs Unit :=
  if 1024 ≤ x1 then rt () S else lI S 182 1024 x1 (fun v1 => sI S 176 1024 x1 (nz v1) (fun S1 => vl (x1 + 1) (fun v2 => k6 v2 S1)))
noncomputable def X12_settle_6 : Nat → Int32 → Sx → Rs Unit
  | 0 => fun _ _ => none
  | n + 1 => X12_settle_6b  (X12_settle_6 n)
noncomputable def X12_settle (S : Sx) : Rs Unit :=
  bd (X12_freePages S) (fun _ S1 => X12_settle_6 FU 0 S1)
noncomputable def X12_start_32b (k32 : Int64 → Int32 → Sx → Rs Unit) (x1 : Int64) (x3 : Int32) (S : Sx) : Rs Unit :=
  if 5 ≤ x3 then pt (pI S 167 11 0) (fun S1 => pt (pL S1 167 12 x1) (fun S2 => pt (pI S2 167 13 0) (fun S3 => pt (pI S3 167 14 0) (fun S4 => pt (pI S4 167 16 0) (fun S5 => rt () S5))))) else sL S 172 5 x3 0 (fun S1 => vl (x3 + 1) (fun v1 => k32 x1 v1 S1))
noncomputable def X12_start_32 : Nat → Int64 → Int32 → Sx → Rs Unit
  | 0 => fun _ _ _ => none
  | n + 1 => X12_start_32b  (X12_start_32 n)
noncomputable def X12_start_11b (k11 : Int64 → Int32 → Sx → Rs Unit) (x1 : Int64) (x3 : Int32) (S : Sx) : Rs Unit :=
  if 32 ≤ x3 then X12_start_32 FU x1 0 S else sL S 171 32 x3 0 (fun S1 => vl (x3 + 1) (fun v1 => k11 x1 v1 S1))
noncomputable def X12_start_11 : Nat → Int64 → Int32 → Sx → Rs Unit
  | 0 => fun _ _ _ => none
  | n + 1 => X12_start_11b  (X12_start_11 n)
noncomputable def X12_start (a1 : Int64) (S : Sx) : Rs Unit :=
  bd (X12_settle S) (fun _ S1 => pt (pI S1 167 7 1) (fun S2 => X12_start_11 FU a1 0 S2))
noncomputable def X12_assemble_179 (S : Sx) : Rs Int32 :=
  pt (pI S 167 1 0) (fun S1 => if (gI S1 167 7) = 0 then rt ((-1)) S1 else rt 0 S1)
noncomputable def X12_assemble_162 (y0 : Nat) (S : Sx) : Rs Int32 :=
  kd S (13 + 6) y0 (pt (pI S 167 5 (gI S y0 6)) (fun S1 => kd S1 (13 + 6) y0 (pt (pI S1 167 6 (gI S1 y0 7)) (fun S2 => X12_assemble_179 S2))))
noncomputable def X12_assemble_43b (k28 : Sx → Rs Int32) (k43 : Sx → Rs Int32) (S : Sx) : Rs Int32 :=
  ct (X12_byteAt (gI S 167 49) S) (fun v1 S1 => if v1 < 0 then pt (pI S1 167 49 ((gI S1 167 49) + 1)) (fun S2 => k28 S2) else pt (pI S1 167 49 ((gI S1 167 49) + 1)) (fun S2 => k43 S2)) (fun c2 S1 => kd S1 (13 + 6) c2 (X12_assemble_162 c2 S1))
noncomputable def X12_assemble_43 (k28 : Sx → Rs Int32) : Nat → Sx → Rs Int32
  | 0 => fun _ => none
  | n + 1 => X12_assemble_43b k28 (X12_assemble_43 k28 n)
noncomputable def X12_assemble_109 (k82 : Int32 → Sx → Rs Int32) (x1 : Int32) (y0 : Int32) (S : Sx) : Rs Int32 :=
  dO S 1 (gR S 167 45) (fun c2 => lI S c2 (gN S c2) x1 (fun v1 => ct (X12_must y0 2 v1 S) (fun _ S1 => vl (x1 + 1) (fun v4 => k82 v4 S1)) (fun c3 S1 => kd S1 (13 + 6) c3 (X12_assemble_162 c3 S1))))
noncomputable def X12_assemble_127b (k127 : Int32 → Sx → Rs Int32) (x1 : Int32) (S : Sx) : Rs Int32 :=
  if 65536 ≤ x1 then ct (X12_main S) (fun v1 S1 => ct (X12_start v1 S1) (fun _ S2 => X12_assemble_179 S2) (fun c3 S2 => kd S2 (13 + 6) c3 (X12_assemble_162 c3 S2))) (fun c2 S1 => kd S1 (13 + 6) c2 (X12_assemble_162 c2 S1)) else lI S 183 65536 x1 (fun v1 => sI S 169 65536 x1 v1 (fun S1 => vl (x1 + 1) (fun v2 => k127 v2 S1)))
noncomputable def X12_assemble_127 : Nat → Int32 → Sx → Rs Int32
  | 0 => fun _ _ => none
  | n + 1 => X12_assemble_127b  (X12_assemble_127 n)
noncomputable def X12_assemble_82b (k82 : Int32 → Sx → Rs Int32) (x1 : Int32) (S : Sx) : Rs Int32 :=
  if (gI S 167 48) ≤ x1 then X12_assemble_127 FU 0 S else dO S 1 (gR S 167 44) (fun c2 => lI S c2 (gN S c2) x1 (fun v1 => lI S 186 300 v1 (fun v3 => if v3 < 0 then X12_assemble_109 k82 x1 0 S else X12_assemble_109 k82 x1 1 S)))
noncomputable def X12_assemble_82 : Nat → Int32 → Sx → Rs Int32
  | 0 => fun _ _ => none
  | n + 1 => X12_assemble_82b  (X12_assemble_82 n)
noncomputable def X12_assemble_28b (k28 : Sx → Rs Int32) (S : Sx) : Rs Int32 :=
  if (gI S 167 1) ≤ (gI S 167 49) then X12_assemble_82 FU 0 S else ct (X12_line S) (fun _ S1 => X12_assemble_43 k28 FU S1) (fun c1 S1 => kd S1 (13 + 6) c1 (X12_assemble_162 c1 S1))
noncomputable def X12_assemble_28 : Nat → Sx → Rs Int32
  | 0 => fun _ => none
  | n + 1 => X12_assemble_28b  (X12_assemble_28 n)
noncomputable def X12_assemble (S : Sx) : Rs Int32 :=
  bd (X12_begin (some 183) S) (fun _ S1 => pt (pI S1 167 43 0) (fun S2 => pt (pI S2 167 48 0) (fun S3 => pt (pI S3 167 7 0) (fun S4 => pt (pI S4 167 49 0) (fun S5 => X12_assemble_28 FU S5)))))
noncomputable def X0_load (S : Sx) : Rs Int32 :=
  bd (X0_take 0 S) (fun v1 S1 => rt v1 S1)
noncomputable def X12_eight_5b (k5 : Int32 → Int64 → Int32 → Sx → Rs Int64) (x1 : Int32) (x2 : Int64) (x4 : Int32) (S : Sx) : Rs Int64 :=
  if 8 ≤ x4 then rt x2 S else lI S 168 20000 (x1 + x4) (fun v1 => vl ((x2 <<< (((8 : Int32)).toInt64 &&& 63)) ||| v1.toInt64) (fun v2 => vl (x4 + 1) (fun v3 => k5 x1 v2 v3 S)))
noncomputable def X12_eight_5 : Nat → Int32 → Int64 → Int32 → Sx → Rs Int64
  | 0 => fun _ _ _ _ => none
  | n + 1 => X12_eight_5b  (X12_eight_5 n)
noncomputable def X12_eight (a1 : Int32) (S : Sx) : Rs Int64 :=
  X12_eight_5 FU a1 0 0 S
noncomputable def X12_records_129b (k2 : Int32 → Sx → Rs Int64) (k129 : Int32 → Int32 → Int32 → Sx → Rs Int64) (x1 : Int32) (x3 : Int32) (x4 : Int32) (S : Sx) : Rs Int64 :=
  if x3 ≤ x4 then pt (pL S 167 38 ((gL S 167 38) + x3.toInt64)) (fun S1 => vl (x1 + (2 + x3)) (fun v1 => k2 v1 S1)) else lI S 168 20000 ((x1 + 2) + x4) (fun v1 => bd (X12_put (((gL S 167 38).toInt32) + x4) 1 v1.toInt64 S) (fun _ S1 => vl (x4 + 1) (fun v2 => k129 x1 x3 v2 S1)))
noncomputable def X12_records_129 (k2 : Int32 → Sx → Rs Int64) : Nat → Int32 → Int32 → Int32 → Sx → Rs Int64
  | 0 => fun _ _ _ _ => none
  | n + 1 => X12_records_129b k2 (X12_records_129 k2 n)
noncomputable def X12_records_120 (k2 : Int32 → Sx → Rs Int64) (x1 : Int32) (x3 : Int32) (y0 : Int32) (S : Sx) : Rs Int64 :=
  bd (X12_must y0 13 x1 S) (fun _ S1 => X12_records_129 k2 FU x1 x3 0 S1)
noncomputable def X12_records_95 (k2 : Int32 → Sx → Rs Int64) (x1 : Int32) (x3 : Int32) (y0 : Int32) (S : Sx) : Rs Int64 :=
  bd (X12_must y0 11 x1 S) (fun _ S1 => if 65536 < ((gL S1 167 38) + x3.toInt64) then X12_records_120 k2 x1 x3 0 S1 else X12_records_120 k2 x1 x3 1 S1)
noncomputable def X12_records_72 (k2 : Int32 → Sx → Rs Int64) (x1 : Int32) (x3 : Int32) (y0 : Int32) (S : Sx) : Rs Int64 :=
  bd (X12_must y0 12 x1 S) (fun _ S1 => if (gI S1 167 1) < ((x1 + 2) + x3) then X12_records_95 k2 x1 x3 0 S1 else X12_records_95 k2 x1 x3 1 S1)
noncomputable def X12_records_48 (k2 : Int32 → Sx → Rs Int64) (x1 : Int32) (y0 : Int32) (S : Sx) : Rs Int64 :=
  bd (X12_must y0 11 x1 S) (fun _ S1 => lI S1 168 20000 (x1 + 1) (fun v1 => vl v1 (fun v2 => if v2 ≤ 0 then X12_records_72 k2 x1 v2 0 S1 else X12_records_72 k2 x1 v2 1 S1)))
noncomputable def X12_records_401 (x1 : Int32) (x3 : Int64) (y0 : Int32) (S : Sx) : Rs Int64 :=
  bd (X12_must y0 12 x1 S) (fun _ S1 => rt x3 S1)
noncomputable def X12_records_376 (k2 : Int32 → Sx → Rs Int64) (x1 : Int32) (x2 : Int32) (x3 : Int64) (S : Sx) : Rs Int64 :=
  vl (x1 + 9) (fun v1 => if x2 = 6 then if v1 = (gI S 167 1) then X12_records_401 v1 x3 1 S else X12_records_401 v1 x3 0 S else k2 v1 S)
noncomputable def X12_records_363 (k2 : Int32 → Sx → Rs Int64) (x1 : Int32) (x2 : Int32) (x3 : Int64) (y0 : Int32) (y1 : Int32) (S : Sx) : Rs Int64 :=
  bd (X12_goesTo y1 y0 (gL S 167 38) S) (fun v1 S1 => bd (X12_must v1 14 x1 S1) (fun _ S2 => X12_records_376 k2 x1 x2 x3 S2))
noncomputable def X12_records_303 (k2 : Int32 → Sx → Rs Int64) (x1 : Int32) (x2 : Int32) (x3 : Int64) (y0 : Int32) (S : Sx) : Rs Int64 :=
  bd (X12_must y0 13 x1 S) (fun _ S1 => if x2 = 1 then pt (pL S1 167 38 x3) (fun S2 => X12_records_376 k2 x1 x2 x3 S2) else if x2 = 3 then bd (X12_put x3.toInt32 8 (gL S1 167 38) S1) (fun _ S2 => X12_records_376 k2 x1 x2 x3 S2) else if 6 ≤ x2 then X12_records_376 k2 x1 x2 x3 S1 else if x2 = 4 then X12_records_363 k2 x1 x2 x3 16 x3.toInt32 S1 else X12_records_363 k2 x1 x2 x3 24 x3.toInt32 S1)
noncomputable def X12_records_292 (k2 : Int32 → Sx → Rs Int64) (x1 : Int32) (x2 : Int32) (x3 : Int64) (y0 : Int64) (y1 : Int64) (S : Sx) : Rs Int64 :=
  if y0 = 0 then none else if (y1 - y1 / y0 * y0) = 0 then X12_records_303 k2 x1 x2 x3 1 S else X12_records_303 k2 x1 x2 x3 0 S
noncomputable def X12_records_260 (k2 : Int32 → Sx → Rs Int64) (x1 : Int32) (x2 : Int32) (x3 : Int64) (y0 : Int64) (y1 : Int64) (y2 : Int64) (S : Sx) : Rs Int64 :=
  bd (X12_isIn y2 y1 y0 S) (fun v1 S1 => if v1 = 0 then X12_records_303 k2 x1 x2 x3 0 S1 else if x2 = 1 then X12_records_303 k2 x1 x2 x3 1 S1 else if x2 = 6 then X12_records_303 k2 x1 x2 x3 1 S1 else if x2 = 3 then X12_records_292 k2 x1 x2 x3 8 x3 S1 else X12_records_292 k2 x1 x2 x3 4 x3 S1)
noncomputable def X12_records_224 (k2 : Int32 → Sx → Rs Int64) (x1 : Int32) (x2 : Int32) (y0 : Int32) (S : Sx) : Rs Int64 :=
  bd (X12_must y0 11 x1 S) (fun _ S1 => bd (X12_eight (x1 + 1) S1) (fun v1 S2 => vl v1 (fun v2 => if x2 = 1 then X12_records_260 k2 x1 x2 v2 65536 0 v2 S2 else if x2 = 6 then X12_records_260 k2 x1 x2 v2 65536 0 v2 S2 else X12_records_260 k2 x1 x2 v2 65535 0 v2 S2)))
noncomputable def X12_records_202 (k2 : Int32 → Sx → Rs Int64) (x1 : Int32) (x2 : Int32) (y0 : Int32) (S : Sx) : Rs Int64 :=
  bd (X12_must y0 12 x1 S) (fun _ S1 => if (gI S1 167 1) < (x1 + 9) then X12_records_224 k2 x1 x2 0 S1 else X12_records_224 k2 x1 x2 1 S1)
noncomputable def X12_records_15 (k2 : Int32 → Sx → Rs Int64) (x1 : Int32) (y0 : Int32) (S : Sx) : Rs Int64 :=
  bd (X12_must y0 11 x1 S) (fun _ S1 => lI S1 168 20000 x1 (fun v1 => vl v1 (fun v2 => if v2 = 2 then if (gI S1 167 1) ≤ (x1 + 1) then X12_records_48 k2 x1 0 S1 else X12_records_48 k2 x1 1 S1 else if v2 < 1 then X12_records_202 k2 x1 v2 0 S1 else if 6 < v2 then X12_records_202 k2 x1 v2 0 S1 else X12_records_202 k2 x1 v2 1 S1)))
noncomputable def X12_records_2b (k2 : Int32 → Sx → Rs Int64) (x1 : Int32) (S : Sx) : Rs Int64 :=
  if (gI S 167 1) ≤ x1 then X12_records_15 k2 x1 0 S else X12_records_15 k2 x1 1 S
noncomputable def X12_records_2 : Nat → Int32 → Sx → Rs Int64
  | 0 => fun _ _ => none
  | n + 1 => X12_records_2b  (X12_records_2 n)
noncomputable def X12_records (S : Sx) : Rs Int64 :=
  X12_records_2 FU 0 S
noncomputable def X12_load_45 (S : Sx) : Rs Int32 :=
  pt (pI S 167 1 0) (fun S1 => if (gI S1 167 7) = 0 then rt ((-1)) S1 else rt 0 S1)
noncomputable def X12_load_24 (y0 : Nat) (S : Sx) : Rs Int32 :=
  kd S (13 + 6) y0 (pt (pI S 167 5 (gI S y0 6)) (fun S1 => kd S1 (13 + 6) y0 (pt (pI S1 167 6 (gI S1 y0 7)) (fun S2 => bd (X12_settle S2) (fun _ S3 => X12_load_45 S3)))))
noncomputable def X12_load (S : Sx) : Rs Int32 :=
  bd (X12_begin (some 169) S) (fun _ S1 => pt (pI S1 167 7 0) (fun S2 => ct (X12_records S2) (fun v1 S3 => ct (X12_start v1 S3) (fun _ S4 => X12_load_45 S4) (fun c3 S4 => kd S4 (13 + 6) c3 (X12_load_24 c3 S4))) (fun c2 S3 => kd S3 (13 + 6) c2 (X12_load_24 c2 S3))))
noncomputable def X0_fault (a1 : Int32) (S : Sx) : Rs Int32 :=
  if a1 = 0 then rt (gI S 0 7) S else if a1 = 1 then rt (gI S 0 8) S else rt 0 S
noncomputable def X12_fault (a1 : Int32) (S : Sx) : Rs Int32 :=
  if a1 = 0 then rt (gI S 167 5) S else if a1 = 1 then rt (gI S 167 6) S else rt 0 S
noncomputable def X5_left (S : Sx) : Rs Int32 :=
  rt ((gI S 146 1) - (gI S 138 11)) S
noncomputable def X0_input_25b (k25 : Int32 → Sx → Rs Int32) (x1 : Int32) (S : Sx) : Rs Int32 :=
  if (gI S 165 1) ≤ x1 then pt (pI S 165 1 0) (fun S1 => bd (X5_left S1) (fun v1 S2 => rt v1 S2)) else bd (X8_at 165 x1 S) (fun v1 S1 => bd (X8_add 146 v1 S1) (fun v2 S2 => vl (x1 + 1) (fun v3 => k25 v3 S2)))
noncomputable def X0_input_25 : Nat → Int32 → Sx → Rs Int32
  | 0 => fun _ _ => none
  | n + 1 => X0_input_25b  (X0_input_25 n)
noncomputable def X0_input (S : Sx) : Rs Int32 :=
  bd (X5_left S) (fun v1 S1 => if (v1 + (gI S1 165 1)) ≤ 4000 then X0_input_25 FU 0 S1 else rt ((-1)) S1)
noncomputable def X12_input_19b (k19 : Int32 → Sx → Rs Int32) (x1 : Int32) (S : Sx) : Rs Int32 :=
  if (gI S 167 1) ≤ x1 then pt (pI S 167 4 ((gI S 167 4) + (gI S 167 1))) (fun S1 => pt (pI S1 167 1 0) (fun S2 => rt (gI S2 167 4) S2)) else lI S 168 20000 x1 (fun v1 => sI S 170 4000 ((gI S 167 4) + x1) v1 (fun S1 => vl (x1 + 1) (fun v2 => k19 v2 S1)))
noncomputable def X12_input_19 : Nat → Int32 → Sx → Rs Int32
  | 0 => fun _ _ => none
  | n + 1 => X12_input_19b  (X12_input_19 n)
noncomputable def X12_input (S : Sx) : Rs Int32 :=
  if ((gI S 167 4) + (gI S 167 1)) ≤ 4000 then X12_input_19 FU 0 S else rt ((-1)) S
noncomputable def X5_want (a1 : Int32) (a2 : Int32) (S : Sx) : Rs Unit :=
  if a1 = 0 then bd (X1_of a2 0 S) (fun v1 S1 => dO S1 7 v1 (fun c2 => th c2 S1)) else rt () S
noncomputable def X2_get_15b (k15 : Int32 → Int32 → Option Nat → Int64 → Int32 → Sx → Rs Int64) (x1 : Int32) (x2 : Int32) (x3 : Option Nat) (x4 : Int64) (x6 : Int32) (S : Sx) : Rs Int64 :=
  if x2 ≤ x6 then rt x4 S else dO S (4 + 6) x3 (fun c1 => dO S 3 (gR S c1 0) (fun c3 => lI S c3 (gN S c3) ((x1 - x1 / 64 * 64) + x6) (fun v2 => vl ((x4 <<< (((8 : Int32)).toInt64 &&& 63)) ||| (v2.toInt64 &&& 255)) (fun v4 => vl (x6 + 1) (fun v5 => k15 x1 x2 x3 v4 v5 S)))))
noncomputable def X2_get_15 : Nat → Int32 → Int32 → Option Nat → Int64 → Int32 → Sx → Rs Int64
  | 0 => fun _ _ _ _ _ _ => none
  | n + 1 => X2_get_15b  (X2_get_15 n)
noncomputable def X2_get (a1 : Int32) (a2 : Int32) (S : Sx) : Rs Int64 :=
  bd (X2_touch (a1 / 64) S) (fun v1 S1 => vl v1 (fun v2 => X2_get_15 FU a1 a2 v2 0 0 S1))
noncomputable def X5_isThree (a1 : Int32) (S : Sx) : Rs Int32 :=
  if a1 < 2 then rt 0 S else if 53 < a1 then rt 0 S else if a1 = 34 then rt 0 S else if a1 = 35 then rt 0 S else rt 1 S
noncomputable def X5_isOp (a1 : Int32) (S : Sx) : Rs Int32 :=
  if a1 = 0 then rt 1 S else bd (X5_isThree a1 S) (fun v1 S1 => if v1 = 0 then if a1 < 60 then rt 0 S1 else if 80 < a1 then rt 0 S1 else rt 1 S1 else rt 1 S1)
noncomputable def X5_hasX_19 (x0 : Int32) (S : Sx) : Rs Int32 :=
  if x0 < 69 then rt 0 S else if 78 < x0 then rt 0 S else rt 1 S
noncomputable def X5_hasX (a1 : Int32) (S : Sx) : Rs Int32 :=
  bd (X5_isThree a1 S) (fun v1 S1 => if v1 = 0 then if a1 < 60 then X5_hasX_19 a1 S1 else if a1 ≤ 65 then rt 1 S1 else X5_hasX_19 a1 S1 else rt 1 S1)
noncomputable def X5_isStore (a1 : Int32) (S : Sx) : Rs Int32 :=
  if a1 < 44 then rt 0 S else if 49 < a1 then rt 0 S else rt 1 S
noncomputable def X5_writesX_14 (x0 : Int32) (S : Sx) : Rs Int32 :=
  if x0 < 69 then rt 0 S else if 78 < x0 then rt 0 S else rt 1 S
noncomputable def X5_writesX (a1 : Int32) (S : Sx) : Rs Int32 :=
  bd (X5_isThree a1 S) (fun v1 S1 => if v1 = 0 then X5_writesX_14 a1 S1 else bd (X5_isStore a1 S1) (fun v2 S2 => if v2 = 0 then rt 1 S2 else X5_writesX_14 a1 S2))
noncomputable def X6_isTooMany (a1 : Int32) (S : Sx) : Rs Int32 :=
  if ((gI S 139 3) + a1) ≤ 600 then rt 0 S else rt 1 S
noncomputable def X5_hasY (a1 : Int32) (S : Sx) : Rs Int32 :=
  bd (X5_isThree a1 S) (fun v1 S1 => if v1 = 0 then rt 0 S1 else if a1 = 32 then rt 0 S1 else if a1 = 33 then rt 0 S1 else rt 1 S1)
noncomputable def X5_hasZ_13 (x0 : Int32) (S : Sx) : Rs Int32 :=
  if x0 = 79 then rt 1 S else rt 0 S
noncomputable def X5_hasZ (a1 : Int32) (S : Sx) : Rs Int32 :=
  bd (X5_isThree a1 S) (fun v1 S1 => if v1 = 0 then X5_hasZ_13 a1 S1 else if (a1 - a1 / 2 * 2) = 0 then rt 1 S1 else X5_hasZ_13 a1 S1)
noncomputable def X5_look_250 (y0 : Int32) (S : Sx) : Rs Unit :=
  bd (X5_want y0 8 S) (fun _ S1 => rt () S1)
noncomputable def X5_look_228 (x1 : Int32) (S : Sx) : Rs Unit :=
  if x1 = 68 then if (gI S 139 3) ≤ 0 then X5_look_250 0 S else X5_look_250 1 S else X5_look_250 1 S
noncomputable def X5_look_224 (x1 : Int32) (y0 : Int32) (S : Sx) : Rs Unit :=
  bd (X5_want y0 5 S) (fun _ S1 => X5_look_228 x1 S1)
noncomputable def X5_look_192 (x1 : Int32) (y0 : Int32) (S : Sx) : Rs Unit :=
  vl y0 (fun v1 => if v1 ≤ (gI S 139 5) then X5_look_224 x1 1 S else bd (X6_isTooMany v1 S) (fun v2 S1 => if v2 = 0 then X5_look_224 x1 1 S1 else X5_look_224 x1 0 S1))
noncomputable def X5_look_161 (x1 : Int32) (x2 : Int32) (y0 : Int32) (S : Sx) : Rs Unit :=
  bd (X5_want y0 5 S) (fun _ S1 => if x1 = 67 then if x2 < 16 then X5_look_192 x1 (x2 + 1) S1 else X5_look_192 x1 ((gI S1 139 5) + 1) S1 else X5_look_228 x1 S1)
noncomputable def X5_look_135 (x1 : Int32) (x2 : Int32) (y0 : Int32) (S : Sx) : Rs Unit :=
  vl y0 (fun v1 => if v1 = 0 then X5_look_161 x1 x2 1 S else bd (X6_isTooMany (x2 + 1) S) (fun v2 S1 => if v2 = 0 then X5_look_161 x1 x2 1 S1 else X5_look_161 x1 x2 0 S1))
noncomputable def X5_look_102 (x1 : Int32) (x2 : Int32) (y0 : Int32) (S : Sx) : Rs Unit :=
  bd (X5_want y0 3 S) (fun _ S1 => bd (X5_writesX x1 S1) (fun v1 S2 => if v1 = 0 then X5_look_135 x1 x2 0 S2 else if 16 ≤ x2 then X5_look_135 x1 x2 0 S2 else if x2 < (gI S2 139 5) then X5_look_135 x1 x2 0 S2 else X5_look_135 x1 x2 1 S2))
noncomputable def X5_look_81 (x1 : Int32) (x2 : Int32) (y0 : Int32) (S : Sx) : Rs Unit :=
  bd (X5_want y0 3 S) (fun _ S1 => if x1 = 79 then if 4 < x2 then X5_look_102 x1 x2 0 S1 else X5_look_102 x1 x2 1 S1 else X5_look_102 x1 x2 1 S1)
noncomputable def X5_look_59 (x1 : Int32) (x2 : Int32) (x4 : Int32) (y0 : Int32) (S : Sx) : Rs Unit :=
  bd (X5_want y0 3 S) (fun _ S1 => if x1 = 78 then if 4 < x4 then X5_look_81 x1 x2 0 S1 else X5_look_81 x1 x2 1 S1 else X5_look_81 x1 x2 1 S1)
noncomputable def X5_look_40 (x1 : Int32) (x2 : Int32) (x4 : Int32) (x5 : Int32) (S : Sx) : Rs Unit :=
  bd (X5_hasZ x1 S) (fun v1 S1 => if v1 = 0 then X5_look_59 x1 x2 x4 1 S1 else if x5 < x4 then X5_look_59 x1 x2 x4 0 S1 else X5_look_59 x1 x2 x4 1 S1)
noncomputable def X5_look_27 (x1 : Int32) (x2 : Int32) (x3 : Int32) (x4 : Int32) (x5 : Int32) (S : Sx) : Rs Unit :=
  bd (X5_hasY x1 S) (fun v1 S1 => if v1 = 0 then X5_look_40 x1 x2 x4 x5 S1 else if x5 < x3 then X5_look_59 x1 x2 x4 0 S1 else X5_look_40 x1 x2 x4 x5 S1)
noncomputable def X5_look (a1 : Int32) (a2 : Int32) (a3 : Int32) (a4 : Int32) (S : Sx) : Rs Unit :=
  bd (X5_isOp a1 S) (fun v1 S1 => bd (X5_want v1 3 S1) (fun _ S2 => bd (X5_hasX a1 S2) (fun v2 S3 => if v2 = 0 then X5_look_27 a1 a2 a3 a4 31 S3 else if 31 < a2 then X5_look_59 a1 a2 a4 0 S3 else X5_look_27 a1 a2 a3 a4 31 S3)))
noncomputable def X6_get (a1 : Int32) (S : Sx) : Rs Int64 :=
  if a1 < 16 then if (gI S 139 5) ≤ a1 then rt 0 S else lL S 140 40 (((gI S 139 3) + a1) - ((gI S 139 3) + a1) / 40 * 40) (fun v1 => rt v1 S) else lL S 142 32 a1 (fun v1 => rt v1 S)
noncomputable def X5_right (a1 : Int32) (a2 : Int32) (S : Sx) : Rs Int64 :=
  if (a1 - a1 / 2 * 2) = 0 then bd (X6_get a2 S) (fun v1 S1 => rt v1 S1) else rt a2.toInt64 S
noncomputable def X5_bytesOf (a1 : Int32) (S : Sx) : Rs Int32 :=
  if (a1 &&& ((-2))) = 40 then rt 4 S else if (a1 &&& ((-2))) = 42 then rt 8 S else if (a1 &&& ((-2))) = 46 then rt 4 S else if (a1 &&& ((-2))) = 48 then rt 8 S else rt 1 S
noncomputable def X6_push_50 (x1 : Int64) (S : Sx) : Rs Unit :=
  sL S 140 40 (((gI S 139 3) + (gI S 139 5)) - ((gI S 139 3) + (gI S 139 5)) / 40 * 40) x1 (fun S1 => pt (pI S1 139 5 ((gI S1 139 5) + 1)) (fun S2 => rt () S2))
noncomputable def X6_push (a1 : Int64) (S : Sx) : Rs Unit :=
  if (((gI S 139 3) + (gI S 139 5)) - (gI S 139 4)) = 40 then lL S 140 40 ((gI S 139 4) - (gI S 139 4) / 40 * 40) (fun v1 => sL S 141 632 (gI S 139 4) v1 (fun S1 => pt (pI S1 139 4 ((gI S1 139 4) + 1)) (fun S2 => X6_push_50 a1 S2))) else X6_push_50 a1 S
noncomputable def X6_extend_0b (k0 : Int32 → Sx → Rs Unit) (x1 : Int32) (S : Sx) : Rs Unit :=
  if x1 ≤ (gI S 139 5) then rt () S else bd (X6_push 0 S) (fun _ S1 => k0 x1 S1)
noncomputable def X6_extend_0 : Nat → Int32 → Sx → Rs Unit
  | 0 => fun _ _ => none
  | n + 1 => X6_extend_0b  (X6_extend_0 n)
noncomputable def X6_extend (a1 : Int32) (S : Sx) : Rs Unit :=
  X6_extend_0 FU a1 S
noncomputable def X6_set (a1 : Int32) (a2 : Int64) (S : Sx) : Rs Unit :=
  if a1 < 16 then bd (X6_extend (a1 + 1) S) (fun _ S1 => sL S1 140 40 (((gI S1 139 3) + a1) - ((gI S1 139 3) + a1) / 40 * 40) a2 (fun S2 => rt () S2)) else sL S 142 32 a1 a2 (fun S1 => rt () S1)
noncomputable def X5_access_105 (y0 : Int64) (y1 : Int32) (S : Sx) : Rs Unit :=
  bd (X6_set y1 y0 S) (fun _ S1 => rt () S1)
noncomputable def X5_access (a1 : Int32) (a2 : Int32) (a3 : Int64) (S : Sx) : Rs Unit :=
  bd (X0_isAddress a3 S) (fun v1 S1 => bd (X5_want v1 4 S1) (fun _ S2 => bd (X5_bytesOf a1 S2) (fun v2 S3 => vl v2 (fun v3 => vl (a3.toInt32 &&& (-v3)) (fun v4 => bd (X5_isStore a1 S3) (fun v5 S4 => if v5 = 0 then bd (X2_get v4 v3 S4) (fun v6 S5 => vl v6 (fun v7 => vl (a1 &&& ((-2))) (fun v8 => if v8 = 36 then X5_access_105 v7.toInt32.toInt8.toInt32.toInt64 a2 S5 else if v8 = 40 then X5_access_105 v7.toInt32.toInt64 a2 S5 else X5_access_105 v7 a2 S5))) else bd (X6_get a2 S4) (fun v6 S5 => bd (X2_set v4 v3 v6 S5) (fun _ S6 => rt () S6))))))))
noncomputable def X5_moved_19 (x0 : Int32) (x1 : Int64) (x3 : Int64) (y0 : Int32) (S : Sx) : Rs Int64 :=
  vl y0 (fun v1 => if x0 = 26 then if v1 = 0 then rt (x1 <<< (x3.toInt32.toInt64 &&& 63)) S else rt 0 S else if x0 = 30 then if v1 = 0 then rt ((x1.toUInt64 >>> (x3.toInt32.toInt64.toUInt64 &&& Int64.toUInt64 63)).toInt64) S else rt 0 S else if v1 = 0 then rt (x1 >>> (x3.toInt32.toInt64 &&& 63)) S else rt (x1 >>> (((63 : Int32)).toInt64 &&& 63)) S)
noncomputable def X5_moved (a1 : Int32) (a2 : Int64) (a3 : Int64) (S : Sx) : Rs Int64 :=
  if a3 < 0 then X5_moved_19 a1 a2 a3 1 S else if a3 ≤ 63 then X5_moved_19 a1 a2 a3 0 S else X5_moved_19 a1 a2 a3 1 S
noncomputable def X7_isBelow (a1 : Int64) (a2 : Int64) (S : Sx) : Rs Int32 :=
  if (a2 + ((-9223372036854775808))) ≤ (a1 + ((-9223372036854775808))) then rt 0 S else rt 1 S
noncomputable def X7_divide_63 (k9 : Int64 → Int64 → Int64 → Int32 → Sx → Rs Unit) (x5 : Int64) (x7 : Int64) (x9 : Int64) (x11 : Int32) (S : Sx) : Rs Unit :=
  vl (x7 - x5) (fun v1 => vl (x9 ||| 1) (fun v2 => vl (x11 + 1) (fun v3 => k9 x5 v1 v2 v3 S)))
noncomputable def X7_divide_28 (k9 : Int64 → Int64 → Int64 → Int32 → Sx → Rs Unit) (x5 : Int64) (x7 : Int64) (x9 : Int64) (x11 : Int32) (y0 : Int32) (S : Sx) : Rs Unit :=
  vl y0 (fun v1 => vl ((x7 <<< (((1 : Int32)).toInt64 &&& 63)) ||| ((x9.toUInt64 >>> (((63 : Int32)).toInt64.toUInt64 &&& Int64.toUInt64 63)).toInt64)) (fun v2 => vl (x9 <<< (((1 : Int32)).toInt64 &&& 63)) (fun v3 => if v1 = 0 then bd (X7_isBelow v2 x5 S) (fun v4 S1 => if v4 = 0 then X7_divide_63 k9 x5 v2 v3 x11 S1 else vl (x11 + 1) (fun v5 => k9 x5 v2 v3 v5 S1)) else X7_divide_63 k9 x5 v2 v3 x11 S)))
noncomputable def X7_divide_9b (k9 : Int64 → Int64 → Int64 → Int32 → Sx → Rs Unit) (x5 : Int64) (x7 : Int64) (x9 : Int64) (x11 : Int32) (S : Sx) : Rs Unit :=
  if 64 ≤ x11 then pt (pL S 143 0 x7) (fun S1 => pt (pL S1 143 1 x9) (fun S2 => rt () S2)) else if 0 ≤ x7 then X7_divide_28 k9 x5 x7 x9 x11 0 S else X7_divide_28 k9 x5 x7 x9 x11 1 S
noncomputable def X7_divide_9 : Nat → Int64 → Int64 → Int64 → Int32 → Sx → Rs Unit
  | 0 => fun _ _ _ _ _ => none
  | n + 1 => X7_divide_9b  (X7_divide_9 n)
noncomputable def X7_divide (a1 : Int64) (a2 : Int64) (a3 : Int64) (S : Sx) : Rs Unit :=
  vl a1 (fun v1 => vl a2 (fun v2 => X7_divide_9 FU a3 v1 v2 0 S))
noncomputable def X5_divided (a1 : Int64) (a2 : Int64) (S : Sx) : Rs Int64 :=
  lL S 144 4 0 (fun v1 => bd (X7_isBelow v1 a2 S) (fun v2 S1 => if v2 = 0 then sL S1 144 4 2 a1 (fun S2 => lL S2 144 4 0 (fun v3 => rt v3 S2)) else lL S1 144 4 0 (fun v3 => bd (X7_divide v3 a1 a2 S1) (fun _ S2 => sL S2 144 4 2 (gL S2 143 0) (fun S3 => rt (gL S3 143 1) S3)))))
noncomputable def X7_multiply (a1 : Int64) (a2 : Int64) (S : Sx) : Rs Unit :=
  vl (a1 &&& 4294967295) (fun v1 => vl ((a1.toUInt64 >>> (((32 : Int32)).toInt64.toUInt64 &&& Int64.toUInt64 63)).toInt64) (fun v2 => vl (a2 &&& 4294967295) (fun v3 => vl ((a2.toUInt64 >>> (((32 : Int32)).toInt64.toUInt64 &&& Int64.toUInt64 63)).toInt64) (fun v4 => vl (v1 * v3) (fun v5 => vl ((v2 * v3) + ((v5.toUInt64 >>> (((32 : Int32)).toInt64.toUInt64 &&& Int64.toUInt64 63)).toInt64)) (fun v6 => vl ((v1 * v4) + (v6 &&& 4294967295)) (fun v7 => pt (pL S 143 1 ((v7 <<< (((32 : Int32)).toInt64 &&& 63)) ||| (v5 &&& 4294967295))) (fun S1 => pt (pL S1 143 0 (((v2 * v4) + ((v6.toUInt64 >>> (((32 : Int32)).toInt64.toUInt64 &&& Int64.toUInt64 63)).toInt64)) + ((v7.toUInt64 >>> (((32 : Int32)).toInt64.toUInt64 &&& Int64.toUInt64 63)).toInt64))) (fun S2 => rt () S2)))))))))
noncomputable def X5_compare (a1 : Int32) (a2 : Int32) (S : Sx) : Rs Int32 :=
  if a1 = 0 then if a2 = 0 then rt 1 S else rt 0 S else rt ((-1)) S
noncomputable def J7_floorDiv (a1 : Int64) (a2 : Int64) (S : Sx) : Rs Int64 :=
  if a2 = 0 then none else vl (a1 / a2) (fun v1 => if 0 ≤ (a1 ^^^ a2) then rt v1 S else if (v1 * a2) = a1 then rt v1 S else rt (v1 - 1) S)
noncomputable def J7_floorMod (a1 : Int64) (a2 : Int64) (S : Sx) : Rs Int64 :=
  if a2 = 0 then none else vl (a1 - a1 / a2 * a2) (fun v1 => if 0 ≤ (a1 ^^^ a2) then rt v1 S else if v1 = 0 then rt v1 S else rt (v1 + a2) S)
noncomputable def X5_reckon_243 (x2 : Int64) (x4 : Int64) (y0 : Int64) (y1 : Int32) (S : Sx) : Rs Int64 :=
  sL S 144 4 y1 y0 (fun S1 => if x4 = 0 then rt 0 S1 else bd (J7_floorDiv x2 x4 S1) (fun v1 S2 => rt v1 S2))
noncomputable def X5_reckon_262 (x2 : Int64) (x4 : Int64) (S : Sx) : Rs Int64 :=
  rt (x2 + x4) S
noncomputable def X5_reckon_267 (x2 : Int64) (x4 : Int64) (S : Sx) : Rs Int64 :=
  rt (x2 - x4) S
noncomputable def X5_reckon_296 (y0 : Int32) (y1 : Int32) (S : Sx) : Rs Int64 :=
  bd (X5_compare y1 y0 S) (fun v1 S1 => rt v1.toInt64 S1)
noncomputable def X5_reckon_284 (x2 : Int64) (x4 : Int64) (y0 : Int32) (S : Sx) : Rs Int64 :=
  if x2 = x4 then X5_reckon_296 1 y0 S else X5_reckon_296 0 y0 S
noncomputable def X5_reckon_319 (y0 : Int32) (y1 : Int32) (S : Sx) : Rs Int64 :=
  bd (X5_compare y1 y0 S) (fun v1 S1 => rt v1.toInt64 S1)
noncomputable def X5_reckon (a1 : Int32) (a2 : Int64) (a3 : Int64) (S : Sx) : Rs Int64 :=
  if (a1 &&& ((-2))) = 2 then rt (a2 * a3) S else if (a1 &&& ((-2))) = 4 then if a3 = 0 then X5_reckon_243 a2 a3 a2 2 S else bd (J7_floorMod a2 a3 S) (fun v1 S1 => X5_reckon_243 a2 a3 v1 2 S1) else if (a1 &&& ((-2))) = 6 then X5_reckon_262 a2 a3 S else if (a1 &&& ((-2))) = 8 then X5_reckon_267 a2 a3 S else if (a1 &&& ((-2))) = 10 then if a3 ≤ a2 then X5_reckon_284 a2 a3 0 S else X5_reckon_284 a2 a3 1 S else if (a1 &&& ((-2))) = 12 then bd (X7_isBelow a2 a3 S) (fun v1 S1 => if a2 = a3 then X5_reckon_319 1 v1 S1 else X5_reckon_319 0 v1 S1) else if (a1 &&& ((-2))) = 14 then bd (X7_multiply a2 a3 S) (fun _ S2 => sL S2 144 4 1 (gL S2 143 0) (fun S3 => rt (gL S3 143 1) S3)) else if (a1 &&& ((-2))) = 16 then bd (X5_divided a2 a3 S) (fun v2 S4 => rt v2 S4) else if (a1 &&& ((-2))) = 18 then rt (a2 &&& a3) S else if (a1 &&& ((-2))) = 20 then rt (a2 ||| a3) S else if (a1 &&& ((-2))) = 22 then rt (a2 ^^^ a3) S else if (a1 &&& ((-2))) = 24 then rt (a2 &&& (a3 ^^^ ((-1)))) S else if (a1 &&& ((-2))) = 32 then X5_reckon_267 a2 a3 S else if (a1 &&& ((-2))) = 50 then X5_reckon_262 a2 a3 S else bd (X5_moved (a1 &&& ((-2))) a2 a3 S) (fun v3 S5 => rt v3 S5)
noncomputable def X5_putString_82 (k12 : Int64 → Int32 → Sx → Rs Unit) (x1 : Int64) (x3 : Int32) (S : Sx) : Rs Unit :=
  vl (x1 + 1) (fun v1 => k12 v1 x3 S)
noncomputable def X5_putString_57 (k12 : Int64 → Int32 → Sx → Rs Unit) (x1 : Int64) (x3 : Int32) (y0 : Int32) (S : Sx) : Rs Unit :=
  bd (X5_want y0 7 S) (fun _ S1 => sI S1 145 1000 (gI S1 138 9) x3 (fun S2 => pt (pI S2 138 9 ((gI S2 138 9) + 1)) (fun S3 => X5_putString_82 k12 x1 x3 S3)))
noncomputable def X5_putString_12b (k12 : Int64 → Int32 → Sx → Rs Unit) (x1 : Int64) (x3 : Int32) (S : Sx) : Rs Unit :=
  if x3 = 0 then rt () S else bd (X0_isAddress x1 S) (fun v1 S1 => bd (X5_want v1 4 S1) (fun _ S2 => bd (X2_get x1.toInt32 1 S2) (fun v2 S3 => vl v2.toInt32 (fun v3 => if v3 = 0 then X5_putString_82 k12 x1 v3 S3 else if 1000 ≤ (gI S3 138 9) then X5_putString_57 k12 x1 v3 0 S3 else X5_putString_57 k12 x1 v3 1 S3))))
noncomputable def X5_putString_12 : Nat → Int64 → Int32 → Sx → Rs Unit
  | 0 => fun _ _ _ => none
  | n + 1 => X5_putString_12b  (X5_putString_12 n)
noncomputable def X5_putString (S : Sx) : Rs Unit :=
  bd (X6_get 31 S) (fun v1 S1 => vl v1 (fun v2 => X5_putString_12 FU v2 1 S1))
noncomputable def X5_takeLine_33 (S : Sx) : Rs Unit :=
  bd (X6_set 31 ((-1)) S) (fun _ S1 => rt () S1)
noncomputable def X5_takeLine_147 (x1 : Int64) (x5 : Int64) (S : Sx) : Rs Unit :=
  bd (X0_isAddress (x1 + x5) S) (fun v1 S1 => bd (X5_want v1 4 S1) (fun _ S2 => bd (X2_set ((x1 + x5).toInt32) 1 0 S2) (fun _ S3 => bd (X6_set 31 x5 S3) (fun _ S4 => rt () S4))))
noncomputable def X5_takeLine_52b (k52 : Int64 → Int64 → Int64 → Int32 → Sx → Rs Unit) (x1 : Int64) (x3 : Int64) (x5 : Int64) (x7 : Int32) (S : Sx) : Rs Unit :=
  if x7 = 0 then X5_takeLine_147 x1 x5 S else if (x3 - 1) ≤ x5 then X5_takeLine_147 x1 x5 S else bd (X5_left S) (fun v1 S1 => if v1 ≤ 0 then X5_takeLine_147 x1 x5 S1 else bd (X0_isAddress (x1 + x5) S1) (fun v2 S2 => bd (X5_want v2 4 S2) (fun _ S3 => bd (X8_at 146 (gI S3 138 11) S3) (fun v3 S4 => vl v3 (fun v4 => pt (pI S4 138 11 ((gI S4 138 11) + 1)) (fun S5 => bd (X2_set ((x1 + x5).toInt32) 1 v4.toInt64 S5) (fun _ S6 => vl (x5 + 1) (fun v5 => if v4 = 10 then k52 x1 x3 v5 0 S6 else k52 x1 x3 v5 1 S6))))))))
noncomputable def X5_takeLine_52 : Nat → Int64 → Int64 → Int64 → Int32 → Sx → Rs Unit
  | 0 => fun _ _ _ _ _ => none
  | n + 1 => X5_takeLine_52b  (X5_takeLine_52 n)
noncomputable def X5_takeLine (S : Sx) : Rs Unit :=
  bd (X6_get 31 S) (fun v1 S1 => vl v1 (fun v2 => bd (X6_get 30 S1) (fun v3 S2 => vl v3 (fun v4 => bd (X5_left S2) (fun v5 S3 => if v5 = 0 then X5_takeLine_33 S3 else if 1 ≤ v4 then X5_takeLine_52 FU v2 v4 0 1 S3 else X5_takeLine_33 S3)))))
noncomputable def X5_trap_11 (x1 : Int32) (y0 : Int32) (S : Sx) : Rs Unit :=
  bd (X5_want y0 6 S) (fun _ S1 => if x1 = 0 then pt (pI S1 138 7 1) (fun S2 => rt () S2) else if x1 = 1 then bd (X5_putString S1) (fun _ S2 => rt () S2) else bd (X5_takeLine S1) (fun _ S2 => rt () S2))
noncomputable def X5_trap (a1 : Int32) (S : Sx) : Rs Unit :=
  if 2 < a1 then X5_trap_11 a1 0 S else X5_trap_11 a1 1 S
noncomputable def X5_isTaken (a1 : Int32) (a2 : Int64) (S : Sx) : Rs Int32 :=
  if (a1 - 60) = 0 then if 0 ≤ a2 then rt 0 S else rt 1 S else if (a1 - 60) = 1 then if a2 = 0 then rt 1 S else rt 0 S else if (a1 - 60) = 2 then if a2 ≤ 0 then rt 0 S else rt 1 S else if (a1 - 60) = 3 then if a2 < 0 then rt 0 S else rt 1 S else if (a1 - 60) = 4 then if a2 = 0 then rt 0 S else rt 1 S else if 0 < a2 then rt 0 S else rt 1 S
noncomputable def X6_down_14 (y0 : Int32) (S : Sx) : Rs Unit :=
  vl y0 (fun v1 => bd (X6_extend (v1 + 1) S) (fun _ S1 => sL S1 140 40 (((gI S1 139 3) + v1) - ((gI S1 139 3) + v1) / 40 * 40) v1.toInt64 (fun S2 => pt (pI S2 139 3 ((gI S2 139 3) + (v1 + 1))) (fun S3 => pt (pI S3 139 5 ((gI S3 139 5) - (v1 + 1))) (fun S4 => rt () S4)))))
noncomputable def X6_down (a1 : Int32) (S : Sx) : Rs Unit :=
  if a1 < 16 then X6_down_14 a1 S else X6_down_14 (gI S 139 5) S
noncomputable def X6_fillTo_0b (k0 : Int32 → Sx → Rs Unit) (x1 : Int32) (S : Sx) : Rs Unit :=
  if (gI S 139 4) ≤ x1 then rt () S else pt (pI S 139 4 ((gI S 139 4) - 1)) (fun S1 => lL S1 141 632 (gI S1 139 4) (fun v1 => sL S1 140 40 ((gI S1 139 4) - (gI S1 139 4) / 40 * 40) v1 (fun S2 => k0 x1 S2)))
noncomputable def X6_fillTo_0 : Nat → Int32 → Sx → Rs Unit
  | 0 => fun _ _ => none
  | n + 1 => X6_fillTo_0b  (X6_fillTo_0 n)
noncomputable def X6_fillTo (a1 : Int32) (S : Sx) : Rs Unit :=
  X6_fillTo_0 FU a1 S
noncomputable def X6_up_150 (y0 : Int32) (S : Sx) : Rs Unit :=
  pt (pI S 139 5 y0) (fun S1 => rt () S1)
noncomputable def X6_up_119 (x2 : Int32) (x4 : Int32) (S : Sx) : Rs Unit :=
  pt (pI S 139 3 ((gI S 139 3) - (x2 + 1))) (fun S1 => if 16 ≤ (x2 + x4) then X6_up_150 16 S1 else X6_up_150 (x2 + x4) S1)
noncomputable def X6_up_118 (x2 : Int32) (x4 : Int32) (y0 : Int64) (y1 : Int32) (S : Sx) : Rs Unit :=
  sL S 140 40 y1 y0 (fun S1 => X6_up_119 x2 x4 S1)
noncomputable def X6_up_74 (x1 : Int32) (x2 : Int32) (x3 : Int32) (y0 : Int32) (S : Sx) : Rs Unit :=
  vl y0 (fun v1 => if v1 ≤ 0 then X6_up_119 x2 v1 S else if x3 = 0 then lL S 140 40 ((((gI S 139 3) + x1) - 1) - (((gI S 139 3) + x1) - 1) / 40 * 40) (fun v2 => X6_up_118 x2 v1 v2 (((gI S 139 3) - 1) - ((gI S 139 3) - 1) / 40 * 40) S) else X6_up_118 x2 v1 0 (((gI S 139 3) - 1) - ((gI S 139 3) - 1) / 40 * 40) S)
noncomputable def X6_up_51 (x1 : Int32) (x2 : Int32) (y0 : Int32) (S : Sx) : Rs Unit :=
  vl y0 (fun v1 => if x1 = 0 then X6_up_74 x1 x2 v1 0 S else if v1 = 0 then X6_up_74 x1 x2 v1 x1 S else X6_up_74 x1 x2 v1 ((gI S 139 5) + 1) S)
noncomputable def X6_up (a1 : Int32) (S : Sx) : Rs Unit :=
  bd (X6_fillTo ((gI S 139 3) - 1) S) (fun _ S1 => lL S1 140 40 (((gI S1 139 3) - 1) - ((gI S1 139 3) - 1) / 40 * 40) (fun v1 => vl v1.toInt32 (fun v2 => bd (X6_fillTo (((gI S1 139 3) - 1) - v2) S1) (fun _ S2 => if a1 ≤ (gI S2 139 5) then X6_up_51 a1 v2 0 S2 else X6_up_51 a1 v2 1 S2))))
noncomputable def X5_special (a1 : Int32) (S : Sx) : Rs Int64 :=
  if a1 = 4 then rt ((gI S 139 5).toInt64) S else lL S 144 4 a1 (fun v1 => rt v1 S)
noncomputable def X6_cut_17 (y0 : Int32) (S : Sx) : Rs Unit :=
  pt (pI S 139 5 y0) (fun S1 => rt () S1)
noncomputable def X6_cut (a1 : Int32) (S : Sx) : Rs Unit :=
  if (gI S 139 5) ≤ a1 then X6_cut_17 (gI S 139 5) S else X6_cut_17 a1 S
noncomputable def X5_put (a1 : Int32) (a2 : Int64) (S : Sx) : Rs Unit :=
  if 4 ≤ a1 then if a2 < 0 then rt () S else if ((gI S 139 5).toInt64) ≤ a2 then rt () S else bd (X6_cut a2.toInt32 S) (fun _ S1 => rt () S1) else sL S 144 4 a1 a2 (fun S1 => rt () S1)
noncomputable def X5_orderElse_264 (x4 : Int64) (S : Sx) : Rs Int64 :=
  rt (x4 + 4) S
noncomputable def X5_orderElse (a1 : Int32) (a2 : Int32) (a3 : Int32) (a4 : Int64) (S : Sx) : Rs Int64 :=
  vl (a4 + (4 * a3.toInt16.toInt32.toInt64)) (fun v1 => vl (a3 &&& 65535) (fun v2 => if 65 < a1 then if a1 = 66 then rt (a4 + (4 * (((a3 <<< ((8 : Int32) &&& 31)) >>> ((8 : Int32) &&& 31)).toInt64))) S else if a1 = 67 then bd (X6_down a2 S) (fun _ S1 => sL S1 144 4 3 (a4 + 4) (fun S2 => rt v1 S2)) else if a1 = 68 then bd (X6_up a2 S) (fun _ S1 => lL S1 144 4 3 (fun v3 => rt (v3 + (4 * v2.toInt64)) S1)) else if a1 = 69 then bd (X6_set a2 v1 S) (fun _ S1 => X5_orderElse_264 a4 S1) else if 74 ≤ a1 then if 77 < a1 then if a1 = 78 then bd (X5_special (a3 &&& 255) S) (fun v3 S1 => bd (X6_set a2 v3 S1) (fun _ S2 => X5_orderElse_264 a4 S2)) else if a1 = 79 then bd (X6_get (a3 &&& 255) S) (fun v3 S1 => bd (X5_put a2 v3 S1) (fun _ S2 => X5_orderElse_264 a4 S2)) else X5_orderElse_264 a4 S else bd (X6_get a2 S) (fun v3 S1 => bd (X6_set a2 (v3 + (v2.toInt64 <<< ((16 * (a1 - 74)).toInt64 &&& 63))) S1) (fun _ S2 => X5_orderElse_264 a4 S2)) else bd (X6_set a2 (v2.toInt64 <<< ((16 * (a1 - 70)).toInt64 &&& 63)) S) (fun _ S1 => X5_orderElse_264 a4 S1) else bd (X6_get a2 S) (fun v3 S1 => bd (X5_isTaken a1 v3 S1) (fun v4 S2 => if v4 = 0 then rt (a4 + 4) S2 else rt v1 S2))))
noncomputable def X5_step_256 (x8 : Int64) (S : Sx) : Rs Unit :=
  pt (pL S 138 5 x8) (fun S1 => pt (pI S1 138 6 ((gI S1 138 6) + 1)) (fun S2 => rt () S2))
noncomputable def X5_step_224 (x8 : Int64) (y0 : Int64) (y1 : Int32) (S : Sx) : Rs Unit :=
  bd (X6_set y1 y0 S) (fun _ S1 => X5_step_256 x8 S1)
noncomputable def X5_step_213 (x4 : Int32) (x7 : Int32) (x8 : Int64) (y0 : Int64) (y1 : Int32) (y3 : Int32) (S : Sx) : Rs Unit :=
  bd (X5_right x4 x7 S) (fun v1 S1 => bd (X5_reckon y1 y0 v1 S1) (fun v2 S2 => X5_step_224 x8 v2 y3 S2))
noncomputable def X5_step_160 (x1 : Int64) (x4 : Int32) (x5 : Int32) (x6 : Int32) (x7 : Int32) (x8 : Int64) (S : Sx) : Rs Unit :=
  if x4 < 52 then if x4 = 32 then X5_step_213 x4 x7 x8 x6.toInt64 x4 x5 S else if x4 = 33 then X5_step_213 x4 x7 x8 x6.toInt64 x4 x5 S else bd (X6_get x6 S) (fun v1 S1 => X5_step_213 x4 x7 x8 v1 x4 x5 S1) else X5_step_224 x8 (x1 + 4) x5 S
noncomputable def X5_step_125 (x1 : Int64) (x3 : Int32) (x4 : Int32) (x5 : Int32) (x6 : Int32) (x7 : Int32) (x8 : Int64) (S : Sx) : Rs Unit :=
  bd (X5_isThree x4 S) (fun v1 S1 => if v1 = 0 then if x4 = 0 then bd (X5_trap x7 S1) (fun _ S2 => X5_step_256 x8 S2) else bd (X5_orderElse x4 x5 x3 x1 S1) (fun v2 S2 => vl v2 (fun v3 => X5_step_256 v3 S2)) else if x4 < 52 then X5_step_160 x1 x4 x5 x6 x7 x8 S1 else bd (X6_get x6 S1) (fun v2 S2 => bd (X5_right x4 x7 S2) (fun v3 S3 => vl (v2 + v3) (fun v4 => X5_step_160 x1 x4 x5 x6 x7 v4 S3))))
noncomputable def X5_step (S : Sx) : Rs Unit :=
  vl ((gL S 138 5) &&& ((-4))) (fun v1 => bd (X0_isAddress v1 S) (fun v2 S1 => bd (X5_want v2 4 S1) (fun _ S2 => bd (X2_get v1.toInt32 4 S2) (fun v3 S3 => vl v3.toInt32 (fun v4 => vl ((v4.toUInt32 >>> (((24 : Int32)).toUInt32 &&& Int32.toUInt32 31)).toInt32) (fun v5 => vl ((v4 >>> ((16 : Int32) &&& 31)) &&& 255) (fun v6 => vl ((v4 >>> ((8 : Int32) &&& 31)) &&& 255) (fun v7 => vl (v4 &&& 255) (fun v8 => bd (X5_look v5 v6 v7 v8 S3) (fun _ S4 => vl (v1 + 4) (fun v9 => if v5 < 36 then X5_step_125 v1 v4 v5 v6 v7 v8 v9 S4 else if 50 ≤ v5 then X5_step_125 v1 v4 v5 v6 v7 v8 v9 S4 else bd (X6_get v7 S4) (fun v10 S5 => bd (X5_right v5 v8 S5) (fun v11 S6 => bd (X5_access v5 v6 (v10 + v11) S6) (fun _ S7 => X5_step_256 v9 S7))))))))))))))
noncomputable def X5_run_27 (y0 : Nat) (S : Sx) : Rs Int32 :=
  kd S (1 + 6) y0 (pt (pI S 138 7 (gI S y0 6)) (fun S1 => rt (gI S1 138 7) S1))
noncomputable def X5_run_2b (k2 : Int32 → Int32 → Sx → Rs Int32) (x1 : Int32) (x2 : Int32) (S : Sx) : Rs Int32 :=
  if x1 ≤ x2 then rt (gI S 138 7) S else if (gI S 138 7) = 0 then ct (X5_step S) (fun _ S1 => vl (x2 + 1) (fun v2 => k2 x1 v2 S1)) (fun c1 S1 => kd S1 (1 + 6) c1 (X5_run_27 c1 S1)) else rt (gI S 138 7) S
noncomputable def X5_run_2 : Nat → Int32 → Int32 → Sx → Rs Int32
  | 0 => fun _ _ _ => none
  | n + 1 => X5_run_2b  (X5_run_2 n)
noncomputable def X5_run (a1 : Int32) (S : Sx) : Rs Int32 :=
  X5_run_2 FU a1 0 S
noncomputable def X0_run (a1 : Int32) (S : Sx) : Rs Int32 :=
  if (gI S 0 6) = 0 then rt ((-1)) S else if a1 < 0 then rt ((-1)) S else if 20000 < a1 then rt ((-1)) S else bd (X5_run a1 S) (fun v1 S1 => rt v1 S1)
noncomputable def X14_init (c0 : Nat) (a1 : Int32) (S : Sx) : Rs Unit :=
  xi S 14 c0 (fun S1 => kd S1 (14 + 6) c0 (pt (pI S1 c0 6 a1) (fun S2 => rt () S2)))
noncomputable def X12_address_14 (S : Sx) : Rs Int32 :=
  al S (14 + 50 + 6) 0 7 (fun c1 S1 => bd (X14_init c1 4 S1) (fun _ S2 => th c1 S2))
noncomputable def X12_address (a1 : Int64) (a2 : Int32) (S : Sx) : Rs Int32 :=
  if a1 < 0 then X12_address_14 S else if a1 < 65536 then if a2 = 0 then none else rt ((a1.toInt32 / a2) * a2) S else X12_address_14 S
noncomputable def X12_forget_12b (k12 : Int32 → Sx → Rs Unit) (x2 : Int32) (S : Sx) : Rs Unit :=
  if (gI S 167 25) ≤ x2 then rt () S else lI S 180 4 (x2 + 1) (fun v1 => sI S 180 4 x2 v1 (fun S1 => vl (x2 + 1) (fun v2 => k12 v2 S1)))
noncomputable def X12_forget_12 : Nat → Int32 → Sx → Rs Unit
  | 0 => fun _ _ => none
  | n + 1 => X12_forget_12b  (X12_forget_12 n)
noncomputable def X12_forget (a1 : Int32) (S : Sx) : Rs Unit :=
  pt (pI S 167 25 ((gI S 167 25) - 1)) (fun S1 => vl a1 (fun v1 => X12_forget_12 FU v1 S1))
noncomputable def X12_leave_99b (k99 : Int32 → Int32 → Int32 → Sx → Rs Int32) (x1 : Int32) (x2 : Int32) (x3 : Int32) (S : Sx) : Rs Int32 :=
  if x3 < 0 then if (gI S 167 17) = 0 then none else pt (pI S 167 23 (((gI S 167 23) + 1) - ((gI S 167 23) + 1) / (gI S 167 17) * (gI S 167 17))) (fun S1 => rt x1 S1) else lI S 180 4 x3 (fun v1 => if v1 = x2 then bd (X12_forget x3 S) (fun _ S1 => vl (x3 + (-1)) (fun v2 => k99 x1 x2 v2 S1)) else vl (x3 + (-1)) (fun v2 => k99 x1 x2 v2 S))
noncomputable def X12_leave_99 : Nat → Int32 → Int32 → Int32 → Sx → Rs Int32
  | 0 => fun _ _ _ _ => none
  | n + 1 => X12_leave_99b  (X12_leave_99 n)
noncomputable def X12_leave_71 (x1 : Int32) (x2 : Int32) (S : Sx) : Rs Int32 :=
  sI S 176 1024 x2 (nz 1) (fun S1 => sI S1 175 1024 x2 ((-1)) (fun S2 => sI S2 177 64 x1 ((-1)) (fun S3 => vl ((gI S3 167 25) - 1) (fun v1 => X12_leave_99 FU x1 x2 v1 S3))))
noncomputable def X12_leave_0b (k0 : Sx → Rs Int32) (S : Sx) : Rs Int32 :=
  lI S 178 64 (gI S 167 23) (fun v1 => if v1 = 0 then vl (gI S 167 23) (fun v2 => lI S 177 64 v2 (fun v3 => vl v3 (fun v4 => lI S 179 64 v2 (fun v5 => if v5 = 0 then X12_leave_71 v2 v4 S else pt (pI S 167 28 ((gI S 167 28) + 1)) (fun S1 => X12_leave_71 v2 v4 S1))))) else sI S 178 64 (gI S 167 23) (nz 0) (fun S1 => if (gI S1 167 17) = 0 then none else pt (pI S1 167 23 (((gI S1 167 23) + 1) - ((gI S1 167 23) + 1) / (gI S1 167 17) * (gI S1 167 17))) (fun S2 => k0 S2)))
noncomputable def X12_leave_0 : Nat → Sx → Rs Int32
  | 0 => fun _ => none
  | n + 1 => X12_leave_0b  (X12_leave_0 n)
noncomputable def X12_leave (S : Sx) : Rs Int32 :=
  X12_leave_0 FU S
noncomputable def X12_bring_88 (x1 : Int32) (S : Sx) : Rs Unit :=
  sI S 176 1024 x1 (nz 0) (fun S1 => rt () S1)
noncomputable def X12_bring_48 (x1 : Int32) (x2 : Int32) (S : Sx) : Rs Unit :=
  sI S 177 64 x2 x1 (fun S1 => sI S1 175 1024 x1 x2 (fun S2 => sI S2 179 64 x2 (nz 0) (fun S3 => lI S3 176 1024 x1 (fun v1 => if v1 = 0 then X12_bring_88 x1 S3 else pt (pI S3 167 27 ((gI S3 167 27) + 1)) (fun S4 => X12_bring_88 x1 S4)))))
noncomputable def X12_bring_35 (x1 : Int32) (x2 : Int32) (S : Sx) : Rs Unit :=
  if x2 = (gI S 167 17) then bd (X12_leave S) (fun v1 S1 => vl v1 (fun v2 => X12_bring_48 x1 v2 S1)) else X12_bring_48 x1 x2 S
noncomputable def X12_bring_12b (k12 : Int32 → Int32 → Sx → Rs Unit) (x1 : Int32) (x2 : Int32) (S : Sx) : Rs Unit :=
  if (gI S 167 17) ≤ x2 then X12_bring_35 x1 x2 S else lI S 177 64 x2 (fun v1 => if v1 < 0 then X12_bring_35 x1 x2 S else vl (x2 + 1) (fun v2 => k12 x1 v2 S))
noncomputable def X12_bring_12 : Nat → Int32 → Int32 → Sx → Rs Unit
  | 0 => fun _ _ _ => none
  | n + 1 => X12_bring_12b  (X12_bring_12 n)
noncomputable def X12_bring (a1 : Int32) (S : Sx) : Rs Unit :=
  pt (pI S 167 26 ((gI S 167 26) + 1)) (fun S1 => X12_bring_12 FU a1 0 S1)
noncomputable def X12_touch_109 (x3 : Int32) (S : Sx) : Rs Unit :=
  sI S 180 4 (gI S 167 25) x3 (fun S1 => pt (pI S1 167 25 ((gI S1 167 25) + 1)) (fun S2 => rt () S2))
noncomputable def X12_touch_76 (x3 : Int32) (x5 : Int32) (S : Sx) : Rs Unit :=
  if (gI S 167 25) ≤ x5 then pt (pI S 167 29 ((gI S 167 29) + 1)) (fun S1 => if (gI S1 167 25) = 4 then bd (X12_forget 0 S1) (fun _ S2 => X12_touch_109 x3 S2) else X12_touch_109 x3 S1) else rt () S
noncomputable def X12_touch_50b (k50 : Int32 → Int32 → Sx → Rs Unit) (x3 : Int32) (x5 : Int32) (S : Sx) : Rs Unit :=
  if (gI S 167 25) ≤ x5 then X12_touch_76 x3 x5 S else lI S 180 4 x5 (fun v1 => if v1 = x3 then X12_touch_76 x3 x5 S else vl (x5 + 1) (fun v2 => k50 x3 v2 S))
noncomputable def X12_touch_50 : Nat → Int32 → Int32 → Sx → Rs Unit
  | 0 => fun _ _ _ => none
  | n + 1 => X12_touch_50b  (X12_touch_50 n)
noncomputable def X12_touch_19 (x2 : Int32) (x3 : Int32) (S : Sx) : Rs Unit :=
  lI S 175 1024 x3 (fun v1 => vl v1 (fun v2 => sI S 178 64 v2 (nz 1) (fun S1 => if x2 = 0 then X12_touch_50 FU x3 0 S1 else sI S1 179 64 v2 (nz 1) (fun S2 => X12_touch_50 FU x3 0 S2))))
noncomputable def X12_touch (a1 : Int32) (a2 : Int32) (S : Sx) : Rs Unit :=
  vl (a1 / 64) (fun v1 => lI S 175 1024 v1 (fun v2 => if 0 ≤ v2 then X12_touch_19 a2 v1 S else bd (X12_bring v1 S) (fun _ S1 => X12_touch_19 a2 v1 S1)))
noncomputable def X12_isOp_27 (x0 : Int32) (S : Sx) : Rs Int32 :=
  if x0 < 60 then rt 0 S else if 80 < x0 then rt 0 S else rt 1 S
noncomputable def X12_isOp_15 (x0 : Int32) (S : Sx) : Rs Int32 :=
  if x0 < 36 then X12_isOp_27 x0 S else if x0 ≤ 53 then rt 1 S else X12_isOp_27 x0 S
noncomputable def X12_isOp (a1 : Int32) (S : Sx) : Rs Int32 :=
  if a1 = 0 then rt 1 S else if a1 < 2 then X12_isOp_15 a1 S else if a1 ≤ 33 then rt 1 S else X12_isOp_15 a1 S
noncomputable def X12_fields_63 (x0 : Int32) (y0 : Int32) (S : Sx) : Rs Int32 :=
  vl y0 (fun v1 => if (x0 - x0 / 2 * 2) = 0 then rt (v1 + 4) S else rt v1 S)
noncomputable def X12_fields (a1 : Int32) (S : Sx) : Rs Int32 :=
  if a1 = 0 then rt 0 S else if a1 = 66 then rt 0 S else if a1 = 67 then rt 0 S else if a1 = 68 then rt 0 S else if a1 = 80 then rt 0 S else if a1 = 79 then rt 4 S else if a1 < 60 then if a1 < 32 then X12_fields_63 a1 3 S else if 33 < a1 then X12_fields_63 a1 3 S else X12_fields_63 a1 1 S else rt 1 S
noncomputable def X12_rL (S : Sx) : Rs Int32 :=
  lL S 172 5 4 (fun v1 => rt v1.toInt32 S)
noncomputable def X12_mayWrite (a1 : Int32) (S : Sx) : Rs Unit :=
  if 16 ≤ a1 then rt () S else bd (X12_rL S) (fun v1 S1 => if a1 < v1 then rt () S1 else if (((gI S1 167 11) + a1) + 1) ≤ 600 then rt () S1 else al S1 (14 + 50 + 6) 0 7 (fun c2 S2 => bd (X14_init c2 5 S2) (fun _ S3 => th c2 S3)))
noncomputable def X12_number_5b (k5 : Int32 → Int32 → Int64 → Int32 → Sx → Rs Int64) (x1 : Int32) (x2 : Int32) (x3 : Int64) (x5 : Int32) (S : Sx) : Rs Int64 :=
  if x2 ≤ x5 then rt x3 S else lI S 169 65536 (x1 + x5) (fun v1 => vl ((x3 <<< (((8 : Int32)).toInt64 &&& 63)) ||| v1.toInt64) (fun v2 => vl (x5 + 1) (fun v3 => k5 x1 x2 v2 v3 S)))
noncomputable def X12_number_5 : Nat → Int32 → Int32 → Int64 → Int32 → Sx → Rs Int64
  | 0 => fun _ _ _ _ _ => none
  | n + 1 => X12_number_5b  (X12_number_5 n)
noncomputable def X12_number (a1 : Int32) (a2 : Int32) (S : Sx) : Rs Int64 :=
  X12_number_5 FU a1 a2 0 0 S
noncomputable def X12_fetch (a1 : Int64) (a2 : Int32) (S : Sx) : Rs Int64 :=
  bd (X12_address a1 a2 S) (fun v1 S1 => vl v1 (fun v2 => bd (X12_touch v2 0 S1) (fun _ S2 => bd (X12_number v2 a2 S2) (fun v3 S3 => rt v3 S3))))
noncomputable def X12_lay_3b (k3 : Int32 → Int32 → Int64 → Int32 → Sx → Rs Unit) (x1 : Int32) (x2 : Int32) (x3 : Int64) (x5 : Int32) (S : Sx) : Rs Unit :=
  if x2 ≤ x5 then rt () S else sI S 169 65536 (x1 + x5) (((x3 >>> ((8 * ((x2 - 1) - x5)).toInt64 &&& 63)).toInt32) &&& 255) (fun S1 => vl (x5 + 1) (fun v1 => k3 x1 x2 x3 v1 S1))
noncomputable def X12_lay_3 : Nat → Int32 → Int32 → Int64 → Int32 → Sx → Rs Unit
  | 0 => fun _ _ _ _ _ => none
  | n + 1 => X12_lay_3b  (X12_lay_3 n)
noncomputable def X12_lay (a1 : Int32) (a2 : Int32) (a3 : Int64) (S : Sx) : Rs Unit :=
  X12_lay_3 FU a1 a2 a3 0 S
noncomputable def X12_store (a1 : Int64) (a2 : Int32) (a3 : Int64) (S : Sx) : Rs Unit :=
  bd (X12_address a1 a2 S) (fun v1 S1 => vl v1 (fun v2 => bd (X12_touch v2 1 S1) (fun _ S2 => bd (X12_lay v2 a2 a3 S2) (fun _ S3 => rt () S3))))
noncomputable def X12_trap_128 (S : Sx) : Rs Unit :=
  sL S 171 32 31 ((-1)) (fun S1 => rt () S1)
noncomputable def X12_trap_204b (k144 : Int64 → Int32 → Int32 → Sx → Rs Unit) (k204 : Int64 → Int32 → Int32 → Int32 → Sx → Rs Unit) (x1 : Int64) (x3 : Int32) (x5 : Int32) (x6 : Int32) (S : Sx) : Rs Unit :=
  if (gI S 167 4) ≤ x6 then vl (x3 + 1) (fun v1 => if x5 = 10 then k144 x1 v1 0 S else k144 x1 v1 1 S) else lI S 170 4000 (x6 + 1) (fun v1 => sI S 170 4000 x6 v1 (fun S1 => vl (x6 + 1) (fun v2 => k204 x1 x3 x5 v2 S1)))
noncomputable def X12_trap_204 (k144 : Int64 → Int32 → Int32 → Sx → Rs Unit) : Nat → Int64 → Int32 → Int32 → Int32 → Sx → Rs Unit
  | 0 => fun _ _ _ _ _ => none
  | n + 1 => X12_trap_204b k144 (X12_trap_204 k144 n)
noncomputable def X12_trap_255 (x1 : Int64) (x3 : Int32) (S : Sx) : Rs Unit :=
  bd (X12_store (x1 + x3.toInt64) 1 0 S) (fun _ S1 => sL S1 171 32 31 x3.toInt64 (fun S2 => rt () S2))
noncomputable def X12_trap_144b (k144 : Int64 → Int32 → Int32 → Sx → Rs Unit) (x1 : Int64) (x3 : Int32) (x4 : Int32) (S : Sx) : Rs Unit :=
  if x4 = 0 then X12_trap_255 x1 x3 S else if (gI S 167 4) ≤ 0 then X12_trap_255 x1 x3 S else lL S 171 32 30 (fun v1 => if (v1 - 1) ≤ x3.toInt64 then X12_trap_255 x1 x3 S else lI S 170 4000 0 (fun v2 => vl v2 (fun v3 => bd (X12_store (x1 + x3.toInt64) 1 v3.toInt64 S) (fun _ S1 => pt (pI S1 167 4 ((gI S1 167 4) - 1)) (fun S2 => X12_trap_204 k144 FU x1 x3 v3 0 S2)))))
noncomputable def X12_trap_144 : Nat → Int64 → Int32 → Int32 → Sx → Rs Unit
  | 0 => fun _ _ _ _ => none
  | n + 1 => X12_trap_144b  (X12_trap_144 n)
noncomputable def X12_trap_100 (x1 : Int64) (S : Sx) : Rs Unit :=
  if (gI S 167 32) = 2 then if (gI S 167 4) = 0 then X12_trap_128 S else lL S 171 32 30 (fun v1 => if 1 ≤ v1 then X12_trap_144 FU x1 0 1 S else X12_trap_128 S) else rt () S
noncomputable def X12_trap_36b (k36 : Int64 → Int64 → Sx → Rs Unit) (x1 : Int64) (x3 : Int64) (S : Sx) : Rs Unit :=
  bd (X12_fetch x3 1 S) (fun v1 S1 => if v1 = 0 then X12_trap_100 x1 S1 else if (gI S1 167 16) = 1000 then al S1 (14 + 50 + 6) 0 7 (fun c2 S2 => bd (X14_init c2 7 S2) (fun _ S3 => th c2 S3)) else lI S1 169 65536 x3.toInt32 (fun v2 => sI S1 174 1000 (gI S1 167 16) v2 (fun S2 => pt (pI S2 167 16 ((gI S2 167 16) + 1)) (fun S3 => vl (x3 + 1) (fun v3 => k36 x1 v3 S3)))))
noncomputable def X12_trap_36 : Nat → Int64 → Int64 → Sx → Rs Unit
  | 0 => fun _ _ _ => none
  | n + 1 => X12_trap_36b  (X12_trap_36 n)
noncomputable def X12_trap (S : Sx) : Rs Unit :=
  if (gI S 167 32) ≤ 2 then lL S 171 32 31 (fun v1 => vl v1 (fun v2 => if (gI S 167 32) = 1 then vl v2 (fun v3 => X12_trap_36 FU v2 v3 S) else X12_trap_100 v2 S)) else al S (14 + 50 + 6) 0 7 (fun c1 S1 => bd (X14_init c1 6 S1) (fun _ S2 => th c1 S2))
noncomputable def X12_get_18 (x1 : Int32) (S : Sx) : Rs Int64 :=
  lL S 171 32 x1 (fun v1 => rt v1 S)
noncomputable def X12_get (a1 : Int32) (S : Sx) : Rs Int64 :=
  if 16 ≤ a1 then X12_get_18 a1 S else bd (X12_rL S) (fun v1 S1 => if a1 < v1 then X12_get_18 a1 S1 else rt 0 S1)
noncomputable def X12_isLess (a1 : Int64) (a2 : Int64) (S : Sx) : Rs Int32 :=
  if (a2 + ((-9223372036854775808))) ≤ (a1 + ((-9223372036854775808))) then rt 0 S else rt 1 S
noncomputable def X12_quotient_66 (k10 : Int64 → Int64 → Int64 → Int64 → Int32 → Sx → Rs Int64) (x3 : Int64) (x5 : Int64) (x7 : Int64) (x9 : Int64) (x11 : Int32) (S : Sx) : Rs Int64 :=
  vl (x7 - x5) (fun v1 => vl (x9 ||| 1) (fun v2 => vl (x11 + (-1)) (fun v3 => k10 x3 x5 v1 v2 v3 S)))
noncomputable def X12_quotient_27 (k10 : Int64 → Int64 → Int64 → Int64 → Int32 → Sx → Rs Int64) (x3 : Int64) (x5 : Int64) (x7 : Int64) (x9 : Int64) (x11 : Int32) (y0 : Int32) (S : Sx) : Rs Int64 :=
  vl y0 (fun v1 => vl ((x7 <<< (((1 : Int32)).toInt64 &&& 63)) ||| ((x3 >>> (x11.toInt64 &&& 63)) &&& 1)) (fun v2 => vl (x9 <<< (((1 : Int32)).toInt64 &&& 63)) (fun v3 => if v1 = 0 then bd (X12_isLess v2 x5 S) (fun v4 S1 => if v4 = 0 then X12_quotient_66 k10 x3 x5 v2 v3 x11 S1 else vl (x11 + (-1)) (fun v5 => k10 x3 x5 v2 v3 v5 S1)) else X12_quotient_66 k10 x3 x5 v2 v3 x11 S)))
noncomputable def X12_quotient_10b (k10 : Int64 → Int64 → Int64 → Int64 → Int32 → Sx → Rs Int64) (x3 : Int64) (x5 : Int64) (x7 : Int64) (x9 : Int64) (x11 : Int32) (S : Sx) : Rs Int64 :=
  if x11 < 0 then sL S 172 5 2 x7 (fun S1 => rt x9 S1) else if 0 ≤ x7 then X12_quotient_27 k10 x3 x5 x7 x9 x11 0 S else X12_quotient_27 k10 x3 x5 x7 x9 x11 1 S
noncomputable def X12_quotient_10 : Nat → Int64 → Int64 → Int64 → Int64 → Int32 → Sx → Rs Int64
  | 0 => fun _ _ _ _ _ _ => none
  | n + 1 => X12_quotient_10b  (X12_quotient_10 n)
noncomputable def X12_quotient (a1 : Int64) (a2 : Int64) (a3 : Int64) (S : Sx) : Rs Int64 :=
  vl a1 (fun v1 => X12_quotient_10 FU a2 a3 v1 0 63 S)
noncomputable def X12_upper_10b (k10 : Int64 → Int64 → Int64 → Int64 → Int32 → Sx → Rs Int64) (x0 : Int64) (x2 : Int64) (x4 : Int64) (x6 : Int64) (x8 : Int32) (S : Sx) : Rs Int64 :=
  if x8 < 0 then rt x4 S else vl ((x4 <<< (((1 : Int32)).toInt64 &&& 63)) ||| ((x6.toUInt64 >>> (((63 : Int32)).toInt64.toUInt64 &&& Int64.toUInt64 63)).toInt64)) (fun v1 => vl (x6 <<< (((1 : Int32)).toInt64 &&& 63)) (fun v2 => if ((x2 >>> (x8.toInt64 &&& 63)) &&& 1) = 0 then vl (x8 + (-1)) (fun v3 => k10 x0 x2 v1 v2 v3 S) else vl (v2 + x0) (fun v3 => bd (X12_isLess v3 x0 S) (fun v4 S1 => if v4 = 0 then vl (v1 + 0) (fun v5 => vl (x8 + (-1)) (fun v6 => k10 x0 x2 v5 v3 v6 S1)) else vl (v1 + 1) (fun v5 => vl (x8 + (-1)) (fun v6 => k10 x0 x2 v5 v3 v6 S1))))))
noncomputable def X12_upper_10 : Nat → Int64 → Int64 → Int64 → Int64 → Int32 → Sx → Rs Int64
  | 0 => fun _ _ _ _ _ _ => none
  | n + 1 => X12_upper_10b  (X12_upper_10 n)
noncomputable def X12_upper (a1 : Int64) (a2 : Int64) (S : Sx) : Rs Int64 :=
  X12_upper_10 FU a1 a2 0 0 63 S
noncomputable def X12_reckoned_159 (x2 : Int64) (x4 : Int64) (y0 : Int64) (y1 : Int32) (S : Sx) : Rs Int64 :=
  sL S 172 5 y1 y0 (fun S1 => if x4 = 0 then rt 0 S1 else bd (J7_floorDiv x2 x4 S1) (fun v1 S2 => rt v1 S2))
noncomputable def X12_reckoned (a1 : Int32) (a2 : Int64) (a3 : Int64) (S : Sx) : Rs Int64 :=
  if a1 = 2 then rt (a2 * a3) S else if a1 = 4 then if a3 = 0 then X12_reckoned_159 a2 a3 a2 2 S else bd (J7_floorMod a2 a3 S) (fun v1 S1 => X12_reckoned_159 a2 a3 v1 2 S1) else if a1 = 6 then rt (a2 + a3) S else if a1 = 8 then rt (a2 - a3) S else if a1 = 10 then if a3 ≤ a2 then if a2 = a3 then rt 0 S else rt 1 S else rt ((-1)) S else if a1 = 12 then bd (X12_isLess a2 a3 S) (fun v1 S1 => if v1 = 0 then if a2 = a3 then rt 0 S1 else rt 1 S1 else rt ((-1)) S1) else if a1 = 14 then bd (X12_upper a2 a3 S) (fun v2 S2 => sL S2 172 5 1 v2 (fun S3 => rt (a2 * a3) S3)) else if a1 = 16 then lL S 172 5 0 (fun v3 => bd (X12_isLess v3 a3 S) (fun v4 S4 => if v4 = 0 then sL S4 172 5 2 a2 (fun S5 => lL S5 172 5 0 (fun v5 => rt v5 S5)) else lL S4 172 5 0 (fun v5 => bd (X12_quotient v5 a2 a3 S4) (fun v6 S5 => rt v6 S5)))) else if a1 = 18 then rt (a2 &&& a3) S else if a1 = 20 then rt (a2 ||| a3) S else if a1 = 22 then rt (a2 ^^^ a3) S else if a1 = 24 then rt (a2 &&& (a3 ^^^ ((-1)))) S else if a1 = 26 then bd (X12_isLess a3 64 S) (fun v7 S6 => if v7 = 0 then rt 0 S6 else rt (a2 <<< (a3.toInt32.toInt64 &&& 63)) S6) else if a1 = 28 then bd (X12_isLess a3 64 S) (fun v8 S7 => if v8 = 0 then rt (a2 >>> (((63 : Int32)).toInt64 &&& 63)) S7 else rt (a2 >>> (a3.toInt32.toInt64 &&& 63)) S7) else if a1 = 30 then bd (X12_isLess a3 64 S) (fun v9 S8 => if v9 = 0 then rt 0 S8 else rt ((a2.toUInt64 >>> (a3.toInt32.toInt64.toUInt64 &&& Int64.toUInt64 63)).toInt64) S8) else rt (a2 - a3) S
noncomputable def X12_set_50 (x1 : Int32) (x2 : Int64) (S : Sx) : Rs Unit :=
  sL S 171 32 x1 x2 (fun S1 => rt () S1)
noncomputable def X12_set_20b (k20 : Int32 → Int64 → Int32 → Sx → Rs Unit) (x1 : Int32) (x2 : Int64) (x4 : Int32) (S : Sx) : Rs Unit :=
  if x1 ≤ x4 then sL S 172 5 4 (x1.toInt64 + 1) (fun S1 => X12_set_50 x1 x2 S1) else sL S 171 32 x4 0 (fun S1 => vl (x4 + 1) (fun v1 => k20 x1 x2 v1 S1))
noncomputable def X12_set_20 : Nat → Int32 → Int64 → Int32 → Sx → Rs Unit
  | 0 => fun _ _ _ _ => none
  | n + 1 => X12_set_20b  (X12_set_20 n)
noncomputable def X12_set (a1 : Int32) (a2 : Int64) (S : Sx) : Rs Unit :=
  if 16 ≤ a1 then X12_set_50 a1 a2 S else bd (X12_rL S) (fun v1 S1 => if a1 < v1 then X12_set_50 a1 a2 S1 else bd (X12_rL S1) (fun v2 S2 => vl v2 (fun v3 => X12_set_20 FU a1 a2 v3 S2)))
noncomputable def X12_moved (a1 : Int32) (a2 : Int64) (a3 : Int64) (S : Sx) : Rs Int64 :=
  if a1 = 36 then bd (X12_fetch a2 1 S) (fun v1 S1 => bd (X12_set (gI S 167 30) v1.toInt32.toInt8.toInt32.toInt64 S1) (fun _ S2 => rt a3 S2)) else if a1 = 38 then bd (X12_fetch a2 1 S) (fun v2 S3 => bd (X12_set (gI S 167 30) v2 S3) (fun _ S4 => rt a3 S4)) else if a1 = 40 then bd (X12_fetch a2 4 S) (fun v3 S5 => bd (X12_set (gI S 167 30) v3.toInt32.toInt64 S5) (fun _ S6 => rt a3 S6)) else if a1 = 42 then bd (X12_fetch a2 8 S) (fun v4 S7 => bd (X12_set (gI S 167 30) v4 S7) (fun _ S8 => rt a3 S8)) else if a1 = 44 then bd (X12_get (gI S 167 30) S) (fun v5 S9 => bd (X12_store a2 1 v5 S9) (fun _ S10 => rt a3 S10)) else if a1 = 46 then bd (X12_get (gI S 167 30) S) (fun v6 S11 => bd (X12_store a2 4 v6 S11) (fun _ S12 => rt a3 S12)) else if a1 = 48 then bd (X12_get (gI S 167 30) S) (fun v7 S13 => bd (X12_store a2 8 v7 S13) (fun _ S14 => rt a3 S14)) else if a1 = 50 then bd (X12_set (gI S 167 30) a2 S) (fun _ S15 => rt a3 S15) else bd (X12_set (gI S 167 30) a3 S) (fun _ S16 => rt a2 S16)
noncomputable def X12_giveBack_187 (k137 : Int32 → Int32 → Int32 → Int32 → Int32 → Sx → Rs Unit) (x1 : Int32) (x2 : Int32) (x3 : Int32) (x4 : Int32) (x5 : Int32) (y0 : Int64) (S : Sx) : Rs Unit :=
  vl y0 (fun v1 => sL S 171 32 (x3 + x5) v1 (fun S1 => vl (x5 + 1) (fun v2 => k137 x1 x2 x3 x4 v2 S1)))
noncomputable def X12_giveBack_206 (x3 : Int32) (x4 : Int32) (S : Sx) : Rs Unit :=
  bd (J7_min (x3 + x4) 16 S) (fun v1 S1 => sL S1 172 5 4 v1.toInt64 (fun S2 => rt () S2))
noncomputable def X12_giveBack_137b (k137 : Int32 → Int32 → Int32 → Int32 → Int32 → Sx → Rs Unit) (x1 : Int32) (x2 : Int32) (x3 : Int32) (x4 : Int32) (x5 : Int32) (S : Sx) : Rs Unit :=
  if x4 ≤ x5 then X12_giveBack_206 x3 x4 S else if 16 ≤ (x3 + x5) then X12_giveBack_206 x3 x4 S else if x5 ≤ 0 then if x2 < x1 then X12_giveBack_187 k137 x1 x2 x3 x4 x5 0 S else lL S 181 16 (x1 - 1) (fun v1 => X12_giveBack_187 k137 x1 x2 x3 x4 x5 v1 S) else lL S 181 16 (x5 - 1) (fun v1 => X12_giveBack_187 k137 x1 x2 x3 x4 x5 v1 S)
noncomputable def X12_giveBack_137 : Nat → Int32 → Int32 → Int32 → Int32 → Int32 → Sx → Rs Unit
  | 0 => fun _ _ _ _ _ _ => none
  | n + 1 => X12_giveBack_137b  (X12_giveBack_137 n)
noncomputable def X12_giveBack_81b (k81 : Int32 → Int32 → Int32 → Int32 → Sx → Rs Unit) (x1 : Int32) (x2 : Int32) (x3 : Int32) (x4 : Int32) (S : Sx) : Rs Unit :=
  if x3 ≤ x4 then if x1 = 0 then X12_giveBack_137 FU x1 x2 x3 0 0 S else if x2 < x1 then vl (x2 + 1) (fun v1 => X12_giveBack_137 FU x1 x2 x3 v1 0 S) else vl x1 (fun v1 => X12_giveBack_137 FU x1 x2 x3 v1 0 S) else lL S 173 601 ((gI S 167 11) + x4) (fun v1 => sL S 171 32 x4 v1 (fun S1 => vl (x4 + 1) (fun v2 => k81 x1 x2 x3 v2 S1)))
noncomputable def X12_giveBack_81 : Nat → Int32 → Int32 → Int32 → Int32 → Sx → Rs Unit
  | 0 => fun _ _ _ _ _ => none
  | n + 1 => X12_giveBack_81b  (X12_giveBack_81 n)
noncomputable def X12_giveBack_24b (k24 : Int32 → Int32 → Int32 → Sx → Rs Unit) (x1 : Int32) (x2 : Int32) (x3 : Int32) (S : Sx) : Rs Unit :=
  if x2 ≤ x3 then pt (pI S 167 11 ((gI S 167 11) - 1)) (fun S1 => lL S1 173 601 (gI S1 167 11) (fun v1 => vl v1.toInt32 (fun v2 => pt (pI S1 167 11 ((gI S1 167 11) - v2)) (fun S2 => X12_giveBack_81 FU x1 x2 v2 0 S2)))) else lL S 171 32 x3 (fun v1 => sL S 181 16 x3 v1 (fun S1 => vl (x3 + 1) (fun v2 => k24 x1 x2 v2 S1)))
noncomputable def X12_giveBack_24 : Nat → Int32 → Int32 → Int32 → Sx → Rs Unit
  | 0 => fun _ _ _ _ => none
  | n + 1 => X12_giveBack_24b  (X12_giveBack_24 n)
noncomputable def X12_giveBack (a1 : Int32) (S : Sx) : Rs Unit :=
  if (gI S 167 11) = 0 then al S (14 + 50 + 6) 0 7 (fun c1 S1 => bd (X14_init c1 8 S1) (fun _ S2 => th c1 S2)) else bd (X12_rL S) (fun v1 S1 => vl v1 (fun v2 => X12_giveBack_24 FU a1 v2 0 S1))
noncomputable def J7_max (a1 : Int32) (a2 : Int32) (S : Sx) : Rs Int32 :=
  if a1 < a2 then rt a2 S else rt a1 S
noncomputable def X12_push (a1 : Int64) (S : Sx) : Rs Unit :=
  sL S 173 601 (gI S 167 11) a1 (fun S1 => pt (pI S1 167 11 ((gI S1 167 11) + 1)) (fun S2 => rt () S2))
noncomputable def X12_call_122b (k122 : Int32 → Int32 → Int32 → Sx → Rs Unit) (x2 : Int32) (x4 : Int32) (x5 : Int32) (S : Sx) : Rs Unit :=
  if x4 ≤ x5 then sL S 172 5 4 x4.toInt64 (fun S1 => rt () S1) else lL S 171 32 ((x2 + 1) + x5) (fun v1 => sL S 171 32 x5 v1 (fun S1 => vl (x5 + 1) (fun v2 => k122 x2 x4 v2 S1)))
noncomputable def X12_call_122 : Nat → Int32 → Int32 → Int32 → Sx → Rs Unit
  | 0 => fun _ _ _ _ => none
  | n + 1 => X12_call_122b  (X12_call_122 n)
noncomputable def X12_call_79b (k79 : Int32 → Int32 → Int32 → Sx → Rs Unit) (x2 : Int32) (x3 : Int32) (x4 : Int32) (S : Sx) : Rs Unit :=
  if x2 ≤ x4 then bd (X12_push x2.toInt64 S) (fun _ S1 => bd (J7_max ((x3 - x2) - 1) 0 S1) (fun v1 S2 => vl v1 (fun v2 => X12_call_122 FU x2 v2 0 S2))) else lL S 171 32 x4 (fun v1 => bd (X12_push v1 S) (fun _ S1 => vl (x4 + 1) (fun v2 => k79 x2 x3 v2 S1)))
noncomputable def X12_call_79 : Nat → Int32 → Int32 → Int32 → Sx → Rs Unit
  | 0 => fun _ _ _ _ => none
  | n + 1 => X12_call_79b  (X12_call_79 n)
noncomputable def X12_call_71 (x2 : Int32) (S : Sx) : Rs Unit :=
  bd (X12_rL S) (fun v1 S1 => vl v1 (fun v2 => X12_call_79 FU x2 v2 0 S1))
noncomputable def X12_call_14 (x1 : Int32) (y0 : Int32) (S : Sx) : Rs Unit :=
  vl y0 (fun v1 => bd (X12_rL S) (fun v2 S1 => bd (J7_max (v1 + 1) v2 S1) (fun v3 S2 => if ((gI S 167 11) + v3) ≤ 600 then if 16 ≤ v1 then X12_call_71 v1 S2 else bd (X12_rL S2) (fun v4 S3 => if v1 < v4 then X12_call_71 v1 S3 else if 16 ≤ x1 then X12_call_71 v1 S3 else bd (X12_set v1 0 S3) (fun _ S4 => X12_call_71 v1 S4)) else al S2 (14 + 50 + 6) 0 7 (fun c4 S3 => bd (X14_init c4 5 S3) (fun _ S4 => th c4 S4)))))
noncomputable def X12_call (a1 : Int32) (S : Sx) : Rs Unit :=
  if a1 < 16 then X12_call_14 a1 a1 S else bd (X12_rL S) (fun v1 S1 => X12_call_14 a1 v1 S1)
noncomputable def X12_other_335 (x1 : Int32) (x2 : Int64) (x4 : Int64) (S : Sx) : Rs Int64 :=
  bd (X12_set (gI S 167 30) (x4 <<< ((16 * (x1 - 70)).toInt64 &&& 63)) S) (fun _ S1 => rt x2 S1)
noncomputable def X12_other_356 (x1 : Int32) (x2 : Int64) (x4 : Int64) (x8 : Int64) (S : Sx) : Rs Int64 :=
  bd (X12_set (gI S 167 30) (x8 + (x4 <<< ((16 * (x1 - 74)).toInt64 &&& 63))) S) (fun _ S1 => rt x2 S1)
noncomputable def X12_other_61 (x1 : Int32) (x2 : Int64) (x4 : Int64) (x6 : Int64) (y0 : Int64) (S : Sx) : Rs Int64 :=
  vl y0 (fun v1 => if x1 = 60 then if 0 ≤ v1 then rt x2 S else rt x6 S else if x1 = 61 then if v1 = 0 then rt x6 S else rt x2 S else if x1 = 62 then if v1 ≤ 0 then rt x2 S else rt x6 S else if x1 = 63 then if v1 < 0 then rt x2 S else rt x6 S else if x1 = 64 then if v1 = 0 then rt x2 S else rt x6 S else if x1 = 65 then if 0 < v1 then rt x2 S else rt x6 S else if x1 = 66 then rt (((gI S 167 33).toInt64) + (4 * (((((((gI S 167 30) <<< ((16 : Int32) &&& 31)) ||| ((gI S 167 31) <<< ((8 : Int32) &&& 31))) ||| (gI S 167 32)) <<< ((8 : Int32) &&& 31)) >>> ((8 : Int32) &&& 31)).toInt64))) S else if x1 = 67 then bd (X12_call (gI S 167 30) S) (fun _ S1 => sL S1 172 5 3 x2 (fun S2 => rt x6 S2)) else if x1 = 68 then bd (X12_giveBack (gI S 167 30) S) (fun _ S3 => lL S3 172 5 3 (fun v2 => rt (v2 + (4 * x4)) S3)) else if x1 = 69 then bd (X12_set (gI S 167 30) x6 S) (fun _ S4 => rt x2 S4) else if x1 = 70 then X12_other_335 x1 x2 x4 S else if x1 = 71 then X12_other_335 x1 x2 x4 S else if x1 = 72 then X12_other_335 x1 x2 x4 S else if x1 = 73 then X12_other_335 x1 x2 x4 S else if x1 = 74 then X12_other_356 x1 x2 x4 v1 S else if x1 = 75 then X12_other_356 x1 x2 x4 v1 S else if x1 = 76 then X12_other_356 x1 x2 x4 v1 S else if x1 = 77 then X12_other_356 x1 x2 x4 v1 S else if x1 = 78 then lL S 172 5 (gI S 167 32) (fun v3 => bd (X12_set (gI S 167 30) v3 S) (fun _ S5 => rt x2 S5)) else if x1 = 79 then if 4 ≤ (gI S 167 30) then bd (X12_get (gI S 167 32) S) (fun v4 S6 => lL S6 172 5 4 (fun v5 => bd (X12_isLess v4 v5 S6) (fun v6 S7 => if v6 = 0 then rt x2 S7 else bd (X12_get (gI S7 167 32) S7) (fun v7 S8 => sL S8 172 5 4 v7 (fun S9 => rt x2 S9))))) else bd (X12_get (gI S 167 32) S) (fun v4 S6 => sL S6 172 5 (gI S 167 30) v4 (fun S7 => rt x2 S7)) else rt x2 S)
noncomputable def X12_other (a1 : Int32) (a2 : Int64) (S : Sx) : Rs Int64 :=
  vl ((256 * ((gI S 167 31).toInt64)) + ((gI S 167 32).toInt64)) (fun v1 => vl (((gI S 167 33).toInt64) + (4 * v1.toInt32.toInt16.toInt32.toInt64)) (fun v2 => if a1 = 67 then X12_other_61 a1 a2 v1 v2 0 S else if a1 = 68 then X12_other_61 a1 a2 v1 v2 0 S else bd (X12_get ((gI S 167 30) &&& 31) S) (fun v3 S1 => X12_other_61 a1 a2 v1 v2 v3 S1)))
noncomputable def X12_step_142 (S : Sx) : Rs Unit :=
  al S (14 + 50 + 6) 0 7 (fun c1 S1 => bd (X14_init c1 3 S1) (fun _ S2 => th c1 S2))
noncomputable def X12_step_179 (S : Sx) : Rs Unit :=
  al S (14 + 50 + 6) 0 7 (fun c1 S1 => bd (X14_init c1 3 S1) (fun _ S2 => th c1 S2))
noncomputable def X12_step_395 (x1 : Int32) (x4 : Int64) (S : Sx) : Rs Unit :=
  pt (pL S 167 12 x4) (fun S1 => if x1 = 0 then if (gI S1 167 32) = 0 then pt (pI S1 167 14 ((gI S1 167 14) + 1)) (fun S2 => al S2 (14 + 50 + 6) 0 7 (fun c1 S3 => bd (X14_init c1 1 S3) (fun _ S4 => th c1 S4))) else rt () S1 else rt () S1)
noncomputable def X12_step_324 (x1 : Int32) (x4 : Int64) (y0 : Int64) (y1 : Int64) (y2 : Int32) (y4 : Int32) (S : Sx) : Rs Unit :=
  bd (X12_reckoned y2 y1 y0 S) (fun v1 S1 => bd (X12_set y4 v1 S1) (fun _ S2 => X12_step_395 x1 x4 S2))
noncomputable def X12_step_302 (x1 : Int32) (x4 : Int64) (y0 : Int64) (y1 : Int32) (y3 : Int32) (S : Sx) : Rs Unit :=
  if (x1 - x1 / 2 * 2) = 0 then bd (X12_get (gI S 167 32) S) (fun v1 S1 => X12_step_324 x1 x4 v1 y0 y1 y3 S1) else X12_step_324 x1 x4 ((gI S 167 32).toInt64) y0 y1 y3 S
noncomputable def X12_step_375 (x1 : Int32) (x4 : Int64) (y0 : Int64) (y1 : Int64) (y2 : Int32) (S : Sx) : Rs Unit :=
  bd (X12_moved y2 (y1 + y0) x4 S) (fun v1 S1 => vl v1 (fun v2 => X12_step_395 x1 v2 S1))
noncomputable def X12_step_241 (x1 : Int32) (S : Sx) : Rs Unit :=
  vl (((gI S 167 33).toInt64) + 4) (fun v1 => if x1 = 0 then bd (X12_trap S) (fun _ S1 => X12_step_395 x1 v1 S1) else if 36 ≤ x1 then if 60 ≤ x1 then bd (X12_other x1 v1 S) (fun v2 S1 => vl v2 (fun v3 => X12_step_395 x1 v3 S1)) else bd (X12_get (gI S 167 31) S) (fun v2 S1 => if (x1 - x1 / 2 * 2) = 0 then bd (X12_get (gI S1 167 32) S1) (fun v3 S2 => X12_step_375 x1 v1 v3 v2 ((x1 / 2) * 2) S2) else X12_step_375 x1 v1 ((gI S1 167 32).toInt64) v2 ((x1 / 2) * 2) S1) else if 32 ≤ x1 then X12_step_302 x1 v1 ((gI S 167 31).toInt64) ((x1 / 2) * 2) (gI S 167 30) S else bd (X12_get (gI S 167 31) S) (fun v2 S1 => X12_step_302 x1 v1 v2 ((x1 / 2) * 2) (gI S 167 30) S1))
noncomputable def X12_step_228 (x1 : Int32) (y0 : Int32) (S : Sx) : Rs Unit :=
  vl y0 (fun v1 => if v1 = 0 then X12_step_241 x1 S else bd (X12_mayWrite (gI S 167 30) S) (fun _ S1 => X12_step_241 x1 S1))
noncomputable def X12_step_211 (x1 : Int32) (S : Sx) : Rs Unit :=
  if x1 < 69 then X12_step_228 x1 0 S else if 78 < x1 then X12_step_228 x1 0 S else X12_step_228 x1 1 S
noncomputable def X12_step_199 (x1 : Int32) (S : Sx) : Rs Unit :=
  if x1 < 50 then X12_step_211 x1 S else if x1 ≤ 53 then X12_step_228 x1 1 S else X12_step_211 x1 S
noncomputable def X12_step_188 (x1 : Int32) (S : Sx) : Rs Unit :=
  if x1 < 2 then X12_step_199 x1 S else if x1 ≤ 43 then X12_step_228 x1 1 S else X12_step_199 x1 S
noncomputable def X12_step_165 (x1 : Int32) (S : Sx) : Rs Unit :=
  if x1 = 79 then if (gI S 167 30) ≤ 4 then X12_step_188 x1 S else X12_step_179 S else X12_step_188 x1 S
noncomputable def X12_step_151 (x1 : Int32) (S : Sx) : Rs Unit :=
  if x1 = 78 then if 4 < (gI S 167 32) then X12_step_179 S else X12_step_165 x1 S else X12_step_165 x1 S
noncomputable def X12_step_127 (x1 : Int32) (x2 : Int32) (S : Sx) : Rs Unit :=
  if (x2 &&& 4) = 0 then X12_step_151 x1 S else if (gI S 167 32) ≤ 31 then X12_step_151 x1 S else X12_step_142 S
noncomputable def X12_step_112 (x1 : Int32) (x2 : Int32) (S : Sx) : Rs Unit :=
  if (x2 &&& 2) = 0 then X12_step_127 x1 x2 S else if 31 < (gI S 167 31) then X12_step_142 S else X12_step_127 x1 x2 S
noncomputable def X12_step (S : Sx) : Rs Unit :=
  bd (X12_address (gL S 167 12) 4 S) (fun v1 S1 => pt (pI S1 167 33 v1) (fun S2 => bd (X12_touch (gI S2 167 33) 0 S2) (fun _ S3 => lI S3 169 65536 (gI S3 167 33) (fun v2 => vl v2 (fun v3 => lI S3 169 65536 ((gI S3 167 33) + 1) (fun v4 => pt (pI S3 167 30 v4) (fun S4 => lI S4 169 65536 ((gI S4 167 33) + 2) (fun v5 => pt (pI S4 167 31 v5) (fun S5 => lI S5 169 65536 ((gI S5 167 33) + 3) (fun v6 => pt (pI S5 167 32 v6) (fun S6 => bd (X12_isOp v3 S6) (fun v7 S7 => if v7 = 0 then al S7 (14 + 50 + 6) 0 7 (fun c8 S8 => bd (X14_init c8 3 S8) (fun _ S9 => th c8 S9)) else bd (X12_fields v3 S7) (fun v8 S8 => vl v8 (fun v9 => if (v9 &&& 1) = 0 then X12_step_112 v3 v9 S8 else if 31 < (gI S8 167 30) then X12_step_142 S8 else X12_step_112 v3 v9 S8))))))))))))))
noncomputable def X12_run_51 (k22 : Int32 → Int32 → Sx → Rs Int32) (x1 : Int32) (x2 : Int32) (y0 : Nat) (S : Sx) : Rs Int32 :=
  kd S (14 + 6) y0 (pt (pI S 167 13 (gI S y0 6)) (fun S1 => vl (x2 + 1) (fun v1 => k22 x1 v1 S1)))
noncomputable def X12_run_22b (k22 : Int32 → Int32 → Sx → Rs Int32) (x1 : Int32) (x2 : Int32) (S : Sx) : Rs Int32 :=
  if x1 ≤ x2 then rt (gI S 167 13) S else if (gI S 167 13) = 0 then ct (X12_step S) (fun _ S1 => pt (pI S1 167 14 ((gI S1 167 14) + 1)) (fun S2 => vl (x2 + 1) (fun v2 => k22 x1 v2 S2))) (fun c1 S1 => kd S1 (14 + 6) c1 (X12_run_51 k22 x1 x2 c1 S1)) else rt (gI S 167 13) S
noncomputable def X12_run_22 : Nat → Int32 → Int32 → Sx → Rs Int32
  | 0 => fun _ _ _ => none
  | n + 1 => X12_run_22b  (X12_run_22 n)
noncomputable def X12_run (a1 : Int32) (S : Sx) : Rs Int32 :=
  if (gI S 167 7) = 0 then rt ((-1)) S else if a1 < 0 then rt ((-1)) S else if a1 ≤ 20000 then X12_run_22 FU a1 0 S else rt ((-1)) S
noncomputable def X0_steps (S : Sx) : Rs Int32 :=
  rt (gI S 138 6) S
noncomputable def X12_steps (S : Sx) : Rs Int32 :=
  rt (gI S 167 14) S
noncomputable def X0_register (a1 : Int32) (S : Sx) : Rs Int64 :=
  if a1 < 0 then rt 0 S else if a1 ≤ 38 then if 32 ≤ a1 then if 37 ≤ a1 then if a1 = 37 then rt (gL S 138 5) S else rt ((gI S 139 3).toInt64) S else bd (X5_special (a1 - 32) S) (fun v1 S1 => rt v1 S1) else bd (X6_get a1 S) (fun v1 S1 => rt v1 S1) else rt 0 S
noncomputable def X12_register (a1 : Int32) (S : Sx) : Rs Int64 :=
  if a1 < 0 then rt 0 S else if a1 ≤ 38 then if 32 ≤ a1 then if 37 ≤ a1 then if a1 = 37 then rt (gL S 167 12) S else rt ((gI S 167 11).toInt64) S else lL S 172 5 (a1 - 32) (fun v1 => rt v1 S) else bd (X12_get a1 S) (fun v1 S1 => rt v1 S1) else rt 0 S
noncomputable def X2_peek (a1 : Int32) (S : Sx) : Rs Int32 :=
  lR S 6 1024 (a1 / 64) (fun v1 => vl v1 (fun v2 => if v2 = none then lI S 4 65536 a1 (fun v3 => rt (v3 &&& 255) S) else dO S (4 + 6) v2 (fun c3 => dO S 3 (gR S c3 0) (fun c5 => lI S c5 (gN S c5) (a1 - a1 / 64 * 64) (fun v4 => rt (v4 &&& 255) S)))))
noncomputable def X0_octa_15b (k15 : Int32 → Int64 → Int32 → Sx → Rs Int64) (x1 : Int32) (x2 : Int64) (x4 : Int32) (S : Sx) : Rs Int64 :=
  if 8 ≤ x4 then rt x2 S else bd (X2_peek ((x1 &&& ((-8))) + x4) S) (fun v1 S1 => vl ((x2 <<< (((8 : Int32)).toInt64 &&& 63)) ||| v1.toInt64) (fun v2 => vl (x4 + 1) (fun v3 => k15 x1 v2 v3 S1)))
noncomputable def X0_octa_15 : Nat → Int32 → Int64 → Int32 → Sx → Rs Int64
  | 0 => fun _ _ _ _ => none
  | n + 1 => X0_octa_15b  (X0_octa_15 n)
noncomputable def X0_octa (a1 : Int32) (S : Sx) : Rs Int64 :=
  bd (X0_isAddress a1.toInt64 S) (fun v1 S1 => if v1 = 0 then rt 0 S1 else X0_octa_15 FU a1 0 0 S1)
noncomputable def X12_octa (a1 : Int32) (S : Sx) : Rs Int64 :=
  if a1 < 0 then rt 0 S else if a1 < 65536 then bd (X12_number ((a1 / 8) * 8) 8 S) (fun v1 S1 => rt v1 S1) else rt 0 S
noncomputable def X0_outs (S : Sx) : Rs Int32 :=
  rt (gI S 138 9) S
noncomputable def X12_outs (S : Sx) : Rs Int32 :=
  rt (gI S 167 16) S
noncomputable def X0_out (a1 : Int32) (S : Sx) : Rs Int32 :=
  if a1 < 0 then rt ((-1)) S else if a1 < (gI S 138 9) then lI S 145 1000 a1 (fun v1 => rt v1 S) else rt ((-1)) S
noncomputable def X12_out (a1 : Int32) (S : Sx) : Rs Int32 :=
  if a1 < 0 then rt ((-1)) S else if a1 < (gI S 167 16) then lI S 174 1000 a1 (fun v1 => rt v1 S) else rt ((-1)) S
noncomputable def X0_told (a1 : Int32) (S : Sx) : Rs Int32 :=
  if a1 = 0 then rt (gI S 2 7) S else if a1 = 1 then rt (gI S 2 8) S else if a1 = 2 then rt (gI S 2 9) S else if a1 = 3 then rt (gI S 2 10) S else if a1 = 4 then rt (gI S 2 2) S else if a1 = 5 then rt (gI S 138 7) S else if a1 = 6 then if (gI S 0 6) = 0 then rt 0 S else rt 1 S else if a1 = 7 then bd (X5_left S) (fun v1 S1 => rt v1 S1) else rt 0 S
noncomputable def X12_told (a1 : Int32) (S : Sx) : Rs Int32 :=
  if a1 = 0 then rt (gI S 167 26) S else if a1 = 1 then rt (gI S 167 27) S else if a1 = 2 then rt (gI S 167 28) S else if a1 = 3 then rt (gI S 167 29) S else if a1 = 4 then rt (gI S 167 23) S else if a1 = 5 then rt (gI S 167 13) S else if a1 = 6 then if (gI S 167 7) = 0 then rt 0 S else rt 1 S else if a1 = 7 then rt (gI S 167 4) S else rt 0 S
noncomputable def X0_page (a1 : Int32) (S : Sx) : Rs Int32 :=
  if a1 < 0 then rt ((-1)) S else if a1 < (gI S 2 1) then lR S 3 64 a1 (fun v1 => dO S (4 + 6) v1 (fun c2 => rt (gI S c2 1) S)) else rt ((-1)) S
noncomputable def X12_page (a1 : Int32) (S : Sx) : Rs Int32 :=
  if a1 < 0 then rt ((-1)) S else if a1 < (gI S 167 17) then lI S 177 64 a1 (fun v1 => rt v1 S) else rt ((-1)) S
noncomputable def X0_digest_144b (k144 : Int64 → Int32 → Sx → Rs Int64) (x1 : Int64) (x3 : Int32) (S : Sx) : Rs Int64 :=
  if 65536 ≤ x3 then rt x1 S else bd (X0_octa x3 S) (fun v1 S1 => vl ((x1 * 31) + v1) (fun v2 => vl (x3 + 8) (fun v3 => k144 v2 v3 S1)))
noncomputable def X0_digest_144 : Nat → Int64 → Int32 → Sx → Rs Int64
  | 0 => fun _ _ _ => none
  | n + 1 => X0_digest_144b  (X0_digest_144 n)
noncomputable def X0_digest_112b (k112 : Int64 → Int32 → Sx → Rs Int64) (x1 : Int64) (x3 : Int32) (S : Sx) : Rs Int64 :=
  if (gI S 2 1) ≤ x3 then X0_digest_144 FU x1 0 S else bd (X0_page x3 S) (fun v1 S1 => vl ((x1 * 31) + v1.toInt64) (fun v2 => vl (x3 + 1) (fun v3 => k112 v2 v3 S1)))
noncomputable def X0_digest_112 : Nat → Int64 → Int32 → Sx → Rs Int64
  | 0 => fun _ _ _ => none
  | n + 1 => X0_digest_112b  (X0_digest_112 n)
noncomputable def X0_digest_83b (k83 : Int64 → Int32 → Sx → Rs Int64) (x1 : Int64) (x3 : Int32) (S : Sx) : Rs Int64 :=
  bd (X0_outs S) (fun v1 S1 => if v1 ≤ x3 then X0_digest_112 FU x1 0 S1 else bd (X0_out x3 S1) (fun v2 S2 => vl ((x1 * 31) + v2.toInt64) (fun v3 => vl (x3 + 1) (fun v4 => k83 v3 v4 S2))))
noncomputable def X0_digest_83 : Nat → Int64 → Int32 → Sx → Rs Int64
  | 0 => fun _ _ _ => none
  | n + 1 => X0_digest_83b  (X0_digest_83 n)
noncomputable def X0_digest_44b (k44 : Int64 → Int32 → Sx → Rs Int64) (x1 : Int64) (x3 : Int32) (S : Sx) : Rs Int64 :=
  if 7 < x3 then bd (X0_outs S) (fun v1 S1 => vl ((x1 * 31) + v1.toInt64) (fun v2 => X0_digest_83 FU v2 0 S1)) else bd (X0_told x3 S) (fun v1 S1 => vl ((x1 * 31) + v1.toInt64) (fun v2 => vl (x3 + 1) (fun v3 => k44 v2 v3 S1)))
noncomputable def X0_digest_44 : Nat → Int64 → Int32 → Sx → Rs Int64
  | 0 => fun _ _ _ => none
  | n + 1 => X0_digest_44b  (X0_digest_44 n)
noncomputable def X0_digest_6b (k6 : Int64 → Int32 → Sx → Rs Int64) (x1 : Int64) (x3 : Int32) (S : Sx) : Rs Int64 :=
  if 38 < x3 then bd (X0_steps S) (fun v1 S1 => vl ((x1 * 31) + v1.toInt64) (fun v2 => X0_digest_44 FU v2 0 S1)) else bd (X0_register x3 S) (fun v1 S1 => vl ((x1 * 31) + v1) (fun v2 => vl (x3 + 1) (fun v3 => k6 v2 v3 S1)))
noncomputable def X0_digest_6 : Nat → Int64 → Int32 → Sx → Rs Int64
  | 0 => fun _ _ _ => none
  | n + 1 => X0_digest_6b  (X0_digest_6 n)
noncomputable def X0_digest (S : Sx) : Rs Int64 :=
  X0_digest_6 FU 7 0 S
noncomputable def X12_digest_142b (k142 : Int64 → Int32 → Sx → Rs Int64) (x1 : Int64) (x3 : Int32) (S : Sx) : Rs Int64 :=
  if 65536 ≤ x3 then rt x1 S else bd (X12_octa x3 S) (fun v1 S1 => vl ((x1 * 31) + v1) (fun v2 => vl (x3 + 8) (fun v3 => k142 v2 v3 S1)))
noncomputable def X12_digest_142 : Nat → Int64 → Int32 → Sx → Rs Int64
  | 0 => fun _ _ _ => none
  | n + 1 => X12_digest_142b  (X12_digest_142 n)
noncomputable def X12_digest_113b (k113 : Int64 → Int32 → Sx → Rs Int64) (x1 : Int64) (x3 : Int32) (S : Sx) : Rs Int64 :=
  if (gI S 167 17) ≤ x3 then X12_digest_142 FU x1 0 S else bd (X12_page x3 S) (fun v1 S1 => vl ((x1 * 31) + v1.toInt64) (fun v2 => vl (x3 + 1) (fun v3 => k113 v2 v3 S1)))
noncomputable def X12_digest_113 : Nat → Int64 → Int32 → Sx → Rs Int64
  | 0 => fun _ _ _ => none
  | n + 1 => X12_digest_113b  (X12_digest_113 n)
noncomputable def X12_digest_83b (k83 : Int64 → Int32 → Sx → Rs Int64) (x1 : Int64) (x3 : Int32) (S : Sx) : Rs Int64 :=
  if (gI S 167 16) ≤ x3 then X12_digest_113 FU x1 0 S else lI S 174 1000 x3 (fun v1 => vl ((x1 * 31) + v1.toInt64) (fun v2 => vl (x3 + 1) (fun v3 => k83 v2 v3 S)))
noncomputable def X12_digest_83 : Nat → Int64 → Int32 → Sx → Rs Int64
  | 0 => fun _ _ _ => none
  | n + 1 => X12_digest_83b  (X12_digest_83 n)
noncomputable def X12_digest_44b (k44 : Int64 → Int32 → Sx → Rs Int64) (x1 : Int64) (x3 : Int32) (S : Sx) : Rs Int64 :=
  if 8 ≤ x3 then vl ((x1 * 31) + ((gI S 167 16).toInt64)) (fun v1 => X12_digest_83 FU v1 0 S) else bd (X12_told x3 S) (fun v1 S1 => vl ((x1 * 31) + v1.toInt64) (fun v2 => vl (x3 + 1) (fun v3 => k44 v2 v3 S1)))
noncomputable def X12_digest_44 : Nat → Int64 → Int32 → Sx → Rs Int64
  | 0 => fun _ _ _ => none
  | n + 1 => X12_digest_44b  (X12_digest_44 n)
noncomputable def X12_digest_6b (k6 : Int64 → Int32 → Sx → Rs Int64) (x1 : Int64) (x3 : Int32) (S : Sx) : Rs Int64 :=
  if 39 ≤ x3 then vl ((x1 * 31) + ((gI S 167 14).toInt64)) (fun v1 => X12_digest_44 FU v1 0 S) else bd (X12_register x3 S) (fun v1 S1 => vl ((x1 * 31) + v1) (fun v2 => vl (x3 + 1) (fun v3 => k6 v2 v3 S1)))
noncomputable def X12_digest_6 : Nat → Int64 → Int32 → Sx → Rs Int64
  | 0 => fun _ _ _ => none
  | n + 1 => X12_digest_6b  (X12_digest_6 n)
noncomputable def X12_digest (S : Sx) : Rs Int64 :=
  X12_digest_6 FU 7 0 S
