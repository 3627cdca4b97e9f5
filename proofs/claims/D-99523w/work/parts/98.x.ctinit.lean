-- NEEDS: 98
/-! THE TWIN: its constructor -/
abbrev MAR : List Nat := [mTAPE, mSIGN, mLENG, mCLAU, mCLSS, mREAD, mOPEN, mSTCK, mWORD, mSAID, mWASS, mKEPT, mFAR, mWASI, mOUTO, mHASB, mWHER, mISFI, mCELT, mIMGS, mIMGF, mIMGX, mISMA]
theorem MP_of {f : Int → Option Nat} (h : ∀ m, f m = if m = 40 then some mISMA else if m = 39 then some mIMGX else if m = 38 then some mIMGF else if m = 37 then some mIMGS else if m = 35 then some mCELT else if m = 34 then some mISFI else if m = 33 then some mWHER else if m = 32 then some mHASB else if m = 28 then some mOUTO else if m = 27 then some mWASI else if m = 26 then some mFAR else if m = 25 then some mKEPT else if m = 23 then some mWASS else if m = 20 then some mSAID else if m = 19 then some mWORD else if m = 17 then some mSTCK else if m = 15 then some mOPEN else if m = 7 then some mREAD else if m = 6 then some mCLSS else if m = 5 then some mCLAU else if m = 4 then some mLENG else if m = 3 then some mSIGN else if m = 0 then some mTAPE else none) : f = MP := by
  funext m
  rw [h m]
  by_cases z0 : m = 0
  · subst z0; rfl
  by_cases z3 : m = 3
  · subst z3; rfl
  by_cases z4 : m = 4
  · subst z4; rfl
  by_cases z5 : m = 5
  · subst z5; rfl
  by_cases z6 : m = 6
  · subst z6; rfl
  by_cases z7 : m = 7
  · subst z7; rfl
  by_cases z15 : m = 15
  · subst z15; rfl
  by_cases z17 : m = 17
  · subst z17; rfl
  by_cases z19 : m = 19
  · subst z19; rfl
  by_cases z20 : m = 20
  · subst z20; rfl
  by_cases z23 : m = 23
  · subst z23; rfl
  by_cases z25 : m = 25
  · subst z25; rfl
  by_cases z26 : m = 26
  · subst z26; rfl
  by_cases z27 : m = 27
  · subst z27; rfl
  by_cases z28 : m = 28
  · subst z28; rfl
  by_cases z32 : m = 32
  · subst z32; rfl
  by_cases z33 : m = 33
  · subst z33; rfl
  by_cases z34 : m = 34
  · subst z34; rfl
  by_cases z35 : m = 35
  · subst z35; rfl
  by_cases z37 : m = 37
  · subst z37; rfl
  by_cases z38 : m = 38
  · subst z38; rfl
  by_cases z39 : m = 39
  · subst z39; rfl
  by_cases z40 : m = 40
  · subst z40; rfl
  rw [if_neg z0, if_neg z3, if_neg z4, if_neg z5, if_neg z6, if_neg z7, if_neg z15, if_neg z17, if_neg z19, if_neg z20, if_neg z23, if_neg z25, if_neg z26, if_neg z27, if_neg z28, if_neg z32, if_neg z33, if_neg z34, if_neg z35, if_neg z37, if_neg z38, if_neg z39, if_neg z40]
  unfold MP
  split <;> first | rfl | (exfalso; omega)
set_option maxRecDepth 20000 in
set_option maxHeartbeats 2000000 in
theorem t_init {d : Nat} {h : AH} {Φ : OUT → AH → Prop} {mc ms : Nat} (hn : hN h = 284) (hp : ∀ m, hP h M m = none) (hi : ∀ m, hI h M m = 0) (hmc : 23 ≤ mc) (hms : 6665 ≤ ms)
    (K : ∀ p, hN p = 307 → hP p M = MP → (∀ m, hI p M m = if m = 21 then -1 else 0) → (∀ a ∈ MAR, ∀ m, hI p a m = 0 ∧ hL p a m = 0) → NX [M] [] h p → Φ (.inl none) p) : CT (d + 1) mc ms J_X4_init [vo M] h Φ := by
  refine e_X4_init ?_; intro k step keep
  have MX : M ≠ X := by decide
  have tm : tg M ≠ 10 := by decide
  refine step ?_
  refine step ?_
  refine And.intro tm ?_
  refine And.intro rfl ?_
  refine step ?_
  refine step ?_
  refine step ?_
  refine And.intro (by decide) ?_
  refine And.intro (by decide) ?_
  refine And.intro (by omega) ?_
  refine And.intro (Nat.le_trans (show 0 + (400 : Int).toNat ≤ 6665 by decide) hms) ?_
  generalize ea0 : nwA h 1 (400 : Int).toNat = a0
  generalize eq0 : nwH h 1 (400 : Int).toNat = q0
  obtain ⟨u0, v0, w0, x0, y0, z0⟩ := nw_65 ea0 eq0 (by decide) (by decide) (by rw [hn]; decide)
  have s0 : a0 = mTAPE := by rw [u0, hn]; rfl
  rw [s0] at w0 x0 y0
  rw [s0]
  refine step ?_
  refine And.intro rfl ?_
  refine wpP (fun p0 W0 g0 i0 => ?_)
  have n0 : hN p0 = 285 := by rw [W0.1, v0, hn]
  have N0 : NX [M] [] h p0 := (z0.up (by simp) (by simp)).w W0 (Or.inl (by simp)) MX
  have I0 : ∀ m, hI p0 mTAPE m = 0 := fun m => by rw [W0.2.1 _ (by decide)]; exact w0 m
  have L0 : ∀ m, hL p0 mTAPE m = 0 := fun m => by rw [W0.2.2.2]; exact y0 m
  have P0 : ∀ m, hP p0 M m = if m = 0 then some mTAPE else hP h M m := fun m => by rw [g0 m, z0.2.2.2.1 M (by rw [hn]; decide) (by simp)]
  refine step ?_
  refine step ?_
  refine step ?_
  refine And.intro (by decide) ?_
  refine And.intro (by decide) ?_
  refine And.intro (by omega) ?_
  refine And.intro (Nat.le_trans (show 400 + (2400 : Int).toNat ≤ 6665 by decide) hms) ?_
  generalize ea1 : nwA p0 0 (2400 : Int).toNat = a1
  generalize eq1 : nwH p0 0 (2400 : Int).toNat = q1
  obtain ⟨u1, v1, w1, x1, y1, z1⟩ := nw_65 ea1 eq1 (by decide) (by decide) (by rw [n0]; decide)
  have s1 : a1 = mSIGN := by rw [u1, n0]; rfl
  rw [s1] at w1 x1 y1
  rw [s1]
  refine step ?_
  refine And.intro rfl ?_
  refine wpP (fun p1 W1 g1 i1 => ?_)
  have n1 : hN p1 = 286 := by rw [W1.1, v1, n0]
  have N1 : NX [M] [] p0 p1 := (z1.up (by simp) (by simp)).w W1 (Or.inl (by simp)) MX
  have I1 : ∀ m, hI p1 mSIGN m = 0 := fun m => by rw [W1.2.1 _ (by decide)]; exact w1 m
  have L1 : ∀ m, hL p1 mSIGN m = 0 := fun m => by rw [W1.2.2.2]; exact y1 m
  have P1 : ∀ m, hP p1 M m = if m = 3 then some mSIGN else hP p0 M m := fun m => by rw [g1 m, z1.2.2.2.1 M (by rw [n0]; decide) (by simp)]
  refine step ?_
  refine step ?_
  refine step ?_
  refine And.intro (by decide) ?_
  refine And.intro (by decide) ?_
  refine And.intro (by omega) ?_
  refine And.intro (Nat.le_trans (show 2800 + (7 : Int).toNat ≤ 6665 by decide) hms) ?_
  generalize ea2 : nwA p1 0 (7 : Int).toNat = a2
  generalize eq2 : nwH p1 0 (7 : Int).toNat = q2
  obtain ⟨u2, v2, w2, x2, y2, z2⟩ := nw_65 ea2 eq2 (by decide) (by decide) (by rw [n1]; decide)
  have s2 : a2 = mLENG := by rw [u2, n1]; rfl
  rw [s2] at w2 x2 y2
  rw [s2]
  refine step ?_
  refine And.intro rfl ?_
  refine wpP (fun p2 W2 g2 i2 => ?_)
  have n2 : hN p2 = 287 := by rw [W2.1, v2, n1]
  have N2 : NX [M] [] p1 p2 := (z2.up (by simp) (by simp)).w W2 (Or.inl (by simp)) MX
  have I2 : ∀ m, hI p2 mLENG m = 0 := fun m => by rw [W2.2.1 _ (by decide)]; exact w2 m
  have L2 : ∀ m, hL p2 mLENG m = 0 := fun m => by rw [W2.2.2.2]; exact y2 m
  have P2 : ∀ m, hP p2 M m = if m = 4 then some mLENG else hP p1 M m := fun m => by rw [g2 m, z2.2.2.2.1 M (by rw [n1]; decide) (by simp)]
  refine step ?_
  refine step ?_
  refine step ?_
  refine And.intro (by decide) ?_
  refine And.intro (by decide) ?_
  refine And.intro (by omega) ?_
  refine And.intro (Nat.le_trans (show 2807 + (288 : Int).toNat ≤ 6665 by decide) hms) ?_
  generalize ea3 : nwA p2 0 (288 : Int).toNat = a3
  generalize eq3 : nwH p2 0 (288 : Int).toNat = q3
  obtain ⟨u3, v3, w3, x3, y3, z3⟩ := nw_65 ea3 eq3 (by decide) (by decide) (by rw [n2]; decide)
  have s3 : a3 = mCLAU := by rw [u3, n2]; rfl
  rw [s3] at w3 x3 y3
  rw [s3]
  refine step ?_
  refine And.intro rfl ?_
  refine wpP (fun p3 W3 g3 i3 => ?_)
  have n3 : hN p3 = 288 := by rw [W3.1, v3, n2]
  have N3 : NX [M] [] p2 p3 := (z3.up (by simp) (by simp)).w W3 (Or.inl (by simp)) MX
  have I3 : ∀ m, hI p3 mCLAU m = 0 := fun m => by rw [W3.2.1 _ (by decide)]; exact w3 m
  have L3 : ∀ m, hL p3 mCLAU m = 0 := fun m => by rw [W3.2.2.2]; exact y3 m
  have P3 : ∀ m, hP p3 M m = if m = 5 then some mCLAU else hP p2 M m := fun m => by rw [g3 m, z3.2.2.2.1 M (by rw [n2]; decide) (by simp)]
  refine step ?_
  refine step ?_
  refine step ?_
  refine And.intro (by decide) ?_
  refine And.intro (by decide) ?_
  refine And.intro (by omega) ?_
  refine And.intro (Nat.le_trans (show 3095 + (6 : Int).toNat ≤ 6665 by decide) hms) ?_
  generalize ea4 : nwA p3 0 (6 : Int).toNat = a4
  generalize eq4 : nwH p3 0 (6 : Int).toNat = q4
  obtain ⟨u4, v4, w4, x4, y4, z4⟩ := nw_65 ea4 eq4 (by decide) (by decide) (by rw [n3]; decide)
  have s4 : a4 = mCLSS := by rw [u4, n3]; rfl
  rw [s4] at w4 x4 y4
  rw [s4]
  refine step ?_
  refine And.intro rfl ?_
  refine wpP (fun p4 W4 g4 i4 => ?_)
  have n4 : hN p4 = 289 := by rw [W4.1, v4, n3]
  have N4 : NX [M] [] p3 p4 := (z4.up (by simp) (by simp)).w W4 (Or.inl (by simp)) MX
  have I4 : ∀ m, hI p4 mCLSS m = 0 := fun m => by rw [W4.2.1 _ (by decide)]; exact w4 m
  have L4 : ∀ m, hL p4 mCLSS m = 0 := fun m => by rw [W4.2.2.2]; exact y4 m
  have P4 : ∀ m, hP p4 M m = if m = 6 then some mCLSS else hP p3 M m := fun m => by rw [g4 m, z4.2.2.2.1 M (by rw [n3]; decide) (by simp)]
  refine step ?_
  refine step ?_
  refine step ?_
  refine And.intro (by decide) ?_
  refine And.intro (by decide) ?_
  refine And.intro (by omega) ?_
  refine And.intro (Nat.le_trans (show 3101 + (145 : Int).toNat ≤ 6665 by decide) hms) ?_
  generalize ea5 : nwA p4 0 (145 : Int).toNat = a5
  generalize eq5 : nwH p4 0 (145 : Int).toNat = q5
  obtain ⟨u5, v5, w5, x5, y5, z5⟩ := nw_65 ea5 eq5 (by decide) (by decide) (by rw [n4]; decide)
  have s5 : a5 = mREAD := by rw [u5, n4]; rfl
  rw [s5] at w5 x5 y5
  rw [s5]
  refine step ?_
  refine And.intro rfl ?_
  refine wpP (fun p5 W5 g5 i5 => ?_)
  have n5 : hN p5 = 290 := by rw [W5.1, v5, n4]
  have N5 : NX [M] [] p4 p5 := (z5.up (by simp) (by simp)).w W5 (Or.inl (by simp)) MX
  have I5 : ∀ m, hI p5 mREAD m = 0 := fun m => by rw [W5.2.1 _ (by decide)]; exact w5 m
  have L5 : ∀ m, hL p5 mREAD m = 0 := fun m => by rw [W5.2.2.2]; exact y5 m
  have P5 : ∀ m, hP p5 M m = if m = 7 then some mREAD else hP p4 M m := fun m => by rw [g5 m, z5.2.2.2.1 M (by rw [n4]; decide) (by simp)]
  refine step ?_
  refine step ?_
  refine step ?_
  refine And.intro (by decide) ?_
  refine And.intro (by decide) ?_
  refine And.intro (by omega) ?_
  refine And.intro (Nat.le_trans (show 3246 + (400 : Int).toNat ≤ 6665 by decide) hms) ?_
  generalize ea6 : nwA p5 0 (400 : Int).toNat = a6
  generalize eq6 : nwH p5 0 (400 : Int).toNat = q6
  obtain ⟨u6, v6, w6, x6, y6, z6⟩ := nw_65 ea6 eq6 (by decide) (by decide) (by rw [n5]; decide)
  have s6 : a6 = mOPEN := by rw [u6, n5]; rfl
  rw [s6] at w6 x6 y6
  rw [s6]
  refine step ?_
  refine And.intro rfl ?_
  refine wpP (fun p6 W6 g6 i6 => ?_)
  have n6 : hN p6 = 291 := by rw [W6.1, v6, n5]
  have N6 : NX [M] [] p5 p6 := (z6.up (by simp) (by simp)).w W6 (Or.inl (by simp)) MX
  have I6 : ∀ m, hI p6 mOPEN m = 0 := fun m => by rw [W6.2.1 _ (by decide)]; exact w6 m
  have L6 : ∀ m, hL p6 mOPEN m = 0 := fun m => by rw [W6.2.2.2]; exact y6 m
  have P6 : ∀ m, hP p6 M m = if m = 15 then some mOPEN else hP p5 M m := fun m => by rw [g6 m, z6.2.2.2.1 M (by rw [n5]; decide) (by simp)]
  refine step ?_
  refine step ?_
  refine step ?_
  refine And.intro (by decide) ?_
  refine And.intro (by decide) ?_
  refine And.intro (by omega) ?_
  refine And.intro (Nat.le_trans (show 3646 + (64 : Int).toNat ≤ 6665 by decide) hms) ?_
  generalize ea7 : nwA p6 3 (64 : Int).toNat = a7
  generalize eq7 : nwH p6 3 (64 : Int).toNat = q7
  obtain ⟨u7, v7, w7, x7, y7, z7⟩ := nw_65 ea7 eq7 (by decide) (by decide) (by rw [n6]; decide)
  have s7 : a7 = mSTCK := by rw [u7, n6]; rfl
  rw [s7] at w7 x7 y7
  rw [s7]
  refine step ?_
  refine And.intro rfl ?_
  refine wpP (fun p7 W7 g7 i7 => ?_)
  have n7 : hN p7 = 292 := by rw [W7.1, v7, n6]
  have N7 : NX [M] [] p6 p7 := (z7.up (by simp) (by simp)).w W7 (Or.inl (by simp)) MX
  have I7 : ∀ m, hI p7 mSTCK m = 0 := fun m => by rw [W7.2.1 _ (by decide)]; exact w7 m
  have L7 : ∀ m, hL p7 mSTCK m = 0 := fun m => by rw [W7.2.2.2]; exact y7 m
  have P7 : ∀ m, hP p7 M m = if m = 17 then some mSTCK else hP p6 M m := fun m => by rw [g7 m, z7.2.2.2.1 M (by rw [n6]; decide) (by simp)]
  refine step ?_
  refine step ?_
  refine step ?_
  refine And.intro (by decide) ?_
  refine And.intro (by decide) ?_
  refine And.intro (by omega) ?_
  refine And.intro (Nat.le_trans (show 3710 + (11 : Int).toNat ≤ 6665 by decide) hms) ?_
  generalize ea8 : nwA p7 3 (11 : Int).toNat = a8
  generalize eq8 : nwH p7 3 (11 : Int).toNat = q8
  obtain ⟨u8, v8, w8, x8, y8, z8⟩ := nw_65 ea8 eq8 (by decide) (by decide) (by rw [n7]; decide)
  have s8 : a8 = mWORD := by rw [u8, n7]; rfl
  rw [s8] at w8 x8 y8
  rw [s8]
  refine step ?_
  refine And.intro rfl ?_
  refine wpP (fun p8 W8 g8 i8 => ?_)
  have n8 : hN p8 = 293 := by rw [W8.1, v8, n7]
  have N8 : NX [M] [] p7 p8 := (z8.up (by simp) (by simp)).w W8 (Or.inl (by simp)) MX
  have I8 : ∀ m, hI p8 mWORD m = 0 := fun m => by rw [W8.2.1 _ (by decide)]; exact w8 m
  have L8 : ∀ m, hL p8 mWORD m = 0 := fun m => by rw [W8.2.2.2]; exact y8 m
  have P8 : ∀ m, hP p8 M m = if m = 19 then some mWORD else hP p7 M m := fun m => by rw [g8 m, z8.2.2.2.1 M (by rw [n7]; decide) (by simp)]
  refine step ?_
  refine step ?_
  refine step ?_
  refine And.intro (by decide) ?_
  refine And.intro (by decide) ?_
  refine And.intro (by omega) ?_
  refine And.intro (Nat.le_trans (show 3721 + (176 : Int).toNat ≤ 6665 by decide) hms) ?_
  generalize ea9 : nwA p8 0 (176 : Int).toNat = a9
  generalize eq9 : nwH p8 0 (176 : Int).toNat = q9
  obtain ⟨u9, v9, w9, x9, y9, z9⟩ := nw_65 ea9 eq9 (by decide) (by decide) (by rw [n8]; decide)
  have s9 : a9 = mSAID := by rw [u9, n8]; rfl
  rw [s9] at w9 x9 y9
  rw [s9]
  refine step ?_
  refine And.intro rfl ?_
  refine wpP (fun p9 W9 g9 i9 => ?_)
  have n9 : hN p9 = 294 := by rw [W9.1, v9, n8]
  have N9 : NX [M] [] p8 p9 := (z9.up (by simp) (by simp)).w W9 (Or.inl (by simp)) MX
  have I9 : ∀ m, hI p9 mSAID m = 0 := fun m => by rw [W9.2.1 _ (by decide)]; exact w9 m
  have L9 : ∀ m, hL p9 mSAID m = 0 := fun m => by rw [W9.2.2.2]; exact y9 m
  have P9 : ∀ m, hP p9 M m = if m = 20 then some mSAID else hP p8 M m := fun m => by rw [g9 m, z9.2.2.2.1 M (by rw [n8]; decide) (by simp)]
  refine step ?_
  refine step ?_
  refine step ?_
  refine And.intro rfl ?_
  refine wpI (fun pj Wj ej gj => ?_)
  have nj : hN pj = 294 := by rw [Wj.1]; exact n9
  have Nj : NX [M] [] p9 pj := NX.rf.w Wj (Or.inl (by simp)) MX
  have Pj : ∀ m, hP pj M m = hP p9 M m := gj
  refine step ?_
  refine step ?_
  refine step ?_
  refine And.intro (by decide) ?_
  refine And.intro (by decide) ?_
  refine And.intro (by omega) ?_
  refine And.intro (Nat.le_trans (show 3897 + (1520 : Int).toNat ≤ 6665 by decide) hms) ?_
  generalize ea10 : nwA pj 0 (1520 : Int).toNat = a10
  generalize eq10 : nwH pj 0 (1520 : Int).toNat = q10
  obtain ⟨u10, v10, w10, x10, y10, z10⟩ := nw_65 ea10 eq10 (by decide) (by decide) (by rw [nj]; decide)
  have s10 : a10 = mWASS := by rw [u10, nj]; rfl
  rw [s10] at w10 x10 y10
  rw [s10]
  refine step ?_
  refine And.intro rfl ?_
  refine wpP (fun p10 W10 g10 i10 => ?_)
  have n10 : hN p10 = 295 := by rw [W10.1, v10, nj]
  have N10 : NX [M] [] pj p10 := (z10.up (by simp) (by simp)).w W10 (Or.inl (by simp)) MX
  have I10 : ∀ m, hI p10 mWASS m = 0 := fun m => by rw [W10.2.1 _ (by decide)]; exact w10 m
  have L10 : ∀ m, hL p10 mWASS m = 0 := fun m => by rw [W10.2.2.2]; exact y10 m
  have P10 : ∀ m, hP p10 M m = if m = 23 then some mWASS else hP pj M m := fun m => by rw [g10 m, z10.2.2.2.1 M (by rw [nj]; decide) (by simp)]
  refine step ?_
  refine step ?_
  refine step ?_
  refine And.intro (by decide) ?_
  refine And.intro (by decide) ?_
  refine And.intro (by omega) ?_
  refine And.intro (Nat.le_trans (show 5417 + (76 : Int).toNat ≤ 6665 by decide) hms) ?_
  generalize ea11 : nwA p10 0 (76 : Int).toNat = a11
  generalize eq11 : nwH p10 0 (76 : Int).toNat = q11
  obtain ⟨u11, v11, w11, x11, y11, z11⟩ := nw_65 ea11 eq11 (by decide) (by decide) (by rw [n10]; decide)
  have s11 : a11 = mKEPT := by rw [u11, n10]; rfl
  rw [s11] at w11 x11 y11
  rw [s11]
  refine step ?_
  refine And.intro rfl ?_
  refine wpP (fun p11 W11 g11 i11 => ?_)
  have n11 : hN p11 = 296 := by rw [W11.1, v11, n10]
  have N11 : NX [M] [] p10 p11 := (z11.up (by simp) (by simp)).w W11 (Or.inl (by simp)) MX
  have I11 : ∀ m, hI p11 mKEPT m = 0 := fun m => by rw [W11.2.1 _ (by decide)]; exact w11 m
  have L11 : ∀ m, hL p11 mKEPT m = 0 := fun m => by rw [W11.2.2.2]; exact y11 m
  have P11 : ∀ m, hP p11 M m = if m = 25 then some mKEPT else hP p10 M m := fun m => by rw [g11 m, z11.2.2.2.1 M (by rw [n10]; decide) (by simp)]
  refine step ?_
  refine step ?_
  refine step ?_
  refine And.intro (by decide) ?_
  refine And.intro (by decide) ?_
  refine And.intro (by omega) ?_
  refine And.intro (Nat.le_trans (show 5493 + (36 : Int).toNat ≤ 6665 by decide) hms) ?_
  generalize ea12 : nwA p11 0 (36 : Int).toNat = a12
  generalize eq12 : nwH p11 0 (36 : Int).toNat = q12
  obtain ⟨u12, v12, w12, x12, y12, z12⟩ := nw_65 ea12 eq12 (by decide) (by decide) (by rw [n11]; decide)
  have s12 : a12 = mFAR := by rw [u12, n11]; rfl
  rw [s12] at w12 x12 y12
  rw [s12]
  refine step ?_
  refine And.intro rfl ?_
  refine wpP (fun p12 W12 g12 i12 => ?_)
  have n12 : hN p12 = 297 := by rw [W12.1, v12, n11]
  have N12 : NX [M] [] p11 p12 := (z12.up (by simp) (by simp)).w W12 (Or.inl (by simp)) MX
  have I12 : ∀ m, hI p12 mFAR m = 0 := fun m => by rw [W12.2.1 _ (by decide)]; exact w12 m
  have L12 : ∀ m, hL p12 mFAR m = 0 := fun m => by rw [W12.2.2.2]; exact y12 m
  have P12 : ∀ m, hP p12 M m = if m = 26 then some mFAR else hP p11 M m := fun m => by rw [g12 m, z12.2.2.2.1 M (by rw [n11]; decide) (by simp)]
  refine step ?_
  refine step ?_
  refine step ?_
  refine And.intro (by decide) ?_
  refine And.intro (by decide) ?_
  refine And.intro (by omega) ?_
  refine And.intro (Nat.le_trans (show 5529 + (36 : Int).toNat ≤ 6665 by decide) hms) ?_
  generalize ea13 : nwA p12 2 (36 : Int).toNat = a13
  generalize eq13 : nwH p12 2 (36 : Int).toNat = q13
  obtain ⟨u13, v13, w13, x13, y13, z13⟩ := nw_65 ea13 eq13 (by decide) (by decide) (by rw [n12]; decide)
  have s13 : a13 = mWASI := by rw [u13, n12]; rfl
  rw [s13] at w13 x13 y13
  rw [s13]
  refine step ?_
  refine And.intro rfl ?_
  refine wpP (fun p13 W13 g13 i13 => ?_)
  have n13 : hN p13 = 298 := by rw [W13.1, v13, n12]
  have N13 : NX [M] [] p12 p13 := (z13.up (by simp) (by simp)).w W13 (Or.inl (by simp)) MX
  have I13 : ∀ m, hI p13 mWASI m = 0 := fun m => by rw [W13.2.1 _ (by decide)]; exact w13 m
  have L13 : ∀ m, hL p13 mWASI m = 0 := fun m => by rw [W13.2.2.2]; exact y13 m
  have P13 : ∀ m, hP p13 M m = if m = 27 then some mWASI else hP p12 M m := fun m => by rw [g13 m, z13.2.2.2.1 M (by rw [n12]; decide) (by simp)]
  refine step ?_
  refine step ?_
  refine step ?_
  refine And.intro (by decide) ?_
  refine And.intro (by decide) ?_
  refine And.intro (by omega) ?_
  refine And.intro (Nat.le_trans (show 5565 + (5 : Int).toNat ≤ 6665 by decide) hms) ?_
  generalize ea14 : nwA p13 0 (5 : Int).toNat = a14
  generalize eq14 : nwH p13 0 (5 : Int).toNat = q14
  obtain ⟨u14, v14, w14, x14, y14, z14⟩ := nw_65 ea14 eq14 (by decide) (by decide) (by rw [n13]; decide)
  have s14 : a14 = mOUTO := by rw [u14, n13]; rfl
  rw [s14] at w14 x14 y14
  rw [s14]
  refine step ?_
  refine And.intro rfl ?_
  refine wpP (fun p14 W14 g14 i14 => ?_)
  have n14 : hN p14 = 299 := by rw [W14.1, v14, n13]
  have N14 : NX [M] [] p13 p14 := (z14.up (by simp) (by simp)).w W14 (Or.inl (by simp)) MX
  have I14 : ∀ m, hI p14 mOUTO m = 0 := fun m => by rw [W14.2.1 _ (by decide)]; exact w14 m
  have L14 : ∀ m, hL p14 mOUTO m = 0 := fun m => by rw [W14.2.2.2]; exact y14 m
  have P14 : ∀ m, hP p14 M m = if m = 28 then some mOUTO else hP p13 M m := fun m => by rw [g14 m, z14.2.2.2.1 M (by rw [n13]; decide) (by simp)]
  refine step ?_
  refine step ?_
  refine step ?_
  refine And.intro (by decide) ?_
  refine And.intro (by decide) ?_
  refine And.intro (by omega) ?_
  refine And.intro (Nat.le_trans (show 5570 + (32 : Int).toNat ≤ 6665 by decide) hms) ?_
  generalize ea15 : nwA p14 0 (32 : Int).toNat = a15
  generalize eq15 : nwH p14 0 (32 : Int).toNat = q15
  obtain ⟨u15, v15, w15, x15, y15, z15⟩ := nw_65 ea15 eq15 (by decide) (by decide) (by rw [n14]; decide)
  have s15 : a15 = mHASB := by rw [u15, n14]; rfl
  rw [s15] at w15 x15 y15
  rw [s15]
  refine step ?_
  refine And.intro rfl ?_
  refine wpP (fun p15 W15 g15 i15 => ?_)
  have n15 : hN p15 = 300 := by rw [W15.1, v15, n14]
  have N15 : NX [M] [] p14 p15 := (z15.up (by simp) (by simp)).w W15 (Or.inl (by simp)) MX
  have I15 : ∀ m, hI p15 mHASB m = 0 := fun m => by rw [W15.2.1 _ (by decide)]; exact w15 m
  have L15 : ∀ m, hL p15 mHASB m = 0 := fun m => by rw [W15.2.2.2]; exact y15 m
  have P15 : ∀ m, hP p15 M m = if m = 32 then some mHASB else hP p14 M m := fun m => by rw [g15 m, z15.2.2.2.1 M (by rw [n14]; decide) (by simp)]
  refine step ?_
  refine step ?_
  refine step ?_
  refine And.intro (by decide) ?_
  refine And.intro (by decide) ?_
  refine And.intro (by omega) ?_
  refine And.intro (Nat.le_trans (show 5602 + (305 : Int).toNat ≤ 6665 by decide) hms) ?_
  generalize ea16 : nwA p15 0 (305 : Int).toNat = a16
  generalize eq16 : nwH p15 0 (305 : Int).toNat = q16
  obtain ⟨u16, v16, w16, x16, y16, z16⟩ := nw_65 ea16 eq16 (by decide) (by decide) (by rw [n15]; decide)
  have s16 : a16 = mWHER := by rw [u16, n15]; rfl
  rw [s16] at w16 x16 y16
  rw [s16]
  refine step ?_
  refine And.intro rfl ?_
  refine wpP (fun p16 W16 g16 i16 => ?_)
  have n16 : hN p16 = 301 := by rw [W16.1, v16, n15]
  have N16 : NX [M] [] p15 p16 := (z16.up (by simp) (by simp)).w W16 (Or.inl (by simp)) MX
  have I16 : ∀ m, hI p16 mWHER m = 0 := fun m => by rw [W16.2.1 _ (by decide)]; exact w16 m
  have L16 : ∀ m, hL p16 mWHER m = 0 := fun m => by rw [W16.2.2.2]; exact y16 m
  have P16 : ∀ m, hP p16 M m = if m = 33 then some mWHER else hP p15 M m := fun m => by rw [g16 m, z16.2.2.2.1 M (by rw [n15]; decide) (by simp)]
  refine step ?_
  refine step ?_
  refine step ?_
  refine And.intro (by decide) ?_
  refine And.intro (by decide) ?_
  refine And.intro (by omega) ?_
  refine And.intro (Nat.le_trans (show 5907 + (7 : Int).toNat ≤ 6665 by decide) hms) ?_
  generalize ea17 : nwA p16 2 (7 : Int).toNat = a17
  generalize eq17 : nwH p16 2 (7 : Int).toNat = q17
  obtain ⟨u17, v17, w17, x17, y17, z17⟩ := nw_65 ea17 eq17 (by decide) (by decide) (by rw [n16]; decide)
  have s17 : a17 = mISFI := by rw [u17, n16]; rfl
  rw [s17] at w17 x17 y17
  rw [s17]
  refine step ?_
  refine And.intro rfl ?_
  refine wpP (fun p17 W17 g17 i17 => ?_)
  have n17 : hN p17 = 302 := by rw [W17.1, v17, n16]
  have N17 : NX [M] [] p16 p17 := (z17.up (by simp) (by simp)).w W17 (Or.inl (by simp)) MX
  have I17 : ∀ m, hI p17 mISFI m = 0 := fun m => by rw [W17.2.1 _ (by decide)]; exact w17 m
  have L17 : ∀ m, hL p17 mISFI m = 0 := fun m => by rw [W17.2.2.2]; exact y17 m
  have P17 : ∀ m, hP p17 M m = if m = 34 then some mISFI else hP p16 M m := fun m => by rw [g17 m, z17.2.2.2.1 M (by rw [n16]; decide) (by simp)]
  refine step ?_
  refine step ?_
  refine step ?_
  refine And.intro (by decide) ?_
  refine And.intro (by decide) ?_
  refine And.intro (by omega) ?_
  refine And.intro (Nat.le_trans (show 5914 + (35 : Int).toNat ≤ 6665 by decide) hms) ?_
  generalize ea18 : nwA p17 0 (35 : Int).toNat = a18
  generalize eq18 : nwH p17 0 (35 : Int).toNat = q18
  obtain ⟨u18, v18, w18, x18, y18, z18⟩ := nw_65 ea18 eq18 (by decide) (by decide) (by rw [n17]; decide)
  have s18 : a18 = mCELT := by rw [u18, n17]; rfl
  rw [s18] at w18 x18 y18
  rw [s18]
  refine step ?_
  refine And.intro rfl ?_
  refine wpP (fun p18 W18 g18 i18 => ?_)
  have n18 : hN p18 = 303 := by rw [W18.1, v18, n17]
  have N18 : NX [M] [] p17 p18 := (z18.up (by simp) (by simp)).w W18 (Or.inl (by simp)) MX
  have I18 : ∀ m, hI p18 mCELT m = 0 := fun m => by rw [W18.2.1 _ (by decide)]; exact w18 m
  have L18 : ∀ m, hL p18 mCELT m = 0 := fun m => by rw [W18.2.2.2]; exact y18 m
  have P18 : ∀ m, hP p18 M m = if m = 35 then some mCELT else hP p17 M m := fun m => by rw [g18 m, z18.2.2.2.1 M (by rw [n17]; decide) (by simp)]
  refine step ?_
  refine step ?_
  refine step ?_
  refine And.intro (by decide) ?_
  refine And.intro (by decide) ?_
  refine And.intro (by omega) ?_
  refine And.intro (Nat.le_trans (show 5949 + (704 : Int).toNat ≤ 6665 by decide) hms) ?_
  generalize ea19 : nwA p18 0 (704 : Int).toNat = a19
  generalize eq19 : nwH p18 0 (704 : Int).toNat = q19
  obtain ⟨u19, v19, w19, x19, y19, z19⟩ := nw_65 ea19 eq19 (by decide) (by decide) (by rw [n18]; decide)
  have s19 : a19 = mIMGS := by rw [u19, n18]; rfl
  rw [s19] at w19 x19 y19
  rw [s19]
  refine step ?_
  refine And.intro rfl ?_
  refine wpP (fun p19 W19 g19 i19 => ?_)
  have n19 : hN p19 = 304 := by rw [W19.1, v19, n18]
  have N19 : NX [M] [] p18 p19 := (z19.up (by simp) (by simp)).w W19 (Or.inl (by simp)) MX
  have I19 : ∀ m, hI p19 mIMGS m = 0 := fun m => by rw [W19.2.1 _ (by decide)]; exact w19 m
  have L19 : ∀ m, hL p19 mIMGS m = 0 := fun m => by rw [W19.2.2.2]; exact y19 m
  have P19 : ∀ m, hP p19 M m = if m = 37 then some mIMGS else hP p18 M m := fun m => by rw [g19 m, z19.2.2.2.1 M (by rw [n18]; decide) (by simp)]
  refine step ?_
  refine step ?_
  refine step ?_
  refine And.intro (by decide) ?_
  refine And.intro (by decide) ?_
  refine And.intro (by omega) ?_
  refine And.intro (Nat.le_trans (show 6653 + (4 : Int).toNat ≤ 6665 by decide) hms) ?_
  generalize ea20 : nwA p19 0 (4 : Int).toNat = a20
  generalize eq20 : nwH p19 0 (4 : Int).toNat = q20
  obtain ⟨u20, v20, w20, x20, y20, z20⟩ := nw_65 ea20 eq20 (by decide) (by decide) (by rw [n19]; decide)
  have s20 : a20 = mIMGF := by rw [u20, n19]; rfl
  rw [s20] at w20 x20 y20
  rw [s20]
  refine step ?_
  refine And.intro rfl ?_
  refine wpP (fun p20 W20 g20 i20 => ?_)
  have n20 : hN p20 = 305 := by rw [W20.1, v20, n19]
  have N20 : NX [M] [] p19 p20 := (z20.up (by simp) (by simp)).w W20 (Or.inl (by simp)) MX
  have I20 : ∀ m, hI p20 mIMGF m = 0 := fun m => by rw [W20.2.1 _ (by decide)]; exact w20 m
  have L20 : ∀ m, hL p20 mIMGF m = 0 := fun m => by rw [W20.2.2.2]; exact y20 m
  have P20 : ∀ m, hP p20 M m = if m = 38 then some mIMGF else hP p19 M m := fun m => by rw [g20 m, z20.2.2.2.1 M (by rw [n19]; decide) (by simp)]
  refine step ?_
  refine step ?_
  refine step ?_
  refine And.intro (by decide) ?_
  refine And.intro (by decide) ?_
  refine And.intro (by omega) ?_
  refine And.intro (Nat.le_trans (show 6657 + (4 : Int).toNat ≤ 6665 by decide) hms) ?_
  generalize ea21 : nwA p20 0 (4 : Int).toNat = a21
  generalize eq21 : nwH p20 0 (4 : Int).toNat = q21
  obtain ⟨u21, v21, w21, x21, y21, z21⟩ := nw_65 ea21 eq21 (by decide) (by decide) (by rw [n20]; decide)
  have s21 : a21 = mIMGX := by rw [u21, n20]; rfl
  rw [s21] at w21 x21 y21
  rw [s21]
  refine step ?_
  refine And.intro rfl ?_
  refine wpP (fun p21 W21 g21 i21 => ?_)
  have n21 : hN p21 = 306 := by rw [W21.1, v21, n20]
  have N21 : NX [M] [] p20 p21 := (z21.up (by simp) (by simp)).w W21 (Or.inl (by simp)) MX
  have I21 : ∀ m, hI p21 mIMGX m = 0 := fun m => by rw [W21.2.1 _ (by decide)]; exact w21 m
  have L21 : ∀ m, hL p21 mIMGX m = 0 := fun m => by rw [W21.2.2.2]; exact y21 m
  have P21 : ∀ m, hP p21 M m = if m = 39 then some mIMGX else hP p20 M m := fun m => by rw [g21 m, z21.2.2.2.1 M (by rw [n20]; decide) (by simp)]
  refine step ?_
  refine step ?_
  refine step ?_
  refine And.intro (by decide) ?_
  refine And.intro (by decide) ?_
  refine And.intro (by omega) ?_
  refine And.intro (Nat.le_trans (show 6661 + (4 : Int).toNat ≤ 6665 by decide) hms) ?_
  generalize ea22 : nwA p21 2 (4 : Int).toNat = a22
  generalize eq22 : nwH p21 2 (4 : Int).toNat = q22
  obtain ⟨u22, v22, w22, x22, y22, z22⟩ := nw_65 ea22 eq22 (by decide) (by decide) (by rw [n21]; decide)
  have s22 : a22 = mISMA := by rw [u22, n21]; rfl
  rw [s22] at w22 x22 y22
  rw [s22]
  refine step ?_
  refine And.intro rfl ?_
  refine wpP (fun p22 W22 g22 i22 => ?_)
  have n22 : hN p22 = 307 := by rw [W22.1, v22, n21]
  have N22 : NX [M] [] p21 p22 := (z22.up (by simp) (by simp)).w W22 (Or.inl (by simp)) MX
  have I22 : ∀ m, hI p22 mISMA m = 0 := fun m => by rw [W22.2.1 _ (by decide)]; exact w22 m
  have L22 : ∀ m, hL p22 mISMA m = 0 := fun m => by rw [W22.2.2.2]; exact y22 m
  have P22 : ∀ m, hP p22 M m = if m = 40 then some mISMA else hP p21 M m := fun m => by rw [g22 m, z22.2.2.2.1 M (by rw [n21]; decide) (by simp)]
  refine step ?_
  have F24 : NX [M] [] p22 p22 := NX.rf
  have F23 : NX [M] [] p21 p22 := N22.tr F24
  have F22 : NX [M] [] p20 p22 := N21.tr F23
  have F21 : NX [M] [] p19 p22 := N20.tr F22
  have F20 : NX [M] [] p18 p22 := N19.tr F21
  have F19 : NX [M] [] p17 p22 := N18.tr F20
  have F18 : NX [M] [] p16 p22 := N17.tr F19
  have F17 : NX [M] [] p15 p22 := N16.tr F18
  have F16 : NX [M] [] p14 p22 := N15.tr F17
  have F15 : NX [M] [] p13 p22 := N14.tr F16
  have F14 : NX [M] [] p12 p22 := N13.tr F15
  have F13 : NX [M] [] p11 p22 := N12.tr F14
  have F12 : NX [M] [] p10 p22 := N11.tr F13
  have F11 : NX [M] [] pj p22 := N10.tr F12
  have F10 : NX [M] [] p9 p22 := Nj.tr F11
  have F9 : NX [M] [] p8 p22 := N9.tr F10
  have F8 : NX [M] [] p7 p22 := N8.tr F9
  have F7 : NX [M] [] p6 p22 := N7.tr F8
  have F6 : NX [M] [] p5 p22 := N6.tr F7
  have F5 : NX [M] [] p4 p22 := N5.tr F6
  have F4 : NX [M] [] p3 p22 := N4.tr F5
  have F3 : NX [M] [] p2 p22 := N3.tr F4
  have F2 : NX [M] [] p1 p22 := N2.tr F3
  have F1 : NX [M] [] p0 p22 := N1.tr F2
  have F0 : NX [M] [] h p22 := N0.tr F1
  refine K p22 n22 (MP_of (fun m => by rw [P22, P21, P20, P19, P18, P17, P16, P15, P14, P13, P12, P11, P10, Pj, P9, P8, P7, P6, P5, P4, P3, P2, P1, P0, hp])) (fun m => ?_) (fun a ha => ?_) F0
  · have J : ∀ m, hI p22 M m = hI pj M m := fun m => by
      rw [i22, z22.2.1 M (by rw [n21]; decide) (by simp) MX, i21, z21.2.1 M (by rw [n20]; decide) (by simp) MX, i20, z20.2.1 M (by rw [n19]; decide) (by simp) MX, i19, z19.2.1 M (by rw [n18]; decide) (by simp) MX, i18, z18.2.1 M (by rw [n17]; decide) (by simp) MX, i17, z17.2.1 M (by rw [n16]; decide) (by simp) MX, i16, z16.2.1 M (by rw [n15]; decide) (by simp) MX, i15, z15.2.1 M (by rw [n14]; decide) (by simp) MX, i14, z14.2.1 M (by rw [n13]; decide) (by simp) MX, i13, z13.2.1 M (by rw [n12]; decide) (by simp) MX, i12, z12.2.1 M (by rw [n11]; decide) (by simp) MX, i11, z11.2.1 M (by rw [n10]; decide) (by simp) MX, i10, z10.2.1 M (by rw [nj]; decide) (by simp) MX]
    rw [J m, ej m, i9, z9.2.1 M (by rw [n8]; decide) (by simp) MX, i8, z8.2.1 M (by rw [n7]; decide) (by simp) MX, i7, z7.2.1 M (by rw [n6]; decide) (by simp) MX, i6, z6.2.1 M (by rw [n5]; decide) (by simp) MX, i5, z5.2.1 M (by rw [n4]; decide) (by simp) MX, i4, z4.2.1 M (by rw [n3]; decide) (by simp) MX, i3, z3.2.1 M (by rw [n2]; decide) (by simp) MX, i2, z2.2.1 M (by rw [n1]; decide) (by simp) MX, i1, z1.2.1 M (by rw [n0]; decide) (by simp) MX, i0, z0.2.1 M (by rw [hn]; decide) (by simp) MX, hi]
  · simp only [MAR, List.mem_cons, List.not_mem_nil, or_false] at ha
    rcases ha with e | e | e | e | e | e | e | e | e | e | e | e | e | e | e | e | e | e | e | e | e | e | e
    · rw [e, F1.2.1 mTAPE (by rw [n0]; decide) (by decide) (by decide), F1.2.2.2.2 mTAPE (by rw [n0]; decide) (by decide)]
      exact fun m => ⟨I0 m, L0 m⟩
    · rw [e, F2.2.1 mSIGN (by rw [n1]; decide) (by decide) (by decide), F2.2.2.2.2 mSIGN (by rw [n1]; decide) (by decide)]
      exact fun m => ⟨I1 m, L1 m⟩
    · rw [e, F3.2.1 mLENG (by rw [n2]; decide) (by decide) (by decide), F3.2.2.2.2 mLENG (by rw [n2]; decide) (by decide)]
      exact fun m => ⟨I2 m, L2 m⟩
    · rw [e, F4.2.1 mCLAU (by rw [n3]; decide) (by decide) (by decide), F4.2.2.2.2 mCLAU (by rw [n3]; decide) (by decide)]
      exact fun m => ⟨I3 m, L3 m⟩
    · rw [e, F5.2.1 mCLSS (by rw [n4]; decide) (by decide) (by decide), F5.2.2.2.2 mCLSS (by rw [n4]; decide) (by decide)]
      exact fun m => ⟨I4 m, L4 m⟩
    · rw [e, F6.2.1 mREAD (by rw [n5]; decide) (by decide) (by decide), F6.2.2.2.2 mREAD (by rw [n5]; decide) (by decide)]
      exact fun m => ⟨I5 m, L5 m⟩
    · rw [e, F7.2.1 mOPEN (by rw [n6]; decide) (by decide) (by decide), F7.2.2.2.2 mOPEN (by rw [n6]; decide) (by decide)]
      exact fun m => ⟨I6 m, L6 m⟩
    · rw [e, F8.2.1 mSTCK (by rw [n7]; decide) (by decide) (by decide), F8.2.2.2.2 mSTCK (by rw [n7]; decide) (by decide)]
      exact fun m => ⟨I7 m, L7 m⟩
    · rw [e, F9.2.1 mWORD (by rw [n8]; decide) (by decide) (by decide), F9.2.2.2.2 mWORD (by rw [n8]; decide) (by decide)]
      exact fun m => ⟨I8 m, L8 m⟩
    · rw [e, F10.2.1 mSAID (by rw [n9]; decide) (by decide) (by decide), F10.2.2.2.2 mSAID (by rw [n9]; decide) (by decide)]
      exact fun m => ⟨I9 m, L9 m⟩
    · rw [e, F12.2.1 mWASS (by rw [n10]; decide) (by decide) (by decide), F12.2.2.2.2 mWASS (by rw [n10]; decide) (by decide)]
      exact fun m => ⟨I10 m, L10 m⟩
    · rw [e, F13.2.1 mKEPT (by rw [n11]; decide) (by decide) (by decide), F13.2.2.2.2 mKEPT (by rw [n11]; decide) (by decide)]
      exact fun m => ⟨I11 m, L11 m⟩
    · rw [e, F14.2.1 mFAR (by rw [n12]; decide) (by decide) (by decide), F14.2.2.2.2 mFAR (by rw [n12]; decide) (by decide)]
      exact fun m => ⟨I12 m, L12 m⟩
    · rw [e, F15.2.1 mWASI (by rw [n13]; decide) (by decide) (by decide), F15.2.2.2.2 mWASI (by rw [n13]; decide) (by decide)]
      exact fun m => ⟨I13 m, L13 m⟩
    · rw [e, F16.2.1 mOUTO (by rw [n14]; decide) (by decide) (by decide), F16.2.2.2.2 mOUTO (by rw [n14]; decide) (by decide)]
      exact fun m => ⟨I14 m, L14 m⟩
    · rw [e, F17.2.1 mHASB (by rw [n15]; decide) (by decide) (by decide), F17.2.2.2.2 mHASB (by rw [n15]; decide) (by decide)]
      exact fun m => ⟨I15 m, L15 m⟩
    · rw [e, F18.2.1 mWHER (by rw [n16]; decide) (by decide) (by decide), F18.2.2.2.2 mWHER (by rw [n16]; decide) (by decide)]
      exact fun m => ⟨I16 m, L16 m⟩
    · rw [e, F19.2.1 mISFI (by rw [n17]; decide) (by decide) (by decide), F19.2.2.2.2 mISFI (by rw [n17]; decide) (by decide)]
      exact fun m => ⟨I17 m, L17 m⟩
    · rw [e, F20.2.1 mCELT (by rw [n18]; decide) (by decide) (by decide), F20.2.2.2.2 mCELT (by rw [n18]; decide) (by decide)]
      exact fun m => ⟨I18 m, L18 m⟩
    · rw [e, F21.2.1 mIMGS (by rw [n19]; decide) (by decide) (by decide), F21.2.2.2.2 mIMGS (by rw [n19]; decide) (by decide)]
      exact fun m => ⟨I19 m, L19 m⟩
    · rw [e, F22.2.1 mIMGF (by rw [n20]; decide) (by decide) (by decide), F22.2.2.2.2 mIMGF (by rw [n20]; decide) (by decide)]
      exact fun m => ⟨I20 m, L20 m⟩
    · rw [e, F23.2.1 mIMGX (by rw [n21]; decide) (by decide) (by decide), F23.2.2.2.2 mIMGX (by rw [n21]; decide) (by decide)]
      exact fun m => ⟨I21 m, L21 m⟩
    · rw [e, F24.2.1 mISMA (by rw [n22]; decide) (by decide) (by decide), F24.2.2.2.2 mISMA (by rw [n22]; decide) (by decide)]
      exact fun m => ⟨I22 m, L22 m⟩
