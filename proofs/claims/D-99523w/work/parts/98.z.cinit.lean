-- NEEDS: 75 87 98
/-! THE COMPONENT: its constructor -/
theorem XP_of {sh : Nat} {f : Int → Option Nat} (h : ∀ m, f m = if m = 24 then some xIM else if m = 23 then some xSW else if m = 22 then some xLA else if m = 21 then some xSH else if m = 20 then some xFH else if m = 17 then some xST else if m = 14 then some xPA else if m = 13 then some xWO else if m = 10 then some xNE else if m = 9 then some xNO else if m = 8 then some xNW else if m = 6 then some xTA else if m = 5 then some xWR else if m = 3 then some xRU else if m = 2 then some kOB else if m = 1 then some sOB else if m = 0 then some sh else none) : f = XP sh := by
  funext m
  rw [h m]
  by_cases z0 : m = 0
  · subst z0; rfl
  by_cases z1 : m = 1
  · subst z1; rfl
  by_cases z2 : m = 2
  · subst z2; rfl
  by_cases z3 : m = 3
  · subst z3; rfl
  by_cases z5 : m = 5
  · subst z5; rfl
  by_cases z6 : m = 6
  · subst z6; rfl
  by_cases z8 : m = 8
  · subst z8; rfl
  by_cases z9 : m = 9
  · subst z9; rfl
  by_cases z10 : m = 10
  · subst z10; rfl
  by_cases z13 : m = 13
  · subst z13; rfl
  by_cases z14 : m = 14
  · subst z14; rfl
  by_cases z17 : m = 17
  · subst z17; rfl
  by_cases z20 : m = 20
  · subst z20; rfl
  by_cases z21 : m = 21
  · subst z21; rfl
  by_cases z22 : m = 22
  · subst z22; rfl
  by_cases z23 : m = 23
  · subst z23; rfl
  by_cases z24 : m = 24
  · subst z24; rfl
  rw [if_neg z0, if_neg z1, if_neg z2, if_neg z3, if_neg z5, if_neg z6, if_neg z8, if_neg z9, if_neg z10, if_neg z13, if_neg z14, if_neg z17, if_neg z20, if_neg z21, if_neg z22, if_neg z23, if_neg z24]
  unfold XP
  split <;> first | rfl | (exfalso; omega)
abbrev XAR : List Nat := [sOB, sIS, sCE, sFA, sFO, sLE, sPL, sBE, sLD, xTA, xNW, xNO, xNE]
/-- what the component's constructor leaves -/
def C0 (p : AH) : Prop := hN p = 283 ∧ (∃ sh gl ld dy el, hP p X = XP sh ∧ SHT p sh gl ld dy el [] rd0) ∧ hP p sOB = SPs ∧ hP p kOB = SPk ∧ (∃ el, LST p xRU el [] ∧ ix el = 89) ∧ (∀ m, hI p X m = if m = 4 then -1 else 0) ∧ (∀ a ∈ XAR, ∀ m, hI p a m = 0) ∧ (∀ m, hL p sOB m = 0) ∧ CP (hP p) ∧ ∀ m, hP p xIM m = none
set_option maxRecDepth 20000 in
set_option maxHeartbeats 4000000 in
theorem x_init {d : Nat} {h : AH} {Φ : OUT → AH → Prop} {mc ms : Nat} (hn : hN h = 65) (hp : ∀ m, hP h X m = none) (hi : ∀ m, hI h X m = 0) (hmc : 218 ≤ mc) (hms : 3201 ≤ ms)
    (K : ∀ p, C0 p → NX [X] [4] h p → Φ (.inl none) p) : CT (d + 5) mc ms J_X0_init [vo X] h Φ := by
  refine e_X0_init ?_; intro k step keep
  have tm : tg X ≠ 10 := by decide
  refine step ?_
  refine step ?_
  refine And.intro tm ?_
  refine And.intro rfl ?_
  refine step ?_
  refine step ?_
  refine And.intro rfl ?_
  refine And.intro (by omega) ?_
  refine And.intro (by omega) ?_
  generalize ea0 : nwA h 17 0 = a0
  generalize eq0 : nwH h 17 0 = q0
  obtain ⟨u0, v0, w0, x0, y0, z0⟩ := nw_65 ea0 eq0 (by decide) (by decide) (by rw [hn]; decide)
  have s0 : a0 = (17108992 : Nat) := by rw [u0, hn]; rfl
  rw [s0] at w0 x0 y0
  rw [s0]
  refine step ?_
  refine step ?_
  refine And.intro (by decide) ?_
  refine And.intro rfl ?_
  have vq0 : hN q0 = 66 := by rw [v0, hn]
  refine Or.inr ⟨4, 13, by omega, by omega, c_X1init65 (sh := 17108992) (by decide) (by rw [vq0]; decide) (by decide) (by rw [vq0]; decide) (fun a a0 a1 => Or.inl (by rw [vq0] at a0 a1; omega)) (w0 3) (y0 4) (Nat.le_refl _) (Nat.le_refl _) (fun r0 gl ld dy el SH0 NR0 HN0 => ?_)⟩
  have hr0 : hN r0 = 70 := by rw [HN0, vq0]
  have NQ0 : NX [] [] h r0 := z0.new NR0 (fun b hb => Or.inr (by rw [List.mem_singleton.mp hb, hn]; decide)) (by simp)
  refine step ?_
  refine And.intro rfl ?_
  refine wpP (fun p0 W0 g0 i0 => ?_)
  have n0 : hN p0 = 70 := by rw [W0.1]; exact hr0
  have N0 : NX [X] [4] h p0 := (NQ0.up (by simp) (by simp)).wX W0 (by simp) i0
  have P0 : ∀ m, hP p0 X m = if m = 0 then some 17108992 else hP h X m := fun m => by rw [g0 m, NQ0.2.2.2.1 X (by rw [hn]; decide) (by simp)]
  have SHp0 : SHT p0 17108992 gl ld dy el [] rd0 := SH0.nx ((NX.rf (A := [X]) (B := [])).wX W0 (by simp) i0) (nts_fix (by decide))
  refine step ?_
  refine step ?_
  refine And.intro rfl ?_
  refine And.intro (by omega) ?_
  refine And.intro (by omega) ?_
  generalize ea1 : nwA p0 19 0 = a1
  generalize eq1 : nwH p0 19 0 = q1
  obtain ⟨u1, v1, w1, x1, y1, z1⟩ := nw_65 ea1 eq1 (by decide) (by decide) (by rw [n0]; decide)
  have s1 : a1 = sOB := by rw [u1, n0]; rfl
  rw [s1] at w1 x1 y1
  rw [s1]
  refine step ?_
  refine step ?_
  refine And.intro (by decide) ?_
  refine And.intro rfl ?_
  have vq1 : hN q1 = 71 := by rw [v1, n0]
  refine Or.inr ⟨8, 39, by omega, by omega, c_X2init (j := 71) (by decide) (by rw [vq1]; decide) (by decide) (by rw [vq1]; decide) vq1 x1 (Nat.le_refl _) (Nat.le_refl _) (fun r1 J1 => ?_)⟩
  obtain ⟨j1a, j1b, j1c, j1d, j1e, j1f⟩ := J1
  have hr1 : hN r1 = 79 := j1a
  have NQ1 : NX [] [] p0 r1 := z1.new j1d (fun b hb => Or.inr (by rw [List.mem_singleton.mp hb, n0]; decide)) (by simp)
  have SQ1 : hP r1 sOB = SQj 71 := SQj_of (fun m => j1b m)
  refine step ?_
  refine And.intro rfl ?_
  refine wpP (fun p1 W1 g1 i1 => ?_)
  have n1 : hN p1 = 79 := by rw [W1.1]; exact hr1
  have N1 : NX [X] [4] p0 p1 := (NQ1.up (by simp) (by simp)).wX W1 (by simp) i1
  have P1 : ∀ m, hP p1 X m = if m = 1 then some sOB else hP p0 X m := fun m => by rw [g1 m, NQ1.2.2.2.1 X (by rw [n0]; decide) (by simp)]
  have SP1 : hP p1 sOB = SQj 71 := by rw [W1.2.2.1 _ (by decide)]; exact SQ1
  have Z1 : ∀ n, n < 8 → ∀ m, hI p1 (qR 71 n) m = 0 := fun n hn8 m => by
    have qo := qR_ok 71 n
    rw [W1.2.1 _ (fun z => by rw [z] at qo; revert qo; have : ix X = 64 := rfl; omega)]; exact j1c n hn8 m
  have Z1O : ∀ m, hI p1 sOB m = 0 := fun m => by rw [W1.2.1 _ (by decide), j1e m]; exact w1 m
  have Z1L : ∀ m, hL p1 sOB m = 0 := fun m => by rw [W1.2.2.2, j1f]; exact y1 m
  refine step ?_
  refine step ?_
  refine And.intro rfl ?_
  refine And.intro (by omega) ?_
  refine And.intro (by omega) ?_
  generalize ea2 : nwA p1 19 0 = a2
  generalize eq2 : nwH p1 19 0 = q2
  obtain ⟨u2, v2, w2, x2, y2, z2⟩ := nw_65 ea2 eq2 (by decide) (by decide) (by rw [n1]; decide)
  have s2 : a2 = kOB := by rw [u2, n1]; rfl
  rw [s2] at w2 x2 y2
  rw [s2]
  refine step ?_
  refine step ?_
  refine And.intro (by decide) ?_
  refine And.intro rfl ?_
  have vq2 : hN q2 = 80 := by rw [v2, n1]
  refine Or.inr ⟨8, 39, by omega, by omega, c_X2init (j := 80) (by decide) (by rw [vq2]; decide) (by decide) (by rw [vq2]; decide) vq2 x2 (Nat.le_refl _) (Nat.le_refl _) (fun r2 J2 => ?_)⟩
  obtain ⟨j2a, j2b, j2c, j2d, j2e, j2f⟩ := J2
  have hr2 : hN r2 = 88 := j2a
  have NQ2 : NX [] [] p1 r2 := z2.new j2d (fun b hb => Or.inr (by rw [List.mem_singleton.mp hb, n1]; decide)) (by simp)
  have SQ2 : hP r2 kOB = SQj 80 := SQj_of (fun m => j2b m)
  refine step ?_
  refine And.intro rfl ?_
  refine wpP (fun p2 W2 g2 i2 => ?_)
  have n2 : hN p2 = 88 := by rw [W2.1]; exact hr2
  have N2 : NX [X] [4] p1 p2 := (NQ2.up (by simp) (by simp)).wX W2 (by simp) i2
  have P2 : ∀ m, hP p2 X m = if m = 2 then some kOB else hP p1 X m := fun m => by rw [g2 m, NQ2.2.2.2.1 X (by rw [n1]; decide) (by simp)]
  have SP2 : hP p2 kOB = SQj 80 := by rw [W2.2.2.1 _ (by decide)]; exact SQ2
  refine step ?_
  refine step ?_
  refine And.intro rfl ?_
  refine And.intro (by omega) ?_
  refine And.intro (by omega) ?_
  generalize ea3 : nwA p2 18 0 = a3
  generalize eq3 : nwH p2 18 0 = q3
  obtain ⟨u3, v3, w3, x3, y3, z3⟩ := nw_65 ea3 eq3 (by decide) (by decide) (by rw [n2]; decide)
  have s3 : a3 = xRU := by rw [u3, n2]; rfl
  rw [s3] at w3 x3 y3
  rw [s3]
  refine step ?_
  refine step ?_
  refine step ?_
  refine And.intro (by decide) ?_
  refine And.intro rfl ?_
  have vq3 : hN q3 = 89 := by rw [v3, n2]
  refine Or.inr ⟨1, 2, by omega, by omega, c_J2init65 (a := xRU) (by decide) (by rw [vq3]; decide) (by rw [vq3]; decide) (w3 2) (Nat.le_refl _) (Nat.le_refl _) (fun r3 elR l1 l2 l3 l4 l5 => ?_)⟩
  have hr3 : hN r3 = 90 := by rw [l3, vq3]
  have NQ3 : NX [] [] p2 r3 := z3.new l5 (fun b hb => Or.inr (by rw [List.mem_singleton.mp hb, n2]; decide)) (by simp)
  refine step ?_
  refine And.intro rfl ?_
  refine wpP (fun p3 W3 g3 i3 => ?_)
  have n3 : hN p3 = 90 := by rw [W3.1]; exact hr3
  have N3 : NX [X] [4] p2 p3 := (NQ3.up (by simp) (by simp)).wX W3 (by simp) i3
  have P3 : ∀ m, hP p3 X m = if m = 3 then some xRU else hP p2 X m := fun m => by rw [g3 m, NQ3.2.2.2.1 X (by rw [n2]; decide) (by simp)]
  have telR := l1.2.2.2.1
  have elX : elR ≠ X := fun z => by rw [z] at telR; revert telR; decide
  have L3 : LST p3 xRU elR [] := l1.of (by rw [W3.2.1 _ (by decide)]) (by rw [W3.2.2.1 _ (by decide)]) (W3.2.2.1 _ elX)
  have ielR : ix elR = 89 := by rw [l2, vq3]
  refine step ?_
  refine step ?_
  refine step ?_
  refine And.intro rfl ?_
  refine wxM (fun p4 e4 T4 => ?_)
  have n4 : hN p4 = 90 := by have := congrArg (fun z => z.1) T4.1; exact this.trans n3
  have N4 : NX [X] [4] p3 p4 := (NX.of T4).up (by simp) (by simp)
  have P4 : ∀ m, hP p4 X m = hP p3 X m := fun m => by rw [T4.2.1]
  refine step ?_
  refine step ?_
  refine And.intro rfl ?_
  refine And.intro (by omega) ?_
  refine And.intro (by omega) ?_
  generalize ea5 : nwA p4 20 0 = a5
  generalize eq5 : nwH p4 20 0 = q5
  obtain ⟨u5, v5, w5, x5, y5, z5⟩ := nw_65 ea5 eq5 (by decide) (by decide) (by rw [n4]; decide)
  have s5 : a5 = xWR := by rw [u5, n4]; rfl
  rw [s5] at w5 x5 y5
  rw [s5]
  refine step ?_
  refine And.intro rfl ?_
  refine wpP (fun p5 W5 g5 i5 => ?_)
  have n5 : hN p5 = 91 := by rw [W5.1, v5, n4]
  have N5 : NX [X] [4] p4 p5 := (z5.up (by simp) (by simp)).wX W5 (by simp) i5
  have P5 : ∀ m, hP p5 X m = if m = 5 then some xWR else hP p4 X m := fun m => by rw [g5 m, z5.2.2.2.1 X (by rw [n4]; decide) (by simp)]
  refine step ?_
  refine step ?_
  refine step ?_
  refine And.intro (by decide) ?_
  refine And.intro (by decide) ?_
  refine And.intro (by omega) ?_
  refine And.intro (Nat.le_trans (show 128 + (400 : Int).toNat ≤ 3201 by decide) hms) ?_
  generalize ea6 : nwA p5 1 (400 : Int).toNat = a6
  generalize eq6 : nwH p5 1 (400 : Int).toNat = q6
  obtain ⟨u6, v6, w6, x6, y6, z6⟩ := nw_65 ea6 eq6 (by decide) (by decide) (by rw [n5]; decide)
  have s6 : a6 = xTA := by rw [u6, n5]; rfl
  rw [s6] at w6 x6 y6
  rw [s6]
  refine step ?_
  refine And.intro rfl ?_
  refine wpP (fun p6 W6 g6 i6 => ?_)
  have n6 : hN p6 = 92 := by rw [W6.1, v6, n5]
  have N6 : NX [X] [4] p5 p6 := (z6.up (by simp) (by simp)).wX W6 (by simp) i6
  have P6 : ∀ m, hP p6 X m = if m = 6 then some xTA else hP p5 X m := fun m => by rw [g6 m, z6.2.2.2.1 X (by rw [n5]; decide) (by simp)]
  have I6 : ∀ m, hI p6 xTA m = 0 := fun m => by rw [W6.2.1 _ (by decide)]; exact w6 m
  refine step ?_
  refine step ?_
  refine step ?_
  refine And.intro (by decide) ?_
  refine And.intro (by decide) ?_
  refine And.intro (by omega) ?_
  refine And.intro (Nat.le_trans (show 528 + (10 : Int).toNat ≤ 3201 by decide) hms) ?_
  generalize ea7 : nwA p6 0 (10 : Int).toNat = a7
  generalize eq7 : nwH p6 0 (10 : Int).toNat = q7
  obtain ⟨u7, v7, w7, x7, y7, z7⟩ := nw_65 ea7 eq7 (by decide) (by decide) (by rw [n6]; decide)
  have s7 : a7 = xNW := by rw [u7, n6]; rfl
  rw [s7] at w7 x7 y7
  rw [s7]
  refine step ?_
  refine And.intro rfl ?_
  refine wpP (fun p7 W7 g7 i7 => ?_)
  have n7 : hN p7 = 93 := by rw [W7.1, v7, n6]
  have N7 : NX [X] [4] p6 p7 := (z7.up (by simp) (by simp)).wX W7 (by simp) i7
  have P7 : ∀ m, hP p7 X m = if m = 8 then some xNW else hP p6 X m := fun m => by rw [g7 m, z7.2.2.2.1 X (by rw [n6]; decide) (by simp)]
  have I7 : ∀ m, hI p7 xNW m = 0 := fun m => by rw [W7.2.1 _ (by decide)]; exact w7 m
  refine step ?_
  refine step ?_
  refine step ?_
  refine And.intro (by decide) ?_
  refine And.intro (by decide) ?_
  refine And.intro (by omega) ?_
  refine And.intro (Nat.le_trans (show 538 + (10 : Int).toNat ≤ 3201 by decide) hms) ?_
  generalize ea8 : nwA p7 0 (10 : Int).toNat = a8
  generalize eq8 : nwH p7 0 (10 : Int).toNat = q8
  obtain ⟨u8, v8, w8, x8, y8, z8⟩ := nw_65 ea8 eq8 (by decide) (by decide) (by rw [n7]; decide)
  have s8 : a8 = xNO := by rw [u8, n7]; rfl
  rw [s8] at w8 x8 y8
  rw [s8]
  refine step ?_
  refine And.intro rfl ?_
  refine wpP (fun p8 W8 g8 i8 => ?_)
  have n8 : hN p8 = 94 := by rw [W8.1, v8, n7]
  have N8 : NX [X] [4] p7 p8 := (z8.up (by simp) (by simp)).wX W8 (by simp) i8
  have P8 : ∀ m, hP p8 X m = if m = 9 then some xNO else hP p7 X m := fun m => by rw [g8 m, z8.2.2.2.1 X (by rw [n7]; decide) (by simp)]
  have I8 : ∀ m, hI p8 xNO m = 0 := fun m => by rw [W8.2.1 _ (by decide)]; exact w8 m
  refine step ?_
  refine step ?_
  refine step ?_
  refine And.intro (by decide) ?_
  refine And.intro (by decide) ?_
  refine And.intro (by omega) ?_
  refine And.intro (Nat.le_trans (show 548 + (10 : Int).toNat ≤ 3201 by decide) hms) ?_
  generalize ea9 : nwA p8 0 (10 : Int).toNat = a9
  generalize eq9 : nwH p8 0 (10 : Int).toNat = q9
  obtain ⟨u9, v9, w9, x9, y9, z9⟩ := nw_65 ea9 eq9 (by decide) (by decide) (by rw [n8]; decide)
  have s9 : a9 = xNE := by rw [u9, n8]; rfl
  rw [s9] at w9 x9 y9
  rw [s9]
  refine step ?_
  refine And.intro rfl ?_
  refine wpP (fun p9 W9 g9 i9 => ?_)
  have n9 : hN p9 = 95 := by rw [W9.1, v9, n8]
  have N9 : NX [X] [4] p8 p9 := (z9.up (by simp) (by simp)).wX W9 (by simp) i9
  have P9 : ∀ m, hP p9 X m = if m = 10 then some xNE else hP p8 X m := fun m => by rw [g9 m, z9.2.2.2.1 X (by rw [n8]; decide) (by simp)]
  have I9 : ∀ m, hI p9 xNE m = 0 := fun m => by rw [W9.2.1 _ (by decide)]; exact w9 m
  refine step ?_
  refine step ?_
  refine step ?_
  refine And.intro (by decide) ?_
  have lN : ((ln A_NAMES : Nat) : Int) = (11 : Int) := rfl
  rw [lN]
  refine step ?_
  refine And.intro (by decide) ?_
  refine And.intro (by decide) ?_
  refine And.intro (by omega) ?_
  refine And.intro (Nat.le_trans (show 558 + (11 : Int).toNat ≤ 3201 by decide) hms) ?_
  generalize ea10 : nwA p9 3 (11 : Int).toNat = a10
  generalize eq10 : nwH p9 3 (11 : Int).toNat = q10
  obtain ⟨u10, v10, w10, x10, y10, z10⟩ := nw_65 ea10 eq10 (by decide) (by decide) (by rw [n9]; decide)
  have s10 : a10 = xWO := by rw [u10, n9]; rfl
  rw [s10] at w10 x10 y10
  rw [s10]
  refine step ?_
  refine And.intro rfl ?_
  refine wpP (fun p10 W10 g10 i10 => ?_)
  have n10 : hN p10 = 96 := by rw [W10.1, v10, n9]
  have N10 : NX [X] [4] p9 p10 := (z10.up (by simp) (by simp)).wX W10 (by simp) i10
  have P10 : ∀ m, hP p10 X m = if m = 13 then some xWO else hP p9 X m := fun m => by rw [g10 m, z10.2.2.2.1 X (by rw [n9]; decide) (by simp)]
  refine step ?_
  refine step ?_
  refine step ?_
  refine And.intro rfl ?_
  refine Or.inr ⟨181, 1000, by omega, by omega, c_newStates n10 (Nat.le_refl _) (Nat.le_refl _) (fun r11 k11 NQ11 hr11 => ?_)⟩
  refine step ?_
  refine And.intro rfl ?_
  refine wpP (fun p11 W11 g11 i11 => ?_)
  have n11 : hN p11 = 277 := by rw [W11.1]; exact hr11
  have N11 : NX [X] [4] p10 p11 := (NQ11.up (by simp) (by simp)).wX W11 (by simp) i11
  have P11 : ∀ m, hP p11 X m = if m = 14 then some xPA else hP p10 X m := fun m => by rw [g11 m, NQ11.2.2.2.1 X (by rw [n10]; decide) (by simp)]
  have po : ∀ k : Nat, ix (pO k) = 97 + 9 * k ∧ tg (pO k) = 19 := fun k => ⟨(ix_mk3 (by decide) (by decide)).1, (ix_mk3 (by decide) (by decide)).2.1⟩
  have C11 : ∀ k : Nat, k < 20 → hP p11 xPA k = some (pO k) ∧ hP p11 (pO k) = SQj (98 + 9 * k) := fun k hk => by
    rw [W11.2.2.1 xPA (by decide), W11.2.2.1 (pO k) (fun z => by have := (po k).1; rw [z] at this; have : ix X = 64 := rfl; omega)]
    exact k11 k hk
  refine step ?_
  refine step ?_
  refine step ?_
  refine And.intro (by decide) ?_
  refine And.intro (by decide) ?_
  refine And.intro (by omega) ?_
  refine And.intro (Nat.le_trans (show 1569 + (36 : Int).toNat ≤ 3201 by decide) hms) ?_
  generalize ea12 : nwA p11 0 (36 : Int).toNat = a12
  generalize eq12 : nwH p11 0 (36 : Int).toNat = q12
  obtain ⟨u12, v12, w12, x12, y12, z12⟩ := nw_65 ea12 eq12 (by decide) (by decide) (by rw [n11]; decide)
  have s12 : a12 = xST := by rw [u12, n11]; rfl
  rw [s12] at w12 x12 y12
  rw [s12]
  refine step ?_
  refine And.intro rfl ?_
  refine wpP (fun p12 W12 g12 i12 => ?_)
  have n12 : hN p12 = 278 := by rw [W12.1, v12, n11]
  have N12 : NX [X] [4] p11 p12 := (z12.up (by simp) (by simp)).wX W12 (by simp) i12
  have P12 : ∀ m, hP p12 X m = if m = 17 then some xST else hP p11 X m := fun m => by rw [g12 m, z12.2.2.2.1 X (by rw [n11]; decide) (by simp)]
  refine step ?_
  refine step ?_
  refine step ?_
  refine And.intro (by decide) ?_
  refine And.intro (by decide) ?_
  refine And.intro (by omega) ?_
  refine And.intro (Nat.le_trans (show 1605 + (16 : Int).toNat ≤ 3201 by decide) hms) ?_
  generalize ea13 : nwA p12 0 (16 : Int).toNat = a13
  generalize eq13 : nwH p12 0 (16 : Int).toNat = q13
  obtain ⟨u13, v13, w13, x13, y13, z13⟩ := nw_65 ea13 eq13 (by decide) (by decide) (by rw [n12]; decide)
  have s13 : a13 = xFH := by rw [u13, n12]; rfl
  rw [s13] at w13 x13 y13
  rw [s13]
  refine step ?_
  refine And.intro rfl ?_
  refine wpP (fun p13 W13 g13 i13 => ?_)
  have n13 : hN p13 = 279 := by rw [W13.1, v13, n12]
  have N13 : NX [X] [4] p12 p13 := (z13.up (by simp) (by simp)).wX W13 (by simp) i13
  have P13 : ∀ m, hP p13 X m = if m = 20 then some xFH else hP p12 X m := fun m => by rw [g13 m, z13.2.2.2.1 X (by rw [n12]; decide) (by simp)]
  refine step ?_
  refine step ?_
  refine step ?_
  refine And.intro (by decide) ?_
  refine And.intro (by decide) ?_
  refine And.intro (by omega) ?_
  refine And.intro (Nat.le_trans (show 1621 + (16 : Int).toNat ≤ 3201 by decide) hms) ?_
  generalize ea14 : nwA p13 0 (16 : Int).toNat = a14
  generalize eq14 : nwH p13 0 (16 : Int).toNat = q14
  obtain ⟨u14, v14, w14, x14, y14, z14⟩ := nw_65 ea14 eq14 (by decide) (by decide) (by rw [n13]; decide)
  have s14 : a14 = xSH := by rw [u14, n13]; rfl
  rw [s14] at w14 x14 y14
  rw [s14]
  refine step ?_
  refine And.intro rfl ?_
  refine wpP (fun p14 W14 g14 i14 => ?_)
  have n14 : hN p14 = 280 := by rw [W14.1, v14, n13]
  have N14 : NX [X] [4] p13 p14 := (z14.up (by simp) (by simp)).wX W14 (by simp) i14
  have P14 : ∀ m, hP p14 X m = if m = 21 then some xSH else hP p13 X m := fun m => by rw [g14 m, z14.2.2.2.1 X (by rw [n13]; decide) (by simp)]
  refine step ?_
  refine step ?_
  refine step ?_
  refine And.intro (by decide) ?_
  refine And.intro (by decide) ?_
  refine And.intro (by omega) ?_
  refine And.intro (Nat.le_trans (show 1637 + (1525 : Int).toNat ≤ 3201 by decide) hms) ?_
  generalize ea15 : nwA p14 0 (1525 : Int).toNat = a15
  generalize eq15 : nwH p14 0 (1525 : Int).toNat = q15
  obtain ⟨u15, v15, w15, x15, y15, z15⟩ := nw_65 ea15 eq15 (by decide) (by decide) (by rw [n14]; decide)
  have s15 : a15 = xLA := by rw [u15, n14]; rfl
  rw [s15] at w15 x15 y15
  rw [s15]
  refine step ?_
  refine And.intro rfl ?_
  refine wpP (fun p15 W15 g15 i15 => ?_)
  have n15 : hN p15 = 281 := by rw [W15.1, v15, n14]
  have N15 : NX [X] [4] p14 p15 := (z15.up (by simp) (by simp)).wX W15 (by simp) i15
  have P15 : ∀ m, hP p15 X m = if m = 22 then some xLA else hP p14 X m := fun m => by rw [g15 m, z15.2.2.2.1 X (by rw [n14]; decide) (by simp)]
  refine step ?_
  refine step ?_
  refine step ?_
  refine And.intro (by decide) ?_
  refine And.intro (by decide) ?_
  refine And.intro (by omega) ?_
  refine And.intro (Nat.le_trans (show 3162 + (35 : Int).toNat ≤ 3201 by decide) hms) ?_
  generalize ea16 : nwA p15 0 (35 : Int).toNat = a16
  generalize eq16 : nwH p15 0 (35 : Int).toNat = q16
  obtain ⟨u16, v16, w16, x16, y16, z16⟩ := nw_65 ea16 eq16 (by decide) (by decide) (by rw [n15]; decide)
  have s16 : a16 = xSW := by rw [u16, n15]; rfl
  rw [s16] at w16 x16 y16
  rw [s16]
  refine step ?_
  refine And.intro rfl ?_
  refine wpP (fun p16 W16 g16 i16 => ?_)
  have n16 : hN p16 = 282 := by rw [W16.1, v16, n15]
  have N16 : NX [X] [4] p15 p16 := (z16.up (by simp) (by simp)).wX W16 (by simp) i16
  have P16 : ∀ m, hP p16 X m = if m = 23 then some xSW else hP p15 X m := fun m => by rw [g16 m, z16.2.2.2.1 X (by rw [n15]; decide) (by simp)]
  refine step ?_
  refine step ?_
  refine step ?_
  refine And.intro (by decide) ?_
  refine And.intro (by decide) ?_
  refine And.intro (by omega) ?_
  refine And.intro (Nat.le_trans (show 3197 + (4 : Int).toNat ≤ 3201 by decide) hms) ?_
  generalize ea17 : nwA p16 6 (4 : Int).toNat = a17
  generalize eq17 : nwH p16 6 (4 : Int).toNat = q17
  obtain ⟨u17, v17, w17, x17, y17, z17⟩ := nw_65 ea17 eq17 (by decide) (by decide) (by rw [n16]; decide)
  have s17 : a17 = xIM := by rw [u17, n16]; rfl
  rw [s17] at w17 x17 y17
  rw [s17]
  refine step ?_
  refine And.intro rfl ?_
  refine wpP (fun p17 W17 g17 i17 => ?_)
  have n17 : hN p17 = 283 := by rw [W17.1, v17, n16]
  have N17 : NX [X] [4] p16 p17 := (z17.up (by simp) (by simp)).wX W17 (by simp) i17
  have P17 : ∀ m, hP p17 X m = if m = 24 then some xIM else hP p16 X m := fun m => by rw [g17 m, z17.2.2.2.1 X (by rw [n16]; decide) (by simp)]
  have Q17 : ∀ m, hP p17 xIM m = none := fun m => by rw [W17.2.2.1 _ (by decide)]; exact x17 m
  refine step ?_
  have F17 : NX [X] [4] p17 p17 := NX.rf
  have F16 : NX [X] [4] p16 p17 := N17.tr F17
  have F15 : NX [X] [4] p15 p17 := N16.tr F16
  have F14 : NX [X] [4] p14 p17 := N15.tr F15
  have F13 : NX [X] [4] p13 p17 := N14.tr F14
  have F12 : NX [X] [4] p12 p17 := N13.tr F13
  have F11 : NX [X] [4] p11 p17 := N12.tr F12
  have F10 : NX [X] [4] p10 p17 := N11.tr F11
  have F9 : NX [X] [4] p9 p17 := N10.tr F10
  have F8 : NX [X] [4] p8 p17 := N9.tr F9
  have F7 : NX [X] [4] p7 p17 := N8.tr F8
  have F6 : NX [X] [4] p6 p17 := N7.tr F7
  have F5 : NX [X] [4] p5 p17 := N6.tr F6
  have F4 : NX [X] [4] p4 p17 := N5.tr F5
  have F3 : NX [X] [4] p3 p17 := N4.tr F4
  have F2 : NX [X] [4] p2 p17 := N3.tr F3
  have F1 : NX [X] [4] p1 p17 := N2.tr F2
  have F0 : NX [X] [4] p0 p17 := N1.tr F1
  have FH : NX [X] [4] h p17 := N0.tr F0
  refine K p17 ⟨n17, ⟨17108992, gl, ld, dy, el, XP_of (fun m => by rw [P17, P16, P15, P14, P13, P12, P11, P10, P9, P8, P7, P6, P5, P4, P3, P2, P1, P0, hp]), SHp0.nx F0 (nts_fix (by decide))⟩, ?_, ?_, ⟨elR, ?_, ielR⟩, fun m => ?_, fun a ha => ?_, fun m => ?_, fun k hk => ?_, fun m => Q17 m⟩ FH
  · rw [F1.2.2.2.1 sOB (by rw [n1]; decide) (by decide), SP1]; rfl
  · rw [F2.2.2.2.1 kOB (by rw [n2]; decide) (by decide), SP2]; rfl
  · exact L3.of (by rw [F3.2.1 xRU (by rw [n3]; decide) (by decide) (by decide)]) (by rw [F3.2.2.2.1 xRU (by rw [n3]; decide) (by decide)]) (F3.2.2.2.1 elR (by rw [n3, ielR]; decide) (fun z => elX (List.mem_singleton.mp z)))
  · by_cases z : m = 4
    · rw [if_pos z, z]
      rw [i17, z17.2.2.1 4 (by simp), i16, z16.2.2.1 4 (by simp), i15, z15.2.2.1 4 (by simp), i14, z14.2.2.1 4 (by simp), i13, z13.2.2.1 4 (by simp), i12, z12.2.2.1 4 (by simp), i11, NQ11.2.2.1 4 (by simp), i10, z10.2.2.1 4 (by simp), i9, z9.2.2.1 4 (by simp), i8, z8.2.2.1 4 (by simp), i7, z7.2.2.1 4 (by simp), i6, z6.2.2.1 4 (by simp), i5, z5.2.2.1 4 (by simp)]
      exact e4
    · rw [if_neg z, FH.2.2.1 m (by simpa using z), hi]
  · simp only [XAR, List.mem_cons, List.not_mem_nil, or_false] at ha
    rcases ha with e | e | e | e | e | e | e | e | e | e | e | e | e
    · rw [e, F1.2.1 sOB (by rw [n1]; decide) (by decide) (by decide)]; exact Z1O
    · rw [e, F1.2.1 sIS (by rw [n1]; decide) (by decide) (by decide)]; exact Z1 0 (by decide)
    · rw [e, F1.2.1 sCE (by rw [n1]; decide) (by decide) (by decide)]; exact Z1 1 (by decide)
    · rw [e, F1.2.1 sFA (by rw [n1]; decide) (by decide) (by decide)]; exact Z1 2 (by decide)
    · rw [e, F1.2.1 sFO (by rw [n1]; decide) (by decide) (by decide)]; exact Z1 3 (by decide)
    · rw [e, F1.2.1 sLE (by rw [n1]; decide) (by decide) (by decide)]; exact Z1 4 (by decide)
    · rw [e, F1.2.1 sPL (by rw [n1]; decide) (by decide) (by decide)]; exact Z1 5 (by decide)
    · rw [e, F1.2.1 sBE (by rw [n1]; decide) (by decide) (by decide)]; exact Z1 6 (by decide)
    · rw [e, F1.2.1 sLD (by rw [n1]; decide) (by decide) (by decide)]; exact Z1 7 (by decide)
    · rw [e, F6.2.1 xTA (by rw [n6]; decide) (by decide) (by decide)]; exact I6
    · rw [e, F7.2.1 xNW (by rw [n7]; decide) (by decide) (by decide)]; exact I7
    · rw [e, F8.2.1 xNO (by rw [n8]; decide) (by decide) (by decide)]; exact I8
    · rw [e, F9.2.1 xNE (by rw [n9]; decide) (by decide) (by decide)]; exact I9
  · rw [F1.2.2.2.2 sOB (by rw [n1]; decide) (by decide)]; exact Z1L m
  · have pk := po k
    rw [F11.2.2.2.1 xPA (by rw [n11]; decide) (by decide), F11.2.2.2.1 (pO k) (by rw [n11]; omega) (fun z => by have z := List.mem_singleton.mp z; rw [z] at pk; have : ix X = 64 := rfl; omega)]
    obtain ⟨c1, c2⟩ := C11 k hk
    refine ⟨c1, c2.trans ?_⟩
    have e : ∀ n, n < 7 → qR (98 + 9 * k) n = pA k n := fun n hn7 => by unfold qR pA; rw [if_neg (by omega), show 98 + 9 * k + n = 97 + 9 * k + (n + 1) by omega]
    have e7 : qR (98 + 9 * k) 7 = pL k := by unfold qR pL; rw [if_pos rfl, show 98 + 9 * k + 7 = 97 + 9 * k + 8 by omega]
    unfold SQj
    rw [e 0 (by decide), e 1 (by decide), e 2 (by decide), e 3 (by decide), e 4 (by decide), e 5 (by decide), e 6 (by decide), e7]
